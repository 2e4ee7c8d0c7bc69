/-! ===== LINES, 2: the model's; shapes without an axis ===== -/
theorem M_lineCell_loop {M : Mem} {o : Nat} {k : Int32} {n a : Nat} {z : Nat → Nat} {t : Nat → Int32} {y : Int32} {d : Nat} {p : Int32} (h : ST M) (g : GM M o k n z t y d p) (hn : n ≤ 4) (ha : a < n) {ix : Nat → Nat} (c15 : cI M 1068 1115 = iw ((n - 1 : Nat) : Int)) (hs : ∀ j, j < n - 1 → cI M 1082 j = iw (ix j : Nat)) (u : Int) : ∀ (e N i : Nat), i + e = n - 1 → e + 1 ≤ N →
    F_X16_lineCell_b18 N M 1068 o (iw (a : Int)) (iw (u + sm (fun j => t (sk a j)) ix i)) (iw (i : Int)) = some (iw (u + sm (fun j => t (sk a j)) ix (n - 1))) := by
  intro e
  induction e with
  | zero =>
    intro N i hi hN
    obtain ⟨N, rfl⟩ : ∃ x, N = x + 1 := ⟨N - 1, by omega⟩
    show F_X16_lineCell_b18_st (F_X16_lineCell_b18 N) M _ _ _ _ _ = _
    unfold F_X16_lineCell_b18_st
    simp only [g1068_1115, h, c15, Option.bind_some]
    rw [if_neg (by rw [iw_le4 (by omega) (by omega)]; omega), show i = n - 1 by omega]
  | succ e ih =>
    intro N i hi hN
    obtain ⟨N, rfl⟩ : ∃ x, N = x + 1 := ⟨N - 1, by omega⟩
    show F_X16_lineCell_b18_st (F_X16_lineCell_b18 N) M _ _ _ _ _ = _
    unfold F_X16_lineCell_b18_st F_X16_lineCell_b42
    simp only [g1068_1115, h, c15, Option.bind_some]
    rw [if_pos (by rw [iw_le4 (by omega) (by omega)]; omega)]
    have a1 : ai M 1082 (iw (i : Int)) = some (iw (ix i : Nat)) := by rw [ai_of (t1082 h) (l1082 h) (show i < 4 by omega) (by decide), hs i (by omega)]
    have key : ∀ j : Nat, j = sk a i → j < n → ((gr M 1068 1114).bind fun t1 => (ai M t1 (iw (i : Int))).bind fun t2 => (gr M o 1474).bind fun t3 => (ai M t3 (iw (j : Int))).bind fun t4 => F_X16_lineCell_b18 N M 1068 o (iw (a : Int)) (iw (u + sm (fun j => t (sk a j)) ix i) + t2 * t4) (iw (i : Int) + 1)) = some (iw (u + sm (fun j => t (sk a j)) ix (n - 1))) := by
      intro j hj hj2
      simp only [g1068_1114, h, a1, gr_of g.2.2.1 (show x_fr 23 1474 = true by decide), g.2.2.2.2.2.1.ai hn hj2, Option.bind_some, iw_succ]
      have e4 : t j = iw (t j).toInt := (iw_of _).symm
      have : iw (u + sm (fun j => t (sk a j)) ix i) + iw (ix i : Nat) * t j = iw (u + sm (fun j => t (sk a j)) ix (i + 1)) := by
        rw [e4, iw_mul, iw_add]
        congr 1
        show _ = u + (((ix i : Nat) : Int) * (t (sk a i)).toInt + sm (fun j => t (sk a j)) ix i)
        rw [← hj]
        omega
      rw [this]
      exact ih N (i + 1) (by omega) (by omega)
    by_cases c : i < a
    · rw [if_pos (by rw [iw_le4 (by omega) (by omega)]; exact c)]
      exact key i (by unfold sk; rw [if_pos c]) (by omega)
    · rw [if_neg (by rw [iw_le4 (by omega) (by omega)]; exact c), iw_succ]
      have := key (i + 1) (by unfold sk; rw [if_neg c]) (by omega)
      rw [← this, iw_succ]
theorem M_lineCell {M : Mem} {o b : Nat} {k : Int32} {n a : Nat} {z : Nat → Nat} {s t : Nat → Int32} {x y : Int32} {c d L : Nat} {p : Int32} (h : ST M) (g : GP M o b k n z s t x y c d L p) (ha : a < n) {lk i : Nat} (hk : lk < pw z a n) (hz : ∀ j, j < n → 0 < z j) (hi : i < z a)
    (c15 : cI M 1068 1115 = iw ((n - 1 : Nat) : Int)) (hs : ∀ j, j < n - 1 → cI M 1082 j = iw (dg (fun j => z (sk a j)) (n - 1) lk j : Nat)) : F_X16_lineCell M 1068 b (iw (a : Int)) (iw (i : Int)) = some (iw (gpos n z s x (cn z a i n lk) : Nat)) := by
  have hn := g.2.2.2.1
  have gm := g.2.1
  obtain ⟨q1, q2, q3⟩ := g.at (cn_lt hi n lk hz hk)
  rw [cn_plc hi n lk hz, if_pos ha] at q2
  obtain ⟨m, hm⟩ : ∃ m, n = m + 1 := ⟨n - 1, by omega⟩
  have e1 : plw z t a n lk = sm (fun j => t (sk a j)) (dg (fun j => z (sk a j)) (n - 1) lk) (n - 1) := by
    rw [← plc_sm, hm, plw_hi m lk (by omega)]
    rfl
  have hxN : xN = 1099511627776 := rfl
  have lp := M_lineCell_loop h gm hn ha c15 hs (y.toInt + (i : Int) * (t a).toInt) (n - 1) xN 0 (by omega) (by omega)
  unfold F_X16_lineCell
  simp only [gi_of gm.2.2.1 (show x_fi 23 1475 = true by decide), gr_of gm.2.2.1 (show x_fr 23 1474 = true by decide), gm.2.2.2.2.2.1.ai hn ha, gm.2.2.2.2.2.2.1, Option.bind_some]
  have e4 : t a = iw (t a).toInt := (iw_of _).symm
  have e6 : y + iw (i : Int) * t a = iw (y.toInt + (i : Int) * (t a).toInt + sm (fun j => t (sk a j)) (dg (fun j => z (sk a j)) (n - 1) lk) 0) := by
    rw [show iw (i : Int) * t a = iw (i : Int) * iw (t a).toInt by rw [iw_of], iw_mul]
    rw [show y + iw ((i : Int) * (t a).toInt) = iw y.toInt + iw ((i : Int) * (t a).toInt) by rw [iw_of], iw_add]
    show _ = iw (y.toInt + (i : Int) * (t a).toInt + 0)
    rw [Int.add_zero]
  rw [e6]
  refine lp.trans ?_
  rw [← e1]
  refine congrArg (fun q => some (iw q)) ?_
  omega
/-- the engine's shape without an axis -/
theorem E_without_loop {o : Nat} {k : Int32} {n a : Nat} {z : Nat → Nat} {s : Nat → Int32} {b : Int32} {c : Nat} {p : Int32} (hn : n ≤ 4) (ha : a < n) : ∀ (e N i : Nat) (M : Mem), i + e = n → e + 1 ≤ N → ST M → GE M o k n z s b c p → cI M 1000 89 = iw ((if i ≤ a then i else i - 1 : Nat) : Int) → (∀ j, j < (if i ≤ a then i else i - 1) → cI M 1062 j = iw (z (sk a j))) →
    ∃ M', F_X0_shapeWithout_b7 N M 1000 o (iw (a : Int)) (iw (i : Int)) = some M' ∧ m_nx M' = m_nx M ∧ m_sl M' = m_sl M ∧ Df pShape n2 n2 M M' ∧ cI M' 1000 89 = iw ((n - 1 : Nat) : Int) ∧ ∀ j, j < n - 1 → cI M' 1062 j = iw (z (sk a j)) := by
  intro e
  induction e with
  | zero =>
    intro N i M hi hN h g c89 hs
    obtain ⟨N, rfl⟩ : ∃ x, N = x + 1 := ⟨N - 1, by omega⟩
    rw [if_neg (by omega), show i = n by omega] at c89 hs
    refine ⟨M, ?_, rfl, rfl, Df.refl _ _ _ _, c89, hs⟩
    show F_X0_shapeWithout_b7_st (F_X0_shapeWithout_b7 N) M _ _ _ _ = _
    unfold F_X0_shapeWithout_b7_st
    simp only [gi_of g.2.2.1 (show x_fi 22 1409 = true by decide), g.2.2.2.2.1, Option.bind_some]
    rw [if_neg (by rw [iw_le4 (by omega) (by omega)]; omega)]
    rfl
  | succ e ih =>
    intro N i M hi hN h g c89 hs
    obtain ⟨N, rfl⟩ : ∃ x, N = x + 1 := ⟨N - 1, by omega⟩
    by_cases ca : i = a
    · rw [if_pos (by omega)] at c89 hs
      obtain ⟨M', f1, f2⟩ := ih N (i + 1) M (by omega) (by omega) h g (by rw [if_neg (by omega), show i + 1 - 1 = i from rfl]; exact c89) (fun j hj => by rw [if_neg (by omega), show i + 1 - 1 = i from rfl] at hj; exact hs j hj)
      refine ⟨M', ?_, f2⟩
      rw [← f1]
      show F_X0_shapeWithout_b7_st (F_X0_shapeWithout_b7 N) M _ _ _ _ = _
      unfold F_X0_shapeWithout_b7_st F_X0_shapeWithout_b52
      simp only [gi_of g.2.2.1 (show x_fi 22 1409 = true by decide), g.2.2.2.2.1, Option.bind_some, iw_succ]
      rw [if_pos (by rw [iw_le4 (by omega) (by omega)]; omega), if_neg (by rw [iw_lt0 (by omega) (by omega)]; omega), if_pos (by rw [ca])]
    · obtain ⟨u, hu⟩ : ∃ u, u = (if i ≤ a then i else i - 1) := ⟨_, rfl⟩
      rw [← hu] at c89 hs
      have hu2 : sk a u = i := by
        unfold sk
        by_cases c : i ≤ a
        · rw [if_pos c] at hu
          rw [if_pos (by omega), hu]
        · rw [if_neg c] at hu
          rw [if_neg (by omega)]
          omega
      have hu4 : u < 4 := by
        by_cases c : i ≤ a
        · rw [if_pos c] at hu; omega
        · rw [if_neg c] at hu; omega
      have hnext : (if i + 1 ≤ a then i + 1 else i + 1 - 1) = u + 1 := by
        by_cases c : i ≤ a
        · rw [if_pos c] at hu
          rw [if_pos (by omega)]
          omega
        · rw [if_neg c] at hu
          rw [if_neg (by omega)]
          omega
      obtain ⟨A, hA⟩ : ∃ A, A = wI (wI M 1062 u (iw (z i))) 1000 89 (iw ((u + 1 : Nat) : Int)) := ⟨_, rfl⟩
      have dA : Df pShape n2 n2 M A := by
        rw [hA]
        exact (Df.wI (P := pShape) (Q := n2) (R := n2) (M := M) (a := 1062) (i := u) _ (by unfold pShape; omega)).trans (Df.wI (P := pShape) (Q := n2) (R := n2) (a := 1000) (i := 89) _ (by unfold pShape; omega))
      have hq : qt pShape := fun a i q1 q2 => by unfold pShape at q2; omega
      obtain ⟨M', f1, f2, f3, f4, f5, f6⟩ := ih N (i + 1) A (by omega) (by omega) (h.n dA) (g.df dA hq qt_n2) (by rw [hnext, hA, cI_wI, if_pos ⟨rfl, rfl⟩]) (fun j hj => by
        rw [hnext] at hj
        rw [hA, cI_wI, if_neg (fun q => absurd q.1 (by decide)), cI_wI]
        by_cases c : j = u
        · rw [if_pos ⟨rfl, c⟩, c, hu2]
        · rw [if_neg (fun q => c q.2)]
          exact hs j (by omega))
      refine ⟨M', ?_, by rw [f2, hA]; rfl, by rw [f3, hA]; rfl, dA.trans f4, f5, f6⟩
      rw [← f1]
      show F_X0_shapeWithout_b7_st (F_X0_shapeWithout_b7 N) M _ _ _ _ = _
      unfold F_X0_shapeWithout_b7_st F_X0_shapeWithout_b52
      have s1 : si M 1062 (iw (u : Int)) (iw (z i)) = some (wI M 1062 u (iw (z i))) := si_of _ (t1062 h) (l1062 h) hu4 (by decide)
      simp only [gi_of g.2.2.1 (show x_fi 22 1409 = true by decide), gr_of g.2.2.1 (show x_fr 22 1410 = true by decide), g.2.2.2.2.1, g.2.2.2.2.2.1.ai hn (show i < n by omega), g1000_88, g1000_89, p1000_89, h, ST_wI, c89, s1, cI_wI, Nat.reduceEqDiff, false_and, if_false, iw_succ, Option.bind_some]
      rw [if_pos (by rw [iw_le4 (by omega) (by omega)]; omega), if_neg (by rw [iw_lt0 (by omega) (by omega)]; omega), if_neg (by rw [iw_eq (by omega) (by omega) (by omega) (by omega)]; omega), hA]
theorem E_without {M : Mem} {o : Nat} {k : Int32} {n a : Nat} {z : Nat → Nat} {s : Nat → Int32} {b : Int32} {c : Nat} {p : Int32} (h : ST M) (g : GE M o k n z s b c p) (hn : n ≤ 4) (ha : a < n) :
    ∃ M', F_X0_shapeWithout M 1000 o (iw (a : Int)) = some M' ∧ m_nx M' = m_nx M ∧ m_sl M' = m_sl M ∧ Df pShape n2 n2 M M' ∧ cI M' 1000 89 = iw ((n - 1 : Nat) : Int) ∧ ∀ j, j < n - 1 → cI M' 1062 j = iw (z (sk a j)) := by
  have hxN : xN = 1099511627776 := rfl
  have dA : Df pShape n2 n2 M (wI M 1000 89 0) := Df.wI _ (by unfold pShape; omega)
  have hq : qt pShape := fun a i q1 q2 => by unfold pShape at q2; omega
  obtain ⟨M', f1, f2, f3, f4, f5, f6⟩ := E_without_loop (a := a) hn ha n xN 0 (wI M 1000 89 0) (by omega) (by omega) h (g.df dA hq qt_n2) (by rw [if_pos (Nat.zero_le _), cI_wI, if_pos ⟨rfl, rfl⟩]; rfl) (fun j hj => by rw [if_pos (Nat.zero_le _)] at hj; omega)
  refine ⟨M', ?_, f2, f3, dA.trans f4, f5, f6⟩
  unfold F_X0_shapeWithout
  simp only [p1000_89, h, Option.bind_some]
  exact f1
theorem E_without0 {M : Mem} {o : Nat} {k : Int32} {n : Nat} {z : Nat → Nat} {s : Nat → Int32} {b : Int32} {c : Nat} {p a : Int32} (h : ST M) (g : GE M o k n z s b c p) (ha : a < 0) : F_X0_shapeWithout M 1000 o a = some (wI M 1000 89 0) := by
  have dA : Df pShape n2 n2 M (wI M 1000 89 0) := Df.wI _ (by unfold pShape; omega)
  have hq : qt pShape := fun a i q1 q2 => by unfold pShape at q2; omega
  have g' := g.df dA hq qt_n2
  unfold F_X0_shapeWithout
  simp only [p1000_89, h, Option.bind_some]
  show F_X0_shapeWithout_b7_st (F_X0_shapeWithout_b7 (xN - 1)) _ _ _ _ _ = _
  unfold F_X0_shapeWithout_b7_st F_X0_shapeWithout_b58
  simp only [gi_of g'.2.2.1 (show x_fi 22 1409 = true by decide), Option.bind_some]
  rw [if_pos ha]
  split <;> rfl
