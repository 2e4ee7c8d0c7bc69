/-! ===== CALLS, 8: shares ===== -/
noncomputable def pif {α : Type} (p : Prop) (a b : α) : α := @ite α p (Classical.propDecidable p) a b
theorem pif_pos {α : Type} {p : Prop} {a b : α} (h : p) : pif p a b = a := by unfold pif; exact if_pos h
theorem pif_neg {α : Type} {p : Prop} {a b : α} (h : ¬ p) : pif p a b = b := by unfold pif; exact if_neg h
/-- the first spot of the second grid that is marked -/
theorem E_sh3 {M : Mem} {a b : Nat} {k : Int32} {n : Nat} {z : Nat → Nat} {s t : Nat → Int32} {x y : Int32} {c d L : Nat} {p : Int32} (h : ST M) (g : GP M a b k n z s t x y c d L p) : ∀ (e N i : Nat), i + e = prd z n → e + 1 ≤ N → F_X0_shares_b113 N M 1000 a (iw (prd z n : Nat)) (iw (i : Int)) = some (pif (∃ j, i ≤ j ∧ j < prd z n ∧ cI M 1059 (gpos n z s x j) ≠ 0) 1 0, M) := by
  have hp := g.2.2.2.2.2.1
  have hL := g.2.2.2.2.2.2.2.1.2.2.2.2.2.2.2.2.1
  intro e
  induction e with
  | zero =>
    intro N i hi hN
    obtain ⟨N, rfl⟩ : ∃ x, N = x + 1 := ⟨N - 1, by omega⟩
    show F_X0_shares_b113_st (F_X0_shares_b113 N) M _ _ _ _ = _
    unfold F_X0_shares_b113_st
    rw [if_neg (by rw [iw_le4 (by omega) (by omega)]; omega), pif_neg (fun ⟨j, j1, j2, _⟩ => by omega)]
  | succ e ih =>
    intro N i hi hN
    obtain ⟨N, rfl⟩ : ∃ x, N = x + 1 := ⟨N - 1, by omega⟩
    show F_X0_shares_b113_st (F_X0_shares_b113 N) M _ _ _ _ = _
    unfold F_X0_shares_b113_st
    obtain ⟨q1, q2, q3⟩ := g.place (show i < prd z n by omega)
    rw [if_pos (by rw [iw_le4 (by omega) (by omega)]; omega), g1000_83 h]
    simp only [Option.bind_some]
    rw [vg_of g.1.2.2.1 (show x_isa 22 22 = true by decide)]
    simp only [Option.bind_some]
    rw [q2]
    simp only [Option.bind_some]
    rw [ab_of (j := gpos n z s x i) (Or.inl (t1059 h)) (l1059 h) (by omega) (by decide)]
    simp only [Option.bind_some]
    by_cases c0 : cI M 1059 (gpos n z s x i) = 0
    · rw [if_pos c0, show iw (i : Int) + 1 = iw ((i + 1 : Nat) : Int) by rw [show (1 : Int32) = iw 1 from rfl, iw_add]; rfl, ih N (i + 1) (by omega) (by omega)]
      have hq : (∃ j, i + 1 ≤ j ∧ j < prd z n ∧ cI M 1059 (gpos n z s x j) ≠ 0) ↔ (∃ j, i ≤ j ∧ j < prd z n ∧ cI M 1059 (gpos n z s x j) ≠ 0) := by
        refine ⟨fun ⟨j, j1, j2⟩ => ⟨j, by omega, j2⟩, fun ⟨j, j1, j2⟩ => ⟨j, ?_, j2⟩⟩
        rcases Nat.lt_or_ge i j with q | q
        · exact q
        · exact absurd (show j = i by omega) (fun q => j2.2 (by rw [q]; exact c0))
      simp only [hq]
    · rw [if_neg c0, pif_pos ⟨i, Nat.le_refl _, by omega, c0⟩]
/-- marks the spots of the first grid -/
theorem E_sh2 {a b : Nat} {k : Int32} {n : Nat} {z : Nat → Nat} {s t : Nat → Int32} {x y : Int32} {c d L : Nat} {p : Int32} {a' b' : Nat} {k' : Int32} {n' : Nat} {z' : Nat → Nat} {s' t' : Nat → Int32} {x' y' : Int32} {c' d' L' : Nat} {p' : Int32} : ∀ (e N i : Nat) (M : Mem), i + e = prd z n → e + 1 ≤ N → ST M → GP M a b k n z s t x y c d L p → GP M a' b' k' n' z' s' t' x' y' c' d' L' p' →
    ∃ M', F_X0_shares_b78 N M 1000 a a' (iw (prd z n : Nat)) (iw (i : Int)) = F_X0_shares_b113 xN M' 1000 a' (iw (prd z' n' : Nat)) 0 ∧ ST M' ∧ m_nx M' = m_nx M ∧ m_sl M' = m_sl M ∧ Df (fun a _ => a = 1059) n2 n2 M M' ∧ ∀ q, cI M' 1059 q = pif (∃ j, i ≤ j ∧ j < prd z n ∧ gpos n z s x j = q) 1 (cI M 1059 q) := by
  intro e
  induction e with
  | zero =>
    intro N i M hi hN h g g'
    obtain ⟨N, rfl⟩ : ∃ x, N = x + 1 := ⟨N - 1, by omega⟩
    have hp := g.2.2.2.2.2.1
    refine ⟨M, ?_, h, rfl, rfl, Df.refl _ _ _ _, fun q => by rw [pif_neg (fun ⟨j, j1, j2, _⟩ => by omega)]⟩
    show F_X0_shares_b78_st (F_X0_shares_b78 N) M _ _ _ _ _ = _
    unfold F_X0_shares_b78_st
    rw [if_neg (by rw [iw_le4 (by omega) (by omega)]; omega), vg_of g'.1.2.2.1 (show x_isa 22 22 = true by decide)]
    simp only [Option.bind_some]
    rw [E_count g'.1 g'.2.2.2.1]
    rfl
  | succ e ih =>
    intro N i M hi hN h g g'
    obtain ⟨N, rfl⟩ : ∃ x, N = x + 1 := ⟨N - 1, by omega⟩
    have hp := g.2.2.2.2.2.1
    have hL := g.2.2.2.2.2.2.2.1.2.2.2.2.2.2.2.2.1
    obtain ⟨q1, q2, q3⟩ := g.place (show i < prd z n by omega)
    have dd : Df (fun a _ => a = 1059) n2 n2 M (wI M 1059 (gpos n z s x i) 1) := Df.wI _ rfl
    have qq : qt (fun a _ => a = 1059) := fun a i q1 q2 => by have q2 : a = 1059 := q2; omega
    obtain ⟨M', f1, f2, f3, f4, f5, f6⟩ := ih N (i + 1) (wI M 1059 (gpos n z s x i) 1) (by omega) (by omega) h (g.df dd qq qt_n2 qt_n2) (g'.df dd qq qt_n2 qt_n2)
    refine ⟨M', ?_, f2, f3, f4, dd.trans f5, fun q => ?_⟩
    · rw [← f1]
      show F_X0_shares_b78_st (F_X0_shares_b78 N) M _ _ _ _ _ = _
      unfold F_X0_shares_b78_st
      rw [if_pos (by rw [iw_le4 (by omega) (by omega)]; omega), g1000_83 h]
      simp only [Option.bind_some]
      rw [vg_of g.1.2.2.1 (show x_isa 22 22 = true by decide)]
      simp only [Option.bind_some]
      rw [q2]
      simp only [Option.bind_some]
      rw [sz_of (j := gpos n z s x i) 1 (t1059 h) (l1059 h) (by omega) (by decide)]
      simp only [Option.bind_some]
      rw [show iw (i : Int) + 1 = iw ((i + 1 : Nat) : Int) by rw [show (1 : Int32) = iw 1 from rfl, iw_add]; rfl]
      rfl
    · rw [f6 q, cI_wI]
      by_cases e1 : ∃ j, i + 1 ≤ j ∧ j < prd z n ∧ gpos n z s x j = q
      · obtain ⟨j, j1, j2⟩ := e1
        rw [pif_pos ⟨j, j1, j2⟩, pif_pos ⟨j, by omega, j2⟩]
      · rw [pif_neg e1]
        by_cases e2 : q = gpos n z s x i
        · rw [if_pos ⟨rfl, e2⟩, pif_pos ⟨i, Nat.le_refl _, by omega, e2.symm⟩]
        · rw [if_neg (fun hh => e2 hh.2), pif_neg]
          rintro ⟨j, j1, j2, j3⟩
          rcases Nat.lt_or_ge i j with q | q
          · exact e1 ⟨j, q, j2, j3⟩
          · rw [show j = i by omega] at j3
            exact e2 j3.symm
/-- clears the marks, then all -/
theorem E_sh1 {a b : Nat} {k : Int32} {n : Nat} {z : Nat → Nat} {s t : Nat → Int32} {x y : Int32} {c d L : Nat} {p : Int32} {a' b' : Nat} {k' : Int32} {n' : Nat} {z' : Nat → Nat} {s' t' : Nat → Int32} {x' y' : Int32} {c' d' L' : Nat} {p' : Int32} : ∀ (e N i : Nat) (M : Mem), i + e = L → e + 1 ≤ N → ST M → GP M a b k n z s t x y c d L p → GP M a' b' k' n' z' s' t' x' y' c' d' L' p' → (∀ q, q < i → cI M 1059 q = 0) →
    ∃ M', F_X0_shares_b45 N M 1000 a a' (iw (i : Int)) = F_X0_shares_b78 xN M' 1000 a a' (iw (prd z n : Nat)) 0 ∧ ST M' ∧ m_nx M' = m_nx M ∧ m_sl M' = m_sl M ∧ Df (fun a _ => a = 1059) n2 n2 M M' ∧ ∀ q, q < L → cI M' 1059 q = 0 := by
  intro e
  induction e with
  | zero =>
    intro N i M hi hN h g g' hq
    obtain ⟨N, rfl⟩ : ∃ x, N = x + 1 := ⟨N - 1, by omega⟩
    have cp := g.2.2.2.2.2.2.2.1
    have hL := cp.2.2.2.2.2.2.2.2.1
    refine ⟨M, ?_, h, rfl, rfl, Df.refl _ _ _ _, fun q h1 => hq q (by omega)⟩
    show F_X0_shares_b45_st (F_X0_shares_b45 N) M _ _ _ _ = _
    unfold F_X0_shares_b45_st
    simp only [gr_of g.1.2.2.1 (show x_fr 22 1413 = true by decide), g.1.2.2.2.2.2.2.2.2.1, an_of cp.2.2.2.2.1 (by decide) cp.2.2.2.2.2.2.1, Option.bind_some]
    rw [if_neg (by rw [iw_le4 (by omega) (by omega)]; omega), vg_of g.1.2.2.1 (show x_isa 22 22 = true by decide)]
    simp only [Option.bind_some]
    rw [E_count g.1 g.2.2.2.1]
    rfl
  | succ e ih =>
    intro N i M hi hN h g g' hq
    obtain ⟨N, rfl⟩ : ∃ x, N = x + 1 := ⟨N - 1, by omega⟩
    have cp := g.2.2.2.2.2.2.2.1
    have hL := cp.2.2.2.2.2.2.2.2.1
    have dd : Df (fun a _ => a = 1059) n2 n2 M (wI M 1059 i 0) := Df.wI _ rfl
    have qq : qt (fun a _ => a = 1059) := fun a i q1 q2 => by have q2 : a = 1059 := q2; omega
    obtain ⟨M', f1, f2, f3, f4, f5, f6⟩ := ih N (i + 1) (wI M 1059 i 0) (by omega) (by omega) h (g.df dd qq qt_n2 qt_n2) (g'.df dd qq qt_n2 qt_n2) (fun q h1 => by
      rw [cI_wI]
      by_cases e1 : q = i
      · rw [if_pos ⟨rfl, e1⟩]
      · rw [if_neg (fun hh => e1 hh.2)]
        exact hq q (by omega))
    refine ⟨M', ?_, f2, f3, f4, dd.trans f5, f6⟩
    rw [← f1]
    show F_X0_shares_b45_st (F_X0_shares_b45 N) M _ _ _ _ = _
    unfold F_X0_shares_b45_st
    simp only [gr_of g.1.2.2.1 (show x_fr 22 1413 = true by decide), g.1.2.2.2.2.2.2.2.2.1, an_of cp.2.2.2.2.1 (by decide) cp.2.2.2.2.2.2.1, Option.bind_some]
    rw [if_pos (by rw [iw_le4 (by omega) (by omega)]; omega), g1000_83 h]
    simp only [Option.bind_some]
    rw [sz_of (j := i) 0 (t1059 h) (l1059 h) (by omega) (by decide)]
    simp only [Option.bind_some]
    rw [show iw (i : Int) + 1 = iw ((i + 1 : Nat) : Int) by rw [show (1 : Int32) = iw 1 from rfl, iw_add]; rfl]
    rfl
/-- all of it -/
theorem E_sh {M : Mem} {a b : Nat} {k : Int32} {n : Nat} {z : Nat → Nat} {s t : Nat → Int32} {x y : Int32} {c d L : Nat} {p : Int32} {a' b' : Nat} {k' : Int32} {n' : Nat} {z' : Nat → Nat} {s' t' : Nat → Int32} {x' y' : Int32} {L' : Nat} {p' : Int32} (h : ST M) (g : GP M a b k n z s t x y c d L p) (g' : GP M a' b' k' n' z' s' t' x' y' c d L' p') :
    ∃ M', F_X0_shares_b45 xN M 1000 a a' 0 = some (pif (∃ j, j < prd z' n' ∧ ∃ i, i < prd z n ∧ gpos n z s x i = gpos n' z' s' x' j) 1 0, M') ∧ ST M' ∧ m_nx M' = m_nx M ∧ m_sl M' = m_sl M ∧ Df (fun a _ => a = 1059) n2 n2 M M' := by
  have hx : xN = 1099511627776 := rfl
  have hL := g.2.2.2.2.2.2.2.1.2.2.2.2.2.2.2.2.1
  have hp := g.2.2.2.2.2.1
  have hp' := g'.2.2.2.2.2.1
  have hLL : L' = L := by
    have q1 := g.2.2.2.2.2.2.2.1.2.2.2.2.2.2.1
    have q2 := g'.2.2.2.2.2.2.2.1.2.2.2.2.2.2.1
    rw [← q1, ← q2]
  have qq : qt (fun a _ => a = 1059) := fun a i q1 q2 => by have q2 : a = 1059 := q2; omega
  obtain ⟨M1, f1, f2, f3, f4, f5, f6⟩ := E_sh1 L xN 0 M (by omega) (by omega) h g g' (fun q hq => by omega)
  have g1 := g.df f5 qq qt_n2 qt_n2
  have g1' := g'.df f5 qq qt_n2 qt_n2
  obtain ⟨M2, k1, k2, k3, k4, k5, k6⟩ := E_sh2 (prd z n) xN 0 M1 (by omega) (by omega) f2 g1 g1'
  have g2' := g1'.df k5 qq qt_n2 qt_n2
  have e3 := E_sh3 k2 g2' (prd z' n') xN 0 (by omega) (by omega)
  refine ⟨M2, ?_, k2, by omega, by omega, f5.trans k5⟩
  rw [show (0 : Int32) = iw ((0 : Nat) : Int) from rfl, f1, show (0 : Int32) = iw ((0 : Nat) : Int) from rfl, k1, show (0 : Int32) = iw ((0 : Nat) : Int) from rfl, e3]
  have hq : (∃ j, 0 ≤ j ∧ j < prd z' n' ∧ cI M2 1059 (gpos n' z' s' x' j) ≠ 0) ↔ (∃ j, j < prd z' n' ∧ ∃ i, i < prd z n ∧ gpos n z s x i = gpos n' z' s' x' j) := by
    constructor
    · rintro ⟨j, -, j2, j3⟩
      refine ⟨j, j2, ?_⟩
      rw [k6] at j3
      by_cases e : ∃ i, 0 ≤ i ∧ i < prd z n ∧ gpos n z s x i = gpos n' z' s' x' j
      · obtain ⟨i, -, i2, i3⟩ := e
        exact ⟨i, i2, i3⟩
      · rw [pif_neg e, f6 _ (by have := (g'.place j2).1; omega)] at j3
        exact absurd rfl j3
    · rintro ⟨j, j2, i, i2, i3⟩
      refine ⟨j, Nat.zero_le _, j2, ?_⟩
      rw [k6, pif_pos ⟨i, Nat.zero_le _, i2, i3⟩]
      decide
  simp only [hq]
  rfl
/-- the first spot of the second grid that is marked -/
theorem M_sh3 {M : Mem} {a b : Nat} {k : Int32} {n : Nat} {z : Nat → Nat} {s t : Nat → Int32} {x y : Int32} {c d L : Nat} {p : Int32} (h : ST M) (g : GP M a b k n z s t x y c d L p) : ∀ (e N i : Nat), i + e = prd z n → e + 1 ≤ N → F_X16_shares_b118 N M 1068 b (iw (i : Int)) = some (pif (∃ j, i ≤ j ∧ j < prd z n ∧ cI M 1076 (gpos n z s x j) ≠ 0) 1 0, M) := by
  have hp := g.2.2.2.2.2.1
  have hL := g.2.2.2.2.2.2.2.1.2.2.2.2.2.2.2.2.1
  intro e
  induction e with
  | zero =>
    intro N i hi hN
    obtain ⟨N, rfl⟩ : ∃ x, N = x + 1 := ⟨N - 1, by omega⟩
    show F_X16_shares_b118_st (F_X16_shares_b118 N) M _ _ _ = _
    unfold F_X16_shares_b118_st
    rw [vg_of g.2.1.2.2.1 (show x_isa 23 23 = true by decide)]
    simp only [Option.bind_some]
    rw [M_count g.2.1 g.2.2.2.1 g.2.2.2.2.1]
    simp only [Option.bind_some]
    rw [if_neg (by rw [iw_le4 (by omega) (by omega)]; omega), pif_neg (fun ⟨j, j1, j2, _⟩ => by omega)]
  | succ e ih =>
    intro N i hi hN
    obtain ⟨N, rfl⟩ : ∃ x, N = x + 1 := ⟨N - 1, by omega⟩
    show F_X16_shares_b118_st (F_X16_shares_b118 N) M _ _ _ = _
    unfold F_X16_shares_b118_st
    obtain ⟨q1, q2, q3⟩ := g.place (show i < prd z n by omega)
    rw [vg_of g.2.1.2.2.1 (show x_isa 23 23 = true by decide)]
    simp only [Option.bind_some]
    rw [M_count g.2.1 g.2.2.2.1 g.2.2.2.2.1]
    simp only [Option.bind_some]
    rw [if_pos (by rw [iw_le4 (by omega) (by omega)]; omega), g1068_1104 h]
    simp only [Option.bind_some]
    rw [q3]
    simp only [Option.bind_some]
    rw [ab_of (j := gpos n z s x i) (Or.inl (t1076 h)) (l1076 h) (by omega) (by decide)]
    simp only [Option.bind_some]
    by_cases c0 : cI M 1076 (gpos n z s x i) = 0
    · rw [if_pos c0, show iw (i : Int) + 1 = iw ((i + 1 : Nat) : Int) by rw [show (1 : Int32) = iw 1 from rfl, iw_add]; rfl, ih N (i + 1) (by omega) (by omega)]
      have hq : (∃ j, i + 1 ≤ j ∧ j < prd z n ∧ cI M 1076 (gpos n z s x j) ≠ 0) ↔ (∃ j, i ≤ j ∧ j < prd z n ∧ cI M 1076 (gpos n z s x j) ≠ 0) := by
        refine ⟨fun ⟨j, j1, j2⟩ => ⟨j, by omega, j2⟩, fun ⟨j, j1, j2⟩ => ⟨j, ?_, j2⟩⟩
        rcases Nat.lt_or_ge i j with q | q
        · exact q
        · exact absurd (show j = i by omega) (fun q => j2.2 (by rw [q]; exact c0))
      simp only [hq]
    · rw [if_neg c0, pif_pos ⟨i, Nat.le_refl _, by omega, c0⟩]
/-- marks the spots of the first grid -/
theorem M_sh2 {a b : Nat} {k : Int32} {n : Nat} {z : Nat → Nat} {s t : Nat → Int32} {x y : Int32} {c d L : Nat} {p : Int32} {a' b' : Nat} {k' : Int32} {n' : Nat} {z' : Nat → Nat} {s' t' : Nat → Int32} {x' y' : Int32} {c' d' L' : Nat} {p' : Int32} : ∀ (e N i : Nat) (M : Mem), i + e = prd z n → e + 1 ≤ N → ST M → GP M a b k n z s t x y c d L p → GP M a' b' k' n' z' s' t' x' y' c' d' L' p' →
    ∃ M', F_X16_shares_b88 N M 1068 b b' (iw (i : Int)) = F_X16_shares_b118 xN M' 1068 b' 0 ∧ ST M' ∧ m_nx M' = m_nx M ∧ m_sl M' = m_sl M ∧ Df (fun a _ => a = 1076) n2 n2 M M' ∧ ∀ q, cI M' 1076 q = pif (∃ j, i ≤ j ∧ j < prd z n ∧ gpos n z s x j = q) 1 (cI M 1076 q) := by
  intro e
  induction e with
  | zero =>
    intro N i M hi hN h g g'
    obtain ⟨N, rfl⟩ : ∃ x, N = x + 1 := ⟨N - 1, by omega⟩
    have hp := g.2.2.2.2.2.1
    refine ⟨M, ?_, h, rfl, rfl, Df.refl _ _ _ _, fun q => by rw [pif_neg (fun ⟨j, j1, j2, _⟩ => by omega)]⟩
    show F_X16_shares_b88_st (F_X16_shares_b88 N) M _ _ _ _ = _
    unfold F_X16_shares_b88_st
    rw [vg_of g.2.1.2.2.1 (show x_isa 23 23 = true by decide)]
    simp only [Option.bind_some]
    rw [M_count g.2.1 g.2.2.2.1 g.2.2.2.2.1]
    simp only [Option.bind_some]
    rw [if_neg (by rw [iw_le4 (by omega) (by omega)]; omega)]
  | succ e ih =>
    intro N i M hi hN h g g'
    obtain ⟨N, rfl⟩ : ∃ x, N = x + 1 := ⟨N - 1, by omega⟩
    have hp := g.2.2.2.2.2.1
    have hL := g.2.2.2.2.2.2.2.1.2.2.2.2.2.2.2.2.1
    obtain ⟨q1, q2, q3⟩ := g.place (show i < prd z n by omega)
    have dd : Df (fun a _ => a = 1076) n2 n2 M (wI M 1076 (gpos n z s x i) 1) := Df.wI _ rfl
    have qq : qt (fun a _ => a = 1076) := fun a i q1 q2 => by have q2 : a = 1076 := q2; omega
    obtain ⟨M', f1, f2, f3, f4, f5, f6⟩ := ih N (i + 1) (wI M 1076 (gpos n z s x i) 1) (by omega) (by omega) h (g.df dd qq qt_n2 qt_n2) (g'.df dd qq qt_n2 qt_n2)
    refine ⟨M', ?_, f2, f3, f4, dd.trans f5, fun q => ?_⟩
    · rw [← f1]
      show F_X16_shares_b88_st (F_X16_shares_b88 N) M _ _ _ _ = _
      unfold F_X16_shares_b88_st
      rw [vg_of g.2.1.2.2.1 (show x_isa 23 23 = true by decide)]
      simp only [Option.bind_some]
      rw [M_count g.2.1 g.2.2.2.1 g.2.2.2.2.1]
      simp only [Option.bind_some]
      rw [if_pos (by rw [iw_le4 (by omega) (by omega)]; omega), g1068_1104 h]
      simp only [Option.bind_some]
      rw [q3]
      simp only [Option.bind_some]
      rw [sz_of (j := gpos n z s x i) 1 (t1076 h) (l1076 h) (by omega) (by decide)]
      simp only [Option.bind_some]
      rw [show iw (i : Int) + 1 = iw ((i + 1 : Nat) : Int) by rw [show (1 : Int32) = iw 1 from rfl, iw_add]; rfl]
      rfl
    · rw [f6 q, cI_wI]
      by_cases e1 : ∃ j, i + 1 ≤ j ∧ j < prd z n ∧ gpos n z s x j = q
      · obtain ⟨j, j1, j2⟩ := e1
        rw [pif_pos ⟨j, j1, j2⟩, pif_pos ⟨j, by omega, j2⟩]
      · rw [pif_neg e1]
        by_cases e2 : q = gpos n z s x i
        · rw [if_pos ⟨rfl, e2⟩, pif_pos ⟨i, Nat.le_refl _, by omega, e2.symm⟩]
        · rw [if_neg (fun hh => e2 hh.2), pif_neg]
          rintro ⟨j, j1, j2, j3⟩
          rcases Nat.lt_or_ge i j with q | q
          · exact e1 ⟨j, q, j2, j3⟩
          · rw [show j = i by omega] at j3
            exact e2 j3.symm
/-- clears the marks, then all -/
theorem M_sh1 {a b : Nat} {k : Int32} {n : Nat} {z : Nat → Nat} {s t : Nat → Int32} {x y : Int32} {c d L : Nat} {p : Int32} {a' b' : Nat} {k' : Int32} {n' : Nat} {z' : Nat → Nat} {s' t' : Nat → Int32} {x' y' : Int32} {c' d' L' : Nat} {p' : Int32} : ∀ (e N i : Nat) (M : Mem), i + e = L → e + 1 ≤ N → ST M → GP M a b k n z s t x y c d L p → GP M a' b' k' n' z' s' t' x' y' c' d' L' p' → (∀ q, q < i → cI M 1076 q = 0) →
    ∃ M', F_X16_shares_b61 N M 1068 b b' (iw (i : Int)) = F_X16_shares_b88 xN M' 1068 b b' 0 ∧ ST M' ∧ m_nx M' = m_nx M ∧ m_sl M' = m_sl M ∧ Df (fun a _ => a = 1076) n2 n2 M M' ∧ ∀ q, q < L → cI M' 1076 q = 0 := by
  intro e
  induction e with
  | zero =>
    intro N i M hi hN h g g' hq
    obtain ⟨N, rfl⟩ : ∃ x, N = x + 1 := ⟨N - 1, by omega⟩
    have cp := g.2.2.2.2.2.2.2.1
    have hL := cp.2.2.2.2.2.2.2.2.1
    refine ⟨M, ?_, h, rfl, rfl, Df.refl _ _ _ _, fun q h1 => hq q (by omega)⟩
    show F_X16_shares_b61_st (F_X16_shares_b61 N) M _ _ _ _ = _
    unfold F_X16_shares_b61_st
    simp only [gr_of g.2.1.2.2.1 (show x_fr 23 1476 = true by decide), g.2.1.2.2.2.2.2.2.2.1, an_of cp.2.2.2.2.2.1 (by decide) cp.2.2.2.2.2.2.2.1, Option.bind_some]
    rw [if_neg (by rw [iw_le4 (by omega) (by omega)]; omega)]
  | succ e ih =>
    intro N i M hi hN h g g' hq
    obtain ⟨N, rfl⟩ : ∃ x, N = x + 1 := ⟨N - 1, by omega⟩
    have cp := g.2.2.2.2.2.2.2.1
    have hL := cp.2.2.2.2.2.2.2.2.1
    have dd : Df (fun a _ => a = 1076) n2 n2 M (wI M 1076 i 0) := Df.wI _ rfl
    have qq : qt (fun a _ => a = 1076) := fun a i q1 q2 => by have q2 : a = 1076 := q2; omega
    obtain ⟨M', f1, f2, f3, f4, f5, f6⟩ := ih N (i + 1) (wI M 1076 i 0) (by omega) (by omega) h (g.df dd qq qt_n2 qt_n2) (g'.df dd qq qt_n2 qt_n2) (fun q h1 => by
      rw [cI_wI]
      by_cases e1 : q = i
      · rw [if_pos ⟨rfl, e1⟩]
      · rw [if_neg (fun hh => e1 hh.2)]
        exact hq q (by omega))
    refine ⟨M', ?_, f2, f3, f4, dd.trans f5, f6⟩
    rw [← f1]
    show F_X16_shares_b61_st (F_X16_shares_b61 N) M _ _ _ _ = _
    unfold F_X16_shares_b61_st
    simp only [gr_of g.2.1.2.2.1 (show x_fr 23 1476 = true by decide), g.2.1.2.2.2.2.2.2.2.1, an_of cp.2.2.2.2.2.1 (by decide) cp.2.2.2.2.2.2.2.1, Option.bind_some]
    rw [if_pos (by rw [iw_le4 (by omega) (by omega)]; omega), g1068_1104 h]
    simp only [Option.bind_some]
    rw [sz_of (j := i) 0 (t1076 h) (l1076 h) (by omega) (by decide)]
    simp only [Option.bind_some]
    rw [show iw (i : Int) + 1 = iw ((i + 1 : Nat) : Int) by rw [show (1 : Int32) = iw 1 from rfl, iw_add]; rfl]
    rfl
/-- all of it -/
theorem M_sh {M : Mem} {a b : Nat} {k : Int32} {n : Nat} {z : Nat → Nat} {s t : Nat → Int32} {x y : Int32} {c d L : Nat} {p : Int32} {a' b' : Nat} {k' : Int32} {n' : Nat} {z' : Nat → Nat} {s' t' : Nat → Int32} {x' y' : Int32} {L' : Nat} {p' : Int32} (h : ST M) (g : GP M a b k n z s t x y c d L p) (g' : GP M a' b' k' n' z' s' t' x' y' c d L' p') :
    ∃ M', F_X16_shares_b61 xN M 1068 b b' 0 = some (pif (∃ j, j < prd z' n' ∧ ∃ i, i < prd z n ∧ gpos n z s x i = gpos n' z' s' x' j) 1 0, M') ∧ ST M' ∧ m_nx M' = m_nx M ∧ m_sl M' = m_sl M ∧ Df (fun a _ => a = 1076) n2 n2 M M' := by
  have hx : xN = 1099511627776 := rfl
  have hL := g.2.2.2.2.2.2.2.1.2.2.2.2.2.2.2.2.1
  have hp := g.2.2.2.2.2.1
  have hp' := g'.2.2.2.2.2.1
  have hLL : L' = L := by
    have q1 := g.2.2.2.2.2.2.2.1.2.2.2.2.2.2.1
    have q2 := g'.2.2.2.2.2.2.2.1.2.2.2.2.2.2.1
    rw [← q1, ← q2]
  have qq : qt (fun a _ => a = 1076) := fun a i q1 q2 => by have q2 : a = 1076 := q2; omega
  obtain ⟨M1, f1, f2, f3, f4, f5, f6⟩ := M_sh1 L xN 0 M (by omega) (by omega) h g g' (fun q hq => by omega)
  have g1 := g.df f5 qq qt_n2 qt_n2
  have g1' := g'.df f5 qq qt_n2 qt_n2
  obtain ⟨M2, k1, k2, k3, k4, k5, k6⟩ := M_sh2 (prd z n) xN 0 M1 (by omega) (by omega) f2 g1 g1'
  have g2' := g1'.df k5 qq qt_n2 qt_n2
  have e3 := M_sh3 k2 g2' (prd z' n') xN 0 (by omega) (by omega)
  refine ⟨M2, ?_, k2, by omega, by omega, f5.trans k5⟩
  rw [show (0 : Int32) = iw ((0 : Nat) : Int) from rfl, f1, show (0 : Int32) = iw ((0 : Nat) : Int) from rfl, k1, show (0 : Int32) = iw ((0 : Nat) : Int) from rfl, e3]
  have hq : (∃ j, 0 ≤ j ∧ j < prd z' n' ∧ cI M2 1076 (gpos n' z' s' x' j) ≠ 0) ↔ (∃ j, j < prd z' n' ∧ ∃ i, i < prd z n ∧ gpos n z s x i = gpos n' z' s' x' j) := by
    constructor
    · rintro ⟨j, -, j2, j3⟩
      refine ⟨j, j2, ?_⟩
      rw [k6] at j3
      by_cases e : ∃ i, 0 ≤ i ∧ i < prd z n ∧ gpos n z s x i = gpos n' z' s' x' j
      · obtain ⟨i, -, i2, i3⟩ := e
        exact ⟨i, i2, i3⟩
      · rw [pif_neg e, f6 _ (by have := (g'.place j2).1; omega)] at j3
        exact absurd rfl j3
    · rintro ⟨j, j2, i, i2, i3⟩
      refine ⟨j, Nat.zero_le _, j2, ?_⟩
      rw [k6, pif_pos ⟨i, Nat.zero_le _, i2, i3⟩]
      decide
  simp only [hq]
  rfl
theorem c_shares {M : Mem} {g g' : Int32} (h : ST M) (h4 : I4 M) (h5 : I5 M) : ∃ (r : Int32) (M1 M2 : Mem), F_X0_shares M 1000 g g' = some (r, M1) ∧ F_X16_shares M1 1068 g g' = some (r, M2) ∧ Df psc n2 n2 M M2 ∧ m_nx M2 = m_nx M ∧ m_sl M2 = m_sl M := by
  have h0 := h.1
  obtain ⟨m, w, K, n, Z, S, T, X, Y, C, D, L, P, h5⟩ := h5
  have n10 : ¬ (1 : Int32) = 0 := by decide
  have cl := fun g => look h h4 h5 g
  rcases look h h4 h5 g with ⟨b1, b2, e1, e2, e3⟩ | ⟨b1, b2, e1, e2, e3, e8⟩ | ⟨b1, b2, j, j1, j2, hg, e1, e4, e5, e3, e7, e6, gp⟩
  · have x1 : F_X0_find M 1000 g' = some 0 := by
      rcases look h h4 h5 g' with ⟨-, -, x, -⟩ | ⟨y, -⟩ | ⟨y, -⟩
      · exact x
      · rw [b1] at y; exact absurd y n10
      · rw [b1] at y; exact absurd y n10
    refine ⟨-13, M, M, ?_, ?_, Df.refl _ _ _ _, rfl, rfl⟩
    · simp only [F_X0_shares, F_X0_shares_b22, v1000, h, e1, x1, e2, Option.bind_some, Nat.reduceEqDiff, if_false, if_true]
    · simp only [F_X16_shares, g1068_1095, h, b2, n10, Option.bind_some, if_false]
  · have x1 : ∃ x, F_X0_find M 1000 g' = some x := by
      rcases look h h4 h5 g' with ⟨-, -, x, -⟩ | ⟨-, -, x, -⟩ | ⟨-, -, j, -, -, -, x, -⟩
      · exact ⟨_, x⟩
      · exact ⟨_, x⟩
      · exact ⟨_, x⟩
    obtain ⟨x, x1⟩ := x1
    refine ⟨-14, M, M, ?_, ?_, Df.refl _ _ _ _, rfl, rfl⟩
    · simp only [F_X0_shares, F_X0_shares_b22, v1000, h, e1, x1, e2, Option.bind_some, Nat.reduceEqDiff, if_false, if_true]
    · simp only [F_X16_shares, F_X16_shares_b26, g1068_1095, v1068, h, b2, e8, Option.bind_some, if_true]
  · rcases look h h4 h5 g' with ⟨x1, -⟩ | ⟨-, -, x1, x2, x3, x8⟩ | ⟨-, -, j', j1', j2', hg', x1, x4, x5, x3, x7, x6, gp'⟩
    · rw [b1] at x1; exact absurd x1.symm n10
    · refine ⟨-14, M, M, ?_, ?_, Df.refl _ _ _ _, rfl, rfl⟩
      · simp only [F_X0_shares, F_X0_shares_b22, v1000, h, e1, e4, e5, x1, x2, Option.bind_some, Nat.reduceEqDiff, if_false, if_true]
      · simp only [F_X16_shares, F_X16_shares_b26, g1068_1095, v1068, h, b2, e7, x8, n10, Option.bind_some, if_true, if_false]
    · have hs := h5.2.2.2.2.2.2.2 j j' j1 j2 j1' j2' e4 x4
      have ca : ∀ {c e : Nat}, 1334 ≤ c → 1334 ≤ e → ac c e = true := fun {c e} q1 q2 => by
        have c1 : Nat.ble 1000 c = true := Nat.ble_eq.mpr (by omega)
        have c2 : Nat.ble 1000 e = true := Nat.ble_eq.mpr (by omega)
        have c3 : (c != 2) = true := by simp; omega
        have c4 : (e != 2) = true := by simp; omega
        unfold ac acs
        simp only [c1, c2, c3, c4, Bool.true_or, Bool.and_self, Bool.or_true, Bool.and_true]
      have a1 := ca gp.2.2.2.2.2.2.2.1.1 gp'.2.2.2.2.2.2.2.1.1
      have a2 := ca gp.2.2.2.2.2.2.2.1.2.2.1 gp'.2.2.2.2.2.2.2.1.2.2.1
      have gE := gp.1.2.2.1
      have gE' := gp'.1.2.2.1
      have gM := gp.2.1.2.2.1
      have gM' := gp'.2.1.2.2.1
      by_cases hc : C j = C j'
      · have hd := hs.1.mp hc
        rw [← hc, ← hd] at gp'
        obtain ⟨M1, f1, f2, f3, f4, f5⟩ := E_sh h gp gp'
        have qq : qt (fun a _ => a = 1059) := fun a i q1 q2 => by have q2 : a = 1059 := q2; omega
        have gp1 := gp.df f5 qq qt_n2 qt_n2
        have gp1' := gp'.df f5 qq qt_n2 qt_n2
        obtain ⟨M2, k1, k2, k3, k4, k5⟩ := M_sh f2 gp1 gp1'
        obtain ⟨r, hr⟩ : ∃ r : Int32, r = pif (∃ q, q < prd (Z j') (n j') ∧ ∃ i, i < prd (Z j) (n j) ∧ gpos (n j) (Z j) (S j) (X j) i = gpos (n j') (Z j') (S j') (X j') q) 1 0 := ⟨_, rfl⟩
        rw [← hr] at f1 k1
        refine ⟨r, M1, M2, ?_, ?_, (f5.mono (fun a i q => by have q : a = 1059 := q; unfold psc; omega) (fun _ _ q => q) (fun _ _ q => q)).trans (k5.mono (fun a i q => by have q : a = 1076 := q; unfold psc; omega) (fun _ _ q => q) (fun _ _ q => q)), by omega, by omega⟩
        · rw [← f1]
          simp only [F_X0_shares, v1000, h, e1, e4, e5, x1, x4, x5, gr_of gE (show x_fr 22 1413 = true by decide), gr_of gE' (show x_fr 22 1413 = true by decide), gp.1.2.2.2.2.2.2.2.2.1, gp'.1.2.2.2.2.2.2.2.2.1, ← hc, a1, Option.bind_some, if_false, if_true]
          rw [← hc] at a1
          simp only [a1, if_true]
        · have y := M_see h f5 f2 (by omega) (by omega) (fun i q => q) g
          have y' := M_see h f5 f2 (by omega) (by omega) (fun i q => q) g'
          rw [← k1]
          have gM1 := gp1.2.1.2.2.1
          have gM1' := gp1'.2.1.2.2.1
          have b2' : cI M1 1068 1095 = 0 := by rw [f5.cI (by omega) (by omega)]; exact b2
          rw [← hd] at a2
          simp only [F_X16_shares, g1068_1095, g1068_1092, v1068, f2, b2', y.2.1, y'.2.1, y.2.2, y'.2.2, e7, x7, e6, x6, n10, gr_of gM1 (show x_fr 23 1476 = true by decide), gr_of gM1' (show x_fr 23 1476 = true by decide), gp1.2.1.2.2.2.2.2.2.2.1, gp1'.2.1.2.2.2.2.2.2.2.1, a2, Option.bind_some, if_false, if_true]
      · have hd : ¬ D j = D j' := fun q => hc (hs.1.mpr q)
        refine ⟨0, M, M, ?_, ?_, Df.refl _ _ _ _, rfl, rfl⟩
        · simp only [F_X0_shares, v1000, h, e1, e4, e5, x1, x4, x5, gr_of gE (show x_fr 22 1413 = true by decide), gr_of gE' (show x_fr 22 1413 = true by decide), gp.1.2.2.2.2.2.2.2.2.1, gp'.1.2.2.2.2.2.2.2.2.1, hc, a1, Option.bind_some, if_false, if_true]
        · simp only [F_X16_shares, g1068_1095, g1068_1092, v1068, h, b2, e7, x7, e6, x6, n10, gr_of gM (show x_fr 23 1476 = true by decide), gr_of gM' (show x_fr 23 1476 = true by decide), gp.2.1.2.2.2.2.2.2.2.1, gp'.2.1.2.2.2.2.2.2.2.1, hd, a2, Option.bind_some, if_false, if_true]
