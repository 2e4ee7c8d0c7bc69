/-! ===== CALLS, 22: folds, the engine's lines ===== -/
theorem sk_pos {z : Nat → Nat} {a n : Nat} (ha : a < n) (h : prd (fun j => z (sk a j)) (n - 1) ≠ 0) : ∀ i, i < n → i ≠ a → 0 < z i := by
  intro i hi hia
  have hp := (prd_pos (n - 1)).mp h
  by_cases c : i < a
  · have := hp i (by omega)
    unfold sk at this
    rw [if_pos c] at this
    exact this
  · have := hp (i - 1) (by omega)
    unfold sk at this
    rw [if_neg (by omega), show i - 1 + 1 = i by omega] at this
    exact this
theorem pw_n {z : Nat → Nat} {a n : Nat} (ha : a < n) : pw z a n = prd (fun j => z (sk a j)) (n - 1) := by
  obtain ⟨m, rfl⟩ : ∃ m, n = m + 1 := ⟨n - 1, by omega⟩
  exact pw_hi m (by omega)
/-- what a line holds -/
def lnv (M : Mem) (c n : Nat) (z : Nat → Nat) (s : Nat → Int32) (x : Int32) (a lk : Nat) : Nat → Int64 := fun i => cJ M c (gpos n z s x (cn z a i n lk))
theorem E_fold1 {A : Mem} {o b : Nat} {k : Int32} {n a : Nat} {z : Nat → Nat} {s t : Nat → Int32} {x y : Int32} {c d L : Nat} {p w : Int32} (sA : ST A) (g : GP A o b k n z s t x y c d L p) (ha : a < n) (hw : Wy w) (ht : foT w k = true) (hc : prd (fun j => z (sk a j)) (n - 1) ≤ 100000) :
    ∃ A', Df (at1 1002) qsc n2 A A' ∧ m_nx A' = m_nx A ∧ m_sl A' = m_sl A ∧
      ((ff (fun i => foAll w k (lnv A c n z s x a i) (z a)) 0 (prd (fun j => z (sk a j)) (n - 1)) = none ∧ F_X0_fold_b117 xN A 1000 w (iw (a : Int)) o (iw (prd (fun j => z (sk a j)) (n - 1) : Nat)) 0 = F_X0_made A' 1000 (foL w k) 1057 ∧ ∀ i, i < prd (fun j => z (sk a j)) (n - 1) → cJ A' 1057 i = (foAll w k (lnv A c n z s x a i) (z a)).getD 0) ∨
       (∃ q, ff (fun i => foAll w k (lnv A c n z s x a i) (z a)) 0 (prd (fun j => z (sk a j)) (n - 1)) = some q ∧ q < prd (fun j => z (sk a j)) (n - 1) ∧ F_X0_fold_b117 xN A 1000 w (iw (a : Int)) o (iw (prd (fun j => z (sk a j)) (n - 1) : Nat)) 0 = F_X0_failedAt A' 1000 (iw (q : Int)) ∧ cI A' 1002 129 = 8)) := by
  have hn := g.2.2.2.1
  have hk := g.2.2.1
  have hz2 := g.2.2.2.2.1
  have cp := g.2.2.2.2.2.2.2.1
  have hxN : xN = 1099511627776 := rfl
  have hza := hz2 a ha
  obtain ⟨Q, hQ⟩ : ∃ Q, Q = prd (fun j => z (sk a j)) (n - 1) := ⟨_, rfl⟩
  rw [← hQ] at hc ⊢
  obtain ⟨r, hr⟩ : ∃ r : Nat → Option Int64, r = fun i => foAll w k (lnv A c n z s x a i) (z a) := ⟨_, rfl⟩
  -- one line
  have line : ∀ N' i, (Df (at1 1002) qsc n2 A N' ∧ m_nx N' = m_nx A ∧ m_sl N' = m_sl A) → i < Q → ∃ M1, F_X0_lineOf N' 1000 o (iw (a : Int)) (iw (i : Int)) = some (iw (z a : Nat), M1) ∧ (Df (at1 1002) qsc n2 A M1 ∧ m_nx M1 = m_nx A ∧ m_sl M1 = m_sl A) ∧ Df n2 (at1 1058) n2 N' M1 ∧ ST M1 ∧ GP M1 o b k n z s t x y c d L p ∧ F_X51_all M1 w k 1058 0 (iw (z a : Nat)) 1002 = eRes (r i) M1 1002 := by
    intro N' i hJ hi
    obtain ⟨dd, e1', e2'⟩ := hJ
    have sN : ST N' := sA.n dd
    have gN := g.df dd (qt_at1 (by decide)) qt_qsc qt_n2
    have hp0 := sk_pos (z := z) ha (by rw [← hQ]; omega)
    obtain ⟨M1, f1, f2, f3, f4, f5⟩ := E_lineOf (lk := i) sN gN ha (by rw [pw_n ha, ← hQ]; exact hi) (by omega) hp0
    have d1 : Df (at1 1002) qsc n2 A M1 := dd.trans (f4.mono (fun _ _ q => q.elim) (fun a i q => by unfold at1 at q; unfold qsc; omega) (fun _ _ q => q))
    have s1 : ST M1 := sA.n d1
    refine ⟨M1, f1, ⟨d1, by omega, by omega⟩, f4, s1, gN.df f4 qt_n2 (qt_at1 (by decide)) qt_n2, ?_⟩
    rw [hr]
    refine E_all hw hk ht (t1058 s1) (l1058 s1) (Nat.le_refl _) (by omega) (fun i' hi' => ?_)
    have hz0 : ∀ j, j < n → 0 < z j := fun j hj => by
      by_cases c : j = a
      · rw [c]; omega
      · exact hp0 j hj c
    have hcn := cn_lt hi' n i hz0 (by rw [pw_n ha, ← hQ]; exact hi)
    refine ⟨?_, (g.get hcn).1⟩
    rw [f5 i' hi']
    exact dd.cJ cp.2.1 (qt_qsc _ _ cp.1)
  obtain ⟨N0, hN0⟩ : ∃ N0, N0 + 1 + Q = xN := ⟨xN - 1 - Q, by omega⟩
  have lE := wloop2 (fun N U i => F_X0_fold_b117 N U 1000 w (iw (a : Int)) o (iw (Q : Nat)) i) (fun U i => F_X0_failedAt U 1000 (iw (i : Int))) 1057 Q r (fun N => Df (at1 1002) qsc n2 A N ∧ m_nx N = m_nx A ∧ m_sl N = m_sl A) (fun _ N => (Df (at1 1002) qsc n2 A N ∧ m_nx N = m_nx A ∧ m_sl N = m_sl A) ∧ cI N 1002 129 = 8)
    (fun N N' i v hJ hi hv => by
      obtain ⟨M1, f1, ⟨d1, e1', e2'⟩, f3, s1, g1, f4⟩ := line N' i hJ hi
      rw [hv] at f4
      have sN : ST N' := sA.n hJ.1
      refine ⟨wJ M1 1057 i v, ?_, ⟨d1.trans (Df.wJ _ (by unfold qsc; omega)), e1', e2'⟩, by rw [cJ_wJ, if_pos ⟨rfl, rfl⟩], fun x hx => by rw [cJ_wJ, if_neg (fun q => by omega), f3.cJ (by have := sN.1; omega) (by unfold at1; omega)]⟩
      show F_X0_fold_b117_st (F_X0_fold_b117 N) N' _ _ _ _ _ _ = _
      unfold F_X0_fold_b117_st
      rw [if_pos (by rw [iw_le4 (by omega) (by omega)]; exact hi)]
      simp only [v1000, sN, f1, g1000_81, g1000_82, g1000_67, s1, gi_of g1.1.2.2.1 (show x_fi 22 1408 = true by decide), g1.1.2.2.2.1, f4, Option.bind_some]
      show tc (some (Sum.inl (v, M1))) _ _ = _
      rw [tc_inl, sj_of v (t1057 s1) (l1057 s1) (show i < 100000 by omega) (by decide)]
      simp only [Option.bind_some, iw_succ])
    (fun N N' i hJ hi hv => by
      obtain ⟨M1, f1, ⟨d1, e1', e2'⟩, f3, s1, g1, f4⟩ := line N' i hJ hi
      rw [hv] at f4
      have sN : ST N' := sA.n hJ.1
      refine ⟨eT M1 8 (-1), ?_, ⟨d1.trans ((eT_d2 M1 8 (-1)).mono (fun _ _ q => q) (fun _ _ q => q.elim) (fun _ _ q => q)), e1', e2'⟩, (eT_c M1 8 (-1)).1⟩
      have s2 : ST (eT M1 8 (-1)) := s1
      show F_X0_fold_b117_st (F_X0_fold_b117 N) N' _ _ _ _ _ _ = _
      unfold F_X0_fold_b117_st
      rw [if_pos (by rw [iw_le4 (by omega) (by omega)]; exact hi)]
      simp only [v1000, sN, f1, g1000_81, g1000_82, g1000_67, s1, gi_of g1.1.2.2.1 (show x_fi 22 1408 = true by decide), g1.1.2.2.2.1, f4, Option.bind_some]
      show tc (eTh M1 1002 8) _ _ = _
      rw [eTh_of s1, tc_inr]
      simp only [F_X0_fold_b165, v1000, s2, Option.bind_some, bse])
    Q (N0 + 1) 0 A (by omega) ⟨Df.refl _ _ _ _, rfl, rfl⟩ (fun x hx => by omega)
  rw [hN0] at lE
  rw [← hr]
  rcases lE with ⟨fn, A', ⟨d1, e1', e2'⟩, run, row⟩ | ⟨q, A', fq, hq, rq, ⟨⟨d1, e1', e2'⟩, c8⟩, run⟩
  · refine ⟨A', d1, e1', e2', Or.inl ⟨fn, ?_, fun i hi => by rw [row i hi, hr]⟩⟩
    have sA' : ST A' := sA.n d1
    have g1 := g.df d1 (qt_at1 (by decide)) qt_qsc qt_n2
    rw [show (0 : Int32) = iw ((0 : Nat) : Int) from rfl, run]
    show F_X0_fold_b117_st (F_X0_fold_b117 N0) A' _ _ _ _ _ _ = _
    unfold F_X0_fold_b117_st
    rw [if_neg (by rw [iw_le4 (by omega) (by omega)]; omega)]
    simp only [g1000_81, v1000, sA', gi_of g1.1.2.2.1 (show x_fi 22 1408 = true by decide), g1.1.2.2.2.1, (E_takes hw hk).2.1, Option.bind_some, bse]
  · exact ⟨A', d1, e1', e2', Or.inr ⟨q, fq, hq, run, c8⟩⟩
/-- all cells as one line -/
theorem E_fold0 {A : Mem} {o b : Nat} {k : Int32} {n : Nat} {z : Nat → Nat} {s t : Nat → Int32} {x y : Int32} {c d L : Nat} {p w : Int32} (sA : ST A) (g : GP A o b k n z s t x y c d L p) (hw : Wy w) (ht : foT w k = true) :
    ∃ A', Df (at1 1002) qsc n2 A A' ∧ m_nx A' = m_nx A ∧ m_sl A' = m_sl A ∧
      ((∃ v, foAll w k (fun i => cJ A c (gpos n z s x i)) (prd z n) = some v ∧ F_X0_fold_b117 xN A 1000 w (-1) o 1 0 = F_X0_made A' 1000 (foL w k) 1057 ∧ cJ A' 1057 0 = v) ∨
       (foAll w k (fun i => cJ A c (gpos n z s x i)) (prd z n) = none ∧ F_X0_fold_b117 xN A 1000 w (-1) o 1 0 = F_X0_failedAt A' 1000 0 ∧ cI A' 1002 129 = 8)) := by
  have hn := g.2.2.2.1
  have hk := g.2.2.1
  have hc := g.2.2.2.2.2.1
  have hxN : xN = 1099511627776 := rfl
  obtain ⟨M1, f1, f2, f3, f4, f5⟩ := E_gather (arr := 1058) (W := 100000) g (by decide) hc (by decide) (t1058 sA) (l1058 sA)
  have d1 : Df (at1 1002) qsc n2 A M1 := f4.mono (fun _ _ q => q.elim) (fun a i q => by have q : a = 1058 := q; unfold qsc; omega) (fun _ _ q => q)
  have s1 : ST M1 := sA.n d1
  have g1 := g.df d1 (qt_at1 (by decide)) qt_qsc qt_n2
  have all := E_all (v := fun i => cJ A c (gpos n z s x i)) hw hk ht (t1058 s1) (l1058 s1) (Nat.le_refl _) hc (fun i hi => ⟨f5 i hi, (g.get hi).1⟩)
  have el : F_X0_lineOf A 1000 o (-1) 0 = some (iw (prd z n : Nat), M1) := by
    unfold F_X0_lineOf
    rw [if_pos (by decide)]
    simp only [g1000_82, v1000, sA, f1, Option.bind_some]
  have run : F_X0_fold_b117 xN A 1000 w (-1) o 1 0 = tc (eRes (foAll w k (fun i => cJ A c (gpos n z s x i)) (prd z n)) M1 1002) (fun z9 => (sj z9.2 1057 0 z9.1).bind fun M11 => F_X0_fold_b117 (xN - 1) M11 1000 w (-1) o 1 1) (fun z10 => F_X0_fold_b165 z10.2 z10.1 1000 0) := by
    show F_X0_fold_b117_st (F_X0_fold_b117 (xN - 1)) A _ _ _ _ _ _ = _
    unfold F_X0_fold_b117_st
    rw [if_pos (by decide)]
    simp only [v1000, sA, el, g1000_81, g1000_82, g1000_67, s1, gi_of g1.1.2.2.1 (show x_fi 22 1408 = true by decide), g1.1.2.2.2.1, all, Option.bind_some]
    rfl
  rw [run]
  cases hr : foAll w k (fun i => cJ A c (gpos n z s x i)) (prd z n) with
  | some v =>
    refine ⟨wJ M1 1057 0 v, d1.trans (Df.wJ _ (by unfold qsc; omega)), f2, f3, Or.inl ⟨v, rfl, ?_, by rw [cJ_wJ, if_pos ⟨rfl, rfl⟩]⟩⟩
    have s2 : ST (wJ M1 1057 0 v) := s1
    have g2 : GP (wJ M1 1057 0 v) o b k n z s t x y c d L p := g1.df (Df.wJ (P := n2) (Q := qsc) (R := n2) v (by unfold qsc; omega)) qt_n2 qt_qsc qt_n2
    show tc (some (Sum.inl (v, M1))) _ _ = _
    rw [tc_inl, show (0 : Int32) = iw ((0 : Nat) : Int) from rfl, sj_of v (t1057 s1) (l1057 s1) (show 0 < 100000 by omega) (by decide)]
    simp only [Option.bind_some]
    show F_X0_fold_b117_st (F_X0_fold_b117 (xN - 2)) _ _ _ _ _ _ _ = _
    unfold F_X0_fold_b117_st
    rw [if_neg (by decide)]
    simp only [g1000_81, v1000, s2, gi_of g2.1.2.2.1 (show x_fi 22 1408 = true by decide), g2.1.2.2.2.1, (E_takes hw hk).2.1, Option.bind_some, bse]
  | none =>
    refine ⟨eT M1 8 (-1), d1.trans ((eT_d2 M1 8 (-1)).mono (fun _ _ q => q) (fun _ _ q => q.elim) (fun _ _ q => q)), f2, f3, Or.inr ⟨rfl, ?_, (eT_c M1 8 (-1)).1⟩⟩
    have s2 : ST (eT M1 8 (-1)) := s1
    show tc (eTh M1 1002 8) _ _ = _
    rw [eTh_of s1, tc_inr]
    simp only [F_X0_fold_b165, v1000, s2, Option.bind_some, bse]
