/-! ===== RUNNING FOLDS, 2: the engine's lines ===== -/
theorem E_runl_loop {w k : Int32} {v : Nat → Int64} {n : Nat} {s0 : Int64} (hw : Wy w) (hk : Lk k) (ht : foT w k = true) (h8 : w ≠ 8) (hn : n ≤ 100000) (hv : ∀ x, x < n → vb k (v x)) : ∀ (e N j : Nat) (so : Int64) (M : Mem), j + e = n → e + 1 ≤ N → ST M → foV w k j so → fogo w k v 0 j s0 = some so → (∀ x, j ≤ x → x < n → cJ M 1058 x = v x) → (∀ x, x < j → fogo w k v 0 (x + 1) s0 ≠ none ∧ cJ M 1058 x = (fogo w k v 0 (x + 1) s0).getD 0) →
    (∃ M', F_X0_runLine_b25 N M 1000 w k (foL w k) (iw (n : Int)) so (iw (j : Int)) = some (-1, M') ∧ Df (at1 1002) (at1 1058) n2 M M' ∧ m_nx M' = m_nx M ∧ m_sl M' = m_sl M ∧ ∀ x, x < n → fogo w k v 0 (x + 1) s0 ≠ none ∧ cJ M' 1058 x = (fogo w k v 0 (x + 1) s0).getD 0) ∨
    (∃ b M', b < n ∧ F_X0_runLine_b25 N M 1000 w k (foL w k) (iw (n : Int)) so (iw (j : Int)) = some (iw (b : Int), M') ∧ Df (at1 1002) (at1 1058) n2 M M' ∧ m_nx M' = m_nx M ∧ m_sl M' = m_sl M ∧ fogo w k v 0 (b + 1) s0 = none ∧ (∀ x, x < b → fogo w k v 0 (x + 1) s0 ≠ none) ∧ cI M' 1002 129 = 8) := by
  intro e
  induction e with
  | zero =>
    intro N j so M hj hN sM hf hs h1 h2
    obtain ⟨N, rfl⟩ : ∃ y, N = y + 1 := ⟨N - 1, by omega⟩
    left
    refine ⟨M, ?_, Df.refl _ _ _ _, rfl, rfl, fun x hx => h2 x (by omega)⟩
    show F_X0_runLine_b25_st (F_X0_runLine_b25 N) M _ _ _ _ _ _ _ = _
    unfold F_X0_runLine_b25_st
    rw [if_neg (by rw [iw_le4 (by omega) (by omega)]; omega)]
  | succ e ih =>
    intro N j so M hj hN sM hf hs h1 h2
    obtain ⟨N, rfl⟩ : ∃ y, N = y + 1 := ⟨N - 1, by omega⟩
    have hlt : j < n := by omega
    have run : ∀ Q, (tc (eRes (foS w k so (v j)) M 1002) (fun z4 => (gr z4.2 1000 82).bind fun t6 => (sj z4.2 t6 (iw (j : Int)) z4.1).bind fun M7 => F_X0_runLine_b25 N M7 1000 w k (foL w k) (iw (n : Int)) z4.1 (iw (j : Int) + 1)) (fun z5 => F_X0_runLine_b56 z5.2 z5.1 (iw (j : Int)))) = Q → F_X0_runLine_b25 (N + 1) M 1000 w k (foL w k) (iw (n : Int)) so (iw (j : Int)) = Q := by
      intro Q hQ
      rw [← hQ]
      show F_X0_runLine_b25_st (F_X0_runLine_b25 N) M _ _ _ _ _ _ _ = _
      unfold F_X0_runLine_b25_st
      rw [if_pos (by rw [iw_le4 (by omega) (by omega)]; omega)]
      simp only [g1000_82, g1000_67, sM, al_of (t1058 sM) (l1058 sM) (show j < 100000 by omega) (by decide), h1 j (Nat.le_refl _) hlt, E_fadd hw hk ht h8 hf.1 (hv j hlt), Option.bind_some]
    cases hc : foS w k so (v j) with
    | none =>
      right
      have hnone : fogo w k v 0 (j + 1) s0 = none := by
        rw [fogo_snoc, hs]
        show foS w k so (v (0 + j)) = none
        rw [Nat.zero_add]
        exact hc
      refine ⟨j, eT M 8 (-1), hlt, run _ ?_, (eT_d2 M 8 (-1)).mono (fun _ _ q => q) (fun _ _ q => q.elim) (fun _ _ q => q), rfl, rfl, hnone, fun x hx => (h2 x hx).1, (eT_c M 8 (-1)).1⟩
      rw [hc]
      show tc (eTh M 1002 8) _ _ = _
      rw [eTh_of sM, tc_inr]
      rfl
    | some r =>
      have hsome : fogo w k v 0 (j + 1) s0 = some r := by
        rw [fogo_snoc, hs]
        show foS w k so (v (0 + j)) = some r
        rw [Nat.zero_add]
        exact hc
      have hd : Df (at1 1002) (at1 1058) n2 M (wJ M 1058 j r) := Df.wJ _ rfl
      have step : F_X0_runLine_b25 (N + 1) M 1000 w k (foL w k) (iw (n : Int)) so (iw (j : Int)) = F_X0_runLine_b25 N (wJ M 1058 j r) 1000 w k (foL w k) (iw (n : Int)) r (iw ((j + 1 : Nat) : Int)) := by
        refine run _ ?_
        rw [hc]
        show tc (some (Sum.inl (r, M))) _ _ = _
        rw [tc_inl]
        simp only [g1000_82, sM, sj_of r (t1058 sM) (l1058 sM) (show j < 100000 by omega) (by decide), Option.bind_some, iw_succ]
      have sM' : ST (wJ M 1058 j r) := sM
      rcases ih N (j + 1) r (wJ M 1058 j r) (by omega) (by omega) sM' (foS_vb hw hk ht h8 hf (hv j hlt) hc) hsome (fun x hx hx2 => by rw [cJ_wJ, if_neg (fun q => by omega)]; exact h1 x (by omega) hx2) (fun x hx => by
          by_cases c : x = j
          · rw [c, hsome]
            exact ⟨by simp, by rw [cJ_wJ, if_pos ⟨rfl, rfl⟩]; rfl⟩
          · rw [cJ_wJ, if_neg (fun q => c q.2)]
            exact h2 x (by omega)) with ⟨M', f1, f2, f3, f4, f5⟩ | ⟨b, M', f0, f1, f2, f3, f4, f5⟩
      · left
        exact ⟨M', step.trans f1, hd.trans f2, f3, f4, f5⟩
      · right
        exact ⟨b, M', f0, step.trans f1, hd.trans f2, f3, f4, f5⟩
theorem E_runLine {M : Mem} {w k : Int32} {v : Nat → Int64} {n : Nat} (hw : Wy w) (hk : Lk k) (ht : foT w k = true) (h8 : w ≠ 8) (h0 : 0 < n) (hn : n ≤ 100000) (hv : ∀ x, x < n → vb k (v x)) (sM : ST M) (h1 : ∀ x, x < n → cJ M 1058 x = v x) :
    (∃ M', F_X0_runLine M 1000 w k (foL w k) (iw (n : Int)) = some (-1, M') ∧ Df (at1 1002) (at1 1058) n2 M M' ∧ m_nx M' = m_nx M ∧ m_sl M' = m_sl M ∧ ∀ x, x < n → fogo w k v 0 (x + 1) (foB w k (v 0)) ≠ none ∧ cJ M' 1058 x = (fogo w k v 0 (x + 1) (foB w k (v 0))).getD 0) ∨
    (∃ b M', b < n ∧ F_X0_runLine M 1000 w k (foL w k) (iw (n : Int)) = some (iw (b : Int), M') ∧ Df (at1 1002) (at1 1058) n2 M M' ∧ m_nx M' = m_nx M ∧ m_sl M' = m_sl M ∧ fogo w k v 0 (b + 1) (foB w k (v 0)) = none ∧ (∀ x, x < b → fogo w k v 0 (x + 1) (foB w k (v 0)) ≠ none) ∧ cI M' 1002 129 = 8) := by
  have hxN : xN = 1099511627776 := rfl
  have e : F_X0_runLine M 1000 w k (foL w k) (iw (n : Int)) = F_X0_runLine_b25 xN M 1000 w k (foL w k) (iw (n : Int)) (foB w k (v 0)) (iw ((0 : Nat) : Int)) := by
    have al0 : al M 1058 0 = some (v 0) := by
      have q := al_of (j := 0) (t1058 sM) (l1058 sM) (by decide) (by decide)
      rw [h1 0 h0] at q
      exact q
    unfold F_X0_runLine F_X0_runLine_b17
    rw [if_pos (by rw [show (0 : Int32) = iw ((0 : Nat) : Int) from rfl, iw_le4 (by omega) (by omega)]; exact h0)]
    simp only [g1000_82, sM, al0, E_begin hw h8, Option.bind_some]
    rfl
  rw [e]
  exact E_runl_loop hw hk ht h8 hn hv n xN 0 _ M (by omega) (by omega) sM (foB_V hw hk ht h8 (hv 0 h0)) rfl (fun x _ hx => h1 x hx) (fun x hx => by omega)
/-- which cell in row order -/
theorem E_cellOf_loop {M : Mem} {o : Nat} {k : Int32} {n a : Nat} {z : Nat → Nat} {s : Nat → Int32} {b : Int32} {c : Nat} {p : Int32} (g : GE M o k n z s b c p) (hn : n ≤ 4) (ha : a < n) {v2 v3 : Int32} : ∀ (e N m : Nat), m + e = n → a < m → F_X0_cellOf_b14 (N + e) M o (iw (a : Int)) v2 v3 (iw (bh z a m : Nat)) (iw (m : Int)) = F_X0_cellOf_b14 N M o (iw (a : Int)) v2 v3 (iw (bh z a n : Nat)) (iw (n : Int)) := by
  intro e
  induction e with
  | zero =>
    intro N m hm ham
    have : m = n := by omega
    subst this
    rfl
  | succ e ih =>
    intro N m hm ham
    show F_X0_cellOf_b14_st (F_X0_cellOf_b14 (N + e)) M _ _ _ _ _ _ = _
    unfold F_X0_cellOf_b14_st
    simp only [gi_of g.2.2.1 (show x_fi 22 1409 = true by decide), gr_of g.2.2.1 (show x_fr 22 1410 = true by decide), g.2.2.2.2.1, g.2.2.2.2.2.1.ai hn (show m < n by omega), Option.bind_some, iw_succ]
    rw [if_pos (by rw [iw_le4 (by omega) (by omega)]; omega), iw_mul]
    have e1 : bh z a (m + 1) = bh z a m * z m := if_pos ham
    rw [show ((bh z a m : Nat) : Int) * ((z m : Nat) : Int) = ((bh z a (m + 1) : Nat) : Int) by rw [e1]; exact (Int.natCast_mul _ _).symm]
    exact ih N (m + 1) (by omega) (by omega)
theorem E_cellOf {M : Mem} {o b : Nat} {k : Int32} {n a : Nat} {z : Nat → Nat} {s t : Nat → Int32} {x y : Int32} {c d L : Nat} {p : Int32} (g : GP M o b k n z s t x y c d L p) (ha : a < n) {lk i : Nat} (hz : prd z n ≠ 0) (hk : lk < pw z a n) (hi : i < z a) : F_X0_cellOf M o (iw (a : Int)) (iw (lk : Int)) (iw (i : Int)) = some (iw (clo (bh z a n) (z a) lk i : Nat)) := by
  have hn := g.2.2.2.1
  have hxN : xN = 1099511627776 := rfl
  have hz0 := (prd_pos n).mp hz
  have hpb := pw_bh (z := z) (a := a) n ha
  have hc := g.2.2.2.2.2.1
  have hza := g.2.2.2.2.1 a ha
  have hlt := cn_lt hi n lk hz0 hk
  rw [cn_clo n lk ha hk] at hlt
  have hpa : prd z a ≠ 0 := fun q => hz (by rw [hpb.2, q, Nat.zero_mul, Nat.zero_mul])
  have hbne : bh z a n ≠ 0 := fun q => hz (by rw [hpb.2, q, Nat.mul_zero])
  have hble : bh z a n ≤ prd z n := by
    rw [hpb.2]
    exact Nat.le_mul_of_pos_left _ (Nat.pos_of_ne_zero (Nat.mul_ne_zero hpa (by have := hz0 a ha; omega)))
  have hlk : lk < 100001 := by
    have h1 : pw z a n ≤ prd z n := by
      rw [hpb.1, hpb.2, Nat.mul_assoc, Nat.mul_comm (z a), ← Nat.mul_assoc]
      exact Nat.le_mul_of_pos_right _ (hz0 a ha)
    omega
  obtain ⟨Bn, hBn⟩ : ∃ Bn, Bn = bh z a n := ⟨_, rfl⟩
  obtain ⟨N1, hN1⟩ : ∃ N1, N1 + 1 + (n - (a + 1)) = xN := ⟨xN - 1 - (n - (a + 1)), by omega⟩
  unfold F_X0_cellOf
  rw [if_neg (by rw [iw_lt0 (by omega) (by omega)]; omega)]
  show F_X0_cellOf_b14 xN M o (iw (a : Int)) (iw (lk : Int)) (iw (i : Int)) 1 (iw (a : Int) + 1) = _
  rw [iw_succ, ← hN1]
  have e1 : bh z a (a + 1) = 1 := if_neg (by omega)
  have lp := E_cellOf_loop g.1 hn ha (v2 := iw (lk : Int)) (v3 := iw (i : Int)) (n - (a + 1)) (N1 + 1) (a + 1) (by omega) (by omega)
  rw [e1] at lp
  refine lp.trans ?_
  show F_X0_cellOf_b14_st (F_X0_cellOf_b14 N1) M _ _ _ _ _ _ = _
  unfold F_X0_cellOf_b14_st
  have hz1 : ¬ iw (bh z a n : Nat) = 0 := by rw [iw_eq0 (by omega) (by omega)]; omega
  simp only [gi_of g.1.2.2.1 (show x_fi 22 1409 = true by decide), gr_of g.1.2.2.1 (show x_fr 22 1410 = true by decide), g.1.2.2.2.2.1, g.1.2.2.2.2.2.1.ai hn ha, Option.bind_some, hz1, if_false]
  rw [if_neg (by rw [iw_le4 (by omega) (by omega)]; omega)]
  refine congrArg some ?_
  rw [iw_div (by omega) (by omega) (by omega) (by omega), iw_rem (by omega) (by omega) (by omega) (by omega), iw_mul, iw_add, iw_mul, iw_add]
  unfold clo
  congr 1
