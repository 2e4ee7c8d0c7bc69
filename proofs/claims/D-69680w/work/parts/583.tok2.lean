/-! ===== FORMULAS, 8: the engine reads a token ===== -/
/-- the text that is read -/
def TBk (M : Mem) (f : Nat → Int32) (n : Nat) : Prop := ST M ∧ K0 M ∧ cR M 1012 385 = 1001 ∧ cI M 1012 386 = iw (n : Int) ∧ n ≤ 4000 ∧ ∀ i, i < n → cI M 1001 i = f i ∧ bt (f i)
def pK : Nat → Nat → Prop := fun a i => a = 1012 ∧ i ≠ 386
def qK : Nat → Nat → Prop := fun a _ => a = 1012
def rK : Nat → Nat → Prop := fun a i => a = 1012 ∧ i = 390
theorem stR_390 : ∀ p ∈ stR, ¬ (p.1 = 1012 ∧ p.2.1 = 390) := by decide +kernel
theorem stR_385 : ∀ p ∈ stR, ¬ (p.1 = 1012 ∧ p.2.1 = 385) := by decide +kernel
theorem TBk.df {M N : Mem} {f : Nat → Int32} {n : Nat} (t : TBk M f n) (d : Df pK qK rK M N) : TBk N f n := by
  obtain ⟨t1, t2, t3, t4, t5, t6⟩ := t
  have h0 := t1.1
  refine ⟨t1.df d (fun p hp q => stR_390 p hp q), t2.df t1 d (fun a i q w => by unfold pK at w; omega) (fun a i q w => by unfold rK at w; omega), by rw [d.cR (by omega) (fun w => by unfold rK at w; omega)]; exact t3, by rw [d.cI (by omega) (fun w => by unfold pK at w; omega)]; exact t4, t5, fun i hi => by rw [d.cI (by omega) (fun w => by unfold pK at w; omega)]; exact t6 i hi⟩
section
variable {M : Mem} {f : Nat → Int32} {n : Nat}
theorem E_lkK (t : TBk M f n) {k : Nat} (hk : k ≤ 100000) : F_X5_look M 1012 (iw (k : Int)) = some (lk f n k) := by
  obtain ⟨t1, t2, t3, t4, t5, t6⟩ := t
  unfold F_X5_look F_X5_look_b22 lk
  simp only [g1012_386, t1, t4, Option.bind_some]
  by_cases c : k < n
  · rw [if_pos (by rw [iw_le4 (by omega) (by omega)]; exact c), if_pos c]
    simp only [g1012_385, t1, t3, ab_of (Or.inr (Or.inl (t1001 t1))) (l1001 t1) (show k < 16000 by omega) (by decide), Option.bind_some, bn_and, (t6 k c).1]
    rfl
  · rw [if_neg (by rw [iw_le4 (by omega) (by omega)]; exact c), if_neg c]
theorem E_wrongK {α : Type} (h : ST M) : ((vg M 1012 6).bind fun _ => (F_X5_wrong M 1012).bind fun z => (ie z.2 z.1).bind fun _ => (some (.inr (z.1, z.2)) : Option (α ⊕ (Nat × Mem)))) = some (.inr (1003, eT M 1 (cI M 1012 388))) := by
  have hs : ST (eT M 1 (cI M 1012 388)) := h
  unfold F_X5_wrong
  simp only [v1012, g1012_384, g1012_388, v1002, h, E_at h, Option.bind_some]
  unfold ie
  rw [if_pos (t1003 hs)]
  rfl
/-- what set leaves -/
def KS (M : Mem) (k : Int32) (e : Nat) (s : Nat) : Mem := wR (wI (wI M 1012 387 k) 1012 389 (iw (e : Int))) 1012 390 s
theorem E_setK (h : ST M) (k : Int32) (e s : Nat) : F_X5_set M 1012 k (iw (e : Int)) s = some (KS M k e s) := by
  unfold F_X5_set KS
  have h2 : ST (wI M 1012 387 k) := h
  have h3 : ST (wI (wI M 1012 387 k) 1012 389 (iw (e : Int))) := h
  simp only [p1012_387, p1012_389, p1012_390, h, h2, h3, Option.bind_some]
theorem KS_df (k : Int32) (e s : Nat) : Df pK qK rK M (KS M k e s) := by
  unfold KS
  exact ((Df.wI _ ⟨rfl, by decide⟩).trans (Df.wI _ ⟨rfl, by decide⟩)).trans (Df.wR _ ⟨rfl, rfl⟩)
theorem KS_c (k : Int32) (e s : Nat) : cI (KS M k e s) 1012 387 = k ∧ cI (KS M k e s) 1012 389 = iw (e : Int) ∧ cR (KS M k e s) 1012 390 = s ∧ (∀ i, i ≠ 387 → i ≠ 389 → cI (KS M k e s) 1012 i = cI M 1012 i) ∧ (∀ a i, a ≠ 1012 → cI (KS M k e s) a i = cI M a i) ∧ (∀ a i, cJ (KS M k e s) a i = cJ M a i) ∧ (∀ a i, a ≠ 1012 → cR (KS M k e s) a i = cR M a i) ∧ m_nx (KS M k e s) = m_nx M ∧ m_sl (KS M k e s) = m_sl M ∧ (∀ a, m_tg (KS M k e s) a = m_tg M a) ∧ ∀ a, m_ln (KS M k e s) a = m_ln M a := by
  unfold KS
  refine ⟨?_, ?_, ?_, fun i h1 h2 => ?_, fun a i h => ?_, fun a i => rfl, fun a i h => ?_, rfl, rfl, fun a => rfl, fun a => rfl⟩
  · show cI (wI (wI M 1012 387 k) 1012 389 (iw (e : Int))) 1012 387 = k
    rw [cI_wI, if_neg (by decide), cI_wI, if_pos ⟨rfl, rfl⟩]
  · show cI (wI (wI M 1012 387 k) 1012 389 (iw (e : Int))) 1012 389 = _
    rw [cI_wI, if_pos ⟨rfl, rfl⟩]
  · rw [cR_wR, if_pos ⟨rfl, rfl⟩]
  · show cI (wI (wI M 1012 387 k) 1012 389 (iw (e : Int))) 1012 i = _
    rw [cI_wI, if_neg (by omega), cI_wI, if_neg (by omega)]
  · show cI (wI (wI M 1012 387 k) 1012 389 (iw (e : Int))) a i = _
    rw [cI_wI, if_neg (by omega), cI_wI, if_neg (by omega)]
  · rw [cR_wR, if_neg (by omega)]
    rfl
/-- a word that was made -/
def NMk (M : Mem) (B s : Nat) (w : List Int32) : Prop := SB M s w ∧ m_tg M s = 76 ∧ (B ≤ s ∧ s < m_nx M) ∧ B ≤ cR M s 4864 ∧ cR M s 4864 < m_nx M
theorem sgs_bsl (f : Nat → Int32) (a k : Nat) : sgs f a k = bsl (fun i => f (a + i)) k := rfl
theorem lk_and {k : Nat} (h : k < n) : lk f n k = f k &&& 255 := by
  unfold lk
  rw [if_pos h, bn_and]
  rfl
theorem E_partK (t : TBk M f n) {a e : Nat} (h1 : a ≤ e) (h2 : e ≤ n) (h3 : e - a ≤ 12) : ∃ M', F_X5_part M 1012 (iw (a : Int)) (iw (e : Int)) = some (m_nx M' - 2, M') ∧ NMk M' (m_nx M) (m_nx M' - 2) (sgs f a (e - a)) ∧ Df n2 n2 n2 M M' ∧ m_nx M' ≤ m_nx M + 50 ∧ m_sl M' ≤ m_sl M + 150 := by
  have t' := t
  obtain ⟨t1, t2, t3, t4, t5, t6⟩ := t
  have h0 := t1.1
  obtain ⟨C, hC⟩ : ∃ C, C = mo M 75 := ⟨_, rfl⟩
  have dC : Df n2 n2 n2 M C := by rw [hC]; exact Df.new _ _
  have tC : m_tg C (m_nx M) = 75 := by rw [hC]; show m_tg (m_new M 75 _) _ = _; rw [tg_new, if_pos rfl]
  have iC : cI C (m_nx M) 4739 = 0 := by rw [hC]; show cI (m_new M 75 _) _ _ = _; rw [cI_new, if_pos rfl]
  have nC : m_nx C = m_nx M + 1 ∧ m_sl C = m_sl M + 4 := by rw [hC]; exact ⟨rfl, rfl⟩
  obtain ⟨D, x1, x2, x3, x4, x5⟩ := BD.init (c := e - a) (by omega) tC iC (by omega) (by omega)
  have dD : Df n2 n2 n2 M D := dC.then x3 (fun x i hx q => (show False by unfold at1 at q; omega)) (fun _ _ _ q => q) (fun x i hx q => (show False by unfold at1 at q; omega))
  have loop : ∀ (m N i : Nat) (K : Mem), i + m = e - a → m + 1 ≤ N → NB M (m_nx M) (e - a) (fun i => f (a + i)) i K → ∃ K', F_X5_part_b14 N K 1012 (iw (e : Int)) (m_nx M) (iw ((a + i : Nat) : Int)) = ((F_J14_toString K' (m_nx M)).bind fun z7 => some (z7.1, z7.2)) ∧ NB M (m_nx M) (e - a) (fun i => f (a + i)) (e - a) K' := by
    intro m
    induction m with
    | zero =>
      intro N i K hi hN hK
      obtain ⟨N', rfl⟩ : ∃ N', N = N' + 1 := ⟨N - 1, by omega⟩
      obtain rfl : i = e - a := by omega
      refine ⟨K, ?_, hK⟩
      obtain ⟨ds, c, y1, -⟩ := hK
      show F_X5_part_b14_st _ K _ _ _ _ = _
      unfold F_X5_part_b14_st
      rw [if_neg (by rw [iw_le4 (by omega) (by omega)]; omega), vg_of y1.2.1 (show x_isa 75 75 = true by decide), Option.bind_some]
    | succ m ih =>
      intro N i K hi hN hK
      obtain ⟨N', rfl⟩ : ∃ N', N = N' + 1 := ⟨N - 1, by omega⟩
      obtain ⟨K1, k1, k2⟩ := hK.step h0 (by omega) (show i < e - a by omega) (t6 (a + i) (by omega)).2
      obtain ⟨K', e1, e2⟩ := ih N' (i + 1) K1 (by omega) (by omega) k2
      refine ⟨K', ?_, e2⟩
      rw [← e1]
      obtain ⟨ds, c, y1, y2, -⟩ := hK
      have tK : TBk K f n := t'.df (y2.mono (fun _ _ q => q.elim) (fun _ _ q => q.elim) (fun _ _ q => q.elim))
      have LK := E_lkK tK (k := a + i) (by omega)
      rw [lk_and (show a + i < n by omega)] at LK
      show F_X5_part_b14_st (F_X5_part_b14 N') K _ _ _ _ = _
      unfold F_X5_part_b14_st
      simp only [if_pos ((iw_le4 (show a + i ≤ 2147483647 by omega) (show e ≤ 2147483647 by omega)).mpr (by omega)), v1012, tK.1, LK, vg_of y1.2.1 (show x_isa 75 75 = true by decide), k1, Option.bind_some, iw_succ]
      rfl
  obtain ⟨K, e1, ds, c, y1, y2, y3, y4, y5, y6, y7⟩ := loop (e - a) xN 0 D (by omega) (by have : xN = 1099511627776 := rfl; omega) ⟨m_nx C, e - a, x2, dD, Nat.le_refl _, by omega, by omega, by omega, by omega⟩
  obtain ⟨G, g1, g2, g3, g4, g5, g6, g7⟩ := y1.str (by rw [bsl_len]; omega) (by have := y2.1; omega)
  have nK := y2.1
  rw [bsl_len] at g7
  have x76 : x_cn 76 = 4 := by decide
  refine ⟨G, ?_, ⟨by rw [g6, Nat.add_sub_cancel]; exact g2, by rw [g6, Nat.add_sub_cancel]; exact g3, ⟨by omega, by omega⟩, by rw [g6, Nat.add_sub_cancel, g4]; omega, by rw [g6, Nat.add_sub_cancel, g4]; omega⟩, y2.trans g5, by omega, by omega⟩
  unfold F_X5_part
  rw [← hC]
  simp only [ng_of tC (show (75 : Nat) ≠ 0 by decide), iw_nsub h1, x1, Option.bind_some]
  rw [show F_X5_part_b14 xN D 1012 (iw (e : Int)) (m_nx M) (iw (a : Int)) = _ from e1, g1, Option.bind_some, g6, Nat.add_sub_cancel]
end
