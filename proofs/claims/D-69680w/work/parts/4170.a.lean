/-! ===== THE LOG, 2: bytes at its end ===== -/
theorem E_putb2 {M : Mem} {o cap : Nat} {vs : List Int32} (ob : OUT o cap) (h : ST M) (e : EO M o cap vs) (b : Int32) : ∃ M', F_X15_put M o b = some (mr (decide (vs.length < cap)), M') ∧ ∀ i, i ≠ vs.length → cI M' (o + 1) i = cI M (o + 1) i := by
  obtain ⟨f1, f2, f3, f4, f5, f6, f7, f8, f9⟩ := ob.f h
  have an1 : an M (o + 1) = some (iw (cap : Int)) := an_of f5 (by decide) f6
  by_cases c : vs.length < cap
  · obtain ⟨A, hA⟩ : ∃ A, A = wI M (o + 1) vs.length (j_i2b b) := ⟨_, rfl⟩
    have sA : ST A := by rw [hA]; exact h
    obtain ⟨-, g2, g3, -⟩ := ob.f sA
    have e1 : cI M o 1025 = iw (vs.length : Nat) := by rw [e.1, Nat.min_eq_left (by omega)]
    have cA : cI A o 1025 = iw (vs.length : Nat) := by rw [hA, cI_wI, if_neg (fun q => by omega)]; exact e1
    refine ⟨wI A o 1025 (iw ((vs.length + 1 : Nat) : Int)), ?_, fun i hi => ?_⟩
    · unfold F_X15_put
      simp only [f1, f2, an1, e1, Option.bind_some]
      rw [if_neg (by rw [iw_eq (by omega) (by omega) (by omega) (by omega)]; omega), sb_of (j_i2b b) f5 f6 c (by omega), i2b_i2b, ← hA]
      simp only [g2, cA, iw_succ, g3, Option.bind_some]
      rw [decide_eq_true c]
      rfl
    · rw [cI_wI, if_neg (fun q => by omega), hA, cI_wI, if_neg (fun q => hi q.2)]
  · refine ⟨M, ?_, fun _ _ => rfl⟩
    have e1 : cI M o 1025 = iw (cap : Int) := by rw [e.1, Nat.min_eq_right (by omega)]
    unfold F_X15_put
    simp only [f1, f2, an1, e1, Option.bind_some, if_true]
    rw [decide_eq_false c]
    rfl
theorem E_num_loop2 {o cap : Nat} {v : Int64} (ob : OUT o cap) : ∀ (w N : Nat) (vs : List Int32) (fl : Bool) (M : Mem), w + 1 ≤ N → w ≤ 8 → ST M → EO M o cap vs → ∃ M', F_X15_number_b8 N M o v (mr fl) (iw ((w : Int) - 1)) = some (mr (fts fl vs.length w cap), M') ∧ ∀ i, vs.length + w ≤ i → cI M' (o + 1) i = cI M (o + 1) i := by
  intro w
  induction w with
  | zero =>
    intro N vs fl M hN hw h e
    obtain ⟨M', f1, f2, f3, -⟩ := E_num_loop (v := v) ob 0 N vs fl M hN hw h e
    obtain ⟨N, rfl⟩ : ∃ y, N = y + 1 := ⟨N - 1, by omega⟩
    refine ⟨M, ?_, fun _ _ => rfl⟩
    show F_X15_number_b8_st (F_X15_number_b8 N) M _ _ _ _ = _
    unfold F_X15_number_b8_st fts
    rw [if_pos (by decide), mr_1]
    cases fl <;> rfl
  | succ w ih =>
    intro N vs fl M hN hw h e
    obtain ⟨N', rfl⟩ : ∃ y, N = y + 1 := ⟨N - 1, by omega⟩
    obtain ⟨R, r1, -⟩ := E_num_loop (v := v) ob (w + 1) (N' + 1) vs fl M hN hw h e
    obtain ⟨A, a1, a2, a3, a4, a5⟩ := E_putb ob h e (j_lshr v ((8 : Int32) * iw (w : Int))).toInt32
    obtain ⟨A', a1', a2'⟩ := E_putb2 ob h e (j_lshr v ((8 : Int32) * iw (w : Int))).toInt32
    have hAA : A' = A := by
      rw [a1] at a1'
      exact (congrArg Prod.snd (Option.some.inj a1')).symm
    subst hAA
    have sA : ST A' := h.n a3
    have hl : (vs ++ [j_i2b (j_lshr v ((8 : Int32) * iw (w : Int))).toInt32]).length = vs.length + 1 := by rw [List.length_append, List.length_singleton]
    obtain ⟨M', f1, f2⟩ := ih N' _ (fl && decide (vs.length < cap)) A' (by omega) (by omega) sA a2
    rw [hl] at f1 f2
    have e0 : ((w + 1 : Nat) : Int) - 1 = (w : Int) := by omega
    have e3 : iw (w : Int) + -1 = iw ((w : Int) - 1) := by rw [show (-1 : Int32) = iw (-1) from rfl, iw_add]; rfl
    have vO := (ob.f h).2.2.2.1
    have run : F_X15_number_b8 (N' + 1) M o v (mr fl) (iw (((w + 1 : Nat) : Int) - 1)) = F_X15_number_b8 N' A' o v (mr (fl && decide (vs.length < cap))) (iw ((w : Int) - 1)) := by
      show F_X15_number_b8_st (F_X15_number_b8 N') M _ _ _ _ = _
      unfold F_X15_number_b8_st F_X15_number_b37 F_X15_number_b38
      rw [e0, if_neg (by rw [iw_lt0 (by omega) (by omega)]; omega), vO]
      simp only [Option.bind_some]
      rw [a1]
      simp only [Option.bind_some]
      rw [e3]
      cases fl <;> cases decide (vs.length < cap) <;> rfl
    have hM : M' = R := by
      rw [run, f1] at r1
      exact congrArg Prod.snd (Option.some.inj r1)
    refine ⟨R, r1, fun i hi => ?_⟩
    rw [← hM, f2 i (by omega), a2' i (by omega)]
theorem E_number2 {M : Mem} {o cap w : Nat} {v : Int64} {vs : List Int32} (ob : OUT o cap) (h : ST M) (e : EO M o cap vs) (hw : w ≤ 8) (h1 : 0 < w) : ∃ M', F_X15_number M o v (iw (w : Int)) = some (mr (decide (vs.length + w ≤ cap)), M') ∧ EO M' o cap (vs ++ nbs v w) ∧ Df (atO o) n2 n2 M M' ∧ m_nx M' = m_nx M ∧ m_sl M' = m_sl M ∧ ST M' ∧ ∀ i, vs.length + w ≤ i → cI M' (o + 1) i = cI M (o + 1) i := by
  obtain ⟨M', f1, f2, f3, f4, f5, f6⟩ := E_number (v := v) ob h e hw h1
  obtain ⟨R, r1, r2⟩ := E_num_loop2 (v := v) ob w xN vs true M (by have : xN = 1099511627776 := rfl; omega) hw h e
  have hf : F_X15_number M o v (iw (w : Int)) = F_X15_number_b8 xN M o v (mr true) (iw ((w : Int) - 1)) := by
    unfold F_X15_number
    rw [show (1 : Int32) = iw 1 from rfl, iw_sub]
    rfl
  have hM : M' = R := by
    rw [hf, r1] at f1
    exact (congrArg Prod.snd (Option.some.inj f1)).symm
  subst hM
  exact ⟨M', f1, f2, f3, f4, f5, f6, r2⟩
