/-! ===== TABLES, 24: the model counts digits ===== -/
theorem wch {M : Mem} {a k : Nat} {w : List Int32} (sw : SB M a w) (hw : ascs w) (hk : k < w.length) : F_J15_charAt M a (iw (k : Int)) = some (wf w k) := J_charAt sw hk (hw k hk)
/-- no point is allowed, or one stood already: b the digits ahead of it, or -1; z digits so far less places -/
theorem M_dig2 {M : Mem} {a : Nat} {w : List Int32} {v1 b : Int32} (sw : SB M a w) (hw : ascs w) (hl : w.length ≤ 40) (hv : v1 = 0 ∨ ¬ b < 0) : ∀ (m N k n : Nat), k + m = w.length → n ≤ k → F_X16_digits_b28 (N + 1 + m) M a v1 (iw (k : Int)) (iw (n : Int)) b = some (if Dg w k = w.length then (if n + m = 0 then -1 else if iw ((n + m : Nat) : Int) = b then -1 else iw ((n + m : Nat) : Int)) else -1)
  | 0, N, k, n, hk, hn => by
    show F_X16_digits_b28_st (F_X16_digits_b28 N) M a v1 (iw (k : Int)) (iw (n : Int)) b = _
    unfold F_X16_digits_b28_st F_X16_digits_b101 F_X16_digits_b106
    rw [sw.vg, Option.bind_some, J_len sw, Option.bind_some, if_neg (by rw [iw_le4 (by omega) (by omega)]; omega)]
    rw [show k = w.length by omega, Dg_end, if_pos rfl, Nat.add_zero]
    have q0 : iw (n : Int) = 0 ↔ n = 0 := by rw [show (0 : Int32) = iw ((0 : Nat) : Int) from rfl, iw_eq (by omega) (by omega) (by omega) (by omega)]; omega
    by_cases c0 : n = 0
    · rw [if_pos (q0.mpr c0), if_pos c0]
    · rw [if_neg (fun q => c0 (q0.mp q)), if_neg c0]
      by_cases c1 : iw (n : Int) = b
      · rw [if_pos c1, if_pos c1]
      · rw [if_neg c1, if_neg c1]
  | m + 1, N, k, n, hk, hn => by
    have n1 : ¬ (1 : Int32) = 0 := by decide
    have n10 : ¬ (0 : Int32) = 1 := by decide
    show F_X16_digits_b28_st (F_X16_digits_b28 (N + 1 + m)) M a v1 (iw (k : Int)) (iw (n : Int)) b = _
    unfold F_X16_digits_b28_st
    rw [sw.vg, Option.bind_some, J_len sw, Option.bind_some, if_pos (show iw (k : Int) < iw (w.length : Nat) by rw [iw_le4 (by omega) (by omega)]; omega), Option.bind_some, wch sw hw (show k < w.length by omega), Option.bind_some]
    have b69 : F_X16_digits_b69 (F_X16_digits_b28 (N + 1 + m)) M a v1 (iw (k : Int)) (iw (n : Int)) b (wf w k) = some (if Dg w k = w.length then (if n + (m + 1) = 0 then -1 else if iw ((n + (m + 1) : Nat) : Int) = b then -1 else iw ((n + (m + 1) : Nat) : Int)) else -1) := by
      unfold F_X16_digits_b69 F_X16_digits_b85
      rw [M_isDg (hw k (by omega)), Option.bind_some]
      by_cases c : 48 ≤ bn (wf w k) ∧ bn (wf w k) ≤ 57
      · rw [if_pos c, if_neg n1]
        simp only [iw_succ]
        rw [M_dig2 sw hw hl hv m N (k + 1) (n + 1) (by omega) (by omega), Dg_t (isD_t.mpr ⟨by omega, c⟩), show n + 1 + m = n + (m + 1) by omega]
      · rw [if_neg c, if_pos rfl, Dg_f (by omega) (fun q => c (isD_t.mp q).2), if_neg (by omega)]
    by_cases c46 : wf w k = 46
    · rw [if_pos c46]
      rcases hv with hv | hv
      · rw [if_pos hv]; exact b69
      · rw [if_neg hv]
        by_cases c0 : v1 = 0
        · rw [if_pos c0]; exact b69
        · rw [if_neg c0]; exact b69
    · rw [if_neg c46]; exact b69
/-- a point is allowed and none was met -/
theorem M_dig1 {M : Mem} {a fr : Nat} {w : List Int32} (sw : SB M a w) (hw : ascs w) (hl : w.length ≤ 40) : ∀ (m N k : Nat), k + m = w.length → fr ≤ k → F_X16_digits_b28 (N + 1 + m) M a 1 (iw (k : Int)) (iw ((k - fr : Nat) : Int)) (-1) = some (if Dg w k = w.length then (if w.length - fr = 0 then -1 else iw ((w.length - fr : Nat) : Int)) else if fr < Dg w k ∧ isC (wf w) w.length (Dg w k) 46 = true ∧ Dg w (Dg w k + 1) = w.length ∧ Dg w k + 1 < w.length then iw ((w.length - fr - 1 : Nat) : Int) else -1)
  | 0, N, k, hk, hf => by
    show F_X16_digits_b28_st (F_X16_digits_b28 N) M a 1 (iw (k : Int)) (iw ((k - fr : Nat) : Int)) (-1) = _
    unfold F_X16_digits_b28_st F_X16_digits_b101 F_X16_digits_b106
    rw [sw.vg, Option.bind_some, J_len sw, Option.bind_some, if_neg (by rw [iw_le4 (by omega) (by omega)]; omega)]
    rw [show k = w.length by omega, Dg_end, if_pos rfl]
    have q0 : iw ((w.length - fr : Nat) : Int) = 0 ↔ w.length - fr = 0 := by rw [show (0 : Int32) = iw ((0 : Nat) : Int) from rfl, iw_eq (by omega) (by omega) (by omega) (by omega)]; omega
    by_cases c0 : w.length - fr = 0
    · rw [if_pos (q0.mpr c0), if_pos c0]
    · rw [if_neg (fun q => c0 (q0.mp q)), if_neg c0, if_neg (show ¬ iw ((w.length - fr : Nat) : Int) = -1 by rw [show (-1 : Int32) = iw (-1) from rfl, iw_eq (by omega) (by omega) (by omega) (by omega)]; omega)]
  | m + 1, N, k, hk, hf => by
    have n1 : ¬ (1 : Int32) = 0 := by decide
    show F_X16_digits_b28_st (F_X16_digits_b28 (N + 1 + m)) M a 1 (iw (k : Int)) (iw ((k - fr : Nat) : Int)) (-1) = _
    unfold F_X16_digits_b28_st
    rw [sw.vg, Option.bind_some, J_len sw, Option.bind_some, if_pos (show iw (k : Int) < iw (w.length : Nat) by rw [iw_le4 (by omega) (by omega)]; omega), Option.bind_some, wch sw hw (show k < w.length by omega), Option.bind_some]
    have q46 : wf w k = 46 ↔ bn (wf w k) = 46 := asc_c (hw _ (by omega)) (c := 46) (by decide)
    have b69 : ¬ (bn (wf w k) = 46 ∧ fr < k) → F_X16_digits_b69 (F_X16_digits_b28 (N + 1 + m)) M a 1 (iw (k : Int)) (iw ((k - fr : Nat) : Int)) (-1) (wf w k) = some (if Dg w k = w.length then (if w.length - fr = 0 then -1 else iw ((w.length - fr : Nat) : Int)) else if fr < Dg w k ∧ isC (wf w) w.length (Dg w k) 46 = true ∧ Dg w (Dg w k + 1) = w.length ∧ Dg w k + 1 < w.length then iw ((w.length - fr - 1 : Nat) : Int) else -1) := fun hn => by
      unfold F_X16_digits_b69 F_X16_digits_b85
      rw [M_isDg (hw k (by omega)), Option.bind_some]
      by_cases c : 48 ≤ bn (wf w k) ∧ bn (wf w k) ≤ 57
      · rw [if_pos c, if_neg n1]
        simp only [iw_succ]
        rw [show k - fr + 1 = k + 1 - fr by omega, M_dig1 sw hw hl m N (k + 1) (by omega) (by omega), Dg_t (isD_t.mpr ⟨by omega, c⟩)]
      · rw [if_neg c, if_pos rfl, Dg_f (by omega) (fun q => c (isD_t.mp q).2), if_neg (by omega), if_neg]
        rintro ⟨q1, q2, -⟩
        exact hn ⟨(isC_t.mp q2).2, q1⟩
    by_cases c46 : bn (wf w k) = 46
    · rw [if_pos (q46.mpr c46), if_neg n1, if_pos (show (-1 : Int32) < 0 by decide)]
      have nd : ¬ isD (wf w) w.length k = true := fun q => by have := (isD_t.mp q).2; omega
      by_cases cf : fr < k
      · rw [if_pos (show (0 : Int32) < iw ((k - fr : Nat) : Int) by rw [show (0 : Int32) = iw ((0 : Nat) : Int) from rfl, iw_le4 (by omega) (by omega)]; omega)]
        unfold F_X16_digits_b85
        simp only [iw_succ]
        rw [M_dig2 sw hw hl (Or.inr (by rw [iw_lt0 (by omega) (by omega)]; omega)) m N (k + 1) (k - fr) (by omega) (by omega), Dg_f (by omega) nd, if_neg (show ¬ k = w.length by omega)]
        by_cases ce : Dg w (k + 1) = w.length
        · rw [if_pos ce, if_neg (by omega)]
          by_cases cl : k + 1 < w.length
          · rw [if_neg (show ¬ iw ((k - fr + m : Nat) : Int) = iw ((k - fr : Nat) : Int) by rw [iw_eq (by omega) (by omega) (by omega) (by omega)]; omega), if_pos ⟨cf, isC_t.mpr ⟨by omega, c46⟩, ce, cl⟩, show k - fr + m = w.length - fr - 1 by omega]
          · rw [if_pos (show iw ((k - fr + m : Nat) : Int) = iw ((k - fr : Nat) : Int) by rw [show m = 0 by omega]; rfl), if_neg (fun q => cl q.2.2.2)]
        · rw [if_neg ce, if_neg (fun q => ce q.2.2.1)]
      · rw [if_neg (show ¬ (0 : Int32) < iw ((k - fr : Nat) : Int) by rw [show (0 : Int32) = iw ((0 : Nat) : Int) from rfl, iw_le4 (by omega) (by omega)]; omega)]
        exact b69 (fun q => cf q.2)
    · rw [if_neg (fun q => c46 (q46.mp q))]
      exact b69 (fun q => c46 q.1)
/-- where the model begins -/
theorem M_digh {M : Mem} {a : Nat} {w : List Int32} {v1 : Int32} (sw : SB M a w) (hw : ascs w) (hl : w.length ≤ 40) : F_X16_digits M a v1 = F_X16_digits_b28 xN M a v1 (iw (wfr w : Nat)) 0 (-1) := by
  unfold F_X16_digits
  rw [sw.vg, Option.bind_some, J_len sw, Option.bind_some]
  by_cases c : 0 < w.length
  · rw [if_pos (show (0 : Int32) < iw (w.length : Nat) by rw [show (0 : Int32) = iw ((0 : Nat) : Int) from rfl, iw_le4 (by omega) (by omega)]; exact c), Option.bind_some]
    have a0 := wch sw hw c
    rw [show iw ((0 : Nat) : Int) = 0 from rfl] at a0
    rw [a0, Option.bind_some]
    obtain ⟨f1, f2⟩ := wfr_w hw c
    by_cases c45 : wf w 0 = 45
    · rw [if_pos c45, f1.mp c45]; rfl
    · rw [if_neg c45, f2.mp c45]; rfl
  · rw [if_neg (show ¬ (0 : Int32) < iw (w.length : Nat) by rw [show (0 : Int32) = iw ((0 : Nat) : Int) from rfl, iw_le4 (by omega) (by omega)]; exact c)]
    have := (wfr_le w).1
    rw [show wfr w = 0 by omega]
    rfl
theorem M_digits0 {M : Mem} {a : Nat} {w : List Int32} (sw : SB M a w) (hw : ascs w) (hl : w.length ≤ 40) : F_X16_digits M a 0 = some (pif (W1 w) (iw ((w.length - wfr w : Nat) : Int)) (-1)) := by
  have fl := wfr_le w
  obtain ⟨i1, i2, i3, i4⟩ := Dg_sp fl.1
  rw [M_digh sw hw hl]
  obtain ⟨K, hK⟩ : ∃ K, K + 1 + (w.length - wfr w) = xN := ⟨xN - 1 - (w.length - wfr w), by have : xN = 1099511627776 := rfl; omega⟩
  have := M_dig2 (v1 := 0) (b := -1) sw hw hl (Or.inl rfl) (w.length - wfr w) K (wfr w) 0 (by omega) (by omega)
  rw [hK] at this
  refine Eq.trans this ?_
  rw [Nat.zero_add]
  unfold W1 wk1
  by_cases c : Dg w (wfr w) = w.length
  · rw [if_pos c]
    by_cases c0 : w.length - wfr w = 0
    · rw [if_pos c0, fpif (by omega)]
    · rw [if_neg c0, if_neg (show ¬ iw ((w.length - wfr w : Nat) : Int) = -1 by rw [show (-1 : Int32) = iw (-1) from rfl, iw_eq (by omega) (by omega) (by omega) (by omega)]; omega), tpif ⟨by omega, c⟩]
  · rw [if_neg c, fpif (fun q => c q.2)]
theorem M_digits1 {M : Mem} {a : Nat} {w : List Int32} (sw : SB M a w) (hw : ascs w) (hl : w.length ≤ 40) : F_X16_digits M a 1 = some (pif (W1 w) (iw ((w.length - wfr w : Nat) : Int)) (pif (W2 w) (iw ((w.length - wfr w - 1 : Nat) : Int)) (-1))) := by
  have fl := wfr_le w
  obtain ⟨i1, i2, i3, i4⟩ := Dg_sp fl.1
  rw [M_digh sw hw hl]
  obtain ⟨K, hK⟩ : ∃ K, K + 1 + (w.length - wfr w) = xN := ⟨xN - 1 - (w.length - wfr w), by have : xN = 1099511627776 := rfl; omega⟩
  have := M_dig1 (fr := wfr w) sw hw hl (w.length - wfr w) K (wfr w) (by omega) (Nat.le_refl _)
  rw [hK, Nat.sub_self] at this
  refine Eq.trans this ?_
  unfold W1 W2 wk1
  by_cases c : Dg w (wfr w) = w.length
  · rw [if_pos c]
    by_cases c0 : w.length - wfr w = 0
    · rw [if_pos c0, fpif (by omega), fpif (by omega)]
    · rw [if_neg c0, tpif ⟨by omega, c⟩]
  · rw [if_neg c, fpif (fun q => c q.2)]
    by_cases c2 : wfr w < Dg w (wfr w) ∧ isC (wf w) w.length (Dg w (wfr w)) 46 = true ∧ Dg w (Dg w (wfr w) + 1) = w.length ∧ Dg w (wfr w) + 1 < w.length
    · rw [if_pos c2, tpif c2]
    · rw [if_neg c2, fpif c2]
