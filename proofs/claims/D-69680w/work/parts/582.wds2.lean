/-! ===== FORMULAS, 7: words: lanes, built-in functions ===== -/
def wds (y : List Int32) : Nat → Nat → List (List Int32)
  | 0, _ => []
  | N + 1, a => slc y a (spn y a) :: wds y N (spn y a + 1)
def fdl (w : List Int32) : List (List Int32) → Nat → Option Nat
  | [], _ => none
  | x :: xs, k => if x = w then some k else fdl w xs (k + 1)
theorem fdw_eq {y w : List Int32} : ∀ (N a k : Nat), fdw y w N a k = fdl w (wds y N a) k
  | 0, _, _ => rfl
  | N + 1, a, k => by
    show (if slc y a (spn y a) = w then some k else fdw y w N (spn y a + 1) (k + 1)) = if slc y a (spn y a) = w then some k else fdl w (wds y N (spn y a + 1)) (k + 1)
    rw [fdw_eq N]
def w8 : List (List Int32) := [(cty 51).1, (cty 53).1, (cty 60).1, (cty 54).1, (cty 58).1, (cty 59).1, (cty 57).1, (cty 55).1]
theorem w22 : wds (cty 22).1 10 1 = w8 ++ [(cty 61).1, (cty 56).1] ∧ okw (cty 22).1 10 1 = true ∧ enw (cty 22).1 10 1 = (cty 22).1.length := by decide +kernel
theorem w52 : wds (cty 52).1 8 0 = w8 ∧ okw (cty 52).1 8 0 = true := by decide +kernel
theorem w50 : wds (cty 50).1 15 0 = wds (cty 21).1 15 1 ∧ okw (cty 50).1 15 0 = true ∧ okw (cty 21).1 15 1 = true ∧ enw (cty 21).1 15 1 = (cty 21).1.length := by decide +kernel
/-- the number of a built-in function -/
def bltW (w : List Int32) : Int32 := match fdl w (wds (cty 50).1 15 0) 0 with
  | some j => iw (j : Int)
  | none => -1
theorem lnW_fd (w : List Int32) : lnW w = match fdl w w8 0 with
    | some j => iw (j : Int)
    | none => -1 := by
  unfold lnW w8 fdl fdl fdl fdl fdl fdl fdl fdl fdl
  simp only [eq_comm (b := w)]
  by_cases h1 : w = (cty 51).1
  · simp only [if_pos h1]; rfl
  simp only [if_neg h1]
  by_cases h2 : w = (cty 53).1
  · simp only [if_pos h2]; rfl
  simp only [if_neg h2]
  by_cases h3 : w = (cty 60).1
  · simp only [if_pos h3]; rfl
  simp only [if_neg h3]
  by_cases h4 : w = (cty 54).1
  · simp only [if_pos h4]; rfl
  simp only [if_neg h4]
  by_cases h5 : w = (cty 58).1
  · simp only [if_pos h5]; rfl
  simp only [if_neg h5]
  by_cases h6 : w = (cty 59).1
  · simp only [if_pos h6]; rfl
  simp only [if_neg h6]
  by_cases h7 : w = (cty 57).1
  · simp only [if_pos h7]; rfl
  simp only [if_neg h7]
  by_cases h8 : w = (cty 55).1
  · simp only [if_pos h8]; rfl
  · simp only [if_neg h8]
theorem fdl_lt {w : List Int32} : ∀ (l : List (List Int32)) (k j : Nat), fdl w l k = some j → k ≤ j ∧ j < k + l.length
  | [], k, j, h => by cases h
  | x :: xs, k, j, h => by
    unfold fdl at h
    by_cases q : x = w
    · rw [if_pos q] at h
      cases h
      exact ⟨Nat.le_refl _, by rw [List.length_cons]; omega⟩
    · rw [if_neg q] at h
      have := fdl_lt xs (k + 1) j h
      rw [List.length_cons]
      omega
theorem fdl_app {w : List Int32} : ∀ (l m : List (List Int32)) (k : Nat), fdl w (l ++ m) k = match fdl w l k with
    | some j => some j
    | none => fdl w m (k + l.length)
  | [], m, k => rfl
  | x :: xs, m, k => by
    show (if x = w then some k else fdl w (xs ++ m) (k + 1)) = match (if x = w then some k else fdl w xs (k + 1)) with
      | some j => some j
      | none => fdl w m (k + (xs.length + 1))
    by_cases q : x = w
    · rw [if_pos q, if_pos q]
    · rw [if_neg q, if_neg q, fdl_app xs m (k + 1), show k + 1 + xs.length = k + (xs.length + 1) by omega]
theorem lnW_rng (w : List Int32) : lnW w = -1 ∨ ∃ j : Nat, j < 8 ∧ lnW w = iw (j : Int) ∧ fdl w w8 0 = some j := by
  rw [lnW_fd]
  cases h : fdl w w8 0 with
  | none => exact Or.inl rfl
  | some j => exact Or.inr ⟨j, by have := (fdl_lt _ _ _ h).2; have e : w8.length = 8 := rfl; omega, rfl, rfl⟩
theorem isKy_fd (w : List Int32) : isKy w = (fdl w (w8 ++ [(cty 61).1, (cty 56).1]) 0).isSome := by
  unfold isKy
  rw [fdl_app]
  rcases lnW_rng w with h | ⟨j, h1, h2, h3⟩
  · have e : fdl w w8 0 = none := by
      rw [lnW_fd] at h
      cases q : fdl w w8 0 with
      | none => rfl
      | some j =>
        rw [q] at h
        have h' : iw (j : Int) = -1 := h
        have := (fdl_lt _ _ _ q).2
        have e : w8.length = 8 := rfl
        rw [show (-1 : Int32) = iw (-1) from rfl, iw_eq (by omega) (by omega) (by omega) (by omega)] at h'
        omega
    rw [e, h]
    show (decide (0 ≤ (-1 : Int32)) || _) = (fdl w [(cty 61).1, (cty 56).1] (0 + w8.length)).isSome
    unfold fdl fdl fdl
    simp only [eq_comm (b := w)]
    by_cases a : w = (cty 61).1
    · simp [a]
    · by_cases b : w = (cty 56).1
      · simp only [if_neg a, if_pos b, decide_eq_false a, decide_eq_true b]; decide
      · simp only [if_neg a, if_neg b, decide_eq_false a, decide_eq_false b]; decide
  · rw [h2, h3]
    show (decide (0 ≤ iw (j : Int)) || _) = true
    rw [decide_eq_true (by rw [← Int32.not_lt, iw_lt0 (by omega) (by omega)]; omega), Bool.true_or]
section
variable {M : Mem} {s : Nat} {w : List Int32}
theorem E_isWordK (k0 : K0 M) (sw : SB M s w) (hw : ascs w) (hl : w.length ≤ 1000) : F_X5_isWord M s = some (mr (isKy w)) := by
  unfold F_X5_isWord
  refine (E_isWord2 k0 sw hw hl 10 xN 1 0 w22.2.1 w22.2.2 (by have : xN = 1099511627776 := rfl; omega)).trans ?_
  rw [fdw_eq, w22.1, isKy_fd]
  rfl
theorem E_laneW (hS : ST M) (hr : cR M 1012 390 = s) (k2 : cI M 1012 387 = 2) (k0 : K0 M) (sw : SB M s w) (hw : ascs w) (hl : w.length ≤ 1000) : F_X5_laneWord M 1012 = some (lnW w) := by
  unfold F_X5_laneWord
  rw [g1012_387 hS, Option.bind_some, k2, if_pos rfl]
  refine (E_lane17 hS hr k0 sw hw hl 8 xN 0 0 w52.2 rfl (by have : xN = 1099511627776 := rfl; omega)).trans ?_
  rw [fdw_eq, w52.1, lnW_fd]
  rfl
theorem E_laneN (hS : ST M) (k2 : cI M 1012 387 ≠ 2) : F_X5_laneWord M 1012 = some (-1) := by
  unfold F_X5_laneWord
  rw [g1012_387 hS, Option.bind_some, if_neg k2]
theorem E_builtIn (k0 : K0 M) (sw : SB M s w) (hw : ascs w) (hl : w.length ≤ 1000) : F_X4_builtIn M s = some (bltW w) := by
  unfold F_X4_builtIn
  refine (E_blt4 k0 sw hw hl 15 xN 0 0 w50.2.1 rfl (by have : xN = 1099511627776 := rfl; omega)).trans ?_
  rw [fdw_eq]
  rfl
theorem M_blt54 {k4 : Mem → Nat → Int32 → Int32 → Option Int32} (k0 : K0 M) (sw : SB M s w) (hw : ascs w) {a e : Nat} {v : Int32} (h1 : a ≤ e) (h2 : e ≤ (cty 21).1.length) (hl : w.length = e - a) : ∀ (m N j : Nat), j + m = w.length → m + 1 ≤ N → F_X16_builtOf_b54 k4 N M s v (iw (a : Int)) (iw (e : Int)) 1 (iw ((a + j : Nat) : Int)) = F_X16_builtOf_b97 k4 M s v (iw (e : Int)) (pif (∀ i, j ≤ i → i < w.length → w.getD i 0 = (cty 21).1.getD (a + i) 0) 1 0) := by
  have L := ctx_len (a := 21) (by decide) (by decide)
  intro m
  induction m with
  | zero =>
    intro N j hj hN
    obtain ⟨N', rfl⟩ : ∃ N', N = N' + 1 := ⟨N - 1, by omega⟩
    show F_X16_builtOf_b54_st _ _ M s _ _ _ _ _ = _
    unfold F_X16_builtOf_b54_st
    rw [if_neg (by rw [iw_le4 (by omega) (by omega)]; omega), pif_pos (fun i h1 h2 => by omega)]
  | succ m ih =>
    intro N j hj hN
    obtain ⟨N', rfl⟩ : ∃ N', N = N' + 1 := ⟨N - 1, by omega⟩
    have R0 := ih N' (j + 1) (by omega) (by omega)
    have R1 : F_X16_builtOf_b54 k4 N' M s v (iw (a : Int)) (iw (e : Int)) 0 (iw ((a + j + 1 : Nat) : Int)) = F_X16_builtOf_b97 k4 M s v (iw (e : Int)) 0 := by
      obtain ⟨N2, rfl⟩ : ∃ N2, N' = N2 + 1 := ⟨N' - 1, by omega⟩
      show F_X16_builtOf_b54_st _ _ M s _ _ _ _ _ = _
      unfold F_X16_builtOf_b54_st
      simp only [if_true, ite_self]
    show F_X16_builtOf_b54_st _ _ M s _ _ _ _ _ = _
    unfold F_X16_builtOf_b54_st
    simp only [if_pos ((iw_le4 (show a + j ≤ 2147483647 by omega) (show e ≤ 2147483647 by omega)).mpr (by omega)), sw.vg, iw_nsub (show a ≤ a + j by omega), show a + j - a = j by omega, J_charAt sw (show j < w.length by omega) (hw j (by omega)), k0.vg (a := 21) (by decide) (by decide), k0.chr (a := 21) (by decide) (by decide) (show a + j < (cty 21).1.length by omega), Option.bind_some, iw_succ, F_X16_builtOf_b89, if_neg (show ¬ (1 : Int32) = 0 by decide)]
    by_cases e1 : w.getD j 0 = (cty 21).1.getD (a + j) 0
    · rw [if_pos e1.symm]
      show F_X16_builtOf_b54 k4 N' M s v _ _ 1 (iw ((a + j + 1 : Nat) : Int)) = _
      rw [show a + j + 1 = a + (j + 1) by omega, R0]
      congr 1
      by_cases x : ∀ i, j + 1 ≤ i → i < w.length → w.getD i 0 = (cty 21).1.getD (a + i) 0
      · rw [pif_pos x, pif_pos (fun i i1 i2 => by rcases Nat.lt_or_ge j i with y | y; exact x i y i2; rw [show i = j by omega]; exact e1)]
      · rw [pif_neg x, pif_neg (fun y => x (fun i i1 i2 => y i (by omega) i2))]
    · rw [if_neg (fun q => e1 q.symm), pif_neg (fun y => e1 (y j (Nat.le_refl _) (by omega)))]
      exact R1
theorem M_blt16 {k4 : Mem → Nat → Int32 → Int32 → Option Int32} (k0 : K0 M) (sw : SB M s w) (hw : ascs w) (hl : w.length ≤ 1000) {a e : Nat} {v : Int32} (h1 : a ≤ e) (h2 : e < (cty 21).1.length) (h3 : (cty 21).1.getD e 0 = 32) (h4 : ∀ i, a ≤ i → i < e → (cty 21).1.getD i 0 ≠ 32) : ∀ (m N i : Nat), i + m = e → a ≤ i → m + 1 ≤ N → F_X16_builtOf_b16 k4 N M s v (iw (a : Int)) (iw (i : Int)) = if slc (cty 21).1 a e = w then some v else k4 M s (v + 1) (iw ((e + 1 : Nat) : Int)) := by
  have L := ctx_len (a := 21) (by decide) (by decide)
  have hxN : xN = 1099511627776 := rfl
  intro m
  induction m with
  | zero =>
    intro N i hi ha hN
    obtain ⟨N', rfl⟩ : ∃ N', N = N' + 1 := ⟨N - 1, by omega⟩
    obtain rfl : i = e := by omega
    show F_X16_builtOf_b16_st _ _ M _ _ _ _ = _
    unfold F_X16_builtOf_b16_st
    simp only [k0.vg (a := 21) (by decide) (by decide), k0.chr (a := 21) (by decide) (by decide) h2, h3, Option.bind_some, if_true, sw.vg, J_len sw, iw_nsub h1, F_X16_builtOf_b49]
    by_cases q : w.length = i - a
    · rw [if_pos (by rw [q])]
      have R := M_blt54 (k4 := k4) (v := v) k0 sw hw h1 (Nat.le_of_lt h2) q w.length xN 0 (by omega) (by omega)
      rw [Nat.add_zero] at R
      rw [R]
      unfold F_X16_builtOf_b97
      by_cases x : ∀ j, 0 ≤ j → j < w.length → w.getD j 0 = (cty 21).1.getD (a + j) 0
      · rw [pif_pos x, if_neg (by decide), if_pos ((slc_ext q).mp (fun j hj => x j (Nat.zero_le _) hj)).symm]
      · rw [pif_neg x, if_pos rfl, if_neg (fun y => x (fun i _ hi => (slc_ext q).mpr y.symm i hi))]
        simp only [iw_succ]
    · rw [if_neg (by rw [iw_eq (by omega) (by omega) (by omega) (by omega)]; omega), if_neg (fun y => q (by rw [← y, slc_len]))]
      obtain ⟨N2, hN2⟩ : ∃ N2, xN = N2 + 1 := ⟨xN - 1, by omega⟩
      rw [hN2]
      show F_X16_builtOf_b54_st _ _ M s _ _ _ _ _ = _
      unfold F_X16_builtOf_b54_st F_X16_builtOf_b97
      simp only [if_true, ite_self, iw_succ]
  | succ m ih =>
    intro N i hi ha hN
    obtain ⟨N', rfl⟩ : ∃ N', N = N' + 1 := ⟨N - 1, by omega⟩
    have R0 := ih N' (i + 1) (by omega) (by omega) (by omega)
    rw [← R0]
    show F_X16_builtOf_b16_st _ _ M _ _ _ _ = _
    unfold F_X16_builtOf_b16_st
    simp only [k0.vg (a := 21) (by decide) (by decide), k0.chr (a := 21) (by decide) (by decide) (show i < (cty 21).1.length by omega), Option.bind_some, if_neg (h4 i ha (by omega)), iw_succ]
    rfl
theorem M_blt4 (k0 : K0 M) (sw : SB M s w) (hw : ascs w) (hl : w.length ≤ 1000) : ∀ (N fu a k : Nat), okw (cty 21).1 N a = true → enw (cty 21).1 N a = (cty 21).1.length → N + 1 ≤ fu → F_X16_builtOf_b4 fu M s (iw (k : Int)) (iw (a : Int)) = some (match fdw (cty 21).1 w N a k with | some j => iw (j : Int) | none => -1)
  | 0, fu, a, k, h1, h2, h3 => by
    have L := ctx_len (a := 21) (by decide) (by decide)
    obtain ⟨N', rfl⟩ : ∃ N', fu = N' + 1 := ⟨fu - 1, by omega⟩
    have h2' : a = (cty 21).1.length := h2
    show F_X16_builtOf_b4_st _ M s _ _ = _
    unfold F_X16_builtOf_b4_st
    rw [k0.vg (a := 21) (by decide) (by decide), Option.bind_some, J_len (k0.sb (a := 21) (by decide) (by decide)), Option.bind_some, if_neg (by rw [iw_le4 (by omega) (by omega)]; omega)]
    rfl
  | N + 1, fu, a, k, h1, h2, h3 => by
    have L := ctx_len (a := 21) (by decide) (by decide)
    obtain ⟨N', rfl⟩ : ∃ N', fu = N' + 1 := ⟨fu - 1, by omega⟩
    obtain ⟨o1, o2, o3, o4⟩ := okw_s h1
    have R0 := M_blt4 k0 sw hw hl N N' (spn (cty 21).1 a + 1) (k + 1) o4 h2 (by omega)
    have hxN : xN = 1099511627776 := rfl
    show F_X16_builtOf_b4_st _ M s _ _ = _
    unfold F_X16_builtOf_b4_st
    rw [k0.vg (a := 21) (by decide) (by decide), Option.bind_some, J_len (k0.sb (a := 21) (by decide) (by decide)), Option.bind_some, if_pos (by rw [iw_le4 (by omega) (by omega)]; omega), M_blt16 k0 sw hw hl o1 o2 o3 (fun i i1 i2 => spn_no (by omega) i1 i2) (spn (cty 21).1 a - a) xN a (by omega) (Nat.le_refl _) (by omega), iw_succ]
    show _ = some (match (if slc (cty 21).1 a (spn (cty 21).1 a) = w then some k else fdw (cty 21).1 w N (spn (cty 21).1 a + 1) (k + 1)) with | some j => iw (j : Int) | none => -1)
    by_cases q : slc (cty 21).1 a (spn (cty 21).1 a) = w
    · rw [if_pos q, if_pos q]
    · rw [if_neg q, if_neg q]; exact R0
theorem M_builtOf (k0 : K0 M) (sw : SB M s w) (hw : ascs w) (hl : w.length ≤ 1000) : F_X16_builtOf M s = some (bltW w) := by
  unfold F_X16_builtOf
  refine (M_blt4 k0 sw hw hl 15 xN 1 0 w50.2.2.1 w50.2.2.2 (by have : xN = 1099511627776 := rfl; omega)).trans ?_
  rw [fdw_eq, ← w50.1]
  rfl
end
