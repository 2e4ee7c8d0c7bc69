/-! ===== FORMULAS, 6: words that stand in a constant text ===== -/
theorem cty_asc : (List.range 45).all (fun i => (cty (20 + i)).1.all (fun c => decide (0 ≤ c.toInt) && decide (c.toInt < 128))) = true := by decide +kernel
theorem asc_of {c : Int32} (h1 : 0 ≤ c.toInt) (h2 : c.toInt < 128) : asc c := ⟨c.toInt.toNat, by omega, by rw [Int.toNat_of_nonneg h1]; exact (iw_of c).symm⟩
theorem ctx_asc {a i : Nat} (h1 : 20 ≤ a) (h2 : a < 65) (hi : i < (cty a).1.length) : asc ((cty a).1.getD i 0) := by
  have q := List.all_eq_true.mp cty_asc (a - 20) (List.mem_range.mpr (by omega))
  rw [show 20 + (a - 20) = a by omega] at q
  have q2 := List.all_eq_true.mp q _ (getD_in (d := 0) hi)
  simp only [Bool.and_eq_true, decide_eq_true_eq] at q2
  exact asc_of q2.1 q2.2
theorem ctx_len {a : Nat} (h1 : 20 ≤ a) (h2 : a < 65) : (cty a).1.length ≤ 1000 := by
  have q := List.all_eq_true.mp cty_len (a - 20) (List.mem_range.mpr (by omega))
  rw [show 20 + (a - 20) = a by omega] at q
  exact Nat.le_of_ble_eq_true q
theorem K0.chr {M : Mem} (h : K0 M) {a i : Nat} (h1 : 20 ≤ a) (h2 : a < 65) (hi : i < (cty a).1.length) : F_J15_charAt M a (iw (i : Int)) = some ((cty a).1.getD i 0) := J_charAt (h.sb h1 h2) hi (ctx_asc h1 h2 hi)
/-- the next blank -/
def spn (y : List Int32) (a : Nat) : Nat := sc (fun i => decide (i < y.length) && decide (y.getD i 0 ≠ 32)) y.length a
def slc (y : List Int32) (a e : Nat) : List Int32 := (List.range (e - a)).map (fun i => y.getD (a + i) 0)
theorem slc_len (y : List Int32) (a e : Nat) : (slc y a e).length = e - a := by unfold slc; rw [List.length_map, List.length_range]
theorem slc_get {y : List Int32} {a e i : Nat} (h : i < e - a) : (slc y a e).getD i 0 = y.getD (a + i) 0 := by
  unfold slc
  rw [List.getD_eq_getElem?_getD, List.getElem?_map, List.getElem?_range h]
  rfl
/-- which of the words from a on it is -/
def fdw (y w : List Int32) : Nat → Nat → Nat → Option Nat
  | 0, _, _ => none
  | N + 1, a, k => if slc y a (spn y a) = w then some k else fdw y w N (spn y a + 1) (k + 1)
/-- so many words are there -/
def okw (y : List Int32) : Nat → Nat → Bool
  | 0, _ => true
  | N + 1, a => decide (a ≤ spn y a) && decide (spn y a < y.length) && decide (y.getD (spn y a) 0 = 32) && okw y N (spn y a + 1)
def enw (y : List Int32) : Nat → Nat → Nat
  | 0, a => a
  | N + 1, a => enw y N (spn y a + 1)
theorem okw_s {y : List Int32} {N a : Nat} (h : okw y (N + 1) a = true) : a ≤ spn y a ∧ spn y a < y.length ∧ y.getD (spn y a) 0 = 32 ∧ okw y N (spn y a + 1) = true := by
  unfold okw at h
  simp only [Bool.and_eq_true, decide_eq_true_eq] at h
  exact ⟨h.1.1.1, h.1.1.2, h.1.2, h.2⟩
theorem spn_no {y : List Int32} {a i : Nat} (ha : a ≤ y.length) (h1 : a ≤ i) (h2 : i < spn y a) : y.getD i 0 ≠ 32 := by
  have q := (sc_spec (p := fun i => decide (i < y.length) && decide (y.getD i 0 ≠ 32)) (n := y.length) (fun a h => of_decide_eq_true ((Bool.and_eq_true _ _).mp h).1) (y.length - a) a (by omega)).2.2.2 i h1 h2
  exact of_decide_eq_true ((Bool.and_eq_true _ _).mp q).2
theorem slc_ext {y w : List Int32} {a e : Nat} (hl : w.length = e - a) : (∀ j, j < w.length → w.getD j 0 = y.getD (a + j) 0) ↔ w = slc y a e := by
  rw [← list_ext0 (x := w) (y := slc y a e) (by rw [slc_len]; exact hl)]
  exact ⟨fun q j hj => by rw [slc_get (by omega)]; exact q j hj, fun q j hj => by rw [← slc_get (e := e) (by omega)]; exact q j hj⟩
theorem E_isPart {M : Mem} {s c a e : Nat} {w : List Int32} (k0 : K0 M) (sw : SB M s w) (hw : ascs w) (hl : w.length ≤ 1000) (c1 : 20 ≤ c) (c2 : c < 65) (h1 : a ≤ e) (h2 : e ≤ (cty c).1.length) : F_X5_isPart M s c (iw (a : Int)) (iw (e : Int)) = some (if slc (cty c).1 a e = w then 1 else 0) := by
  have L := ctx_len c1 c2
  unfold F_X5_isPart
  simp only [sw.vg, J_len sw, Option.bind_some, iw_nsub h1]
  by_cases q : w.length = e - a
  · rw [if_pos (by rw [q])]
    have loop : ∀ (m N j : Nat), j + m = w.length → m + 1 ≤ N → F_X5_isPart_b15 N M s c (iw (a : Int)) (iw (e : Int)) (iw ((a + j : Nat) : Int)) = some (pif (∀ i, j ≤ i → i < w.length → w.getD i 0 = (cty c).1.getD (a + i) 0) 1 0) := by
      intro m
      induction m with
      | zero =>
        intro N j hj hN
        obtain ⟨N', rfl⟩ : ∃ N', N = N' + 1 := ⟨N - 1, by omega⟩
        show F_X5_isPart_b15_st _ M s c _ _ _ = _
        unfold F_X5_isPart_b15_st
        rw [if_neg (by rw [iw_le4 (by omega) (by omega)]; omega), pif_pos (fun i h1 h2 => by omega)]
      | succ m ih =>
        intro N j hj hN
        obtain ⟨N', rfl⟩ : ∃ N', N = N' + 1 := ⟨N - 1, by omega⟩
        have R0 := ih N' (j + 1) (by omega) (by omega)
        show F_X5_isPart_b15_st _ M s c _ _ _ = _
        unfold F_X5_isPart_b15_st
        simp only [if_pos ((iw_le4 (show a + j ≤ 2147483647 by omega) (show e ≤ 2147483647 by omega)).mpr (by omega)), sw.vg, iw_nsub (show a ≤ a + j by omega), show a + j - a = j by omega, J_charAt sw (show j < w.length by omega) (hw j (by omega)), k0.vg c1 c2, k0.chr c1 c2 (show a + j < (cty c).1.length by omega), Option.bind_some, iw_succ]
        by_cases e1 : w.getD j 0 = (cty c).1.getD (a + j) 0
        · rw [if_pos e1]
          show F_X5_isPart_b15 N' M s c _ _ (iw ((a + j + 1 : Nat) : Int)) = _
          rw [show a + j + 1 = a + (j + 1) by omega, R0]
          congr 1
          by_cases x : ∀ i, j + 1 ≤ i → i < w.length → w.getD i 0 = (cty c).1.getD (a + i) 0
          · rw [pif_pos x, pif_pos (fun i i1 i2 => by rcases Nat.lt_or_ge j i with y | y; exact x i y i2; rw [show i = j by omega]; exact e1)]
          · rw [pif_neg x, pif_neg (fun y => x (fun i i1 i2 => y i (by omega) i2))]
        · rw [if_neg e1, pif_neg (fun y => e1 (y j (Nat.le_refl _) (by omega)))]
    have R := loop w.length xN 0 (by omega) (by have : xN = 1099511627776 := rfl; omega)
    rw [Nat.add_zero] at R
    rw [R]
    congr 1
    by_cases x : ∀ i, 0 ≤ i → i < w.length → w.getD i 0 = (cty c).1.getD (a + i) 0
    · rw [pif_pos x, if_pos ((slc_ext q).mp (fun j hj => x j (Nat.zero_le _) hj)).symm]
    · rw [pif_neg x, if_neg (fun y => x (fun i _ hi => (slc_ext q).mpr y.symm i hi))]
  · rw [if_neg (by rw [iw_eq (by omega) (by omega) (by omega) (by omega)]; omega), if_neg (fun y => q (by rw [← y, slc_len]))]
section
variable {M : Mem} {s : Nat} {w : List Int32}
theorem E_isWord13 {k2 : Mem → Nat → Int32 → Option Int32} (k0 : K0 M) (sw : SB M s w) (hw : ascs w) (hl : w.length ≤ 1000) {a e : Nat} (h1 : a ≤ e) (h2 : e < (cty 22).1.length) (h3 : (cty 22).1.getD e 0 = 32) (h4 : ∀ i, a ≤ i → i < e → (cty 22).1.getD i 0 ≠ 32) : ∀ (m N i : Nat), i + m = e → a ≤ i → m + 1 ≤ N → F_X5_isWord_b13 k2 N M s (iw (a : Int)) (iw (i : Int)) = if slc (cty 22).1 a e = w then some 1 else k2 M s (iw ((e + 1 : Nat) : Int)) := by
  have L := ctx_len (a := 22) (by decide) (by decide)
  intro m
  induction m with
  | zero =>
    intro N i hi ha hN
    obtain ⟨N', rfl⟩ : ∃ N', N = N' + 1 := ⟨N - 1, by omega⟩
    obtain rfl : i = e := by omega
    show F_X5_isWord_b13_st _ _ M s _ _ = _
    unfold F_X5_isWord_b13_st
    simp only [k0.vg (a := 22) (by decide) (by decide), k0.chr (a := 22) (by decide) (by decide) h2, h3, Option.bind_some, if_true, E_isPart k0 sw hw hl (c := 22) (by decide) (by decide) h1 (Nat.le_of_lt h2), iw_succ]
    by_cases q : slc (cty 22).1 a i = w
    · rw [if_pos q, if_pos q, if_neg (by decide)]
    · rw [if_neg q, if_neg q, if_pos rfl]
  | succ m ih =>
    intro N i hi ha hN
    obtain ⟨N', rfl⟩ : ∃ N', N = N' + 1 := ⟨N - 1, by omega⟩
    have R0 := ih N' (i + 1) (by omega) (by omega) (by omega)
    rw [← R0]
    show F_X5_isWord_b13_st _ _ M s _ _ = _
    unfold F_X5_isWord_b13_st
    simp only [k0.vg (a := 22) (by decide) (by decide), k0.chr (a := 22) (by decide) (by decide) (show i < (cty 22).1.length by omega), Option.bind_some, if_neg (h4 i ha (by omega)), iw_succ]
    rfl
theorem E_isWord2 (k0 : K0 M) (sw : SB M s w) (hw : ascs w) (hl : w.length ≤ 1000) : ∀ (N fu a k : Nat), okw (cty 22).1 N a = true → enw (cty 22).1 N a = (cty 22).1.length → N + 1 ≤ fu → F_X5_isWord_b2 fu M s (iw (a : Int)) = some (if (fdw (cty 22).1 w N a k).isSome = true then 1 else 0)
  | 0, fu, a, k, h1, h2, h3 => by
    have L := ctx_len (a := 22) (by decide) (by decide)
    obtain ⟨N', rfl⟩ : ∃ N', fu = N' + 1 := ⟨fu - 1, by omega⟩
    have h2' : a = (cty 22).1.length := h2
    show F_X5_isWord_b2_st _ M s _ = _
    unfold F_X5_isWord_b2_st
    rw [k0.vg (a := 22) (by decide) (by decide), Option.bind_some, J_len (k0.sb (a := 22) (by decide) (by decide)), Option.bind_some, if_neg (by rw [iw_le4 (by omega) (by omega)]; omega)]
    rfl
  | N + 1, fu, a, k, h1, h2, h3 => by
    have L := ctx_len (a := 22) (by decide) (by decide)
    obtain ⟨N', rfl⟩ : ∃ N', fu = N' + 1 := ⟨fu - 1, by omega⟩
    obtain ⟨o1, o2, o3, o4⟩ := okw_s h1
    have R0 := E_isWord2 k0 sw hw hl N N' (spn (cty 22).1 a + 1) (k + 1) o4 h2 (by omega)
    have hxN : xN = 1099511627776 := rfl
    show F_X5_isWord_b2_st _ M s _ = _
    unfold F_X5_isWord_b2_st
    rw [k0.vg (a := 22) (by decide) (by decide), Option.bind_some, J_len (k0.sb (a := 22) (by decide) (by decide)), Option.bind_some, if_pos (by rw [iw_le4 (by omega) (by omega)]; omega), E_isWord13 k0 sw hw hl o1 o2 o3 (fun i i1 i2 => spn_no (by omega) i1 i2) (spn (cty 22).1 a - a) xN a (by omega) (Nat.le_refl _) (by omega)]
    show _ = some (if (if slc (cty 22).1 a (spn (cty 22).1 a) = w then some k else fdw (cty 22).1 w N (spn (cty 22).1 a + 1) (k + 1)).isSome = true then 1 else 0)
    by_cases q : slc (cty 22).1 a (spn (cty 22).1 a) = w
    · rw [if_pos q, if_pos q]; rfl
    · rw [if_neg q, if_neg q]; exact R0
theorem E_lane26 {k17 : Mem → Nat → Nat → Int32 → Int32 → Option Int32} (hS : ST M) (hr : cR M 1012 390 = s) (k0 : K0 M) (sw : SB M s w) (hw : ascs w) (hl : w.length ≤ 1000) {a e : Nat} {v : Int32} (h1 : a ≤ e) (h2 : e < (cty 52).1.length) (h3 : (cty 52).1.getD e 0 = 32) (h4 : ∀ i, a ≤ i → i < e → (cty 52).1.getD i 0 ≠ 32) : ∀ (m N i : Nat), i + m = e → a ≤ i → m + 1 ≤ N → F_X5_laneWord_b26 k17 N M 1012 52 (iw (a : Int)) v (iw (i : Int)) = if slc (cty 52).1 a e = w then some v else k17 M 1012 52 (iw ((e + 1 : Nat) : Int)) (v + 1) := by
  have L := ctx_len (a := 52) (by decide) (by decide)
  intro m
  induction m with
  | zero =>
    intro N i hi ha hN
    obtain ⟨N', rfl⟩ : ∃ N', N = N' + 1 := ⟨N - 1, by omega⟩
    obtain rfl : i = e := by omega
    show F_X5_laneWord_b26_st _ _ M _ _ _ _ _ = _
    unfold F_X5_laneWord_b26_st
    simp only [k0.vg (a := 52) (by decide) (by decide), k0.chr (a := 52) (by decide) (by decide) h2, h3, Option.bind_some, if_true, g1012_390, hS, hr, E_isPart k0 sw hw hl (c := 52) (by decide) (by decide) h1 (Nat.le_of_lt h2), iw_succ]
    by_cases q : slc (cty 52).1 a i = w
    · rw [if_pos q, if_pos q, if_neg (by decide)]
    · rw [if_neg q, if_neg q, if_pos rfl]
  | succ m ih =>
    intro N i hi ha hN
    obtain ⟨N', rfl⟩ : ∃ N', N = N' + 1 := ⟨N - 1, by omega⟩
    have R0 := ih N' (i + 1) (by omega) (by omega) (by omega)
    rw [← R0]
    show F_X5_laneWord_b26_st _ _ M _ _ _ _ _ = _
    unfold F_X5_laneWord_b26_st
    simp only [k0.vg (a := 52) (by decide) (by decide), k0.chr (a := 52) (by decide) (by decide) (show i < (cty 52).1.length by omega), Option.bind_some, if_neg (h4 i ha (by omega)), iw_succ]
    rfl
theorem E_lane17 (hS : ST M) (hr : cR M 1012 390 = s) (k0 : K0 M) (sw : SB M s w) (hw : ascs w) (hl : w.length ≤ 1000) : ∀ (N fu a k : Nat), okw (cty 52).1 N a = true → k + N = 8 → N + 1 ≤ fu → F_X5_laneWord_b17 fu M 1012 52 (iw (a : Int)) (iw (k : Int)) = some (match fdw (cty 52).1 w N a k with | some j => iw (j : Int) | none => -1)
  | 0, fu, a, k, h1, h2, h3 => by
    obtain ⟨N', rfl⟩ : ∃ N', fu = N' + 1 := ⟨fu - 1, by omega⟩
    obtain rfl : k = 8 := by omega
    rfl
  | N + 1, fu, a, k, h1, h2, h3 => by
    have L := ctx_len (a := 52) (by decide) (by decide)
    obtain ⟨N', rfl⟩ : ∃ N', fu = N' + 1 := ⟨fu - 1, by omega⟩
    obtain ⟨o1, o2, o3, o4⟩ := okw_s h1
    have R0 := E_lane17 hS hr k0 sw hw hl N N' (spn (cty 52).1 a + 1) (k + 1) o4 (by omega) (by omega)
    have hxN : xN = 1099511627776 := rfl
    show F_X5_laneWord_b17_st _ M _ _ _ _ = _
    unfold F_X5_laneWord_b17_st
    rw [if_neg (by rw [show (7 : Int32) = iw ((7 : Nat) : Int) from rfl, iw_le4 (by omega) (by omega)]; omega), E_lane26 hS hr k0 sw hw hl o1 o2 o3 (fun i i1 i2 => spn_no (by omega) i1 i2) (spn (cty 52).1 a - a) xN a (by omega) (Nat.le_refl _) (by omega), iw_succ]
    show _ = some (match (if slc (cty 52).1 a (spn (cty 52).1 a) = w then some k else fdw (cty 52).1 w N (spn (cty 52).1 a + 1) (k + 1)) with | some j => iw (j : Int) | none => -1)
    by_cases q : slc (cty 52).1 a (spn (cty 52).1 a) = w
    · rw [if_pos q, if_pos q]
    · rw [if_neg q, if_neg q]; exact R0
theorem E_blt12 {k4 : Mem → Nat → Int32 → Int32 → Option Int32} (k0 : K0 M) (sw : SB M s w) (hw : ascs w) (hl : w.length ≤ 1000) {a e : Nat} {v : Int32} (h1 : a ≤ e) (h2 : e < (cty 50).1.length) (h3 : (cty 50).1.getD e 0 = 32) (h4 : ∀ i, a ≤ i → i < e → (cty 50).1.getD i 0 ≠ 32) : ∀ (m N i : Nat), i + m = e → a ≤ i → m + 1 ≤ N → F_X4_builtIn_b12 k4 N M s (iw (a : Int)) v (iw (i : Int)) = if slc (cty 50).1 a e = w then some v else k4 M s (iw ((e + 1 : Nat) : Int)) (v + 1) := by
  have L := ctx_len (a := 50) (by decide) (by decide)
  intro m
  induction m with
  | zero =>
    intro N i hi ha hN
    obtain ⟨N', rfl⟩ : ∃ N', N = N' + 1 := ⟨N - 1, by omega⟩
    obtain rfl : i = e := by omega
    show F_X4_builtIn_b12_st _ _ M _ _ _ _ = _
    unfold F_X4_builtIn_b12_st
    simp only [k0.vg (a := 50) (by decide) (by decide), k0.chr (a := 50) (by decide) (by decide) h2, h3, Option.bind_some, if_true, E_isPart k0 sw hw hl (c := 50) (by decide) (by decide) h1 (Nat.le_of_lt h2), iw_succ]
    by_cases q : slc (cty 50).1 a i = w
    · rw [if_pos q, if_pos q, if_neg (by decide)]
    · rw [if_neg q, if_neg q, if_pos rfl]
  | succ m ih =>
    intro N i hi ha hN
    obtain ⟨N', rfl⟩ : ∃ N', N = N' + 1 := ⟨N - 1, by omega⟩
    have R0 := ih N' (i + 1) (by omega) (by omega) (by omega)
    rw [← R0]
    show F_X4_builtIn_b12_st _ _ M _ _ _ _ = _
    unfold F_X4_builtIn_b12_st
    simp only [k0.vg (a := 50) (by decide) (by decide), k0.chr (a := 50) (by decide) (by decide) (show i < (cty 50).1.length by omega), Option.bind_some, if_neg (h4 i ha (by omega)), iw_succ]
    rfl
theorem E_blt4 (k0 : K0 M) (sw : SB M s w) (hw : ascs w) (hl : w.length ≤ 1000) : ∀ (N fu a k : Nat), okw (cty 50).1 N a = true → k + N = 15 → N + 1 ≤ fu → F_X4_builtIn_b4 fu M s (iw (a : Int)) (iw (k : Int)) = some (match fdw (cty 50).1 w N a k with | some j => iw (j : Int) | none => -1)
  | 0, fu, a, k, h1, h2, h3 => by
    obtain ⟨N', rfl⟩ : ∃ N', fu = N' + 1 := ⟨fu - 1, by omega⟩
    obtain rfl : k = 15 := by omega
    rfl
  | N + 1, fu, a, k, h1, h2, h3 => by
    have L := ctx_len (a := 50) (by decide) (by decide)
    obtain ⟨N', rfl⟩ : ∃ N', fu = N' + 1 := ⟨fu - 1, by omega⟩
    obtain ⟨o1, o2, o3, o4⟩ := okw_s h1
    have R0 := E_blt4 k0 sw hw hl N N' (spn (cty 50).1 a + 1) (k + 1) o4 (by omega) (by omega)
    have hxN : xN = 1099511627776 := rfl
    show F_X4_builtIn_b4_st _ M _ _ _ = _
    unfold F_X4_builtIn_b4_st
    rw [if_pos (by rw [show (15 : Int32) = iw ((15 : Nat) : Int) from rfl, iw_le4 (by omega) (by omega)]; omega), E_blt12 k0 sw hw hl o1 o2 o3 (fun i i1 i2 => spn_no (by omega) i1 i2) (spn (cty 50).1 a - a) xN a (by omega) (Nat.le_refl _) (by omega), iw_succ]
    show _ = some (match (if slc (cty 50).1 a (spn (cty 50).1 a) = w then some k else fdw (cty 50).1 w N (spn (cty 50).1 a + 1) (k + 1)) with | some j => iw (j : Int) | none => -1)
    by_cases q : slc (cty 50).1 a (spn (cty 50).1 a) = w
    · rw [if_pos q, if_pos q]
    · rw [if_neg q, if_neg q]; exact R0
end
