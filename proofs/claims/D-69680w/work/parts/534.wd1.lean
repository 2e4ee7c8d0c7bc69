/-! ===== TABLES, 20: what a word is (digits, numbers) ===== -/
def wf (w : List Int32) (i : Nat) : Int32 := w.getD i 0
/-- all signs are signs -/
def ascs (w : List Int32) : Prop := ∀ i, i < w.length → asc (wf w i)
theorem asc_k {k : Nat} (hk : k < 128) : bn (iw (k : Int)) = k := by
  have := bn_int (iw (k : Int))
  rw [iw_toInt (by omega) (by omega)] at this
  omega
theorem asc_bn {x : Int32} (h : asc x) : x = iw (bn x : Nat) ∧ bn x < 128 := by
  obtain ⟨k, hk, rfl⟩ := h
  rw [asc_k hk]
  exact ⟨rfl, hk⟩
theorem asc_c {x : Int32} (h : asc x) {c : Nat} (hc : c < 128) : x = iw (c : Int) ↔ bn x = c := by
  obtain ⟨k, hk, rfl⟩ := h
  rw [asc_k hk, iw_eq (by omega) (by omega) (by omega) (by omega)]
  omega
/-- behind the digits from place k on -/
def dge (w : List Int32) : Nat → Nat → Nat
  | 0, k => k
  | e + 1, k => if isD (wf w) w.length k = true then dge w e (k + 1) else k
theorem dge_sp {w : List Int32} : ∀ (e k : Nat), k ≤ w.length → w.length ≤ k + e → k ≤ dge w e k ∧ dge w e k ≤ w.length ∧ (∀ j, k ≤ j → j < dge w e k → isD (wf w) w.length j = true) ∧ ¬ isD (wf w) w.length (dge w e k) = true
  | 0, k, h1, h2 => by
    refine ⟨Nat.le_refl _, h1, fun j q1 q2 => absurd q2 (Nat.not_lt.mpr q1), fun q => ?_⟩
    have := (isD_t.mp q).1
    have e0 : dge w 0 k = k := rfl
    omega
  | e + 1, k, h1, h2 => by
    unfold dge
    by_cases c : isD (wf w) w.length k = true
    · rw [if_pos c]
      have hk := (isD_t.mp c).1
      obtain ⟨i1, i2, i3, i4⟩ := dge_sp (w := w) e (k + 1) (by omega) (by omega)
      exact ⟨by omega, i2, fun j q1 q2 => by
        by_cases q : j = k
        · rw [q]; exact c
        · exact i3 j (by omega) q2, i4⟩
    · rw [if_neg c]
      exact ⟨Nat.le_refl _, h1, fun j q1 q2 => absurd q2 (Nat.not_lt.mpr q1), c⟩
/-- behind the digits from place k on, with fuel enough -/
def Dg (w : List Int32) (k : Nat) : Nat := dge w w.length k
theorem Dg_sp {w : List Int32} {k : Nat} (h : k ≤ w.length) : k ≤ Dg w k ∧ Dg w k ≤ w.length ∧ (∀ j, k ≤ j → j < Dg w k → isD (wf w) w.length j = true) ∧ ¬ isD (wf w) w.length (Dg w k) = true := dge_sp _ _ h (by omega)
theorem Dg_u {w : List Int32} {k p : Nat} (h : k ≤ w.length) (h1 : k ≤ p) (h3 : ∀ j, k ≤ j → j < p → isD (wf w) w.length j = true) (h4 : ¬ isD (wf w) w.length p = true) : Dg w k = p := by
  obtain ⟨i1, i2, i3, i4⟩ := Dg_sp h
  rcases Nat.lt_trichotomy (Dg w k) p with q | q | q
  · exact absurd (h3 _ i1 q) i4
  · exact q
  · exact absurd (i3 _ h1 q) h4
theorem Dg_t {w : List Int32} {k : Nat} (c : isD (wf w) w.length k = true) : Dg w k = Dg w (k + 1) := by
  have hk := (isD_t.mp c).1
  obtain ⟨i1, i2, i3, i4⟩ := Dg_sp (w := w) (k := k + 1) (by omega)
  refine Dg_u (by omega) (by omega) (fun j q1 q2 => ?_) i4
  by_cases q : j = k
  · rw [q]; exact c
  · exact i3 j (by omega) q2
theorem Dg_f {w : List Int32} {k : Nat} (h : k ≤ w.length) (c : ¬ isD (wf w) w.length k = true) : Dg w k = k := Dg_u h (Nat.le_refl _) (fun j q1 q2 => absurd q2 (Nat.not_lt.mpr q1)) c
theorem Dg_end {w : List Int32} : Dg w w.length = w.length := Dg_f (Nat.le_refl _) (fun q => by have := (isD_t.mp q).1; omega)
/-- 1 if the word begins with - -/
def wfr (w : List Int32) : Nat := if isC (wf w) w.length 0 45 = true then 1 else 0
theorem wfr_le (w : List Int32) : wfr w ≤ w.length ∧ wfr w ≤ 1 := by
  unfold wfr
  by_cases c : isC (wf w) w.length 0 45 = true
  · rw [if_pos c]
    have := (isC_t.mp c).1
    omega
  · rw [if_neg c]
    omega
/-- the worth of k digits from place a on -/
def wvl (w : List Int32) (a : Nat) : Nat → Nat
  | 0 => 0
  | k + 1 => 10 * wvl w a k + (bn (wf w (a + k)) - 48)
theorem wvl_le {w : List Int32} {a : Nat} : ∀ (m j : Nat), wvl w a j ≤ wvl w a (j + m)
  | 0, j => Nat.le_refl _
  | m + 1, j => by
    have := wvl_le (w := w) (a := a) m j
    show _ ≤ 10 * wvl w a (j + m) + _
    omega
theorem wvl_lt {w : List Int32} {a : Nat} : ∀ (k : Nat), (∀ j, j < k → bn (wf w (a + j)) ≤ 57) → wvl w a k < 10 ^ k
  | 0, _ => Nat.one_pos
  | k + 1, h => by
    have h1 := wvl_lt k (fun j hj => h j (by omega))
    have h2 := h k (by omega)
    show 10 * wvl w a k + _ < 10 ^ k * 10
    omega
theorem wvl_inj {w u : List Int32} {a b : Nat} : ∀ (k : Nat), (∀ j, j < k → 48 ≤ bn (wf w (a + j)) ∧ bn (wf w (a + j)) ≤ 57) → (∀ j, j < k → 48 ≤ bn (wf u (b + j)) ∧ bn (wf u (b + j)) ≤ 57) → wvl w a k = wvl u b k → ∀ j, j < k → bn (wf w (a + j)) = bn (wf u (b + j))
  | 0, _, _, _, j, hj => absurd hj (Nat.not_lt_zero _)
  | k + 1, h1, h2, h, j, hj => by
    have a1 := h1 k (by omega)
    have a2 := h2 k (by omega)
    have h' : 10 * wvl w a k + (bn (wf w (a + k)) - 48) = 10 * wvl u b k + (bn (wf u (b + k)) - 48) := h
    by_cases c : j = k
    · rw [c]; omega
    · exact wvl_inj k (fun j hj => h1 j (by omega)) (fun j hj => h2 j (by omega)) (by omega) j (by omega)
theorem wvl_congr {w u : List Int32} {a b : Nat} : ∀ (k : Nat), (∀ j, j < k → wf w (a + j) = wf u (b + j)) → wvl w a k = wvl u b k
  | 0, _ => rfl
  | k + 1, h => by
    show 10 * wvl w a k + _ = 10 * wvl u b k + _
    rw [wvl_congr k (fun j hj => h j (by omega)), h k (by omega)]
def wk1 (w : List Int32) : Nat := Dg w (wfr w)
/-- digits, and nothing else behind the sign -/
def W1 (w : List Int32) : Prop := wfr w < wk1 w ∧ wk1 w = w.length
/-- digits, a point, digits -/
def W2 (w : List Int32) : Prop := wfr w < wk1 w ∧ isC (wf w) w.length (wk1 w) 46 = true ∧ Dg w (wk1 w + 1) = w.length ∧ wk1 w + 1 < w.length
def isIw (w : List Int32) : Prop := w.length - wfr w ≤ 10 ∧ wvl w (wfr w) (w.length - wfr w) ≤ 2147483647 + wfr w
def isLw (w : List Int32) : Prop := w.length - wfr w ≤ 19 ∧ wvl w (wfr w) (w.length - wfr w) ≤ 9223372036854775807 + wfr w
theorem W1.dg {w : List Int32} (h : W1 w) {j : Nat} (hj : j < w.length - wfr w) : 48 ≤ bn (wf w (wfr w + j)) ∧ bn (wf w (wfr w + j)) ≤ 57 := by
  obtain ⟨i1, i2, i3, i4⟩ := Dg_sp (wfr_le w).1
  have h2 := h.2
  unfold wk1 at h2
  exact (isD_t.mp (i3 (wfr w + j) (by omega) (by omega))).2
/-- the lane of a cell that is not missing -/
noncomputable def own (c : List Int32 × Bool) : Int32 := if c.2 = true then 8 else pif (c.1 = (cty 61).1 ∨ c.1 = (cty 56).1) 0 (pif (W1 c.1) (pif (isIw c.1) 4 (pif (isLw c.1) 5 8)) (pif (W2 c.1 ∧ c.1.length - wfr c.1 - 1 ≤ 15) 7 8))
/-- whether a cell that is not missing may stand in a column of a lane -/
def okl (k : Int32) (c : List Int32 × Bool) : Prop := own c = k ∨ (k = 5 ∧ own c = 4) ∨ (k = 7 ∧ (own c = 4 ∨ own c = 5) ∧ c.1.length - wfr c.1 ≤ 15)
def msg (c : List Int32 × Bool) : Prop := c.1.length = 0 ∧ c.2 = false
/-! a sign as a digit -/
theorem E_isD {v : Int32} (h : asc v) : F_X11_isDigit v = some (if 48 ≤ bn v ∧ bn v ≤ 57 then 1 else 0) := by
  obtain ⟨k, hk, rfl⟩ := h
  rw [asc_k hk]
  unfold F_X11_isDigit F_X11_isDigit_b16 F_X11_isDigit_b17
  have q1 : iw (k : Int) < (48 : Int32) ↔ k < 48 := by rw [show (48 : Int32) = iw ((48 : Nat) : Int) from rfl, iw_le4 (by omega) (by omega)]
  have q2 : (57 : Int32) < iw (k : Int) ↔ 57 < k := by rw [show (57 : Int32) = iw ((57 : Nat) : Int) from rfl, iw_le4 (by omega) (by omega)]
  by_cases c1 : k < 48
  · rw [if_pos (q1.mpr c1), if_neg (by omega)]; rfl
  · rw [if_neg (fun q => c1 (q1.mp q))]
    by_cases c2 : 57 < k
    · rw [if_pos (q2.mpr c2), if_neg (by omega)]; rfl
    · rw [if_neg (fun q => c2 (q2.mp q)), if_pos (by omega)]; rfl
theorem M_isDg {v : Int32} (h : asc v) : F_X16_isDigit v = some (if 48 ≤ bn v ∧ bn v ≤ 57 then 1 else 0) := by
  obtain ⟨k, hk, rfl⟩ := h
  rw [asc_k hk]
  unfold F_X16_isDigit F_X16_isDigit_b16 F_X16_isDigit_b17
  have q1 : iw (k : Int) < (48 : Int32) ↔ k < 48 := by rw [show (48 : Int32) = iw ((48 : Nat) : Int) from rfl, iw_le4 (by omega) (by omega)]
  have q2 : (57 : Int32) < iw (k : Int) ↔ 57 < k := by rw [show (57 : Int32) = iw ((57 : Nat) : Int) from rfl, iw_le4 (by omega) (by omega)]
  by_cases c1 : k < 48
  · rw [if_pos (q1.mpr c1), if_neg (by omega)]; rfl
  · rw [if_neg (fun q => c1 (q1.mp q))]
    by_cases c2 : 57 < k
    · rw [if_pos (q2.mpr c2), if_neg (by omega)]; rfl
    · rw [if_neg (fun q => c2 (q2.mp q)), if_pos (by omega)]; rfl
/-! the bounds of longs -/
theorem t10 : (10 : Int64).toInt = 10 := by decide
theorem tmx : (9223372036854775807 : Int64).toInt = 9223372036854775807 := by decide
theorem tmn : (-9223372036854775808 : Int64).toInt = -9223372036854775808 := by decide
theorem lim_m {P d : Nat} (hP : P ≤ 9223372036854775808) (hd : d ≤ 9) : Int64.ofInt (-(P : Int)) < ((-9223372036854775808 : Int64) + (iw (d : Int)).toInt64) / (10 : Int64) ↔ 9223372036854775808 < 10 * P + d := by
  obtain ⟨A, hA⟩ : ∃ A, A = (-9223372036854775808 : Int64) + (iw (d : Int)).toInt64 := ⟨_, rfl⟩
  have a1 : A.toInt = -(9223372036854775808 - (d : Int)) := by
    rw [hA, iw_64 (by omega), Int64.toInt_add, tmn, i64_small (by omega) (by omega), bw64 (by omega) (by omega)]
    omega
  rw [← hA]
  obtain ⟨B, hB⟩ : ∃ B, B = A / (10 : Int64) := ⟨_, rfl⟩
  have b1 : B.toInt = -((9223372036854775808 - (d : Int)) / 10) := by
    rw [hB, Int64.toInt_div, a1, t10, Int.neg_tdiv, Int.tdiv_eq_ediv_of_nonneg (by omega), bw64 (by omega) (by omega)]
  rw [← hB, Int64.lt_iff_toInt_lt, b1, i64_small (by omega) (by omega)]
  omega
theorem lim_e {P d : Nat} (hP : P < 9223372036854775808) (hd : d ≤ 9) : ((9223372036854775807 : Int64) - (iw (d : Int)).toInt64) / (10 : Int64) < nl P ↔ 9223372036854775808 ≤ 10 * P + d := by
  obtain ⟨A, hA⟩ : ∃ A, A = (9223372036854775807 : Int64) - (iw (d : Int)).toInt64 := ⟨_, rfl⟩
  have a1 : A.toInt = 9223372036854775807 - (d : Int) := by
    rw [hA, iw_64 (by omega), Int64.toInt_sub, tmx, i64_small (by omega) (by omega), bw64 (by omega) (by omega)]
  rw [← hA]
  obtain ⟨B, hB⟩ : ∃ B, B = A / (10 : Int64) := ⟨_, rfl⟩
  have b1 : B.toInt = (9223372036854775807 - (d : Int)) / 10 := by
    rw [hB, Int64.toInt_div, a1, t10, Int.tdiv_eq_ediv_of_nonneg (by omega), bw64 (by omega) (by omega)]
  rw [← hB, Int64.lt_iff_toInt_lt, b1, nl_int (by omega)]
  omega
