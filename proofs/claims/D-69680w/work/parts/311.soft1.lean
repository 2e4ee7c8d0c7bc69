/-! ===== FLOATS, 3: GridEngineModel.Soft, rounded ===== -/
def mr (more : Bool) : Int32 := if more = true then 1 else 0
theorem mr_0 (more : Bool) : mr more = 0 ↔ more = false := by cases more <;> decide
/-- rounded, from the drop on -/
theorem X24_b82 {p x D : Nat} {fld : Int} {more : Bool} (hp : 2 ≤ p ∧ p ≤ 53) (hx : x < 2 ^ 62) (hD : 1 ≤ D) (hD2 : D < 100000) (hf : fld < 3000) (hf2 : -100000 < fld) (hr : fld ≤ 0 ∨ D ≤ 62) :
    F_X24_rounded_b82 (mr more) (iw p) (nl x) (iw fld) (iw D) = some (nl (if 62 < D then 0 else if fld ≤ 0 then (if 2 ^ (D - 1) < x % 2 ^ D ∨ (x % 2 ^ D = 2 ^ (D - 1) ∧ (more = true ∨ x / 2 ^ D % 2 = 1)) then x / 2 ^ D + 1 else x / 2 ^ D) else (fld - 1).toNat * 2 ^ (p - 1) + (if 2 ^ (D - 1) < x % 2 ^ D ∨ (x % 2 ^ D = 2 ^ (D - 1) ∧ (more = true ∨ x / 2 ^ D % 2 = 1)) then x / 2 ^ D + 1 else x / 2 ^ D))) := by
  have fin : ∀ c : Nat, F_X24_rounded_b152 (iw p) (iw fld) (nl c) = some (nl (if fld ≤ 0 then c else (fld - 1).toNat * 2 ^ (p - 1) + c)) := by
    intro c
    unfold F_X24_rounded_b152 F_X24_rounded_b175
    by_cases h0 : fld ≤ 0
    · rw [if_neg (by rw [iw_0lt (by omega) (by omega)]; omega), if_pos h0]
    · rw [if_pos (by rw [iw_0lt (by omega) (by omega)]; omega), if_neg h0]
      have e1 : iw fld - 1 = Int32.ofNat (fld - 1).toNat := by
        rw [← iw_1, iw_sub, ← iw_nat]
        congr 1
        omega
      have e2 : iw (p : Int) - 1 = Int32.ofNat (p - 1) := by
        rw [← iw_1, iw_sub, ← iw_nat]
        congr 1
        omega
      rw [e1, e2, i64_of (by omega), nl_shl (by omega), nl_add]
  unfold F_X24_rounded_b82
  have h62 : ((62 : Int32) < iw (D : Int)) ↔ 62 < D := by
    rw [show (62 : Int32) = iw 62 from rfl, iw_lt (by omega) (by omega) (by omega) (by omega)]
    omega
  by_cases h1 : 62 < D
  · rw [if_pos (h62.mpr h1), if_pos h1]
    rfl
  · rw [if_neg (fun h => h1 (h62.mp h)), if_neg h1]
    have hx64 : x < 2 ^ 64 := by omega
    have eD : iw (D : Int) = Int32.ofNat D := iw_nat D
    have eD1 : iw (D : Int) - 1 = Int32.ofNat (D - 1) := by
      rw [← iw_1, iw_sub, ← iw_nat]
      congr 1
      omega
    have hP : 2 ^ D ≤ 2 ^ 62 := Nat.pow_le_pow_right (by decide) (by omega)
    have hP0 : 0 < 2 ^ D := Nat.two_pow_pos D
    have hP1 : 2 ^ (D - 1) ≤ 2 ^ 61 := Nat.pow_le_pow_right (by decide) (by omega)
    have m1 : j_lshl (1 : Int64) (iw (D : Int)) - 1 = nl (2 ^ D - 1) := by
      rw [eD, show (1 : Int64) = nl 1 from rfl, nl_shl (by omega), Nat.one_mul, nl_sub (by omega) (by omega)]
    have m2 : j_lshl (1 : Int64) (iw (D : Int) - 1) = nl (2 ^ (D - 1)) := by
      rw [eD1, show (1 : Int64) = nl 1 from rfl, nl_shl (by omega), Nat.one_mul]
    have hq : j_lushr (nl x) (iw (D : Int)) = nl (x / 2 ^ D) := by rw [eD, nl_ushr hx64 (by omega)]
    have hdv : x / 2 ^ D ≤ x := Nat.div_le_self _ _
    have hmd : x % 2 ^ D < 2 ^ D := Nat.mod_lt _ hP0
    simp only [m1, m2, hq, nl_mask hx64 (by omega : D ≤ 64)]
    have l1 : nl (2 ^ (D - 1)) < nl (x % 2 ^ D) ↔ 2 ^ (D - 1) < x % 2 ^ D := nl_lt (by omega) (by omega)
    have l2 : nl (x % 2 ^ D) = nl (2 ^ (D - 1)) ↔ x % 2 ^ D = 2 ^ (D - 1) := nl_eq (by omega) (by omega)
    have l3 : nl (x / 2 ^ D) &&& 1 = 1 ↔ x / 2 ^ D % 2 = 1 := by
      rw [nl_and1 (by omega), show (1 : Int64) = nl 1 from rfl, nl_eq (by omega) (by omega)]
    have l4 : nl (x / 2 ^ D) + 1 = nl (x / 2 ^ D + 1) := by rw [show (1 : Int64) = nl 1 from rfl, nl_add]
    unfold F_X24_rounded_b146
    simp only [l1, l2, l3, l4, mr_0, fin]
    by_cases c1 : 2 ^ (D - 1) < x % 2 ^ D
    · simp only [c1, if_true, true_or]
    · by_cases c2 : x % 2 ^ D = 2 ^ (D - 1)
      · cases more with
        | true => simp [c2]
        | false =>
          by_cases c3 : x / 2 ^ D % 2 = 1
          · simp [c2, c3]
          · simp [c2, c3]
      · simp [c1, c2]
theorem X24_tail {p bias x : Nat} {pw : Int} {more : Bool} {k6 : Int32 → Int32 → Int32 → Int64 → Int32 → Option Int64} (hp : 2 ≤ p ∧ p ≤ 53) (hb : bias ≤ 1023) (hx1 : 2 ^ 61 ≤ x) (hx : x < 2 ^ 62) (he : -20000 ≤ pw) (he2 : pw ≤ 20000) :
    F_X24_rounded_b6_st k6 (mr more) (iw p) (iw bias) (nl x) (iw pw) = some (nl (rnd p bias x pw more)) := by
  unfold F_X24_rounded_b6_st
  rw [if_neg (by rw [show (2305843009213693952 : Int64) = nl (2 ^ 61) from rfl, nl_lt (by omega) (by decide)]; omega)]
  have e1 : iw pw + 61 + iw bias = iw (pw + 61 + bias) := by rw [show (61 : Int32) = iw 61 from rfl, iw_add, iw_add]
  have e2 : (2 : Int32) * iw bias + 1 = iw (2 * bias + 1) := by rw [show (2 : Int32) = iw 2 from rfl, iw_mul, ← iw_1, iw_add]
  have e3 : (62 : Int32) - iw p = iw (62 - (p : Int)) := by rw [show (62 : Int32) = iw 62 from rfl, iw_sub]
  simp only [e1, e2, e3]
  unfold rnd
  by_cases hbig : (2 * (bias : Int) + 1) ≤ pw + 61 + bias
  · rw [if_neg (by rw [iw_lt (by omega) (by omega) (by omega) (by omega)]; omega), if_pos hbig]
    have e4 : iw (2 * (bias : Int) + 1) = Int32.ofNat (2 * bias + 1) := by rw [← iw_nat]; congr 1
    have e5 : iw (p : Int) - 1 = Int32.ofNat (p - 1) := by
      rw [← iw_1, iw_sub, ← iw_nat]
      congr 1
      omega
    rw [e4, e5, i64_of (by omega), nl_shl (by omega)]
  · rw [if_pos (by rw [iw_lt (by omega) (by omega) (by omega) (by omega)]; omega), if_neg hbig]
    by_cases h0 : pw + 61 + (bias : Int) ≤ 0
    · rw [if_neg (by rw [iw_0lt (by omega) (by omega)]; omega)]
      simp only [h0, if_true]
      have e6 : iw (62 - (p : Int)) + 1 - iw (pw + 61 + bias) = iw (((63 - (p : Int) - (pw + 61 + bias)).toNat : Nat) : Int) := by
        rw [← iw_1, iw_add, iw_sub]
        congr 1
        omega
      rw [e6, X24_b82 hp hx (by omega) (by omega) (by omega) (by omega) (Or.inl h0)]
      simp only [h0, if_true]
    · rw [if_pos (by rw [iw_0lt (by omega) (by omega)]; omega)]
      simp only [h0, if_false]
      have e6 : iw (62 - (p : Int)) = iw ((62 - p : Nat) : Int) := by congr 1; omega
      rw [e6, X24_b82 hp hx (by omega) (by omega) (by omega) (by omega) (Or.inr (by omega))]
      simp only [h0, if_false]
      rw [show (pw + 61 + (bias : Int) - 1).toNat = (pw + 60 + (bias : Int)).toNat by omega]
theorem X24_loop {p bias : Nat} {more : Bool} (hp : 2 ≤ p ∧ p ≤ 53) (hb : bias ≤ 1023) : ∀ (k n x : Nat) (pw : Int), k + 1 ≤ n → 2 ^ 61 ≤ x * 2 ^ k → x * 2 ^ k < 2 ^ 62 → k ≤ 62 → -19000 ≤ pw - k → pw ≤ 20000 →
    F_X24_rounded_b6 n (mr more) (iw p) (iw bias) (nl x) (iw pw) = some (nl (rnd p bias (x * 2 ^ k) (pw - k) more)) := by
  intro k
  induction k with
  | zero =>
    intro n x pw hn h1 h2 _ h4 h5
    obtain ⟨n', rfl⟩ : ∃ n', n = n' + 1 := ⟨n - 1, by omega⟩
    rw [Nat.pow_zero, Nat.mul_one] at h1 h2 ⊢
    show F_X24_rounded_b6_st (F_X24_rounded_b6 n') _ _ _ _ _ = _
    rw [X24_tail hp hb h1 h2 (by omega) h5]
    congr 3
    omega
  | succ k ih =>
    intro n x pw hn h1 h2 h3 h4 h5
    obtain ⟨n', rfl⟩ : ∃ n', n = n' + 1 := ⟨n - 1, by omega⟩
    have e : x * 2 ^ (k + 1) = x * 2 * 2 ^ k := by rw [Nat.pow_succ]; ac_rfl
    have hx : x < 2 ^ 61 := by
      have : 2 ^ 0 ≤ 2 ^ k := Nat.pow_le_pow_right (by decide) (Nat.zero_le k)
      have h6 := Nat.mul_le_mul_left (x * 2) this
      omega
    show F_X24_rounded_b6_st (F_X24_rounded_b6 n') _ _ _ _ _ = _
    unfold F_X24_rounded_b6_st
    rw [if_pos (by rw [show (2305843009213693952 : Int64) = nl (2 ^ 61) from rfl, nl_lt (by omega) (by decide)]; exact hx)]
    have e1 : j_lshl (nl x) 1 = nl (x * 2) := nl_shl (k := 1) (by decide)
    have e2 : iw pw + -1 = iw (pw - 1) := by rw [show (-1 : Int32) = iw (-1) from rfl, iw_add]; rfl
    simp only [e1, e2]
    rw [ih n' (x * 2) (pw - 1) (by omega) (by rw [← e]; exact h1) (by rw [← e]; exact h2) (by omega) (by omega) (by omega), e]
    congr 3
    omega
/-- rounding as Soft does it -/
def rndm (p bias m : Nat) (e : Int) (more : Bool) : Nat := rnd p bias (m * 2 ^ (61 - m.log2)) (e - (61 - m.log2 : Nat)) more
theorem log62 {m : Nat} (h0 : 0 < m) (h : m < 2 ^ 62) : m.log2 ≤ 61 ∧ 2 ^ 61 ≤ m * 2 ^ (61 - m.log2) ∧ m * 2 ^ (61 - m.log2) < 2 ^ 62 := by
  have k1 : 2 ^ m.log2 ≤ m := Nat.log2_self_le (by omega)
  have k2 : m < 2 ^ (m.log2 + 1) := Nat.lt_log2_self
  have h1 : m.log2 ≤ 61 := by
    have : 2 ^ m.log2 < 2 ^ 62 := by omega
    have := (Nat.pow_lt_pow_iff_right (by decide : 1 < 2)).mp this
    omega
  refine ⟨h1, ?_, ?_⟩
  · have := Nat.mul_le_mul_right (2 ^ (61 - m.log2)) k1
    rw [← Nat.pow_add, show m.log2 + (61 - m.log2) = 61 by omega] at this
    exact this
  · have := Nat.mul_lt_mul_of_pos_right k2 (Nat.two_pow_pos (61 - m.log2))
    rw [← Nat.pow_add, show m.log2 + 1 + (61 - m.log2) = 62 by omega] at this
    exact this
theorem X24_rounded {p bias m : Nat} {e : Int} {more : Bool} (hp : 2 ≤ p ∧ p ≤ 53) (hb : bias ≤ 1023) (h0 : 0 < m) (h : m < 2 ^ 62) (he : -18000 ≤ e) (he2 : e ≤ 20000) : F_X24_rounded (nl m) (iw e) (mr more) (iw p) (iw bias) = some (nl (rndm p bias m e more)) := by
  obtain ⟨l1, l2, l3⟩ := log62 h0 h
  unfold F_X24_rounded
  exact X24_loop hp hb (61 - m.log2) xN m e (by unfold xN; omega) l2 l3 (by omega) (by omega) he2
/-- it is rounding: m, or a little more than m, times a power of 2 -/
theorem rndm_ok {f : FP.Core.Fmt} (hE : f.exps = 2 * f.emax + 2) (hem : 1 ≤ f.emax) (hp : 2 ≤ f.p) (hp2 : f.p ≤ 53) {m : Nat} {e : Int} {more : Bool} (h0 : 0 < m) (h : m < 2 ^ 62) (hm : more = true → 2 ^ (f.p + 1) ≤ m) :
    rndm f.p f.emax m e more = FP.Core.encode f (FP.Core.roundRatio f false (2 * m + if more = true then 1 else 0) 1 (e - 1)) := by
  obtain ⟨l1, l2, l3⟩ := log62 h0 h
  unfold rndm
  rw [rnd_ok (k := 61 - m.log2) hE hem hp hp2 l2 l3 ⟨m, by rw [Nat.mul_comm]⟩ ?_]
  · congr 1
    refine rr_congr (by decide) (by decide) ?_
    rw [show (e - ((61 - m.log2 : Nat) : Int) - 1 - (e - 1)).toNat = 0 by omega, show (e - 1 - (e - ((61 - m.log2 : Nat) : Int) - 1)).toNat = 61 - m.log2 by omega]
    cases more with
    | true =>
      simp only [if_true, Nat.mul_one, Nat.pow_zero]
      rw [Nat.add_mul, Nat.one_mul, Nat.mul_assoc]
    | false =>
      simp only [Bool.false_eq_true, if_false, Nat.mul_one, Nat.pow_zero, Nat.add_zero]
      rw [Nat.mul_assoc]
  · intro hmo
    have h1 := hm hmo
    have k2 : m < 2 ^ (m.log2 + 1) := Nat.lt_log2_self
    have : 2 ^ (f.p + 1) < 2 ^ (m.log2 + 1) := by omega
    have := (Nat.pow_lt_pow_iff_right (by decide : 1 < 2)).mp this
    omega
