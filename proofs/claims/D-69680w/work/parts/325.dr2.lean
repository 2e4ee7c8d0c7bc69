/-! ===== FLOATS, 17: float operations through doubles ===== -/
theorem sum_roundf (f : FP.Core.Fmt) {s t : Bool} {c d : Nat} {q r : Int} (ν : Int) (h1 : ν ≤ q) (h2 : ν ≤ r) : FP.Core.round f (FP.Core.exactSum (.fin s c q) (.fin t d r)) =
    FP.Core.roundRatio f (FP.Core.sumSign s t (FP.Core.signed s (c * 2 ^ (q - ν).toNat) + FP.Core.signed t (d * 2 ^ (r - ν).toNat))) (FP.Core.signed s (c * 2 ^ (q - ν).toNat) + FP.Core.signed t (d * 2 ^ (r - ν).toNat)).natAbs 1 ν := by
  generalize hμ : min q r = μ
  have hk : ν ≤ μ := by omega
  obtain ⟨j, hj⟩ : ∃ j : Nat, (μ - ν).toNat = j := ⟨_, rfl⟩
  have e1 : (q - ν).toNat = (q - μ).toNat + j := by omega
  have e2 : (r - ν).toNat = (r - μ).toNat + j := by omega
  rw [e1, e2, Nat.pow_add, Nat.pow_add, ← Nat.mul_assoc, ← Nat.mul_assoc, signed_mul s (c * 2 ^ (q - μ).toNat) (2 ^ j), signed_mul t (d * 2 ^ (r - μ).toNat) (2 ^ j), ← Int.add_mul]
  show FP.Core.roundRatio f (FP.Core.sumSign s t (FP.Core.sumUnits s c q t d r (min q r))) (FP.Core.sumUnits s c q t d r (min q r)).natAbs 1 (min q r) = _
  rw [hμ]
  show FP.Core.roundRatio f (FP.Core.sumSign s t (FP.Core.signed s (c * 2 ^ (q - μ).toNat) + FP.Core.signed t (d * 2 ^ (r - μ).toNat))) (FP.Core.signed s (c * 2 ^ (q - μ).toNat) + FP.Core.signed t (d * 2 ^ (r - μ).toNat)).natAbs 1 μ = _
  generalize FP.Core.signed s (c * 2 ^ (q - μ).toNat) + FP.Core.signed t (d * 2 ^ (r - μ).toNat) = v
  have hp : (0 : Int) < ((2 ^ j : Nat) : Int) := by
    have := Nat.two_pow_pos j
    omega
  have hs : FP.Core.sumSign s t (v * ((2 ^ j : Nat) : Int)) = FP.Core.sumSign s t v := by
    unfold FP.Core.sumSign
    have z1 : v * ((2 ^ j : Nat) : Int) = 0 ↔ v = 0 := by
      rw [Int.mul_eq_zero]
      omega
    have z2 : v * ((2 ^ j : Nat) : Int) < 0 ↔ v < 0 := by
      constructor
      · intro h
        rcases Int.lt_or_le v 0 with h3 | h3
        · exact h3
        · have := Int.mul_nonneg h3 (Int.le_of_lt hp)
          omega
      · intro h
        exact Int.mul_neg_of_neg_of_pos h hp
    simp only [z1, z2]
  rw [hs, Int.natAbs_mul]
  refine rr_congr (by decide) (by decide) ?_
  rw [hj, show (ν - μ).toNat = 0 by omega, Nat.pow_zero, Nat.mul_one, Nat.mul_one, Nat.mul_one]
  rfl
theorem sum_commf (f : FP.Core.Fmt) (s t : Bool) (c d : Nat) (q r : Int) : FP.Core.round f (FP.Core.exactSum (.fin s c q) (.fin t d r)) = FP.Core.round f (FP.Core.exactSum (.fin t d r) (.fin s c q)) := by
  rw [sum_roundf f (min q r) (by omega) (by omega), sum_roundf f (min q r) (by omega) (by omega), Int.add_comm]
  congr 1
  unfold FP.Core.sumSign
  rw [Bool.and_comm]
theorem dr_sum1 {s t : Bool} {c d : Nat} {q r : Int} (hc : c < 2 ^ 24) (hd : d < 2 ^ 24) (hq : q ≤ 104) (hr : -149 ≤ r) (kc : q = -149 ∨ 2 ^ 23 ≤ c) (hrq : r ≤ q) :
    FP.Core.round FP.Core.b32 (FP.Core.round FP.Core.b64 (FP.Core.exactSum (.fin s c q) (.fin t d r))) = FP.Core.round FP.Core.b32 (FP.Core.exactSum (.fin s c q) (.fin t d r)) := by
  rw [sum_roundf FP.Core.b64 r hrq (Int.le_refl _), sum_roundf FP.Core.b32 r hrq (Int.le_refl _), Int.sub_self, show (0 : Int).toNat = 0 from rfl, Nat.pow_zero, Nat.mul_one]
  obtain ⟨w, hw⟩ : ∃ w : Nat, q - r = (w : Int) := ⟨(q - r).toNat, by omega⟩
  rw [hw, show ((w : Int)).toNat = w by omega]
  by_cases hn : w ≤ 28
  · refine dr_exact ?_ (by omega) (by omega)
    have hp : 2 ^ w ≤ 2 ^ 28 := Nat.pow_le_pow_right (by decide) hn
    have hm := Nat.mul_le_mul (show c ≤ 2 ^ 24 - 1 by omega) hp
    generalize c * 2 ^ w = P at *
    unfold FP.Core.signed
    cases s <;> cases t <;> simp only [if_true, if_false, Bool.false_eq_true] <;> omega
  · have hc1 : 2 ^ 23 ≤ c := by omega
    have hp : 2 ^ 29 ≤ 2 ^ w := Nat.pow_le_pow_right (by decide) (by omega)
    have hP : 2 ^ 23 * 2 ^ w ≤ c * 2 ^ w := Nat.mul_le_mul_right _ hc1
    have n1 : (8 * c - 1) * 2 ^ w = 8 * (c * 2 ^ w) - 2 ^ w := by rw [Nat.sub_mul, Nat.one_mul, Nat.mul_assoc]
    have n2 : (8 * c + 1) * 2 ^ w = 8 * (c * 2 ^ w) + 2 ^ w := by rw [Nat.add_mul, Nat.one_mul, Nat.mul_assoc]
    have key : ∃ Z : Nat, FP.Core.sumSign s t (FP.Core.signed s (c * 2 ^ w) + FP.Core.signed t d) = s ∧ (FP.Core.signed s (c * 2 ^ w) + FP.Core.signed t d).natAbs = Z ∧ (8 * c - 1) * 2 ^ w ≤ 8 * Z ∧ 8 * Z ≤ (8 * c + 1) * 2 ^ w := by
      rw [n1, n2]
      generalize c * 2 ^ w = P at *
      generalize 2 ^ w = W at *
      refine ⟨_, ?_, rfl, ?_, ?_⟩
      · unfold FP.Core.sumSign FP.Core.signed
        cases s <;> cases t <;> simp only [if_true, if_false, Bool.false_eq_true]
        · rw [if_neg (by omega)]; exact decide_eq_false (by omega)
        · rw [if_neg (by omega)]; exact decide_eq_false (by omega)
        · rw [if_neg (by omega)]; exact decide_eq_true (by omega)
        · rw [if_neg (by omega)]; exact decide_eq_true (by omega)
      · unfold FP.Core.signed
        cases s <;> cases t <;> simp only [if_true, if_false, Bool.false_eq_true] <;> omega
      · unfold FP.Core.signed
        cases s <;> cases t <;> simp only [if_true, if_false, Bool.false_eq_true] <;> omega
    obtain ⟨Z, z1, z2, z3, z4⟩ := key
    rw [z1, z2]
    obtain ⟨C, k', Q, y1, y2, y3, y4, y5⟩ := rr64_near (s := s) (g := r) hc1 hc (by omega) z3 z4 (by omega) (by omega)
    rw [y1, rr_near hc1 hc (by omega) z3 z4 (by omega) (by omega)]
    show FP.Core.roundRatio FP.Core.b32 s C 1 Q = _
    rw [rr_near hc1 hc y3 y4 y5 (by omega) (by omega), y2]
theorem dr_sum {s t : Bool} {c d : Nat} {q r : Int} (hc : c < 2 ^ 24) (hd : d < 2 ^ 24) (hq : q ≤ 104) (hq1 : -149 ≤ q) (hr : -149 ≤ r) (hr1 : r ≤ 104) (kc : q = -149 ∨ 2 ^ 23 ≤ c) (kd : r = -149 ∨ 2 ^ 23 ≤ d) :
    FP.Core.round FP.Core.b32 (FP.Core.round FP.Core.b64 (FP.Core.exactSum (.fin s c q) (.fin t d r))) = FP.Core.round FP.Core.b32 (FP.Core.exactSum (.fin s c q) (.fin t d r)) := by
  by_cases h : r ≤ q
  · exact dr_sum1 hc hd hq hr kc h
  · rw [sum_commf FP.Core.b64, sum_commf FP.Core.b32]
    exact dr_sum1 hd hc hr1 hq1 kd (by omega)
/-- other writings of the same numbers -/
theorem sum_w (f : FP.Core.Fmt) {s t : Bool} {c d j i : Nat} {q r : Int} : FP.Core.round f (FP.Core.exactSum (.fin s (c * 2 ^ j) (q - j)) (.fin t (d * 2 ^ i) (r - i))) = FP.Core.round f (FP.Core.exactSum (.fin s c q) (.fin t d r)) := by
  rw [sum_roundf f (min (q - j) (r - i)) (by omega) (by omega), sum_roundf f (min (q - j) (r - i)) (by omega) (by omega)]
  have e1 : c * 2 ^ j * 2 ^ (q - (j : Int) - min (q - (j : Int)) (r - (i : Int))).toNat = c * 2 ^ (q - min (q - (j : Int)) (r - (i : Int))).toNat := by
    rw [Nat.mul_assoc, ← Nat.pow_add]
    congr 2
    omega
  have e2 : d * 2 ^ i * 2 ^ (r - (i : Int) - min (q - (j : Int)) (r - (i : Int))).toNat = d * 2 ^ (r - min (q - (j : Int)) (r - (i : Int))).toNat := by
    rw [Nat.mul_assoc, ← Nat.pow_add]
    congr 2
    omega
  rw [e1, e2]
theorem prod_w (f : FP.Core.Fmt) {s t : Bool} {c d j i : Nat} {q r : Int} : FP.Core.round f (FP.Core.exactProduct (.fin s (c * 2 ^ j) (q - j)) (.fin t (d * 2 ^ i) (r - i))) = FP.Core.round f (FP.Core.exactProduct (.fin s c q) (.fin t d r)) := by
  show FP.Core.roundRatio f (s != t) (c * 2 ^ j * (d * 2 ^ i)) 1 (q - j + (r - i)) = FP.Core.roundRatio f (s != t) (c * d) 1 (q + r)
  refine rr_congr (by decide) (by decide) ?_
  rw [show (q - (j : Int) + (r - (i : Int)) - (q + r)).toNat = 0 by omega, show (q + r - (q - (j : Int) + (r - (i : Int)))).toNat = j + i by omega, Nat.pow_zero, Nat.mul_one, Nat.mul_one, Nat.mul_one, Nat.pow_add]
  ac_rfl
theorem quot_w (f : FP.Core.Fmt) {s t : Bool} {c d j i : Nat} {q r : Int} : FP.Core.quotient f (.fin s (c * 2 ^ j) (q - j)) (.fin t (d * 2 ^ i) (r - i)) = FP.Core.quotient f (.fin s c q) (.fin t d r) := by
  have p1 := Nat.two_pow_pos j
  have p2 := Nat.two_pow_pos i
  have z1 : ∀ x k : Nat, 0 < k → (x * k = 0 ↔ x = 0) := fun x k hk => by
    rw [Nat.mul_eq_zero]; omega
  show (if d * 2 ^ i = 0 then (if c * 2 ^ j = 0 then FP.Core.Datum.nan else .inf (s != t)) else FP.Core.roundRatio f (s != t) (c * 2 ^ j) (d * 2 ^ i) (q - j - (r - i))) = (if d = 0 then (if c = 0 then FP.Core.Datum.nan else .inf (s != t)) else FP.Core.roundRatio f (s != t) c d (q - r))
  simp only [z1 _ _ p1, z1 _ _ p2]
  by_cases hd : d = 0
  · rw [if_pos hd, if_pos hd]
  · rw [if_neg hd, if_neg hd]
    refine rr_congr (Nat.mul_pos (by omega) p2) (by omega) ?_
    have hx : 2 ^ j * 2 ^ (q - (j : Int) - (r - (i : Int)) - (q - r)).toNat = 2 ^ i * 2 ^ (q - r - (q - (j : Int) - (r - (i : Int)))).toNat := by
      rw [← Nat.pow_add, ← Nat.pow_add]
      congr 1
      omega
    generalize (q - (j : Int) - (r - (i : Int)) - (q - r)).toNat = x at *
    generalize (q - r - (q - (j : Int) - (r - (i : Int)))).toNat = y at *
    calc c * 2 ^ j * d * 2 ^ x = c * d * (2 ^ j * 2 ^ x) := by ac_rfl
      _ = c * d * (2 ^ i * 2 ^ y) := by rw [hx]
      _ = c * (d * 2 ^ i) * 2 ^ y := by ac_rfl
theorem rem_w (f : FP.Core.Fmt) {s t : Bool} {c d j i : Nat} {q r : Int} : FP.Core.round f (FP.Core.exactRemainder (.fin s (c * 2 ^ j) (q - j)) (.fin t (d * 2 ^ i) (r - i))) = FP.Core.round f (FP.Core.exactRemainder (.fin s c q) (.fin t d r)) := by
  have p2 := Nat.two_pow_pos i
  have z1 : d * 2 ^ i = 0 ↔ d = 0 := by rw [Nat.mul_eq_zero]; omega
  show FP.Core.round f (if d * 2 ^ i = 0 then FP.Core.Datum.nan else .fin s (FP.Core.inUnits (c * 2 ^ j) (q - j) (min (q - j) (r - i)) % FP.Core.inUnits (d * 2 ^ i) (r - i) (min (q - j) (r - i))) (min (q - j) (r - i))) = FP.Core.round f (if d = 0 then FP.Core.Datum.nan else .fin s (FP.Core.inUnits c q (min q r) % FP.Core.inUnits d r (min q r)) (min q r))
  simp only [z1]
  by_cases hd : d = 0
  · rw [if_pos hd, if_pos hd]
  · rw [if_neg hd, if_neg hd]
    show FP.Core.roundRatio f s _ 1 _ = FP.Core.roundRatio f s _ 1 _
    unfold FP.Core.inUnits
    obtain ⟨k, hk⟩ : ∃ k : Nat, min q r - min (q - (j : Int)) (r - (i : Int)) = (k : Int) := ⟨(min q r - min (q - (j : Int)) (r - (i : Int))).toNat, by omega⟩
    have e1 : c * 2 ^ j * 2 ^ (q - (j : Int) - min (q - (j : Int)) (r - (i : Int))).toNat = c * 2 ^ (q - min q r).toNat * 2 ^ k := by
      rw [Nat.mul_assoc, Nat.mul_assoc, ← Nat.pow_add, ← Nat.pow_add]
      congr 2
      omega
    have e2 : d * 2 ^ i * 2 ^ (r - (i : Int) - min (q - (j : Int)) (r - (i : Int))).toNat = d * 2 ^ (r - min q r).toNat * 2 ^ k := by
      rw [Nat.mul_assoc, Nat.mul_assoc, ← Nat.pow_add, ← Nat.pow_add]
      congr 2
      omega
    rw [e1, e2, Nat.mul_mod_mul_right]
    refine rr_congr (by decide) (by decide) ?_
    rw [show (min (q - (j : Int)) (r - (i : Int)) - min q r).toNat = 0 by omega, show (min q r - min (q - (j : Int)) (r - (i : Int))).toNat = k by omega, Nat.pow_zero, Nat.mul_one, Nat.mul_one, Nat.mul_one]
/-- a float's datum, widened -/
theorem wide_fin {s : Bool} {c : Nat} {q : Int} (hc : c < 2 ^ 24) (h1 : -149 ≤ q) (h2 : q ≤ 104) : ∃ j : Nat, FP.Core.round FP.Core.b64 (.fin s c q) = .fin s (c * 2 ^ j) (q - j) := by
  show ∃ j : Nat, FP.Core.roundRatio FP.Core.b64 s c 1 q = _
  rcases Nat.eq_zero_or_pos c with h0 | h0
  · subst h0
    refine ⟨(q + 1074).toNat, ?_⟩
    unfold FP.Core.roundRatio
    rw [if_pos rfl, Nat.zero_mul, show FP.Core.b64.qmin = -1074 by decide]
    congr 1
    omega
  · exact rr_exact (f := FP.Core.b64) (by decide) (by show c < 2 ^ 53; omega) h0 (by rw [show FP.Core.b64.qmin = -1074 by decide]; omega) (by rw [show FP.Core.b64.qmax = 971 by decide]; omega)
