/-! ===== FLOATS, 2: rounding as Soft does it is rounding ===== -/
section RND2
variable {f : FP.Core.Fmt}
/-- nearest, of a number with a little more -/
theorem near_x {x k D : Nat} {more : Bool} (hk : 2 ^ k ∣ x) (hD : 1 ≤ D) (hkm : more = true → k + 2 ≤ D) :
    FP.Core.nearest (2 * x + if more = true then 2 ^ k else 0) (2 ^ (D + 1)) = if 2 ^ (D - 1) < x % 2 ^ D ∨ (x % 2 ^ D = 2 ^ (D - 1) ∧ (more = true ∨ x / 2 ^ D % 2 = 1)) then x / 2 ^ D + 1 else x / 2 ^ D := by
  obtain ⟨D', rfl⟩ : ∃ D', D = D' + 1 := ⟨D - 1, by omega⟩
  rw [Nat.add_sub_cancel]
  have e1 : 2 ^ (D' + 1) = 2 * 2 ^ D' := by rw [Nat.pow_succ]; omega
  have e2 : 2 ^ (D' + 1 + 1) = 4 * 2 ^ D' := by rw [Nat.pow_succ, Nat.pow_succ]; omega
  have hdm := Nat.div_add_mod x (2 ^ (D' + 1))
  have hr := Nat.mod_lt x (Nat.two_pow_pos (D' + 1))
  have hH : 0 < 2 ^ D' := Nat.two_pow_pos _
  have hw : more = true → x % 2 ^ (D' + 1) + 2 ^ k ≤ 2 ^ (D' + 1) ∧ (x % 2 ^ (D' + 1) < 2 ^ D' → x % 2 ^ (D' + 1) + 2 ^ k ≤ 2 ^ D') := by
    intro hmo
    have hkD := hkm hmo
    have d1 : 2 ^ k ∣ 2 ^ (D' + 1) := Nat.pow_dvd_pow 2 (by omega)
    have d2 : 2 ^ k ∣ 2 ^ D' := Nat.pow_dvd_pow 2 (by omega)
    have d3 : 2 ^ k ∣ x % 2 ^ (D' + 1) := (Nat.dvd_mod_iff d1).mpr hk
    obtain ⟨u, hu⟩ := d1
    obtain ⟨v, hv⟩ := d2
    obtain ⟨y, hy⟩ := d3
    have hp : 0 < 2 ^ k := Nat.two_pow_pos k
    constructor
    · have h5 : 2 ^ k * y < 2 ^ k * u := by rw [← hy, ← hu]; exact hr
      have h6 : y < u := Nat.lt_of_mul_lt_mul_left h5
      have h7 := Nat.mul_le_mul_left (2 ^ k) (show y + 1 ≤ u from h6)
      rw [Nat.mul_add, Nat.mul_one, ← hy, ← hu] at h7
      exact h7
    · intro hlt
      have h5 : 2 ^ k * y < 2 ^ k * v := by rw [← hy, ← hv]; exact hlt
      have h6 : y < v := Nat.lt_of_mul_lt_mul_left h5
      have h7 := Nat.mul_le_mul_left (2 ^ k) (show y + 1 ≤ v from h6)
      rw [Nat.mul_add, Nat.mul_one, ← hy, ← hv] at h7
      exact h7
  have hkp : 0 < 2 ^ k := Nat.two_pow_pos k
  rw [e2]
  rw [e1] at hdm hr hw ⊢
  generalize x / (2 * 2 ^ D') = Q at *
  generalize x % (2 * 2 ^ D') = r at *
  generalize 2 ^ D' = H at *
  generalize 2 ^ k = w at *
  subst hdm
  have eQ : Q * (4 * H) = 2 * (2 * H * Q) := by
    rw [show (4 : Nat) * H = 2 * (2 * H) by omega]
    ac_rfl
  have eQ1 : (Q + 1) * (4 * H) = 2 * (2 * H * Q) + 4 * H := by rw [Nat.add_mul, Nat.one_mul, eQ]
  have eQ2 : (2 * Q + 1) * (4 * H) = 4 * (2 * H * Q) + 4 * H := by
    rw [Nat.add_mul, Nat.one_mul, Nat.mul_assoc, eQ]
    omega
  cases more with
  | true =>
    obtain ⟨w1, w2⟩ := hw rfl
    simp only [if_true, true_or, and_true]
    obtain ⟨a1, a2, a3⟩ := near_char (A := 2 * (2 * H * Q + r) + w) (B := 4 * H) (Q := Q) (by rw [eQ]; omega) (by rw [eQ1]; omega)
    rw [eQ2] at a1 a2 a3
    by_cases hc : H < r ∨ r = H
    · rw [if_pos hc, a2 (by omega)]
    · rw [if_neg hc, a1 (by have := w2 (by omega); omega)]
  | false =>
    simp only [Bool.false_eq_true, if_false, Nat.add_zero, false_or]
    obtain ⟨a1, a2, a3⟩ := near_char (A := 2 * (2 * H * Q + r)) (B := 4 * H) (Q := Q) (by rw [eQ]; omega) (by rw [eQ1]; omega)
    rw [eQ2] at a1 a2 a3
    by_cases h1 : H < r
    · rw [if_pos (Or.inl h1), a2 (by omega)]
    · by_cases h2 : r = H
      · rw [a3 (by omega)]
        by_cases h3 : Q % 2 = 1
        · rw [if_pos (Or.inr ⟨h2, h3⟩), h3]
        · rw [if_neg (by omega)]
          omega
      · rw [if_neg (by omega), a1 (by omega)]
theorem rnd_ok (hE : f.exps = 2 * f.emax + 2) (hem : 1 ≤ f.emax) (hp : 2 ≤ f.p) (hp2 : f.p ≤ 53) {x k : Nat} {pw : Int} {more : Bool} (hx1 : 2 ^ 61 ≤ x) (hx2 : x < 2 ^ 62) (hk : 2 ^ k ∣ x) (hkm : more = true → k + f.p + 2 ≤ 62) :
    rnd f.p f.emax x pw more = FP.Core.encode f (FP.Core.roundRatio f false (2 * x + if more = true then 2 ^ k else 0) 1 (pw - 1)) := by
  have hN : 2 ^ 62 ≤ (2 * x + if more = true then 2 ^ k else 0) ∧ (2 * x + if more = true then 2 ^ k else 0) < 2 ^ 63 := by
    refine ⟨by have : (2 : Nat) ^ 62 = 2 * 2 ^ 61 := by decide
               omega, ?_⟩
    cases more with
    | false =>
      simp only [Bool.false_eq_true, if_false]
      omega
    | true =>
      simp only [if_true]
      have h62 := hkm rfl
      obtain ⟨u, hu⟩ := (Nat.pow_dvd_pow 2 (by omega : k ≤ 62) : 2 ^ k ∣ 2 ^ 62)
      obtain ⟨y, hy⟩ := hk
      have hkp : 0 < 2 ^ k := Nat.two_pow_pos k
      have : y < u := by
        refine Nat.lt_of_mul_lt_mul_left (a := 2 ^ k) ?_
        rw [← hy, ← hu]
        exact hx2
      have := Nat.mul_le_mul_left (2 ^ k) (show y + 1 ≤ u from this)
      rw [Nat.mul_add, Nat.mul_one, ← hy, ← hu] at this
      have : (2 : Nat) ^ 63 = 2 * 2 ^ 62 := by decide
      omega
  have hlead : FP.Core.leading (2 * x + if more = true then 2 ^ k else 0) 1 = 62 := lead_of (k := 62) (by decide) (by omega) (by omega)
  have hq : FP.Core.quantum f (2 * x + if more = true then 2 ^ k else 0) 1 (pw - 1) = max (2 - (f.emax : Int) - f.p) (pw + 62 - f.p) := by
    unfold FP.Core.quantum FP.Core.Fmt.qmin
    rw [hlead]
    omega
  have hnear : ∀ D : Nat, 62 - f.p ≤ D → FP.Core.nearest (2 * x + if more = true then 2 ^ k else 0) (2 ^ (D + 1)) = if 2 ^ (D - 1) < x % 2 ^ D ∨ (x % 2 ^ D = 2 ^ (D - 1) ∧ (more = true ∨ x / 2 ^ D % 2 = 1)) then x / 2 ^ D + 1 else x / 2 ^ D := fun D hD => near_x hk (by omega) (fun h => by have := hkm h; omega)
  have ht : f.tails = 2 ^ (f.p - 1) := rfl
  have h2p : 2 ^ f.p = 2 * 2 ^ (f.p - 1) := by
    obtain ⟨p', hp'⟩ : ∃ p', f.p = p' + 1 := ⟨f.p - 1, by omega⟩
    rw [hp', Nat.add_sub_cancel, Nat.pow_succ]
    omega
  unfold FP.Core.roundRatio
  rw [if_neg (by have : (0 : Nat) < 2 ^ 62 := by decide
                 omega), hq]
  unfold FP.Core.roundAt FP.Core.unitsNum FP.Core.unitsDen
  unfold rnd
  have asm : ∀ e t : Nat, FP.Core.assemble f false e t = e * f.tails + t := fun e t => by
    unfold FP.Core.assemble
    simp
  by_cases hf0 : pw + 61 + (f.emax : Int) ≤ 0
  · -- a subnormal number
    rw [if_neg (by omega)]
    have hmax : max (2 - (f.emax : Int) - f.p) (pw + 62 - f.p) = 2 - (f.emax : Int) - f.p := by omega
    rw [hmax]
    obtain ⟨D, hD⟩ : ∃ D : Nat, (D : Int) = 63 - f.p - (pw + 61 + f.emax) := ⟨(63 - (f.p : Int) - (pw + 61 + f.emax)).toNat, by omega⟩
    have e1 : (pw - 1 - (2 - (f.emax : Int) - f.p)).toNat = 0 := by omega
    have e2 : (2 - (f.emax : Int) - f.p - (pw - 1)).toNat = D + 1 := by omega
    have e3 : (63 - (f.p : Int) - (pw + 61 + f.emax)).toNat = D := by omega
    simp only [hf0, if_true]
    rw [e1, e2, e3, Nat.pow_zero, Nat.mul_one, Nat.one_mul]
    have hqm : f.qmin = 2 - (f.emax : Int) - f.p := rfl
    have fin : ∀ c : Nat, c ≤ 2 ^ (f.p - 1) → FP.Core.encode f (FP.Core.settle f false c (2 - (f.emax : Int) - f.p)) = c := by
      intro c hc
      have hpp : 0 < 2 ^ (f.p - 1) := Nat.two_pow_pos _
      unfold FP.Core.settle FP.Core.bound
      rw [if_pos (by omega)]
      have hqx : 2 - (f.emax : Int) - f.p ≤ f.qmax := by
        unfold FP.Core.Fmt.qmax
        omega
      rw [if_pos hqx]
      unfold FP.Core.encode
      by_cases hct : c < f.tails
      · simp only [hct, if_true]
        rw [asm]; omega
      · simp only [hct, if_false]
        rw [asm, hqm, Int.sub_self]
        rw [ht] at hct ⊢
        simp
        omega
    by_cases h62 : 62 < D
    · rw [if_pos h62]
      obtain ⟨a1, -, -⟩ := near_char (A := 2 * x + if more = true then 2 ^ k else 0) (B := 2 ^ (D + 1)) (Q := 0) (by omega) (by
        have : 2 ^ 64 ≤ 2 ^ (D + 1) := Nat.pow_le_pow_right (by decide) (by omega)
        omega)
      rw [a1 (by
        have : 2 ^ 64 ≤ 2 ^ (D + 1) := Nat.pow_le_pow_right (by decide) (by omega)
        omega), fin 0 (Nat.zero_le _)]
    · rw [if_neg h62, hnear D (by omega)]
      symm
      apply fin
      have hxd : x / 2 ^ D ≤ 2 ^ (62 - D) - 1 := by
        have : x / 2 ^ D < 2 ^ (62 - D) := by
          rw [Nat.div_lt_iff_lt_mul (Nat.two_pow_pos D), ← Nat.pow_add]
          rw [show 62 - D + D = 62 by omega]
          exact hx2
        omega
      have hpw : 2 ^ (62 - D) ≤ 2 ^ (f.p - 1) := Nat.pow_le_pow_right (by decide) (by omega)
      have : 0 < 2 ^ (62 - D) := Nat.two_pow_pos _
      split <;> omega
  · -- a normal number, or too great
    simp only [hf0, if_false]
    have hmax : max (2 - (f.emax : Int) - f.p) (pw + 62 - f.p) = pw + 62 - f.p := by omega
    rw [hmax]
    have e1 : (pw - 1 - (pw + 62 - (f.p : Int))).toNat = 0 := by omega
    have e2 : (pw + 62 - (f.p : Int) - (pw - 1)).toNat = 62 - f.p + 1 := by omega
    rw [e1, e2, Nat.pow_zero, Nat.mul_one, Nat.one_mul, hnear (62 - f.p) (Nat.le_refl _)]
    have b1 : 2 ^ (f.p - 1) ≤ x / 2 ^ (62 - f.p) := by
      rw [Nat.le_div_iff_mul_le (Nat.two_pow_pos _), ← Nat.pow_add, show f.p - 1 + (62 - f.p) = 61 by omega]
      exact hx1
    have b2 : x / 2 ^ (62 - f.p) < 2 ^ f.p := by
      rw [Nat.div_lt_iff_lt_mul (Nat.two_pow_pos _), ← Nat.pow_add, show f.p + (62 - f.p) = 62 by omega]
      exact hx2
    obtain ⟨c, hc1, hc2, hc3⟩ : ∃ c : Nat, (if 2 ^ (62 - f.p - 1) < x % 2 ^ (62 - f.p) ∨ (x % 2 ^ (62 - f.p) = 2 ^ (62 - f.p - 1) ∧ (more = true ∨ x / 2 ^ (62 - f.p) % 2 = 1)) then x / 2 ^ (62 - f.p) + 1 else x / 2 ^ (62 - f.p)) = c ∧ 2 ^ (f.p - 1) ≤ c ∧ c ≤ 2 ^ f.p := by
      refine ⟨_, rfl, ?_, ?_⟩ <;> split <;> omega
    rw [hc1]
    have hqmin : f.qmin = 2 - (f.emax : Int) - f.p := rfl
    have hqmax : f.qmax = (f.emax : Int) - f.p + 1 := rfl
    have encI : FP.Core.encode f (.inf false) = (2 * f.emax + 1) * 2 ^ (f.p - 1) := by
      unfold FP.Core.encode
      simp only []
      rw [asm, hE, ht, Nat.add_zero]
      rfl
    by_cases hbig : (2 * (f.emax : Int) + 1) ≤ pw + 61 + f.emax
    · rw [if_pos hbig]
      unfold FP.Core.settle FP.Core.bound
      split
      · rw [if_neg (by rw [hqmax]; omega), encI]
      · rw [if_neg (by rw [hqmax]; omega), encI]
    · rw [if_neg hbig, if_neg (by omega)]
      unfold FP.Core.settle FP.Core.bound
      have hfe : ∀ c' : Nat, 2 ^ (f.p - 1) ≤ c' → ∀ q : Int, f.qmin ≤ q → FP.Core.encode f (.fin false c' q) = (q - f.qmin).toNat * 2 ^ (f.p - 1) + c' := by
        intro c' hc' q hq'
        unfold FP.Core.encode
        rw [ht]
        simp only [Nat.not_lt.mpr hc', if_false]
        rw [asm, ht, Nat.add_mul, Nat.one_mul]
        omega
      by_cases hcp : c < 2 ^ f.p
      · rw [if_pos hcp, if_pos (by rw [hqmax]; omega), hfe c hc2 _ (by rw [hqmin]; omega), hqmin]
        rw [show (pw + 62 - (f.p : Int) - (2 - (f.emax : Int) - f.p)).toNat = (pw + 60 + (f.emax : Int)).toNat by omega]
      · rw [if_neg hcp]
        have hceq : c = 2 ^ f.p := by omega
        by_cases hlast : pw + 62 - (f.p : Int) + 1 ≤ f.qmax
        · rw [if_pos hlast, ht, hfe _ (Nat.le_refl _) _ (by rw [hqmin]; omega), hqmin]
          rw [show (pw + 62 - (f.p : Int) + 1 - (2 - (f.emax : Int) - f.p)).toNat = (pw + 60 + (f.emax : Int)).toNat + 1 by omega, Nat.add_mul, Nat.one_mul, hceq, h2p]
          omega
        · rw [if_neg hlast, encI, hceq, h2p]
          rw [hqmax] at hlast
          rw [show (pw + 60 + (f.emax : Int)).toNat = 2 * f.emax - 1 by omega]
          obtain ⟨b, hb⟩ : ∃ b, 2 * f.emax = b + 1 := ⟨2 * f.emax - 1, by omega⟩
          rw [hb, Nat.add_sub_cancel, Nat.add_mul, Nat.add_mul, Nat.one_mul]
          omega
end RND2
