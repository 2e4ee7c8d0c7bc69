/-! ===== VALUES, 4: floor and ceiling; exact results; bits ===== -/
theorem dv_dec {s : Bool} {c : Nat} (h : c < 2 ^ 53) : ∃ C Q, d64 (dv s c 0) = .fin s C Q ∧ C * 2 ^ (Q - 0).toNat = c * 2 ^ (0 - Q).toNat := by
  obtain ⟨C, Q, e1, e2⟩ := rr_ex (s := s) (c := c) (q := 0) (by decide) (Or.inl ⟨h, by decide⟩)
  exact ⟨C, Q, (dv_ok s c 0).2.trans e1, e2⟩
theorem c_one : FP.Core.decode FP.Core.b64 (4607182418800017408 : UInt64).toNat = .fin false (2 ^ 52) (-52) := by decide
/-- a whole number and one more, or one less -/
theorem dv_pm {s t : Bool} {W : Nat} (h : W < 2 ^ 52) (hs : W = 0 ∨ s = t) : bd (FP.Core.round FP.Core.b64 (FP.Core.exactSum (d64 (dv s W 0)) (.fin t (2 ^ 52) (-52)))) = dv t (W + 1) 0 := by
  obtain ⟨C, Q, e1, e2⟩ := dv_dec (s := s) (c := W) (by omega)
  obtain ⟨ν, n1, n2⟩ : ∃ ν : Int, ν ≤ Q ∧ ν ≤ -52 := ⟨min Q (-52), by omega, by omega⟩
  have hpx : ∀ a b : Nat, 2 ^ a * 2 ^ b = 2 ^ (a + b) := fun a b => (Nat.pow_add 2 a b).symm
  rw [e1, sum_round ν n1 n2]
  have u1 : C * 2 ^ (Q - ν).toNat = W * 2 ^ (-ν).toNat := by
    rcases Int.lt_or_le 0 Q with h | h
    · rw [show (0 - Q).toNat = 0 by omega, Nat.pow_zero, Nat.mul_one] at e2
      rw [← e2, Nat.mul_assoc, hpx]; congr 2; omega
    · rw [show (Q - 0).toNat = 0 by omega, Nat.pow_zero, Nat.mul_one] at e2
      rw [e2, Nat.mul_assoc, hpx]; congr 2; omega
  have u2 : 2 ^ 52 * 2 ^ (-52 - ν).toNat = 2 ^ (-ν).toNat := by
    rw [hpx]; congr 1; omega
  rw [u1, u2]
  have hp := Nat.two_pow_pos (-ν).toNat
  have u3 : FP.Core.signed s (W * 2 ^ (-ν).toNat) + FP.Core.signed t (2 ^ (-ν).toNat) = FP.Core.signed t ((W + 1) * 2 ^ (-ν).toNat) := by
    rw [Nat.add_mul, Nat.one_mul]
    generalize 2 ^ (-ν).toNat = X at *
    rcases hs with h0 | h0
    · rw [h0, Nat.zero_mul, Nat.zero_add]
      cases s <;> cases t <;> simp [FP.Core.signed]
    · rw [h0]
      generalize W * X = Y at *
      cases t
      · show (Y : Int) + (X : Int) = ((Y + X : Nat) : Int)
        omega
      · show -(Y : Int) + -(X : Int) = -((Y + X : Nat) : Int)
        omega
  have hne : (W + 1) * 2 ^ (-ν).toNat ≠ 0 := Nat.mul_ne_zero (by omega) (by omega)
  have u4 : FP.Core.sumSign s t (FP.Core.signed t ((W + 1) * 2 ^ (-ν).toNat)) = t := by
    unfold FP.Core.sumSign
    rw [if_neg (by have := sg_abs t ((W + 1) * 2 ^ (-ν).toNat); omega), sg_neg, decide_eq_true hne, Bool.and_true]
  rw [u3, u4, sg_abs]
  unfold dv
  refine congrArg bd (rr_congr (by decide) (by decide) ?_)
  rw [Nat.mul_one, Nat.mul_one, show (ν - 0).toNat = 0 by omega, show (0 - ν).toNat = (-ν).toNat by omega, Nat.pow_zero, Nat.mul_one]
/-- the whole part against the double -/
theorem whole_cmp {n : Nat} (hn : n < 2 ^ 64) (hE : ¬ 1075 ≤ dE n) (op : CmpOp) :
    (0 < j_dcmp (FP.l2d (FP.d2l (UInt64.ofNat n))) (UInt64.ofNat n) op ↔ dS n = true ∧ dC n % 2 ^ (-dQ n).toNat ≠ 0) ∧
    (j_dcmp (FP.l2d (FP.d2l (UInt64.ofNat n))) (UInt64.ofNat n) op < 0 ↔ dS n = false ∧ dC n % 2 ^ (-dQ n).toNat ≠ 0) ∧
    (j_dcmp (FP.l2d (FP.d2l (UInt64.ofNat n))) (UInt64.ofNat n) op = 0 ↔ dC n % 2 ^ (-dQ n).toNat = 0) := by
  obtain ⟨q1, q2⟩ := small_q hE
  have hc := dC_lt n
  have hWc := Nat.div_le_self (dC n) (2 ^ (-dQ n).toNat)
  have hdm := Nat.div_add_mod (dC n) (2 ^ (-dQ n).toNat)
  have hdec := dec_fin hn (show dE n ≠ 2047 by omega)
  have e0 : (UInt64.ofNat n).toNat = n := UInt64.toNat_ofNat_of_lt' hn
  rw [d2l_small hn hE, l2d_sg (by omega)]
  have o := dv_ord (s := dS n && decide (dC n / 2 ^ (-dQ n).toNat ≠ 0)) (c := dC n / 2 ^ (-dQ n).toNat) (q := 0) (b := UInt64.ofNat n) (dQ n) (by decide) (Or.inl ⟨by omega, by decide⟩) (by rw [e0]; exact hdec) (by omega) (by omega)
  obtain ⟨k1, k2, k3⟩ := jd_lt o op
  rw [k1, k2, k3]
  rw [show (0 - dQ n).toNat = (-dQ n).toNat by omega, show (dQ n - dQ n).toNat = 0 by omega, Nat.pow_zero, Nat.mul_one]
  rw [Nat.mul_comm] at hdm
  generalize dC n / 2 ^ (-dQ n).toNat = W at *
  generalize dC n % 2 ^ (-dQ n).toNat = fr at *
  have hW0 : W = 0 → W * 2 ^ (-dQ n).toNat = 0 := fun h => by rw [h, Nat.zero_mul]
  generalize W * 2 ^ (-dQ n).toNat = Y at *
  generalize dC n = c at *
  have sf : ∀ z : Nat, FP.Core.signed false z = (z : Int) := fun _ => rfl
  have st : ∀ z : Nat, FP.Core.signed true z = -(z : Int) := fun _ => rfl
  cases dS n with
  | false =>
    rw [Bool.false_and, sf, sf]
    refine ⟨⟨fun h => by omega, fun h => absurd h.1 (by decide)⟩, ⟨fun h => ⟨rfl, by omega⟩, fun h => by omega⟩, by omega⟩
  | true =>
    rw [Bool.true_and]
    by_cases h0 : W = 0
    · have := hW0 h0
      rw [decide_eq_false (by omega), sf, st]
      refine ⟨⟨fun h => ⟨rfl, by omega⟩, fun h => by omega⟩, ⟨fun h => by omega, fun h => absurd h.1 (by decide)⟩, by omega⟩
    · rw [decide_eq_true h0, st, st]
      refine ⟨⟨fun h => ⟨rfl, by omega⟩, fun h => by omega⟩, ⟨fun h => by omega, fun h => absurd h.1 (by decide)⟩, by omega⟩
theorem dv_0n : dv false 0 0 = 0 := by decide +kernel
theorem X37_fc {n : Nat} {M : Mem} {st : Nat} {up : Bool} (hn : n < 2 ^ 64) (hx : okd n) : F_X37_real M (if up = true then 13 else 12) (UInt64.ofNat n) st = some (.inl (rwh (if up = true then 1 else 0) n, M)) := by
  have e0 : (UInt64.ofNat n).toNat = n := UInt64.toNat_ofNat_of_lt' hn
  have hin := in_52 hn hx .l .g
  have hz := E_zero (x := UInt64.ofNat n) (by rw [e0]; exact hx)
  have hz2 := dZ_zero (x := UInt64.ofNat n) (by rw [e0]; exact hx)
  rw [e0] at hz2
  unfold F_X37_real F_X37_real_b57 F_X37_real_b86 F_X37_real_b118 F_X37_real_b120
  rw [if_neg (by cases up <;> decide), if_neg (by cases up <;> decide)]
  by_cases h0 : n % 2 ^ 63 = 0
  · have er : rwh (if up = true then 1 else 0) n = UInt64.ofNat n := by unfold rwh; rw [if_pos (Or.inr h0)]
    rw [if_pos ((hz .l).mpr (by rw [hz2]; exact decide_eq_true h0)), er]
  · rw [if_neg (fun hh => h0 (of_decide_eq_true (hz2.symm.trans ((hz .l).mp hh))))]
    by_cases hE : 1075 ≤ dE n
    · have er : rwh (if up = true then 1 else 0) n = UInt64.ofNat n := by unfold rwh; rw [if_pos (Or.inl hE)]
      rw [er]
      by_cases h1 : j_dcmp (UInt64.ofNat n) 4841369599423283200 .l < 0
      · rw [if_pos h1, if_neg (fun h2 => hin.mp ⟨h1, h2⟩ hE)]
      · rw [if_neg h1]
    · obtain ⟨h1, h2⟩ := hin.mpr hE
      rw [if_pos h1, if_pos h2]
      obtain ⟨q1, q2⟩ := small_q hE
      have hc := dC_lt n
      have hWc := Nat.div_le_self (dC n) (2 ^ (-dQ n).toNat)
      have hW2 : dC n / 2 ^ (-dQ n).toNat < 2 ^ 52 := by
        rw [Nat.div_lt_iff_lt_mul (Nat.two_pow_pos _)]
        have : 2 ^ 1 ≤ 2 ^ (-dQ n).toNat := Nat.pow_le_pow_right (by decide) (by omega)
        have := Nat.mul_le_mul_left (2 ^ 52) this
        generalize 2 ^ (-dQ n).toNat = X at *
        omega
      have wc := whole_cmp hn hE
      have hdm := Nat.div_add_mod (dC n) (2 ^ (-dQ n).toNat)
      have hcz : dC n ≠ 0 := by
        have hz3 := (d64_cases (x := UInt64.ofNat n) (by rw [e0]; exact hx))
        intro hh
        apply h0
        have := dec_fin hn (show dE n ≠ 2047 by omega)
        rcases okd_cases hn hx with ⟨a1, a2, a3⟩ | ⟨a1, a2, a3⟩ | ⟨a1, a2, a3, a4⟩
        · omega
        · exact a1
        · exact absurd hh a4
      have el : FP.l2d (FP.d2l (UInt64.ofNat n)) = dv (dS n && decide (dC n / 2 ^ (-dQ n).toNat ≠ 0)) (dC n / 2 ^ (-dQ n).toNat) 0 := by rw [d2l_small hn hE, l2d_sg (by omega)]
      have er : rwh (if up = true then 1 else 0) n = dv (dS n) (rQ (if up = true then 1 else 0) (dS n) (dC n / 2 ^ (-dQ n).toNat) (dC n % 2 ^ (-dQ n).toNat) (2 ^ (-dQ n).toNat)) 0 := by
        unfold rwh
        rw [if_neg (by omega)]
      have eq' : rQ (if up = true then 1 else 0) (dS n) (dC n / 2 ^ (-dQ n).toNat) (dC n % 2 ^ (-dQ n).toNat) (2 ^ (-dQ n).toNat) = if dC n % 2 ^ (-dQ n).toNat ≠ 0 ∧ dS n = !up then dC n / 2 ^ (-dQ n).toNat + 1 else dC n / 2 ^ (-dQ n).toNat := by
        unfold rQ rUp
        cases up <;> cases dS n <;> simp
      rw [er, eq']
      simp only [(wc .l).1, (wc .g).2.1]
      rw [el]
      have hz4 : ∀ op, j_dcmp (dv (dS n && decide (dC n / 2 ^ (-dQ n).toNat ≠ 0)) (dC n / 2 ^ (-dQ n).toNat) 0) 0 op = 0 ↔ dC n / 2 ^ (-dQ n).toNat = 0 := by
        intro op
        have o := dv_ord (s := dS n && decide (dC n / 2 ^ (-dQ n).toNat ≠ 0)) (c := dC n / 2 ^ (-dQ n).toNat) (q := 0) (b := 0) (t := false) (d := 0) (k := -1074) (-1074) (by decide) (Or.inl ⟨by omega, by decide⟩) (by decide) (by decide) (by decide)
        rw [(jd_lt o op).2.2, Nat.zero_mul]
        have hp := Nat.two_pow_pos ((0 : Int) - -1074).toNat
        have := sg_abs (dS n && decide (dC n / 2 ^ (-dQ n).toNat ≠ 0)) (dC n / 2 ^ (-dQ n).toNat * 2 ^ ((0 : Int) - -1074).toNat)
        have e0 : FP.Core.signed false 0 = 0 := rfl
        rw [e0]
        constructor
        · intro hh
          rw [hh] at this
          have h3 : dC n / 2 ^ (-dQ n).toNat * 2 ^ ((0 : Int) - -1074).toNat = 0 := this.symm
          rcases Nat.mul_eq_zero.mp h3 with h4 | h4
          · exact h4
          · omega
        · intro hh
          rw [hh, Nat.zero_mul]
          cases (dS n && decide (0 ≠ 0)) <;> rfl
      have hneg : ∀ op, j_dcmp (UInt64.ofNat n) 0 op < 0 ↔ dS n = true := by
        intro op
        have o := ord_rk (x := UInt64.ofNat n) (y := 0) (by rw [e0]; exact hx) (by unfold okd; decide)
        rw [e0] at o
        rw [(jd_lt o op).1, show rk (0 : UInt64).toNat = 0 by decide]
        unfold rk
        cases dS n <;> simp <;> omega
      simp only [hz4, hneg]
      generalize dC n % 2 ^ (-dQ n).toNat = fr at *
      generalize dC n / 2 ^ (-dQ n).toNat = W at *
      have hnz : ¬ (W = 0 ∧ fr = 0) := by
        rintro ⟨hw, hf⟩
        rw [hw, hf] at hdm
        omega
      have hsub : ∀ s' : Bool, (W = 0 ∨ s' = true) → FP.dsub (dv s' W 0) 4607182418800017408 = dv true (W + 1) 0 := by
        intro s' hs'
        have e : FP.dsub (dv s' W 0) 4607182418800017408 = bd (FP.Core.round FP.Core.b64 (FP.Core.exactSum (d64 (dv s' W 0)) (FP.Core.negate (FP.Core.decode FP.Core.b64 (4607182418800017408 : UInt64).toNat)))) := rfl
        rw [e, c_one]
        exact dv_pm hW2 hs'
      have hadd : FP.dadd (dv false W 0) 4607182418800017408 = dv false (W + 1) 0 := by
        have e : FP.dadd (dv false W 0) 4607182418800017408 = bd (FP.Core.round FP.Core.b64 (FP.Core.exactSum (d64 (dv false W 0)) (FP.Core.decode FP.Core.b64 (4607182418800017408 : UInt64).toNat))) := rfl
        rw [e, c_one]
        exact dv_pm hW2 (Or.inr rfl)
      clear wc hz4 hneg er eq' el hdm hz hz2 hin h1 h2
      cases up <;> cases hs : dS n <;> by_cases hf : fr = 0 <;> by_cases hw : W = 0
      · exact absurd ⟨hw, hf⟩ hnz
      · simp [hf, hw]
      · simp [hf, hw]
      · simp [hf, hw]
      · exact absurd ⟨hw, hf⟩ hnz
      · simp [hf, hw]
      · have := hsub false (Or.inl hw)
        rw [hw] at this
        simp [hf, hw, this, dv_x]
      · have := hsub true (Or.inr rfl)
        simp [hf, hw, this, dv_x]
      · exact absurd ⟨hw, hf⟩ hnz
      · simp [hf, hw]
      · rw [hw] at hadd
        simp [hf, hw, hadd, dv_x]
      · simp [hf, hw, hadd, dv_x]
      · exact absurd ⟨hw, hf⟩ hnz
      · simp [hf, hw]
      · simp [hf, hw, dv_m0]
      · simp [hf, hw]
