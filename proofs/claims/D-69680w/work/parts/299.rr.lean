/-! ===== FLOATS, 0: rounding depends on the value alone ===== -/
theorem near_scale (X Y c : Nat) (hc : 0 < c) : FP.Core.nearest (X * c) (Y * c) = FP.Core.nearest X Y := by
  unfold FP.Core.nearest
  rw [Nat.mul_div_mul_right _ _ hc, Nat.mul_mod_mul_right]
  have h1 : 2 * (X % Y * c) < Y * c ↔ 2 * (X % Y) < Y := by
    rw [← Nat.mul_assoc]; exact Nat.mul_lt_mul_right hc
  have h2 : Y * c < 2 * (X % Y * c) ↔ Y < 2 * (X % Y) := by
    rw [← Nat.mul_assoc]; exact Nat.mul_lt_mul_right hc
  simp only [h1, h2]
theorem log_bd {A : Nat} (h : 0 < A) : 2 ^ A.log2 ≤ A ∧ A < 2 ^ (A.log2 + 1) := ⟨Nat.log2_self_le (by omega), Nat.lt_log2_self⟩
theorem log_of {A k : Nat} (h1 : 2 ^ k ≤ A) (h2 : A < 2 ^ (k + 1)) : A.log2 = k := by
  have h0 : 0 < A := Nat.lt_of_lt_of_le (Nat.two_pow_pos k) h1
  obtain ⟨b1, b2⟩ := log_bd h0
  have c1 : 2 ^ k < 2 ^ (A.log2 + 1) := by omega
  have c2 : 2 ^ A.log2 < 2 ^ (k + 1) := by omega
  have d1 := (Nat.pow_lt_pow_iff_right (by decide : 1 < 2)).mp c1
  have d2 := (Nat.pow_lt_pow_iff_right (by decide : 1 < 2)).mp c2
  omega
/-- the exponent of the leading digit, by bounds -/
theorem lead_of {A B k : Nat} (hB : 0 < B) (h1 : 2 ^ k * B ≤ A) (h2 : A < 2 ^ (k + 1) * B) : FP.Core.leading A B = (k : Int) := by
  have hA : 0 < A := Nat.lt_of_lt_of_le (Nat.mul_pos (Nat.two_pow_pos k) hB) h1
  obtain ⟨a1, a2⟩ := log_bd hA
  obtain ⟨b1, b2⟩ := log_bd hB
  have c1 : k + B.log2 ≤ A.log2 := by
    have : 2 ^ (k + B.log2) < 2 ^ (A.log2 + 1) := by
      rw [Nat.pow_add]
      exact Nat.lt_of_le_of_lt (Nat.mul_le_mul_left _ b1) (Nat.lt_of_le_of_lt h1 a2)
    have := (Nat.pow_lt_pow_iff_right (by decide : 1 < 2)).mp this
    omega
  have c2 : A.log2 ≤ k + B.log2 + 1 := by
    have : 2 ^ A.log2 < 2 ^ (k + 1 + (B.log2 + 1)) := by
      rw [Nat.pow_add]
      exact Nat.lt_of_le_of_lt a1 (Nat.lt_of_lt_of_le h2 (Nat.mul_le_mul_left _ (Nat.le_of_lt b2)))
    have := (Nat.pow_lt_pow_iff_right (by decide : 1 < 2)).mp this
    omega
  unfold FP.Core.leading
  by_cases hk : A.log2 = k + B.log2
  · have e1 : ((A.log2 : Int) - (B.log2 : Int)) = (k : Int) := by omega
    simp only [e1]
    rw [if_pos]
    rw [show ((k : Int)).toNat = k by omega, show (-(k : Int)).toNat = 0 by omega, Nat.pow_zero, Nat.mul_one, Nat.mul_comm]
    exact h1
  · have e1 : ((A.log2 : Int) - (B.log2 : Int)) = ((k + 1 : Nat) : Int) := by omega
    simp only [e1]
    rw [if_neg]
    · omega
    · rw [show (((k + 1 : Nat) : Int)).toNat = k + 1 by omega, show (-((k + 1 : Nat) : Int)).toNat = 0 by omega, Nat.pow_zero, Nat.mul_one, Nat.mul_comm]
      omega
theorem lead_2 {A B : Nat} (hA : 0 < A) : FP.Core.leading (A * 2) B = FP.Core.leading A B + 1 := by
  have hl : (A * 2).log2 = A.log2 + 1 := by
    obtain ⟨a1, a2⟩ := log_bd hA
    apply log_of
    · rw [Nat.pow_succ]; omega
    · rw [Nat.pow_succ]; omega
  unfold FP.Core.leading
  rw [hl]
  generalize hk : ((A.log2 : Int) - (B.log2 : Int)) = k
  have e1 : (((A.log2 + 1 : Nat) : Int) - (B.log2 : Int)) = k + 1 := by omega
  simp only [e1]
  have key : (B * 2 ^ (k + 1).toNat ≤ A * 2 * 2 ^ (-(k + 1)).toNat) ↔ (B * 2 ^ k.toNat ≤ A * 2 ^ (-k).toNat) := by
    by_cases h : 0 ≤ k
    · rw [show (k + 1).toNat = k.toNat + 1 by omega, show (-(k + 1)).toNat = 0 by omega, show (-k).toNat = 0 by omega, Nat.pow_succ, Nat.pow_zero, Nat.mul_one, Nat.mul_one, ← Nat.mul_assoc]
      omega
    · rw [show (k + 1).toNat = 0 by omega, show k.toNat = 0 by omega, show (-k).toNat = (-(k + 1)).toNat + 1 by omega, Nat.pow_succ, Nat.mul_assoc A 2, Nat.mul_comm 2]
  simp only [key]
  split <;> omega
section RR
variable {f : FP.Core.Fmt} {s : Bool}
theorem rr_2 {A B : Nat} {e : Int} (hA : 0 < A) : FP.Core.roundRatio f s (A * 2) B e = FP.Core.roundRatio f s A B (e + 1) := by
  unfold FP.Core.roundRatio
  rw [if_neg (by omega), if_neg (by omega)]
  have hq : FP.Core.quantum f (A * 2) B e = FP.Core.quantum f A B (e + 1) := by
    unfold FP.Core.quantum
    rw [lead_2 hA]
    omega
  rw [hq]
  generalize FP.Core.quantum f A B (e + 1) = q
  unfold FP.Core.roundAt FP.Core.unitsNum FP.Core.unitsDen
  congr 1
  by_cases h : q ≤ e
  · rw [show (e + 1 - q).toNat = (e - q).toNat + 1 by omega, show (q - e).toNat = 0 by omega, show (q - (e + 1)).toNat = 0 by omega, Nat.pow_succ, Nat.mul_assoc A 2, Nat.mul_comm 2]
  · rw [show (e + 1 - q).toNat = 0 by omega, show (e - q).toNat = 0 by omega, show (q - e).toNat = (q - (e + 1)).toNat + 1 by omega, Nat.pow_succ, Nat.pow_zero, Nat.mul_one, Nat.mul_one, ← Nat.mul_assoc]
    exact near_scale _ _ 2 (by decide)
theorem rr_pow {A B : Nat} (hA : 0 < A) : ∀ (j : Nat) (e : Int), FP.Core.roundRatio f s (A * 2 ^ j) B e = FP.Core.roundRatio f s A B (e + j) := by
  intro j
  induction j with
  | zero => intro e; rw [Nat.pow_zero, Nat.mul_one]; congr 1; omega
  | succ j ih =>
    intro e
    rw [Nat.pow_succ, ← Nat.mul_assoc, rr_2 (Nat.mul_pos hA (Nat.two_pow_pos j)), ih]
    congr 1
    omega
theorem lead_pow {A B : Nat} (hA : 0 < A) : ∀ j : Nat, FP.Core.leading (A * 2 ^ j) B = FP.Core.leading A B + j := by
  intro j
  induction j with
  | zero => rw [Nat.pow_zero, Nat.mul_one]; omega
  | succ j ih =>
    rw [Nat.pow_succ, ← Nat.mul_assoc, lead_2 (Nat.mul_pos hA (Nat.two_pow_pos j)), ih]
    omega
theorem lead_c {A B c : Nat} (hA : 0 < A) (hB : 0 < B) (hc : 0 < c) : FP.Core.leading (A * c) (B * c) = FP.Core.leading A B := by
  -- so great that the ratio is at least 1
  have hge : B ≤ A * 2 ^ B := by
    have h1 : B ≤ 2 ^ B := Nat.le_of_lt Nat.lt_two_pow_self
    exact Nat.le_trans h1 (Nat.le_mul_of_pos_left _ hA)
  have hd : 0 < A * 2 ^ B / B := Nat.div_pos hge hB
  obtain ⟨b1, b2⟩ := log_bd hd
  generalize (A * 2 ^ B / B).log2 = k at b1 b2
  have k1 : 2 ^ k * B ≤ A * 2 ^ B := (Nat.le_div_iff_mul_le hB).mp b1
  have k2 : A * 2 ^ B < 2 ^ (k + 1) * B := (Nat.div_lt_iff_lt_mul hB).mp b2
  have l1 := lead_of hB k1 k2
  have l2 : FP.Core.leading (A * c * 2 ^ B) (B * c) = (k : Int) := by
    refine lead_of (Nat.mul_pos hB hc) ?_ ?_
    · have := Nat.mul_le_mul_right c k1
      calc 2 ^ k * (B * c) = 2 ^ k * B * c := by ac_rfl
        _ ≤ A * 2 ^ B * c := this
        _ = A * c * 2 ^ B := by ac_rfl
    · have := Nat.mul_lt_mul_of_pos_right k2 hc
      calc A * c * 2 ^ B = A * 2 ^ B * c := by ac_rfl
        _ < 2 ^ (k + 1) * B * c := this
        _ = 2 ^ (k + 1) * (B * c) := by ac_rfl
  rw [lead_pow hA] at l1
  rw [lead_pow (Nat.mul_pos hA hc)] at l2
  omega
theorem rr_c {A B c : Nat} {e : Int} (hA : 0 < A) (hB : 0 < B) (hc : 0 < c) : FP.Core.roundRatio f s (A * c) (B * c) e = FP.Core.roundRatio f s A B e := by
  have hAc : 0 < A * c := Nat.mul_pos hA hc
  unfold FP.Core.roundRatio
  rw [if_neg (by omega), if_neg (by omega)]
  have hq : FP.Core.quantum f (A * c) (B * c) e = FP.Core.quantum f A B e := by
    unfold FP.Core.quantum
    rw [lead_c hA hB hc]
  rw [hq]
  generalize FP.Core.quantum f A B e = q
  unfold FP.Core.roundAt FP.Core.unitsNum FP.Core.unitsDen
  congr 1
  rw [show A * c * 2 ^ (e - q).toNat = A * 2 ^ (e - q).toNat * c by ac_rfl, show B * c * 2 ^ (q - e).toNat = B * 2 ^ (q - e).toNat * c by ac_rfl]
  exact near_scale _ _ c hc
/-- rounding depends on the value alone -/
theorem rr_congr {A B A' B' : Nat} {e e' : Int} (hB : 0 < B) (hB' : 0 < B') (h : A * B' * 2 ^ (e - e').toNat = A' * B * 2 ^ (e' - e).toNat) : FP.Core.roundRatio f s A B e = FP.Core.roundRatio f s A' B' e' := by
  have p1 := Nat.two_pow_pos (e - e').toNat
  have p2 := Nat.two_pow_pos (e' - e).toNat
  by_cases hA : A = 0
  · subst hA
    have hA' : A' = 0 := by
      rw [Nat.zero_mul, Nat.zero_mul] at h
      rcases Nat.eq_zero_or_pos A' with h1 | h1
      · exact h1
      · have := Nat.mul_pos (Nat.mul_pos h1 hB) p2
        omega
    subst hA'
    unfold FP.Core.roundRatio
    rw [if_pos rfl, if_pos rfl]
  · have hA0 : 0 < A := by omega
    have hA'0 : 0 < A' := by
      rcases Nat.eq_zero_or_pos A' with h1 | h1
      · rw [h1, Nat.zero_mul, Nat.zero_mul] at h
        have := Nat.mul_pos (Nat.mul_pos hA0 hB') p1
        omega
      · exact h1
    rw [← rr_c (f := f) (s := s) (e := e) hA0 hB hB', ← rr_c (f := f) (s := s) (e := e') hA'0 hB' hB, Nat.mul_comm B' B]
    by_cases hle : e' ≤ e
    · rw [show (e' - e).toNat = 0 by omega, Nat.pow_zero, Nat.mul_one] at h
      rw [← h, rr_pow (Nat.mul_pos hA0 hB')]
      congr 1
      omega
    · rw [show (e - e').toNat = 0 by omega, Nat.pow_zero, Nat.mul_one] at h
      rw [h, rr_pow (Nat.mul_pos hA'0 hB)]
      congr 1
      omega
/-- a number without sign is encoded below the sign -/
theorem enc_lt (hE : f.exps = 2 * f.emax + 2) (hp : 1 ≤ f.p) (A B : Nat) (e : Int) : FP.Core.encode f (FP.Core.roundRatio f false A B e) < f.exps * f.tails := by
  have ht : 0 < f.tails := Nat.two_pow_pos _
  have asm : ∀ x t : Nat, FP.Core.assemble f false x t = x * f.tails + t := fun x t => by
    unfold FP.Core.assemble
    simp
  have h2p : 2 ^ f.p = 2 * f.tails := by
    show 2 ^ f.p = 2 * 2 ^ (f.p - 1)
    obtain ⟨p', hp'⟩ : ∃ p', f.p = p' + 1 := ⟨f.p - 1, by omega⟩
    rw [hp', Nat.add_sub_cancel, Nat.pow_succ]
    omega
  have bd : ∀ (c : Nat) (q : Int), c < 2 ^ f.p → FP.Core.encode f (FP.Core.bound f false c q) < f.exps * f.tails := by
    intro c q hc
    rw [hE, Nat.add_mul]
    unfold FP.Core.bound
    split
    · rename_i hq
      unfold FP.Core.encode
      simp only []
      split
      · rw [asm]; omega
      · rw [asm]
        have hq2 : (q - f.qmin).toNat + 1 ≤ 2 * f.emax ∨ (q - f.qmin).toNat = 0 := by
          unfold FP.Core.Fmt.qmax at hq
          unfold FP.Core.Fmt.qmin
          omega
        have : ((q - f.qmin).toNat + 1) * f.tails ≤ (2 * f.emax) * f.tails + f.tails := by
          rcases hq2 with h | h
          · have := Nat.mul_le_mul_right f.tails h
            omega
          · rw [h]; omega
        omega
    · unfold FP.Core.encode
      simp only []
      rw [asm, hE, Nat.add_zero, show 2 * f.emax + 2 - 1 = 2 * f.emax + 1 by omega, Nat.add_mul]
      omega
  unfold FP.Core.roundRatio
  split
  · unfold FP.Core.encode
    simp only []
    rw [if_pos ht, asm, hE, Nat.add_mul]
    omega
  · unfold FP.Core.roundAt FP.Core.settle
    split
    · rename_i h
      exact bd _ _ h
    · exact bd _ _ (by rw [h2p]; omega)
end RR
