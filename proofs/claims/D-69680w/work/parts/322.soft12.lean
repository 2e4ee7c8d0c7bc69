/-! ===== FLOATS, 14: what is rounded fits, and is read back ===== -/
section
variable {f : FP.Core.Fmt} {s : Bool}
theorem fld_T {e t : Nat} (ht : t < f.tails) : FP.Core.fieldT f (FP.Core.assemble f s e t) = t := by
  unfold FP.Core.fieldT FP.Core.assemble
  rw [Nat.mul_comm, Nat.mul_add_mod, Nat.mod_eq_of_lt ht]
theorem fld_D {e t : Nat} (ht : t < f.tails) : FP.Core.assemble f s e t / f.tails = s.toNat * f.exps + e := by
  unfold FP.Core.assemble
  have h0 : 0 < f.tails := Nat.two_pow_pos _
  rw [Nat.mul_comm, Nat.mul_add_div h0, Nat.div_eq_of_lt ht, Nat.add_zero]
theorem fld_E {e t : Nat} (ht : t < f.tails) (he : e < f.exps) : FP.Core.fieldE f (FP.Core.assemble f s e t) = e := by
  unfold FP.Core.fieldE
  rw [fld_D ht, Nat.mul_comm, Nat.mul_add_mod, Nat.mod_eq_of_lt he]
theorem fld_S {e t : Nat} (ht : t < f.tails) (he : e < f.exps) : FP.Core.fieldS f (FP.Core.assemble f s e t) = s := by
  unfold FP.Core.fieldS
  have h0 : 0 < f.exps := Nat.two_pow_pos _
  rw [fld_D ht, Nat.mul_comm, Nat.mul_add_div h0, Nat.div_eq_of_lt he, Nat.add_zero]
  cases s <;> rfl
/-- what fits is read back -/
theorem dec_enc (hE : f.exps = 2 * f.emax + 2) (hem : 1 ≤ f.emax) (hp : 2 ≤ f.p) {d : FP.Core.Datum} (h : FP.Core.fits f d) (hn : d ≠ .nan) : FP.Core.decode f (FP.Core.encode f d) = d := by
  have ht : 0 < f.tails := Nat.two_pow_pos _
  have h2p : 2 ^ f.p = 2 * f.tails := by
    show 2 ^ f.p = 2 * 2 ^ (f.p - 1)
    obtain ⟨p', hp'⟩ : ∃ p', f.p = p' + 1 := ⟨f.p - 1, by omega⟩
    rw [hp', Nat.add_sub_cancel, Nat.pow_succ]
    omega
  cases d with
  | nan => exact absurd rfl hn
  | inf s =>
    show FP.Core.decode f (FP.Core.assemble f s (f.exps - 1) 0) = _
    unfold FP.Core.decode
    rw [fld_E ht (by omega), if_pos rfl, fld_T ht, if_pos rfl, fld_S ht (by omega)]
  | fin s c q =>
    obtain ⟨h1, h2, h3, h4⟩ : c < 2 ^ f.p ∧ f.qmin ≤ q ∧ q ≤ f.qmax ∧ (q = f.qmin ∨ f.tails ≤ c) := h
    show FP.Core.decode f (if c < f.tails then FP.Core.assemble f s 0 c else FP.Core.assemble f s ((q - f.qmin).toNat + 1) (c - f.tails)) = _
    have hq : f.qmax - f.qmin = 2 * (f.emax : Int) - 1 := by
      unfold FP.Core.Fmt.qmax FP.Core.Fmt.qmin
      omega
    by_cases hc : c < f.tails
    · rw [if_pos hc]
      unfold FP.Core.decode
      rw [fld_E hc (by omega), if_neg (by omega), if_pos rfl, fld_T hc, fld_S hc (by omega)]
      rcases h4 with h4 | h4
      · rw [h4]
      · omega
    · rw [if_neg hc]
      unfold FP.Core.decode
      rw [fld_E (by omega) (by omega), if_neg (by omega), if_neg (by omega), fld_T (by omega), fld_S (by omega) (by omega)]
      congr 1
      · omega
      · omega
theorem near_le {N D X : Nat} (hD : 0 < D) (h : N < X * D) : FP.Core.nearest N D ≤ X := by
  have : N / D < X := (Nat.div_lt_iff_lt_mul hD).mpr h
  unfold FP.Core.nearest
  split
  · omega
  · split
    · omega
    · have := Nat.mod_lt (N / D) (show 0 < 2 by decide)
      omega
theorem near_ge {N D X : Nat} (hD : 0 < D) (h : X * D ≤ N) : X ≤ FP.Core.nearest N D := by
  have : X ≤ N / D := (Nat.le_div_iff_mul_le hD).mpr h
  unfold FP.Core.nearest
  split
  · omega
  · split
    · omega
    · omega
/-- a ratio, written with the numerator not below the denominator -/
theorem rr_big {A B : Nat} (e : Int) (hA : 0 < A) (hB : 0 < B) : ∃ (A' k : Nat) (e' : Int), 0 < A' ∧ 2 ^ k * B ≤ A' ∧ A' < 2 ^ (k + 1) * B ∧ (∀ (f : FP.Core.Fmt) (s : Bool), FP.Core.roundRatio f s A B e = FP.Core.roundRatio f s A' B e') ∧ ∃ j : Nat, A' = A * 2 ^ j ∧ e' = e - j := by
  have b1 := log_bd hB
  obtain ⟨j, hj⟩ : ∃ j, j = B.log2 + 1 := ⟨_, rfl⟩
  have hAj : B ≤ A * 2 ^ j := by
    rw [hj]
    have := Nat.mul_le_mul hA (Nat.le_of_lt b1.2)
    omega
  obtain ⟨Q, hQ⟩ : ∃ Q, Q = A * 2 ^ j / B := ⟨_, rfl⟩
  have hQ1 : 0 < Q := by rw [hQ]; exact Nat.div_pos hAj hB
  obtain ⟨l1, l2⟩ := log_bd hQ1
  refine ⟨A * 2 ^ j, Q.log2, e - j, Nat.mul_pos hA (Nat.two_pow_pos _), ?_, ?_, ?_, j, rfl, rfl⟩
  · have := Nat.div_mul_le_self (A * 2 ^ j) B
    have h2 := Nat.mul_le_mul_right B l1
    rw [hQ] at h2 ⊢
    omega
  · have := Nat.lt_succ_self Q
    rw [hQ] at l2 ⊢
    exact (Nat.div_lt_iff_lt_mul hB).mp l2
  · intro f s
    rw [rr_pow hA]
    congr 1
    omega
theorem rr_fits (hE : f.exps = 2 * f.emax + 2) (hem : 1 ≤ f.emax) (hp : 2 ≤ f.p) {A B : Nat} {e : Int} (hB : 0 < B) : FP.Core.fits f (FP.Core.roundRatio f s A B e) ∧ FP.Core.roundRatio f s A B e ≠ .nan := by
  have ht : 0 < f.tails := Nat.two_pow_pos _
  have h2p : 2 ^ f.p = 2 * f.tails := by
    show 2 ^ f.p = 2 * 2 ^ (f.p - 1)
    obtain ⟨p', hp'⟩ : ∃ p', f.p = p' + 1 := ⟨f.p - 1, by omega⟩
    rw [hp', Nat.add_sub_cancel, Nat.pow_succ]
    omega
  have hq : f.qmax - f.qmin = 2 * (f.emax : Int) - 1 := by
    unfold FP.Core.Fmt.qmax FP.Core.Fmt.qmin
    omega
  rcases Nat.eq_zero_or_pos A with hA | hA
  · subst hA
    unfold FP.Core.roundRatio
    rw [if_pos rfl]
    exact ⟨⟨Nat.two_pow_pos _, Int.le_refl _, by omega, Or.inl rfl⟩, by simp⟩
  · obtain ⟨A', k, e', a1, a2, a3, a4, -⟩ := rr_big e hA hB
    rw [a4]
    unfold FP.Core.roundRatio
    rw [if_neg (by omega)]
    unfold FP.Core.roundAt FP.Core.unitsNum FP.Core.unitsDen
    have hqq : FP.Core.quantum f A' B e' = max f.qmin ((k : Int) + e' - ((f.p : Int) - 1)) := by
      unfold FP.Core.quantum
      rw [lead_of hB a2 a3]
    rw [hqq]
    generalize hQ : max f.qmin ((k : Int) + e' - ((f.p : Int) - 1)) = q
    have hD : 0 < B * 2 ^ (q - e').toNat := Nat.mul_pos hB (Nat.two_pow_pos _)
    have up : A' * 2 ^ (e' - q).toNat < 2 ^ f.p * (B * 2 ^ (q - e').toNat) := by
      have c1 : A' * 2 ^ (e' - q).toNat < 2 ^ (k + 1) * B * 2 ^ (e' - q).toNat := Nat.mul_lt_mul_of_pos_right a3 (Nat.two_pow_pos _)
      have c2 : 2 ^ (k + 1) * 2 ^ (e' - q).toNat ≤ 2 ^ f.p * 2 ^ (q - e').toNat := by
        rw [← Nat.pow_add, ← Nat.pow_add]
        exact Nat.pow_le_pow_right (by decide) (by omega)
      have c3 := Nat.mul_le_mul_right B c2
      have c4 : 2 ^ (k + 1) * B * 2 ^ (e' - q).toNat = 2 ^ (k + 1) * 2 ^ (e' - q).toNat * B := by ac_rfl
      have c5 : 2 ^ f.p * (B * 2 ^ (q - e').toNat) = 2 ^ f.p * 2 ^ (q - e').toNat * B := by ac_rfl
      omega
    have n1 := near_le hD up
    have n2 : q = f.qmin ∨ f.tails ≤ FP.Core.nearest (A' * 2 ^ (e' - q).toNat) (B * 2 ^ (q - e').toNat) := by
      by_cases hm : q = f.qmin
      · exact Or.inl hm
      · right
        refine near_ge hD ?_
        show 2 ^ (f.p - 1) * (B * 2 ^ (q - e').toNat) ≤ _
        have c2 : 2 ^ (f.p - 1) * 2 ^ (q - e').toNat = 2 ^ k * 2 ^ (e' - q).toNat := by
          rw [← Nat.pow_add, ← Nat.pow_add]
          congr 1
          omega
        have c3 : 2 ^ k * B * 2 ^ (e' - q).toNat ≤ A' * 2 ^ (e' - q).toNat := Nat.mul_le_mul_right _ a2
        have c4 : 2 ^ (f.p - 1) * (B * 2 ^ (q - e').toNat) = 2 ^ (f.p - 1) * 2 ^ (q - e').toNat * B := by ac_rfl
        have c5 : 2 ^ k * B * 2 ^ (e' - q).toNat = 2 ^ k * 2 ^ (e' - q).toNat * B := by ac_rfl
        rw [c4, c2]
        omega
    generalize FP.Core.nearest (A' * 2 ^ (e' - q).toNat) (B * 2 ^ (q - e').toNat) = N at *
    unfold FP.Core.settle FP.Core.bound
    split
    · split
      · exact ⟨⟨by assumption, by omega, by assumption, n2⟩, by simp⟩
      · exact ⟨trivial, by simp⟩
    · split
      · exact ⟨⟨by omega, by omega, by assumption, Or.inr (Nat.le_refl _)⟩, by simp⟩
      · exact ⟨trivial, by simp⟩
theorem rr_back (hE : f.exps = 2 * f.emax + 2) (hem : 1 ≤ f.emax) (hp : 2 ≤ f.p) {A B : Nat} {e : Int} (hB : 0 < B) : FP.Core.decode f (FP.Core.encode f (FP.Core.roundRatio f s A B e)) = FP.Core.roundRatio f s A B e :=
  dec_enc hE hem hp (rr_fits hE hem hp hB).1 (rr_fits hE hem hp hB).2
/-- what has few enough digits is not changed -/
theorem rr_exact (hp : 2 ≤ f.p) {c : Nat} {q : Int} (hc : c < 2 ^ f.p) (h0 : 0 < c) (h1 : f.qmin ≤ q) (h2 : q ≤ f.qmax) :
    ∃ (j : Nat), FP.Core.roundRatio f s c 1 q = .fin s (c * 2 ^ j) (q - j) := by
  obtain ⟨b1, b2⟩ := log_bd h0
  have hlead : FP.Core.leading c 1 = (c.log2 : Int) := lead_of (by decide) (by omega) (by omega)
  unfold FP.Core.roundRatio
  rw [if_neg (by omega)]
  have hq : FP.Core.quantum f c 1 q = max f.qmin ((c.log2 : Int) + q - ((f.p : Int) - 1)) := by
    unfold FP.Core.quantum
    rw [hlead]
  rw [hq]
  have hl : c.log2 < f.p := by
    have : 2 ^ c.log2 < 2 ^ f.p := by omega
    exact (Nat.pow_lt_pow_iff_right (by decide : 1 < 2)).mp this
  obtain ⟨j, hj⟩ : ∃ j : Nat, max f.qmin ((c.log2 : Int) + q - ((f.p : Int) - 1)) = q - j := ⟨(q - max f.qmin ((c.log2 : Int) + q - ((f.p : Int) - 1))).toNat, by omega⟩
  rw [hj]
  unfold FP.Core.roundAt FP.Core.unitsNum FP.Core.unitsDen
  rw [show (q - (q - (j : Int))).toNat = j by omega, show (q - (j : Int) - q).toNat = 0 by omega, Nat.pow_zero, Nat.mul_one]
  have hn : FP.Core.nearest (c * 2 ^ j) 1 = c * 2 ^ j := (near_char (A := c * 2 ^ j) (B := 1) (Q := c * 2 ^ j) (by omega) (by omega)).1 (by omega)
  rw [hn]
  have hlt : c * 2 ^ j < 2 ^ f.p := by
    have c1 : c * 2 ^ j < 2 ^ (c.log2 + 1) * 2 ^ j := Nat.mul_lt_mul_of_pos_right b2 (Nat.two_pow_pos _)
    have c2 : 2 ^ (c.log2 + 1) * 2 ^ j ≤ 2 ^ f.p := by
      rw [← Nat.pow_add]
      exact Nat.pow_le_pow_right (by decide) (by omega)
    omega
  unfold FP.Core.settle FP.Core.bound
  rw [if_pos hlt, if_pos (by omega)]
  exact ⟨j, rfl⟩
end
/-- a result of b64 as a number: no NaN -/
theorem okd_enc {d : FP.Core.Datum} (h : FP.Core.fits FP.Core.b64 d) (hn : d ≠ .nan) : okd (FP.Core.encode FP.Core.b64 d) ∧ FP.Core.encode FP.Core.b64 d < 2 ^ 64 := by
  have asm : ∀ s e t, FP.Core.assemble FP.Core.b64 s e t = (s.toNat * 2048 + e) * 2 ^ 52 + t := fun _ _ _ => rfl
  have hq : FP.Core.b64.qmin = -1074 ∧ FP.Core.b64.qmax = 971 := by decide
  unfold okd
  cases d with
  | nan => exact absurd rfl hn
  | inf s => cases s <;> decide
  | fin s c q =>
    obtain ⟨h1, h2, h3, h4⟩ : c < 2 ^ 53 ∧ FP.Core.b64.qmin ≤ q ∧ q ≤ FP.Core.b64.qmax ∧ (q = FP.Core.b64.qmin ∨ 2 ^ 52 ≤ c) := h
    have e : FP.Core.encode FP.Core.b64 (.fin s c q) = if c < 2 ^ 52 then (s.toNat * 2048 + 0) * 2 ^ 52 + c else (s.toNat * 2048 + ((q - FP.Core.b64.qmin).toNat + 1)) * 2 ^ 52 + (c - 2 ^ 52) := rfl
    rw [e, hq.1]
    rw [hq.1, hq.2] at *
    cases s
    · rw [show false.toNat = 0 from rfl]; split <;> omega
    · rw [show true.toNat = 1 from rfl]; split <;> omega
theorem okf_enc {d : FP.Core.Datum} (h : FP.Core.fits FP.Core.b32 d) (hn : d ≠ .nan) : okf (FP.Core.encode FP.Core.b32 d) ∧ FP.Core.encode FP.Core.b32 d < 2 ^ 32 := by
  have hq : FP.Core.b32.qmin = -149 ∧ FP.Core.b32.qmax = 104 := by decide
  unfold okf
  cases d with
  | nan => exact absurd rfl hn
  | inf s => cases s <;> decide
  | fin s c q =>
    obtain ⟨h1, h2, h3, h4⟩ : c < 2 ^ 24 ∧ FP.Core.b32.qmin ≤ q ∧ q ≤ FP.Core.b32.qmax ∧ (q = FP.Core.b32.qmin ∨ 2 ^ 23 ≤ c) := h
    have e : FP.Core.encode FP.Core.b32 (.fin s c q) = if c < 2 ^ 23 then (s.toNat * 256 + 0) * 2 ^ 23 + c else (s.toNat * 256 + ((q - FP.Core.b32.qmin).toNat + 1)) * 2 ^ 23 + (c - 2 ^ 23) := rfl
    rw [e, hq.1]
    rw [hq.1, hq.2] at *
    cases s
    · rw [show false.toNat = 0 from rfl]; split <;> omega
    · rw [show true.toNat = 1 from rfl]; split <;> omega
