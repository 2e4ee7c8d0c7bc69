/-! ===== FLOATS, 1: rounding by whole numbers ===== -/
section RND
variable {f : FP.Core.Fmt} {s : Bool}
theorem near_char {A B Q : Nat} (h1 : Q * B ≤ A) (h2 : A < (Q + 1) * B) :
    (2 * A < (2 * Q + 1) * B → FP.Core.nearest A B = Q) ∧ ((2 * Q + 1) * B < 2 * A → FP.Core.nearest A B = Q + 1) ∧ (2 * A = (2 * Q + 1) * B → FP.Core.nearest A B = Q + Q % 2) := by
  have hd : A / B = Q := Nat.div_eq_of_lt_le h1 h2
  have hm : A % B + Q * B = A := by
    have := Nat.div_add_mod A B
    rw [hd, Nat.mul_comm] at this
    omega
  have e1 : (2 * Q + 1) * B = 2 * (Q * B) + B := by rw [Nat.add_mul, Nat.one_mul, Nat.mul_assoc]
  unfold FP.Core.nearest
  rw [hd, e1]
  generalize Q * B = y at *
  refine ⟨fun h => ?_, fun h => ?_, fun h => ?_⟩
  · rw [if_pos (by omega)]
  · rw [if_neg (by omega), if_pos (by omega)]
  · rw [if_neg (by omega), if_neg (by omega)]
/-- a value strictly between two whole numbers of more than p + 1 digits is rounded as the middle is -/
theorem rr_mid {A B m : Nat} {e : Int} (hB : 0 < B) (hm : 2 ^ (f.p + 1) ≤ m) (h1 : m * B < A) (h2 : A < (m + 1) * B) : FP.Core.roundRatio f s A B e = FP.Core.roundRatio f s (2 * m + 1) 2 e := by
  have hm0 : 0 < m := Nat.lt_of_lt_of_le (Nat.two_pow_pos _) hm
  have k1 : 2 ^ m.log2 ≤ m := Nat.log2_self_le (by omega)
  have k2 : m + 1 ≤ 2 ^ (m.log2 + 1) := Nat.lt_log2_self
  generalize hk : m.log2 = k at k1 k2
  have hkp : f.p + 1 ≤ k := by
    have : 2 ^ (f.p + 1) < 2 ^ (k + 1) := by omega
    have := (Nat.pow_lt_pow_iff_right (by decide : 1 < 2)).mp this
    omega
  have l1 : FP.Core.leading A B = (k : Int) := by
    refine lead_of hB ?_ ?_
    · exact Nat.le_trans (Nat.mul_le_mul_right B k1) (Nat.le_of_lt h1)
    · exact Nat.lt_of_lt_of_le h2 (Nat.mul_le_mul_right B k2)
  have l2 : FP.Core.leading (2 * m + 1) 2 = (k : Int) := by
    refine lead_of (by decide) ?_ ?_ <;> omega
  have hA0 : A ≠ 0 := by omega
  have hq : FP.Core.quantum f A B e = FP.Core.quantum f (2 * m + 1) 2 e := by
    unfold FP.Core.quantum
    rw [l1, l2]
  have hge : e + 2 ≤ FP.Core.quantum f A B e := by
    unfold FP.Core.quantum
    rw [l1]
    omega
  unfold FP.Core.roundRatio
  rw [if_neg hA0, if_neg (by omega), ← hq]
  generalize FP.Core.quantum f A B e = q at hge
  unfold FP.Core.roundAt FP.Core.unitsNum FP.Core.unitsDen
  obtain ⟨d, hd⟩ : ∃ d : Nat, (q - e).toNat = d + 1 := ⟨(q - e).toNat - 1, by omega⟩
  have hz : (e - q).toNat = 0 := by omega
  rw [hd, hz, Nat.pow_zero, Nat.mul_one, Nat.mul_one]
  congr 1
  have hp : 0 < 2 ^ (d + 1) := Nat.two_pow_pos _
  have hdm := Nat.div_add_mod m (2 ^ (d + 1))
  have hr := Nat.mod_lt m hp
  generalize m / 2 ^ (d + 1) = Q at hdm
  generalize m % 2 ^ (d + 1) = r at hdm hr
  have e2 : 2 ^ (d + 1) = 2 * 2 ^ d := by rw [Nat.pow_succ]; omega
  generalize 2 ^ d = H at e2
  rw [e2] at hdm hr ⊢
  -- both in terms of Q and r
  have eA1 : Q * (B * (2 * H)) = (2 * H * Q) * B := by ac_rfl
  have eA2 : (Q + 1) * (B * (2 * H)) = (2 * H * Q + 2 * H) * B := by rw [Nat.add_mul, Nat.one_mul, Nat.add_mul, eA1]; congr 1; ac_rfl
  have eA3 : (2 * Q + 1) * (B * (2 * H)) = 2 * ((2 * H * Q + H) * B) := by
    rw [Nat.add_mul, Nat.one_mul, Nat.add_mul, Nat.mul_add]
    congr 1 <;> ac_rfl
  have bA1 : Q * (B * (2 * H)) ≤ A := by
    rw [eA1]
    exact Nat.le_trans (Nat.mul_le_mul_right B (by omega : 2 * H * Q ≤ m)) (Nat.le_of_lt h1)
  have bA2 : A < (Q + 1) * (B * (2 * H)) := by
    rw [eA2]
    exact Nat.lt_of_lt_of_le h2 (Nat.mul_le_mul_right B (by omega))
  have bM1 : Q * (2 * (2 * H)) ≤ 2 * m + 1 := by
    have : Q * (2 * (2 * H)) = 2 * (2 * H * Q) := by ac_rfl
    omega
  have bM2 : 2 * m + 1 < (Q + 1) * (2 * (2 * H)) := by
    have h9 : Q * (2 * (2 * H)) = 2 * (2 * H * Q) := by ac_rfl
    rw [Nat.add_mul, Nat.one_mul, h9]
    omega
  have eM3 : (2 * Q + 1) * (2 * (2 * H)) = 4 * (2 * H * Q) + 4 * H := by
    rw [Nat.add_mul, Nat.one_mul]
    have : 2 * Q * (2 * (2 * H)) = 4 * (2 * H * Q) := by
      rw [show (4 : Nat) = 2 * 2 from rfl]
      ac_rfl
    omega
  obtain ⟨a1, a2, -⟩ := near_char bA1 bA2
  obtain ⟨c1, c2, -⟩ := near_char bM1 bM2
  by_cases hc : r < H
  · rw [a1 ?_, c1 ?_]
    · rw [eM3]; omega
    · rw [eA3]
      have := Nat.mul_le_mul_right B (by omega : m + 1 ≤ 2 * H * Q + H)
      omega
  · rw [a2 ?_, c2 ?_]
    · rw [eM3]; omega
    · rw [eA3]
      have := Nat.mul_le_mul_right B (by omega : 2 * H * Q + H ≤ m)
      omega
/-- the same, at any exponent -/
theorem rr_sticky {A B m : Nat} {e e0 : Int} (hB : 0 < B) (hm : 2 ^ (f.p + 1) ≤ m) (h1 : m * (B * 2 ^ (e - e0).toNat) < A * 2 ^ (e0 - e).toNat) (h2 : A * 2 ^ (e0 - e).toNat < (m + 1) * (B * 2 ^ (e - e0).toNat)) :
    FP.Core.roundRatio f s A B e0 = FP.Core.roundRatio f s (2 * m + 1) 1 (e - 1) := by
  have hB' : 0 < B * 2 ^ (e - e0).toNat := Nat.mul_pos hB (Nat.two_pow_pos _)
  have c1 : FP.Core.roundRatio f s A B e0 = FP.Core.roundRatio f s (A * 2 ^ (e0 - e).toNat) (B * 2 ^ (e - e0).toNat) e := by
    refine rr_congr hB hB' ?_
    ac_rfl
  have c2 : FP.Core.roundRatio f s (2 * m + 1) 2 e = FP.Core.roundRatio f s (2 * m + 1) 1 (e - 1) := by
    refine rr_congr (by decide) (by decide) ?_
    rw [show (e - (e - 1)).toNat = 1 by omega, show (e - 1 - e).toNat = 0 by omega]
    omega
  rw [c1, rr_mid hB' hm h1 h2, c2]
/-- rounding as Soft does it, of x with 62 digits -/
def rnd (p bias x : Nat) (pw : Int) (more : Bool) : Nat :=
  if (2 * bias + 1 : Int) ≤ pw + 61 + bias then (2 * bias + 1) * 2 ^ (p - 1)
  else
    let drop : Nat := if pw + 61 + bias ≤ 0 then (63 - (p : Int) - (pw + 61 + bias)).toNat else 62 - p
    if 62 < drop then 0
    else
      let q := x / 2 ^ drop
      let rest := x % 2 ^ drop
      let c := if 2 ^ (drop - 1) < rest ∨ (rest = 2 ^ (drop - 1) ∧ (more = true ∨ q % 2 = 1)) then q + 1 else q
      if pw + 61 + bias ≤ 0 then c else (pw + 60 + bias).toNat * 2 ^ (p - 1) + c
end RND
