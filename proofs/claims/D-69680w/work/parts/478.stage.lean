/-! ===== NUMBERS, 9: a stage of the transform ===== -/
/-- what stands at k in block q after stage s -/
def DFv (p m : Nat) (x : Nat → Nat) (W s q k : Nat) : Nat := ssum (fun j => x (rev (m - s) q + j * 2 ^ (m - s)) * (W ^ 2 ^ (m - s)) ^ (k * j)) (2 ^ s) % p
theorem neg_mod {p E c : Nat} (h2 : 2 ≤ p) : (E + (p - 1) * c) % p = (E % p + p - c % p) % p := by
  obtain ⟨q, hq⟩ : ∃ q, p = q + 1 := ⟨p - 1, by omega⟩
  have hc := Nat.mod_lt c (show 0 < p by omega)
  have e1 : (E + (p - 1) * c) % p = (E % p + (p - 1) * (c % p)) % p := by
    rw [Nat.mod_add_mod, ← Nat.add_mod_mod E ((p - 1) * (c % p)), Nat.mul_mod_mod, Nat.add_mod_mod]
  rw [e1]
  obtain ⟨b, hb⟩ : ∃ b, b = c % p := ⟨_, rfl⟩
  rw [← hb] at hc ⊢
  by_cases b0 : b = 0
  · rw [b0, Nat.mul_zero, Nat.add_zero, Nat.sub_zero, Nat.add_mod_right]
  · obtain ⟨b', rfl⟩ : ∃ b', b = b' + 1 := ⟨b - 1, by omega⟩
    have e2 : (p - 1) * (b' + 1) = p - 1 - b' + p * b' := by
      rw [hq, Nat.mul_succ, show q + 1 - 1 = q by omega, Nat.add_mul, Nat.one_mul]
      omega
    rw [e2, show E % p + (p - 1 - b' + p * b') = E % p + p - (b' + 1) + p * b' by omega, Nat.add_mul_mod_self_left]
theorem stage {p m s t q k : Nat} {x : Nat → Nat} {W : Nat} (h2 : 2 ≤ p) (hm : m = s + (t + 1)) (hk : k < 2 ^ s) (hW : W ^ 2 ^ (m - 1) % p = p - 1) :
    DFv p m x W (s + 1) q k = pa p (W ^ 2 ^ t % p) (DFv p m x W s (2 * q)) (DFv p m x W s (2 * q + 1)) k ∧
    DFv p m x W (s + 1) q (k + 2 ^ s) = pb p (W ^ 2 ^ t % p) (DFv p m x W s (2 * q)) (DFv p m x W s (2 * q + 1)) k := by
  obtain ⟨V0, hV0⟩ : ∃ V0, V0 = W ^ 2 ^ t := ⟨_, rfl⟩
  have ms : m - s = t + 1 := by omega
  have ms1 : m - (s + 1) = t := by omega
  have hVV : W ^ 2 ^ (t + 1) = V0 * V0 := by rw [hV0, ← Nat.pow_add, Nat.pow_succ]; exact congrArg (W ^ ·) (by omega)
  obtain ⟨y, hy⟩ : ∃ y : Nat → Nat, y = fun j => x (rev t q + j * 2 ^ t) := ⟨_, rfl⟩
  have r0 : rev (t + 1) (2 * q) = rev t q := by
    show 2 * q % 2 * 2 ^ t + rev t (2 * q / 2) = _
    rw [Nat.mul_mod_right, Nat.zero_mul, Nat.zero_add, Nat.mul_div_cancel_left _ (by decide)]
  have r1 : rev (t + 1) (2 * q + 1) = rev t q + 2 ^ t := by
    show (2 * q + 1) % 2 * 2 ^ t + rev t ((2 * q + 1) / 2) = _
    rw [show (2 * q + 1) % 2 = 1 by omega, show (2 * q + 1) / 2 = q by omega, Nat.one_mul, Nat.add_comm]
  have eE : ∀ k, DFv p m x W s (2 * q) k = ssum (fun i => y (2 * i) * (V0 * V0) ^ (k * i)) (2 ^ s) % p := fun k => by
    unfold DFv
    rw [ms, r0, hVV, hy]
    refine congrArg (· % p) (ssum_cg _ (fun i _ => ?_))
    show x (rev t q + i * 2 ^ (t + 1)) * _ = x (rev t q + 2 * i * 2 ^ t) * _
    rw [Nat.pow_succ, Nat.mul_comm (2 ^ t) 2, ← Nat.mul_assoc, Nat.mul_comm i 2]
  have eO : ∀ k, DFv p m x W s (2 * q + 1) k = ssum (fun i => y (2 * i + 1) * (V0 * V0) ^ (k * i)) (2 ^ s) % p := fun k => by
    unfold DFv
    rw [ms, r1, hVV, hy]
    refine congrArg (· % p) (ssum_cg _ (fun i _ => ?_))
    show x (rev t q + 2 ^ t + i * 2 ^ (t + 1)) * _ = x (rev t q + (2 * i + 1) * 2 ^ t) * _
    have : rev t q + 2 ^ t + i * 2 ^ (t + 1) = rev t q + (2 * i + 1) * 2 ^ t := by
      rw [Nat.pow_succ, Nat.mul_comm (2 ^ t) 2, ← Nat.mul_assoc, Nat.mul_comm i 2, Nat.add_mul, Nat.one_mul]
      omega
    rw [this]
  have eD : ∀ k, DFv p m x W (s + 1) q k = (ssum (fun i => y (2 * i) * (V0 * V0) ^ (k * i)) (2 ^ s) + V0 ^ k * ssum (fun i => y (2 * i + 1) * (V0 * V0) ^ (k * i)) (2 ^ s)) % p := fun k => by
    rw [← dft_half y V0 k (2 ^ s)]
    unfold DFv
    rw [ms1, ← hV0, hy, Nat.pow_succ, Nat.mul_comm (2 ^ s) 2]
  obtain ⟨E, hE⟩ : ∃ E, E = ssum (fun i => y (2 * i) * (V0 * V0) ^ (k * i)) (2 ^ s) := ⟨_, rfl⟩
  obtain ⟨O, hO⟩ : ∃ O, O = ssum (fun i => y (2 * i + 1) * (V0 * V0) ^ (k * i)) (2 ^ s) := ⟨_, rfl⟩
  have bbe : DFv p m x W s (2 * q + 1) k * ((V0 % p) ^ k % p) % p = V0 ^ k * O % p := by
    rw [eO, ← hO, ← Nat.pow_mod, ← Nat.mul_mod, Nat.mul_comm]
  have vB : V0 ^ 2 ^ s % p = p - 1 := by
    rw [hV0, ← Nat.pow_mul, ← Nat.pow_add, show t + s = m - 1 by omega]
    exact hW
  have vB2 : (V0 * V0) ^ 2 ^ s % p = 1 % p := by
    rw [Nat.mul_pow, Nat.mul_mod, vB]
    obtain ⟨u, hu⟩ : ∃ u, p = u + 2 := ⟨p - 2, by omega⟩
    rw [hu, show u + 2 - 1 = u + 1 by omega, show (u + 1) * (u + 1) = 1 + (u + 2) * u by rw [Nat.add_mul, Nat.mul_add, Nat.add_mul]; omega, Nat.add_mul_mod_self_left]
  refine ⟨?_, ?_⟩
  · rw [eD, ← hE, ← hO]
    unfold pa
    rw [← hV0, bbe, eE, ← hE, ← Nat.add_mod]
  · rw [eD]
    have p1 := dft_per (y := fun i => y (2 * i)) (k := k) vB2
    have p2 := dft_per (y := fun i => y (2 * i + 1)) (k := k) vB2
    rw [← hE] at p1
    rw [← hO] at p2
    unfold pb
    have hmul : V0 ^ (k + 2 ^ s) * ssum (fun i => y (2 * i + 1) * (V0 * V0) ^ ((k + 2 ^ s) * i)) (2 ^ s) % p = (p - 1) * (V0 ^ k * O) % p := by
      rw [Nat.mul_mod, p2, ← Nat.mul_mod, Nat.pow_add, Nat.mul_assoc, Nat.mul_left_comm, Nat.mul_mod, vB, Nat.mul_mod_mod]
    rw [← hV0, bbe, eE, ← hE, ← neg_mod h2, Nat.add_mod, hmul, p1, ← Nat.add_mod]
