/-! ===== NUMBERS, 3: bits turned round; halves of a transform ===== -/
/-- the lowest m bits, turned round -/
def rev : Nat → Nat → Nat
  | 0, _ => 0
  | t + 1, k => k % 2 * 2 ^ t + rev t (k / 2)
/-- one more, from the highest bit on -/
def rinc : Nat → Nat → Nat
  | 0, j => j
  | t + 1, j => if 2 ^ t ≤ j then rinc t (j - 2 ^ t) else j + 2 ^ t
theorem rev_lt : ∀ (m k : Nat), rev m k < 2 ^ m
  | 0, _ => by show 0 < 1; decide
  | t + 1, k => by
    have h := rev_lt t (k / 2)
    have h2 : k % 2 * 2 ^ t ≤ 1 * 2 ^ t := Nat.mul_le_mul_right _ (by omega)
    show k % 2 * 2 ^ t + rev t (k / 2) < 2 ^ (t + 1)
    rw [Nat.pow_succ]
    omega
theorem rinc_rev : ∀ (m k : Nat), k + 1 < 2 ^ m → rinc m (rev m k) = rev m (k + 1)
  | 0, k, h => by exact absurd h (by show ¬ k + 1 < 1; omega)
  | t + 1, k, h => by
    have hl := rev_lt t (k / 2)
    rw [Nat.pow_succ] at h
    show (if 2 ^ t ≤ k % 2 * 2 ^ t + rev t (k / 2) then rinc t (k % 2 * 2 ^ t + rev t (k / 2) - 2 ^ t) else k % 2 * 2 ^ t + rev t (k / 2) + 2 ^ t) = (k + 1) % 2 * 2 ^ t + rev t ((k + 1) / 2)
    rcases Nat.mod_two_eq_zero_or_one k with c | c
    · rw [c, Nat.zero_mul, Nat.zero_add, if_neg (by omega), show (k + 1) % 2 = 1 by omega, show (k + 1) / 2 = k / 2 by omega, Nat.one_mul, Nat.add_comm]
    · rw [c, Nat.one_mul, if_pos (by omega), show (k + 1) % 2 = 0 by omega, show (k + 1) / 2 = k / 2 + 1 by omega, Nat.zero_mul, Nat.zero_add, show 2 ^ t + rev t (k / 2) - 2 ^ t = rev t (k / 2) by omega]
      exact rinc_rev t (k / 2) (by omega)
/-- turned round from the other end -/
theorem rev_hi : ∀ (m k : Nat), rev (m + 1) k = rev m (k % 2 ^ m) * 2 + k / 2 ^ m % 2
  | 0, k => by show k % 2 * 1 + 0 = 0 * 2 + k / 1 % 2; rw [Nat.div_one]; omega
  | m + 1, k => by
    have ih := rev_hi m (k / 2)
    show k % 2 * 2 ^ (m + 1) + rev (m + 1) (k / 2) = (k % 2 ^ (m + 1) % 2 * 2 ^ m + rev m (k % 2 ^ (m + 1) / 2)) * 2 + k / 2 ^ (m + 1) % 2
    have e1 : k % 2 ^ (m + 1) % 2 = k % 2 := by rw [Nat.pow_succ, Nat.mul_comm, Nat.mod_mul_right_mod]
    have e2 : k % 2 ^ (m + 1) / 2 = k / 2 % 2 ^ m := by rw [Nat.pow_succ, Nat.mul_comm, Nat.mod_mul_right_div_self]
    have e3 : k / 2 ^ (m + 1) = k / 2 / 2 ^ m := by rw [Nat.pow_succ, Nat.mul_comm, Nat.div_div_eq_div_mul]
    have e4 : k % 2 * 2 ^ m * 2 = k % 2 * 2 ^ (m + 1) := by rw [Nat.mul_assoc, ← Nat.pow_succ]
    rw [ih, e1, e2, e3, Nat.add_mul, e4]
    omega
theorem rev_rev : ∀ (m k : Nat), k < 2 ^ m → rev m (rev m k) = k
  | 0, k, h => by
    have h' : k < 1 := h
    show 0 = k
    omega
  | m + 1, k, h => by
    rw [Nat.pow_succ] at h
    have hl := rev_lt m (k / 2)
    have e : rev (m + 1) k = k % 2 * 2 ^ m + rev m (k / 2) := rfl
    have p0 : 0 < 2 ^ m := Nat.pow_pos (by decide)
    rw [rev_hi, e, Nat.mul_comm (k % 2), Nat.mul_add_mod, Nat.mod_eq_of_lt hl, Nat.mul_add_div p0, Nat.div_eq_of_lt hl, rev_rev m (k / 2) (by omega)]
    omega
/-- a transform is made of two of half the size -/
theorem dft_half (y : Nat → Nat) (W k : Nat) : ∀ B, ssum (fun j => y j * W ^ (k * j)) (2 * B) = ssum (fun i => y (2 * i) * (W * W) ^ (k * i)) B + W ^ k * ssum (fun i => y (2 * i + 1) * (W * W) ^ (k * i)) B
  | 0 => by show 0 = 0 + W ^ k * 0; rw [Nat.mul_zero]
  | B + 1 => by
    have ih := dft_half y W k B
    show ssum (fun j => y j * W ^ (k * j)) (2 * B) + y (2 * B) * W ^ (k * (2 * B)) + y (2 * B + 1) * W ^ (k * (2 * B + 1)) = ssum (fun i => y (2 * i) * (W * W) ^ (k * i)) B + y (2 * B) * (W * W) ^ (k * B) + W ^ k * (ssum (fun i => y (2 * i + 1) * (W * W) ^ (k * i)) B + y (2 * B + 1) * (W * W) ^ (k * B))
    have e1 : W ^ (k * (2 * B)) = (W * W) ^ (k * B) := by
      rw [Nat.mul_pow, ← Nat.pow_add]
      exact congrArg (W ^ ·) (by rw [← Nat.mul_add]; exact congrArg (k * ·) (by omega))
    have e2 : y (2 * B + 1) * W ^ (k * (2 * B + 1)) = W ^ k * (y (2 * B + 1) * (W * W) ^ (k * B)) := by
      rw [Nat.mul_add k (2 * B) 1, Nat.mul_one, Nat.pow_add, e1, Nat.mul_comm ((W * W) ^ (k * B)), Nat.mul_left_comm]
    rw [ih, e1, e2, Nat.mul_add (W ^ k)]
    omega
theorem ssum_mod {f g : Nat → Nat} {p : Nat} : ∀ n, (∀ i, i < n → f i % p = g i % p) → ssum f n % p = ssum g n % p
  | 0, _ => rfl
  | n + 1, h => by
    show (ssum f n + f n) % p = (ssum g n + g n) % p
    rw [Nat.add_mod, ssum_mod n (fun i hi => h i (by omega)), h n (by omega), ← Nat.add_mod]
/-- past the half, the smaller transforms come again -/
theorem dft_per {y : Nat → Nat} {V p B k : Nat} (hV : V ^ B % p = 1 % p) : ssum (fun i => y i * V ^ ((k + B) * i)) B % p = ssum (fun i => y i * V ^ (k * i)) B % p := by
  refine ssum_mod B (fun i _ => ?_)
  show y i * V ^ ((k + B) * i) % p = y i * V ^ (k * i) % p
  have e : V ^ ((k + B) * i) = V ^ (k * i) * (V ^ B) ^ i := by rw [Nat.add_mul, Nat.pow_add, Nat.pow_mul V B i]
  have e2 : (V ^ B) ^ i % p = 1 % p := by rw [Nat.pow_mod, hV, ← Nat.pow_mod, Nat.one_pow]
  rw [e, Nat.mul_mod, Nat.mul_mod (V ^ (k * i)), e2, ← Nat.mul_mod (V ^ (k * i)), Nat.mul_one, ← Nat.mul_mod]
