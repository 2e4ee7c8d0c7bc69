/-! ===== NUMBERS, 1: a prime, little Fermat ===== -/
def bin : Nat → Nat → Nat
  | _, 0 => 1
  | 0, _ + 1 => 0
  | n + 1, k + 1 => bin n k + bin n (k + 1)
theorem bin_z (n : Nat) : bin n 0 = 1 := by cases n <;> rfl
theorem bin_gt : ∀ (n k : Nat), n < k → bin n k = 0
  | 0, 0, h => by omega
  | 0, k + 1, _ => rfl
  | n + 1, 0, h => by omega
  | n + 1, k + 1, h => by
    show bin n k + bin n (k + 1) = 0
    rw [bin_gt n k (by omega), bin_gt n (k + 1) (by omega)]
theorem bin_self : ∀ n, bin n n = 1
  | 0 => rfl
  | n + 1 => by
    show bin n n + bin n (n + 1) = 1
    rw [bin_self n, bin_gt n (n + 1) (by omega)]
theorem bin_mul : ∀ (n k : Nat), (k + 1) * bin (n + 1) (k + 1) = (n + 1) * bin n k
  | 0, 0 => rfl
  | 0, k + 1 => by
    show (k + 1 + 1) * (bin 0 (k + 1) + bin 0 (k + 1 + 1)) = 1 * bin 0 (k + 1)
    show (k + 1 + 1) * (0 + 0) = 1 * 0
    rw [Nat.add_zero, Nat.mul_zero]
  | n + 1, 0 => by
    have ih := bin_mul n 0
    show (0 + 1) * (bin (n + 1) 0 + bin (n + 1) (0 + 1)) = _
    simp only [bin_z] at ih ⊢
    omega
  | n + 1, k + 1 => by
    have ih1 := bin_mul n k
    have ih2 := bin_mul n (k + 1)
    show (k + 1 + 1) * (bin (n + 1) (k + 1) + bin (n + 1) (k + 1 + 1)) = (n + 1 + 1) * bin (n + 1) (k + 1)
    rw [Nat.mul_add, ih2, Nat.succ_mul (k + 1), ih1, Nat.succ_mul (n + 1)]
    have : bin (n + 1) (k + 1) = bin n k + bin n (k + 1) := rfl
    have e : (n + 1) * bin (n + 1) (k + 1) = (n + 1) * bin n k + (n + 1) * bin n (k + 1) := by rw [this, Nat.mul_add]
    omega
def ssum (f : Nat → Nat) : Nat → Nat
  | 0 => 0
  | n + 1 => ssum f n + f n
theorem ssum_cg {f g : Nat → Nat} : ∀ n, (∀ i, i < n → f i = g i) → ssum f n = ssum g n
  | 0, _ => rfl
  | n + 1, h => by
    show ssum f n + f n = ssum g n + g n
    rw [ssum_cg n (fun i hi => h i (by omega)), h n (by omega)]
theorem ssum_shift (f : Nat → Nat) : ∀ n, ssum f (n + 1) = f 0 + ssum (fun k => f (k + 1)) n
  | 0 => by show 0 + f 0 = f 0 + 0; omega
  | n + 1 => by
    show ssum f (n + 1) + f (n + 1) = f 0 + (ssum (fun k => f (k + 1)) n + f (n + 1))
    rw [ssum_shift f n]
    omega
theorem ssum_add (f g : Nat → Nat) : ∀ n, ssum (fun k => f k + g k) n = ssum f n + ssum g n
  | 0 => rfl
  | n + 1 => by
    show ssum (fun k => f k + g k) n + (f n + g n) = ssum f n + f n + (ssum g n + g n)
    rw [ssum_add f g n]
    omega
theorem ssum_mul (f : Nat → Nat) (c : Nat) : ∀ n, ssum (fun k => c * f k) n = c * ssum f n
  | 0 => rfl
  | n + 1 => by
    show ssum (fun k => c * f k) n + c * f n = c * (ssum f n + f n)
    rw [ssum_mul f c n, Nat.mul_add]
theorem ssum_dvd {f : Nat → Nat} {p : Nat} : ∀ n, (∀ i, i < n → p ∣ f i) → p ∣ ssum f n
  | 0, _ => Nat.dvd_zero _
  | n + 1, h => Nat.dvd_add (ssum_dvd n (fun i hi => h i (by omega))) (h n (by omega))
theorem binom (x : Nat) : ∀ n, (x + 1) ^ n = ssum (fun k => bin n k * x ^ k) (n + 1)
  | 0 => by show 1 = 0 + bin 0 0 * x ^ 0; rw [bin_z, Nat.pow_zero]
  | n + 1 => by
    have ih := binom x n
    rw [ssum_shift, bin_z, Nat.pow_zero, Nat.mul_one]
    have e1 : ssum (fun k => bin (n + 1) (k + 1) * x ^ (k + 1)) (n + 1) = x * ssum (fun k => bin n k * x ^ k) (n + 1) + ssum (fun k => bin n (k + 1) * x ^ (k + 1)) (n + 1) := by
      rw [← ssum_mul, ← ssum_add]
      refine ssum_cg _ (fun k _ => ?_)
      show (bin n k + bin n (k + 1)) * x ^ (k + 1) = x * (bin n k * x ^ k) + bin n (k + 1) * x ^ (k + 1)
      rw [Nat.add_mul, Nat.pow_succ, ← Nat.mul_assoc (bin n k), Nat.mul_comm x (bin n k * x ^ k)]
    have e2 : 1 + ssum (fun k => bin n (k + 1) * x ^ (k + 1)) (n + 1) = ssum (fun k => bin n k * x ^ k) (n + 1) := by
      have := ssum_shift (fun k => bin n k * x ^ k) (n + 1)
      rw [bin_z, Nat.pow_zero, Nat.mul_one] at this
      rw [← this]
      show ssum (fun k => bin n k * x ^ k) (n + 1) + bin n (n + 1) * x ^ (n + 1) = _
      rw [bin_gt n (n + 1) (by omega), Nat.zero_mul, Nat.add_zero]
    rw [e1, ← ih]
    rw [← ih] at e2
    rw [Nat.pow_succ, Nat.mul_add, Nat.mul_one, Nat.mul_comm]
    omega
/-- a prime -/
def Prm (p : Nat) : Prop := 2 ≤ p ∧ ∀ d, d ∣ p → d = 1 ∨ d = p
theorem Prm.cop {p a : Nat} (h : Prm p) (ha : ¬ p ∣ a) : Nat.gcd p a = 1 := by
  rcases h.2 _ (Nat.gcd_dvd_left p a) with e | e
  · exact e
  · exact absurd (e ▸ Nat.gcd_dvd_right p a) ha
theorem Prm.mul {p a b : Nat} (h : Prm p) (hd : p ∣ a * b) : p ∣ a ∨ p ∣ b := by
  by_cases ha : p ∣ a
  · exact Or.inl ha
  · exact Or.inr (Nat.Coprime.dvd_of_dvd_mul_left (h.cop ha) hd)
theorem Prm.bin {p : Nat} (h : Prm p) {k : Nat} (h0 : 0 < k) (hk : k < p) : p ∣ Jvm.Pilot.CGridEngineLaw_law_r3943_d802ca.bin p k := by
  obtain ⟨k, rfl⟩ : ∃ j, k = j + 1 := ⟨k - 1, by omega⟩
  obtain ⟨q, rfl⟩ : ∃ q, p = q + 1 := ⟨p - 1, by omega⟩
  have e := bin_mul q k
  have hd : q + 1 ∣ (k + 1) * Jvm.Pilot.CGridEngineLaw_law_r3943_d802ca.bin (q + 1) (k + 1) := ⟨_, e⟩
  rcases h.mul hd with c | c
  · exact absurd (Nat.le_of_dvd (by omega) c) (by omega)
  · exact c
theorem fermat {p : Nat} (h : Prm p) : ∀ x, x ^ p % p = x % p
  | 0 => by rw [Nat.zero_pow (by have := h.1; omega)]
  | x + 1 => by
    have h2 := h.1
    obtain ⟨q, hq⟩ : ∃ q, p = q + 1 := ⟨p - 1, by omega⟩
    have e1 : ssum (fun k => bin p k * x ^ k) p = 1 + ssum (fun k => bin p (k + 1) * x ^ (k + 1)) q := by
      have := ssum_shift (fun k => bin p k * x ^ k) q
      rw [bin_z, Nat.pow_zero, Nat.mul_one, ← hq] at this
      exact this
    have e2 : p ∣ ssum (fun k => bin p (k + 1) * x ^ (k + 1)) q := ssum_dvd q (fun i hi => Nat.dvd_mul_right_of_dvd (h.bin (by omega) (by omega)) _)
    obtain ⟨c, hc⟩ := e2
    have e3 : (x + 1) ^ p = 1 + p * c + x ^ p := by
      rw [binom x p]
      show ssum (fun k => bin p k * x ^ k) p + bin p p * x ^ p = _
      rw [e1, hc, bin_self, Nat.one_mul]
    rw [e3, Nat.add_mod, fermat h x, ← Nat.add_mod, show 1 + p * c + x = x + 1 + p * c by omega, Nat.add_mul_mod_self_left]
theorem fermat1 {p a : Nat} (h : Prm p) (ha : ¬ p ∣ a) : a ^ (p - 1) % p = 1 := by
  have h2 := h.1
  have hf := fermat h a
  have e : a ^ p = a * a ^ (p - 1) := by
    rw [Nat.mul_comm, ← Nat.pow_succ, show (p - 1).succ = p by omega]
  have apos : 0 < a := Nat.pos_of_ne_zero (fun e => ha (e ▸ Nat.dvd_zero p))
  have ppos : 0 < a ^ (p - 1) := Nat.pow_pos apos
  have hd : p ∣ a * (a ^ (p - 1) - 1) := by
    rw [Nat.mul_sub, Nat.mul_one, ← e]
    exact Nat.dvd_of_mod_eq_zero (Nat.sub_mod_eq_zero_of_mod_eq hf)
  rcases h.mul hd with c | c
  · exact absurd c ha
  · obtain ⟨k, hk⟩ := c
    rw [show a ^ (p - 1) = 1 + p * k by omega, Nat.add_mul_mod_self_left]
    exact Nat.mod_eq_of_lt h2
