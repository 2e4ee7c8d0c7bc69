/-! ===== NUMBERS, 2: few roots; a number that is no square ===== -/
def pev : List Int → Int → Int
  | [], _ => 0
  | c :: l, x => c + x * pev l x
theorem pev_fac (r : Int) : ∀ (l : List Int) (c : Int), ∃ q : List Int, q.length = l.length ∧ ∀ x, pev (c :: l) x = pev (c :: l) r + (x - r) * pev q x
  | [], c => ⟨[], rfl, fun x => by show c + x * 0 = c + r * 0 + (x - r) * 0; rw [Int.mul_zero, Int.mul_zero, Int.mul_zero, Int.add_zero, Int.add_zero]⟩
  | d :: l, c => by
    obtain ⟨q, h1, h2⟩ := pev_fac r l d
    refine ⟨pev (d :: l) r :: q, by show q.length + 1 = l.length + 1; rw [h1], fun x => ?_⟩
    show c + x * pev (d :: l) x = c + r * pev (d :: l) r + (x - r) * (pev (d :: l) r + x * pev q x)
    rw [h2 x, Int.mul_add, Int.mul_add, Int.sub_mul x r (pev (d :: l) r), ← Int.mul_assoc x (x - r), ← Int.mul_assoc (x - r) x, Int.mul_comm x (x - r)]
    omega
theorem idv {p : Nat} {a : Int} : (p : Int) ∣ a ↔ p ∣ a.natAbs := Int.ofNat_dvd_left
theorem Prm.imul {p : Nat} (h : Prm p) {a b : Int} (hd : (p : Int) ∣ a * b) : (p : Int) ∣ a ∨ (p : Int) ∣ b := by
  rw [idv, Int.natAbs_mul] at hd
  rcases h.mul hd with c | c
  · exact Or.inl (idv.mpr c)
  · exact Or.inr (idv.mpr c)
theorem lag {p : Nat} (h : Prm p) : ∀ (m : Nat) (l : List Int) (R : Nat → Int), l.length ≤ m → (∀ i j, i < m → j < m → i ≠ j → ¬ (p : Int) ∣ R i - R j) → (∀ i, i < m → (p : Int) ∣ pev l (R i)) → ∀ x, (p : Int) ∣ pev l x
  | 0, l, R, hl, _, _, x => by
    cases l with
    | nil => exact Int.dvd_zero _
    | cons c l => exact absurd hl (by show ¬ l.length + 1 ≤ 0; omega)
  | m + 1, l, R, hl, hd, hr, x => by
    cases l with
    | nil => exact Int.dvd_zero _
    | cons c l =>
      obtain ⟨q, h1, h2⟩ := pev_fac (R 0) l c
      have hl' : l.length + 1 ≤ m + 1 := hl
      have r0 := hr 0 (by omega)
      have key := lag h m q (fun i => R (i + 1)) (by omega) (fun i j hi hj hij => hd (i + 1) (j + 1) (by omega) (by omega) (by omega)) (fun i hi => by
        have ri := hr (i + 1) (by omega)
        have e := h2 (R (i + 1))
        have : (p : Int) ∣ (R (i + 1) - R 0) * pev q (R (i + 1)) := by
          have e2 : (R (i + 1) - R 0) * pev q (R (i + 1)) = pev (c :: l) (R (i + 1)) - pev (c :: l) (R 0) := by omega
          rw [e2]
          exact Int.dvd_sub ri r0
        exact (h.imul this).resolve_left (hd (i + 1) 0 (by omega) (by omega) (by omega))) x
      rw [h2 x]
      exact Int.dvd_add r0 (Int.dvd_mul_of_dvd_right key)
theorem pev_mono (x : Int) : ∀ k : Nat, pev (List.replicate k 0 ++ [1]) x = x ^ k
  | 0 => by show (1 : Int) + x * 0 = x ^ 0; rw [Int.mul_zero, Int.pow_zero]; rfl
  | k + 1 => by
    show 0 + x * pev (List.replicate k 0 ++ [1]) x = x ^ (k + 1)
    rw [pev_mono x k, Int.zero_add, Int.pow_succ, Int.mul_comm]
/-- a number whose power is -1 -/
theorem nonres {p n : Nat} (h : Prm p) (hn : 1 ≤ n) (hp : 2 * n = p - 1) : ∃ a, 2 ≤ a ∧ a < p ∧ a ^ n % p = p - 1 := by
  have h2 := h.1
  have hp3 : 3 ≤ p := by omega
  have ex : ∃ a, 1 ≤ a ∧ a < p ∧ a ^ n % p ≠ 1 := by
    refine Classical.byContradiction (fun hno => ?_)
    have all : ∀ a, 1 ≤ a → a < p → a ^ n % p = 1 := fun a h1 h2 => Classical.byContradiction (fun hh => hno ⟨a, h1, h2, hh⟩)
    have key := lag h (n + 1) (-1 :: (List.replicate (n - 1) 0 ++ [1])) (fun i => ((i + 1 : Nat) : Int)) (by
      show (List.replicate (n - 1) (0 : Int) ++ [1]).length + 1 ≤ n + 1
      rw [List.length_append, List.length_replicate]
      show n - 1 + 1 + 1 ≤ n + 1
      omega) (fun i j hi hj hij hdv => by
        rw [idv] at hdv
        have := Nat.le_of_dvd (by omega) hdv
        omega) (fun i hi => by
        show (p : Int) ∣ -1 + ((i + 1 : Nat) : Int) * pev (List.replicate (n - 1) 0 ++ [1]) ((i + 1 : Nat) : Int)
        rw [pev_mono, Int.mul_comm, ← Int.pow_succ, show (n - 1).succ = n by omega, ← Int.natCast_pow]
        have e := all (i + 1) (by omega) (by omega)
        have e2 := Nat.div_add_mod ((i + 1) ^ n) p
        rw [e] at e2
        rw [← e2]
        refine ⟨(((i + 1) ^ n / p : Nat) : Int), ?_⟩
        rw [Int.natCast_add, Int.natCast_mul]
        show -1 + ((p : Int) * (((i + 1) ^ n / p : Nat) : Int) + 1) = _
        omega) 0
    have key' : (p : Int) ∣ -1 + 0 * pev (List.replicate (n - 1) 0 ++ [1]) 0 := key
    rw [Int.zero_mul, Int.add_zero, idv] at key'
    have := Nat.le_of_dvd (by decide) key'
    have e1 : Int.natAbs (-1) = 1 := rfl
    omega
  obtain ⟨a, a1, a2, a3⟩ := ex
  have hna : ¬ p ∣ a := fun hd => by have := Nat.le_of_dvd (by omega) hd; omega
  have hf := fermat1 h hna
  obtain ⟨b, hb⟩ : ∃ b, b = a ^ n := ⟨_, rfl⟩
  have e1 : a ^ (p - 1) = b * b := by rw [← hp, hb, ← Nat.pow_add, show n + n = 2 * n by omega]
  rw [e1] at hf
  rw [← hb] at a3
  have bpos : 0 < b := by rw [hb]; exact Nat.pow_pos (by omega)
  have hd : (p : Int) ∣ ((b : Int) - 1) * ((b : Int) + 1) := by
    obtain ⟨k, e2⟩ : ∃ k, b * b = p * k + 1 := ⟨b * b / p, by have := Nat.div_add_mod (b * b) p; rw [hf] at this; exact this.symm⟩
    refine ⟨(k : Int), ?_⟩
    have e3 : ((b : Int) - 1) * ((b : Int) + 1) = (b : Int) * (b : Int) - 1 := by
      rw [Int.mul_add, Int.sub_mul, Int.mul_one, Int.one_mul]
      omega
    rw [e3, ← Int.natCast_mul, e2, Int.natCast_add, Int.natCast_mul]
    show (p : Int) * (k : Int) + 1 - 1 = _
    omega
  refine ⟨a, ?_, a2, ?_⟩
  · refine Nat.lt_of_le_of_ne a1 (fun e => a3 ?_)
    rw [hb, ← e, Nat.one_pow]
    exact Nat.mod_eq_of_lt (by omega)
  · rw [← hb]
    rcases h.imul hd with c | c
    · exfalso
      have c' : p ∣ b - 1 := by
        rw [show (b : Int) - 1 = ((b - 1 : Nat) : Int) by omega] at c
        exact Int.ofNat_dvd.mp c
      obtain ⟨k, hk⟩ := c'
      refine a3 ?_
      rw [show b = 1 + p * k by omega, Nat.add_mul_mod_self_left]
      exact Nat.mod_eq_of_lt (by omega)
    · have c' : p ∣ b + 1 := by
        rw [show (b : Int) + 1 = ((b + 1 : Nat) : Int) by omega] at c
        exact Int.ofNat_dvd.mp c
      obtain ⟨k, hk⟩ := c'
      have kpos : 0 < k := Nat.pos_of_ne_zero (fun e => by rw [e, Nat.mul_zero] at hk; omega)
      obtain ⟨k', rfl⟩ : ∃ k', k = k' + 1 := ⟨k - 1, by omega⟩
      rw [Nat.mul_succ] at hk
      rw [show b = p - 1 + p * k' by omega, Nat.add_mul_mod_self_left]
      exact Nat.mod_eq_of_lt (by omega)
