/-! ===== EXACT SOLUTIONS, 2: rows of digits ===== -/
def Vl (B : Nat) (D : Nat → Nat) : Nat → Nat
  | 0 => 0
  | n + 1 => Vl B D n + D n * B ^ n
theorem Vl_congr {B : Nat} {D E : Nat → Nat} : ∀ {n : Nat}, (∀ k, k < n → D k = E k) → Vl B D n = Vl B E n := by
  intro n
  induction n with
  | zero => intro _; rfl
  | succ n ih =>
    intro h
    show Vl B D n + D n * B ^ n = Vl B E n + E n * B ^ n
    rw [ih (fun k hk => h k (by omega)), h n (by omega)]
theorem Vl_lt {B : Nat} {D : Nat → Nat} : ∀ {n : Nat}, (∀ k, k < n → D k < B) → Vl B D n < B ^ n := by
  intro n
  induction n with
  | zero => intro _; rw [Nat.pow_zero]; exact Nat.one_pos
  | succ n ih =>
    intro h
    have h1 := ih (fun k hk => h k (by omega))
    have h2 := h n (by omega)
    show Vl B D n + D n * B ^ n < B ^ (n + 1)
    have h3 : (D n + 1) * B ^ n ≤ B * B ^ n := Nat.mul_le_mul_right _ h2
    rw [Nat.add_mul, Nat.one_mul] at h3
    rw [Nat.pow_succ, Nat.mul_comm (B ^ n)]
    omega
theorem Vl_ge {B : Nat} {D : Nat → Nat} {n : Nat} (h0 : 0 < n) (h : D (n - 1) ≠ 0) : B ^ (n - 1) ≤ Vl B D n := by
  obtain ⟨m, rfl⟩ : ∃ m, n = m + 1 := ⟨n - 1, by omega⟩
  rw [Nat.add_sub_cancel] at h ⊢
  show B ^ m ≤ Vl B D m + D m * B ^ m
  have : 1 * B ^ m ≤ D m * B ^ m := Nat.mul_le_mul_right _ (by omega)
  omega
theorem Vl_add {B : Nat} {D : Nat → Nat} {a : Nat} : ∀ b : Nat, Vl B D (a + b) = Vl B D a + B ^ a * Vl B (fun k => D (a + k)) b := by
  intro b
  induction b with
  | zero => show Vl B D a = Vl B D a + B ^ a * 0; omega
  | succ b ih =>
    show Vl B D (a + b) + D (a + b) * B ^ (a + b) = Vl B D a + B ^ a * (Vl B (fun k => D (a + k)) b + D (a + b) * B ^ b)
    rw [ih, Nat.mul_add, Nat.pow_add, Nat.mul_left_comm]
    omega
theorem Vl_zero {B : Nat} {D : Nat → Nat} : ∀ {n : Nat}, (∀ k, k < n → D k = 0) → Vl B D n = 0 := by
  intro n
  induction n with
  | zero => intro _; rfl
  | succ n ih =>
    intro h
    show Vl B D n + D n * B ^ n = 0
    rw [ih (fun k hk => h k (by omega)), h n (by omega), Nat.zero_mul]
def trl (D : Nat → Nat) : Nat → Nat
  | 0 => 0
  | n + 1 => if D n = 0 then trl D n else n + 1
theorem trl_le (D : Nat → Nat) : ∀ n, trl D n ≤ n := by
  intro n
  induction n with
  | zero => exact Nat.le_refl _
  | succ n ih =>
    unfold trl
    split
    · omega
    · omega
theorem trl_top {D : Nat → Nat} : ∀ {n}, 0 < trl D n → D (trl D n - 1) ≠ 0 := by
  intro n
  induction n with
  | zero => intro h; exact absurd h (Nat.lt_irrefl 0)
  | succ n ih =>
    unfold trl
    split
    · exact ih
    · rename_i h
      intro _
      exact h
theorem Vl_trl {B : Nat} {D : Nat → Nat} : ∀ n, Vl B D (trl D n) = Vl B D n := by
  intro n
  induction n with
  | zero => rfl
  | succ n ih =>
    unfold trl
    split
    · rename_i h
      show _ = Vl B D n + D n * B ^ n
      rw [ih, h, Nat.zero_mul, Nat.add_zero]
    · rfl
/-- few digits if the amount is small -/
theorem Vl_few {B m n : Nat} {D : Nat → Nat} (hB : 2 ≤ B) (h : 0 < n → D (n - 1) ≠ 0) (hv : Vl B D n < B ^ m) : n ≤ m := by
  refine Classical.byContradiction (fun hh => ?_)
  have h0 : 0 < n := by omega
  have h1 := Vl_ge (B := B) h0 (h h0)
  have h2 : B ^ m ≤ B ^ (n - 1) := Nat.pow_le_pow_right (by omega) (by omega)
  omega
/-- amounts compared, from the top -/
def cmpd (D E : Nat → Nat) : Nat → Int
  | 0 => 0
  | n + 1 => if D n = E n then cmpd D E n else if D n < E n then -1 else 1
theorem cmpd_ok {B : Nat} {D E : Nat → Nat} : ∀ {n : Nat}, (∀ k, k < n → D k < B) → (∀ k, k < n → E k < B) → cmpd D E n = if Vl B D n < Vl B E n then -1 else if Vl B D n = Vl B E n then 0 else 1 := by
  intro n
  induction n with
  | zero => intro _ _; rfl
  | succ n ih =>
    intro hD hE
    have h1 := ih (fun k hk => hD k (by omega)) (fun k hk => hE k (by omega))
    have l1 := Vl_lt (B := B) (D := D) (n := n) (fun k hk => hD k (by omega))
    have l2 := Vl_lt (B := B) (D := E) (n := n) (fun k hk => hE k (by omega))
    unfold cmpd
    show (if D n = E n then cmpd D E n else if D n < E n then -1 else 1) = if Vl B D n + D n * B ^ n < Vl B E n + E n * B ^ n then -1 else if Vl B D n + D n * B ^ n = Vl B E n + E n * B ^ n then 0 else 1
    by_cases c : D n = E n
    · rw [if_pos c, h1, c]
      rcases Nat.lt_trichotomy (Vl B D n) (Vl B E n) with c1 | c1 | c1
      · rw [if_pos c1, if_pos (by omega)]
      · rw [c1, if_neg (Nat.lt_irrefl _), if_pos rfl, if_neg (Nat.lt_irrefl _), if_pos rfl]
      · have c2 : ¬ Vl B D n < Vl B E n := by omega
        have c3 : ¬ Vl B D n = Vl B E n := by omega
        have c4 : ¬ Vl B D n + E n * B ^ n < Vl B E n + E n * B ^ n := by omega
        have c5 : ¬ Vl B D n + E n * B ^ n = Vl B E n + E n * B ^ n := by omega
        rw [if_neg c2, if_neg c3, if_neg c4, if_neg c5]
    · rw [if_neg c]
      by_cases c1 : D n < E n
      · have h3 : (D n + 1) * B ^ n ≤ E n * B ^ n := Nat.mul_le_mul_right _ c1
        rw [Nat.add_mul, Nat.one_mul] at h3
        rw [if_pos c1, if_pos (by omega)]
      · have h3 : (E n + 1) * B ^ n ≤ D n * B ^ n := Nat.mul_le_mul_right _ (by omega)
        rw [Nat.add_mul, Nat.one_mul] at h3
        rw [if_neg c1, if_neg (by omega), if_neg (by omega)]
/-- more digits are more -/
theorem Vl_more {B n m : Nat} {D E : Nat → Nat} (hD : ∀ k, k < n → D k < B) (h0 : 0 < m → E (m - 1) ≠ 0) (hnm : n < m) (hB : 0 < B) : Vl B D n < Vl B E m := by
  have h1 := Vl_lt (B := B) hD
  have h2 := Vl_ge (B := B) (show 0 < m by omega) (h0 (by omega))
  have h3 : B ^ n ≤ B ^ (m - 1) := Nat.pow_le_pow_right hB (by omega)
  omega
/-- the value after one digit was changed -/
theorem Vl_set {B : Nat} {D : Nat → Nat} {i v : Nat} : ∀ {n : Nat}, i < n → Vl B (fun k => if k = i then v else D k) n + D i * B ^ i = Vl B D n + v * B ^ i := by
  intro n
  induction n with
  | zero => intro h; omega
  | succ n ih =>
    intro h
    show Vl B (fun k => if k = i then v else D k) n + (if n = i then v else D n) * B ^ n + D i * B ^ i = Vl B D n + D n * B ^ n + v * B ^ i
    by_cases c : n = i
    · subst c
      rw [if_pos rfl, Vl_congr (D := fun k => if k = n then v else D k) (E := D) (fun k hk => if_neg (by omega))]
      omega
    · have := ih (by omega)
      rw [if_neg c]
      omega
theorem Vl_head {B : Nat} {D : Nat → Nat} (n : Nat) : Vl B D (n + 1) = D 0 + B * Vl B (fun k => D (k + 1)) n := by
  have := Vl_add (B := B) (D := D) (a := 1) n
  rw [Nat.add_comm 1 n] at this
  rw [this, show Vl B D 1 = 0 + D 0 * B ^ 0 from rfl, Nat.pow_zero, Nat.pow_one]
  have : Vl B (fun k => D (1 + k)) n = Vl B (fun k => D (k + 1)) n := Vl_congr (fun k _ => by rw [Nat.add_comm])
  rw [this]
  omega
/-- one row of a product: digits i .. i + m of T, a times E added, the carry behind -/
theorem Vl_dm {B v : Nat} (hB : 0 < B) : v % B + B * (v / B) = v := Nat.mod_add_div v B
