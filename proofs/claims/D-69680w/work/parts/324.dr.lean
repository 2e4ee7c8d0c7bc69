/-! ===== FLOATS, 16: rounding to a double first does no harm to a float ===== -/
theorem near_to {N D X : Nat} (hD : 0 < D) (h1 : 2 * N < 2 * (X * D) + D) (h2 : 2 * (X * D) < 2 * N + D) : FP.Core.nearest N D = X := by
  rcases Nat.lt_or_ge N (X * D) with h | h
  · obtain ⟨Y, rfl⟩ : ∃ Y, X = Y + 1 := ⟨X - 1, by
      rcases Nat.eq_zero_or_pos X with hx | hx
      · rw [hx, Nat.zero_mul] at h; omega
      · omega⟩
    have e : (Y + 1) * D = Y * D + D := by rw [Nat.add_mul, Nat.one_mul]
    have e2 : (2 * Y + 1) * D = 2 * (Y * D) + D := by rw [Nat.add_mul, Nat.one_mul, Nat.mul_assoc]
    exact (near_char (A := N) (B := D) (Q := Y) (by omega) (by omega)).2.1 (by omega)
  · have e : (X + 1) * D = X * D + D := by rw [Nat.add_mul, Nat.one_mul]
    have e2 : (2 * X + 1) * D = 2 * (X * D) + D := by rw [Nat.add_mul, Nat.one_mul, Nat.mul_assoc]
    exact (near_char (A := N) (B := D) (Q := X) (by omega) (by omega)).1 (by omega)
theorem near_le' {N D X : Nat} (hD : 0 < D) (h : N ≤ X * D) : FP.Core.nearest N D ≤ X := by
  rcases Nat.lt_or_ge N (X * D) with h1 | h1
  · exact near_le hD h1
  · rw [near_to (X := X) hD (by omega) (by omega)]
    exact Nat.le_refl _
/-- what is near enough to a float becomes that float -/
theorem rr_near {s : Bool} {c k Z : Nat} {g : Int} (hc1 : 2 ^ 23 ≤ c) (hc2 : c < 2 ^ 24) (hk : 3 ≤ k) (h1 : (8 * c - 1) * 2 ^ k ≤ 8 * Z) (h2 : 8 * Z ≤ (8 * c + 1) * 2 ^ k) (hq : -149 ≤ g + k) (hq2 : g + k ≤ 104) :
    FP.Core.roundRatio FP.Core.b32 s Z 1 g = .fin s c (g + k) := by
  have eq1 : FP.Core.b32.qmin = -149 ∧ FP.Core.b32.qmax = 104 ∧ FP.Core.b32.p = 24 ∧ FP.Core.b32.tails = 2 ^ 23 := by decide
  obtain ⟨K, hK⟩ : ∃ K, 2 ^ k = K := ⟨_, rfl⟩
  have hK0 : 0 < K := by rw [← hK]; exact Nat.two_pow_pos _
  obtain ⟨P, hP⟩ : ∃ P, c * K = P := ⟨_, rfl⟩
  have a1 : (8 * c - 1) * 2 ^ k = 8 * P - K := by rw [hK, Nat.sub_mul, Nat.one_mul, Nat.mul_assoc, hP]
  have a2 : (8 * c + 1) * 2 ^ k = 8 * P + K := by rw [hK, Nat.add_mul, Nat.one_mul, Nat.mul_assoc, hP]
  have a3 : 2 ^ 23 * K ≤ P := by rw [← hP]; exact Nat.mul_le_mul_right _ hc1
  have a4 : P ≤ (2 ^ 24 - 1) * K := by rw [← hP]; exact Nat.mul_le_mul_right _ (by omega)
  rw [a1] at h1
  rw [a2] at h2
  have fin : ∀ q : Int, q = g + k → FP.Core.quantum FP.Core.b32 Z 1 g = q → FP.Core.roundRatio FP.Core.b32 s Z 1 g = .fin s c (g + k) := by
    intro q hqq hquant
    unfold FP.Core.roundRatio
    rw [if_neg (by omega), hquant, hqq]
    unfold FP.Core.roundAt FP.Core.unitsNum FP.Core.unitsDen
    rw [show (g - (g + (k : Int))).toNat = 0 by omega, show (g + (k : Int) - g).toNat = k by omega, Nat.pow_zero, Nat.mul_one, Nat.one_mul, hK, near_to (X := c) hK0 (by rw [hP]; omega) (by rw [hP]; omega)]
    unfold FP.Core.settle FP.Core.bound
    rw [eq1.2.2.1, if_pos hc2, eq1.2.1, if_pos hq2]
  have hZ1 : Z < 2 ^ 24 * K := by omega
  by_cases hA : 2 ^ 23 * K ≤ Z
  · refine fin (g + k) rfl ?_
    unfold FP.Core.quantum
    rw [lead_of (k := 23 + k) (by decide) (by rw [Nat.pow_add, hK]; omega) (by rw [show 23 + k + 1 = 24 + k by omega, Nat.pow_add, hK]; omega), eq1.1, eq1.2.2.1]
    omega
  · have hc : c = 2 ^ 23 := by
      have : c * K < (2 ^ 23 + 1) * K := by rw [hP]; omega
      have := Nat.lt_of_mul_lt_mul_right this
      omega
    have hP2 : P = 2 ^ 23 * K := by rw [← hP, hc]
    have hl : FP.Core.quantum FP.Core.b32 Z 1 g = max (-149) (g + k - 1) := by
      unfold FP.Core.quantum
      rw [lead_of (k := 22 + k) (by decide) (by rw [Nat.pow_add, hK]; omega) (by rw [show 22 + k + 1 = 23 + k by omega, Nat.pow_add, hK]; omega), eq1.1, eq1.2.2.1]
      omega
    by_cases hB : g + k = -149
    · exact fin (g + k) rfl (by rw [hl]; omega)
    · have hl2 : FP.Core.quantum FP.Core.b32 Z 1 g = g + k - 1 := by rw [hl]; omega
      unfold FP.Core.roundRatio
      rw [if_neg (by omega), hl2]
      unfold FP.Core.roundAt FP.Core.unitsNum FP.Core.unitsDen
      obtain ⟨H, hH⟩ : ∃ H, 2 ^ (k - 1) = H := ⟨_, rfl⟩
      have hKH : K = 2 * H := by rw [← hK, ← hH, show k = (k - 1) + 1 by omega, Nat.pow_succ, Nat.add_sub_cancel]; omega
      rw [show (g - (g + (k : Int) - 1)).toNat = 0 by omega, show (g + (k : Int) - 1 - g).toNat = k - 1 by omega, Nat.pow_zero, Nat.mul_one, Nat.one_mul, hH, near_to (X := 2 ^ 24) (by omega) (by omega) (by omega)]
      unfold FP.Core.settle FP.Core.bound
      rw [eq1.2.2.1, if_neg (by omega), eq1.2.1, if_pos (by omega), eq1.2.2.2, hc]
      congr 1
      omega
set_option maxRecDepth 8000 in
/-- and so is the double nearest to it -/
theorem rr64_near {s : Bool} {c k Z : Nat} {g : Int} (hc1 : 2 ^ 23 ≤ c) (hc2 : c < 2 ^ 24) (hk : 3 ≤ k) (h1 : (8 * c - 1) * 2 ^ k ≤ 8 * Z) (h2 : 8 * Z ≤ (8 * c + 1) * 2 ^ k) (hq : -149 ≤ g + k) (hq2 : g + k ≤ 104) :
    ∃ (C k' : Nat) (Q : Int), FP.Core.roundRatio FP.Core.b64 s Z 1 g = .fin s C Q ∧ Q + k' = g + k ∧ 3 ≤ k' ∧ (8 * c - 1) * 2 ^ k' ≤ 8 * C ∧ 8 * C ≤ (8 * c + 1) * 2 ^ k' := by
  have eq1 : FP.Core.b64.qmin = -1074 ∧ FP.Core.b64.qmax = 971 ∧ FP.Core.b64.p = 53 ∧ FP.Core.b64.tails = 2 ^ 52 := by decide
  obtain ⟨K, hK⟩ : ∃ K, 2 ^ (k - 3) = K := ⟨_, rfl⟩
  have hK8 : 2 ^ k = 8 * K := by rw [← hK, show k = 3 + (k - 3) by omega, Nat.pow_add, show 3 + (k - 3) - 3 = k - 3 by omega]
  have hK0 : 0 < K := by rw [← hK]; exact Nat.two_pow_pos _
  have l1 : (8 * c - 1) * K ≤ Z := by
    rw [hK8, show (8 * c - 1) * (8 * K) = 8 * ((8 * c - 1) * K) by ac_rfl] at h1
    omega
  have l2 : Z ≤ (8 * c + 1) * K := by
    rw [hK8, show (8 * c + 1) * (8 * K) = 8 * ((8 * c + 1) * K) by ac_rfl] at h2
    omega
  have b1 : (2 ^ 26 - 1) * K ≤ (8 * c - 1) * K := Nat.mul_le_mul_right _ (by omega)
  have b2 : (8 * c + 1) * K ≤ (2 ^ 27 - 7) * K := Nat.mul_le_mul_right _ (by omega)
  -- rounding at exponent g + k - 3 - t
  have bet : ∀ t : Nat, 26 ≤ t → t ≤ 27 → (8 * c - 1) * 2 ^ t ≤ FP.Core.nearest (FP.Core.unitsNum Z g (g + k - 3 - t)) (FP.Core.unitsDen 1 g (g + k - 3 - t)) ∧ FP.Core.nearest (FP.Core.unitsNum Z g (g + k - 3 - t)) (FP.Core.unitsDen 1 g (g + k - 3 - t)) ≤ (8 * c + 1) * 2 ^ t ∧
      (Z ≤ 2 ^ 26 * K → FP.Core.nearest (FP.Core.unitsNum Z g (g + k - 3 - t)) (FP.Core.unitsDen 1 g (g + k - 3 - t)) ≤ 2 ^ 26 * 2 ^ t) := by
    intro t ht1 ht2
    unfold FP.Core.unitsNum FP.Core.unitsDen
    rw [Nat.one_mul]
    have hD : 0 < 2 ^ (g + (k : Int) - 3 - (t : Int) - g).toNat := Nat.two_pow_pos _
    have hx : K * 2 ^ (g - (g + (k : Int) - 3 - (t : Int))).toNat = 2 ^ t * 2 ^ (g + (k : Int) - 3 - (t : Int) - g).toNat := by
      rw [← hK, ← Nat.pow_add, ← Nat.pow_add]
      congr 1
      omega
    generalize 2 ^ (g - (g + (k : Int) - 3 - (t : Int))).toNat = U at *
    generalize 2 ^ (g + (k : Int) - 3 - (t : Int) - g).toNat = D at *
    refine ⟨near_ge hD ?_, near_le' hD ?_, fun h => near_le' hD ?_⟩
    · have := Nat.mul_le_mul_right U l1
      calc (8 * c - 1) * 2 ^ t * D = (8 * c - 1) * (2 ^ t * D) := by ac_rfl
        _ = (8 * c - 1) * (K * U) := by rw [hx]
        _ = (8 * c - 1) * K * U := by ac_rfl
        _ ≤ Z * U := this
    · have := Nat.mul_le_mul_right U l2
      calc Z * U ≤ (8 * c + 1) * K * U := this
        _ = (8 * c + 1) * (K * U) := by ac_rfl
        _ = (8 * c + 1) * (2 ^ t * D) := by rw [hx]
        _ = (8 * c + 1) * 2 ^ t * D := by ac_rfl
    · have := Nat.mul_le_mul_right U h
      calc Z * U ≤ 2 ^ 26 * K * U := this
        _ = 2 ^ 26 * (K * U) := by ac_rfl
        _ = 2 ^ 26 * (2 ^ t * D) := by rw [hx]
        _ = 2 ^ 26 * 2 ^ t * D := by ac_rfl
  unfold FP.Core.roundRatio
  rw [if_neg (by omega)]
  unfold FP.Core.roundAt
  by_cases hA : 2 ^ 26 * K ≤ Z
  · have hqu : FP.Core.quantum FP.Core.b64 Z 1 g = g + k - 3 - (26 : Nat) := by
      unfold FP.Core.quantum
      rw [lead_of (k := 26 + (k - 3)) (by decide) (by rw [Nat.pow_add, hK]; omega) (by rw [show 26 + (k - 3) + 1 = 27 + (k - 3) by omega, Nat.pow_add, hK]; omega), eq1.1, eq1.2.2.1]
      omega
    rw [hqu]
    obtain ⟨c1, c2, -⟩ := bet 26 (by decide) (by decide)
    generalize FP.Core.nearest (FP.Core.unitsNum Z g (g + k - 3 - (26 : Nat))) (FP.Core.unitsDen 1 g (g + k - 3 - (26 : Nat))) = C at *
    unfold FP.Core.settle FP.Core.bound
    rw [eq1.2.2.1, if_pos (by omega), eq1.2.1, if_pos (by omega)]
    have d1 : ∀ x : Nat, x * 2 ^ 29 = 8 * (x * 2 ^ 26) := fun x => by rw [show (2 : Nat) ^ 29 = 8 * 2 ^ 26 from rfl]; ac_rfl
    exact ⟨C, 29, _, rfl, by omega, by decide, by rw [d1]; exact Nat.mul_le_mul_left 8 c1, by rw [d1]; exact Nat.mul_le_mul_left 8 c2⟩
  · have hqu : FP.Core.quantum FP.Core.b64 Z 1 g = g + k - 3 - (27 : Nat) := by
      unfold FP.Core.quantum
      rw [lead_of (k := 25 + (k - 3)) (by decide) (by rw [Nat.pow_add, hK]; omega) (by rw [show 25 + (k - 3) + 1 = 26 + (k - 3) by omega, Nat.pow_add, hK]; omega), eq1.1, eq1.2.2.1]
      omega
    rw [hqu]
    obtain ⟨c1, c2, c3⟩ := bet 27 (by decide) (by decide)
    have c3 := c3 (by omega)
    have hc : c = 2 ^ 23 := by
      have h3 : (8 * c - 1) * K < 2 ^ 26 * K := by omega
      have := Nat.lt_of_mul_lt_mul_right h3
      omega
    generalize FP.Core.nearest (FP.Core.unitsNum Z g (g + k - 3 - (27 : Nat))) (FP.Core.unitsDen 1 g (g + k - 3 - (27 : Nat))) = C at *
    unfold FP.Core.settle FP.Core.bound
    rw [eq1.2.2.1]
    by_cases hC : C < 2 ^ 53
    · rw [if_pos hC, eq1.2.1, if_pos (by omega)]
      have d1 : ∀ x : Nat, x * 2 ^ 30 = 8 * (x * 2 ^ 27) := fun x => by rw [show (2 : Nat) ^ 30 = 8 * 2 ^ 27 from rfl]; ac_rfl
      exact ⟨C, 30, _, rfl, by omega, by decide, by rw [d1]; exact Nat.mul_le_mul_left 8 c1, by rw [d1]; exact Nat.mul_le_mul_left 8 c2⟩
    · rw [if_neg hC, eq1.2.1, if_pos (by omega), eq1.2.2.2]
      exact ⟨2 ^ 52, 29, _, rfl, by omega, by decide, by rw [hc]; decide, by rw [hc]; decide⟩
/-- few digits: exact in between -/
theorem dr_exact {s : Bool} {V : Nat} {μ : Int} (h : V < 2 ^ 53) (h1 : -1074 ≤ μ) (h2 : μ ≤ 971) : FP.Core.round FP.Core.b32 (FP.Core.roundRatio FP.Core.b64 s V 1 μ) = FP.Core.roundRatio FP.Core.b32 s V 1 μ := by
  rcases Nat.eq_zero_or_pos V with h0 | h0
  · subst h0
    unfold FP.Core.roundRatio
    rw [if_pos rfl, if_pos rfl]
    show FP.Core.roundRatio FP.Core.b32 s 0 1 _ = _
    unfold FP.Core.roundRatio
    rw [if_pos rfl]
  · obtain ⟨j, hj⟩ := rr_exact (f := FP.Core.b64) (s := s) (by decide) (c := V) (q := μ) h h0 (by rw [show FP.Core.b64.qmin = -1074 by decide]; exact h1) (by rw [show FP.Core.b64.qmax = 971 by decide]; exact h2)
    rw [hj]
    show FP.Core.roundRatio FP.Core.b32 s (V * 2 ^ j) 1 (μ - j) = _
    refine rr_congr (by decide) (by decide) ?_
    rw [show (μ - (j : Int) - μ).toNat = 0 by omega, show (μ - (μ - (j : Int))).toNat = j by omega, Nat.pow_zero, Nat.mul_one, Nat.mul_one, Nat.mul_one]
/-- quotients -/
theorem dr_div {s : Bool} {A B : Nat} {e : Int} (hA : 0 < A) (hB : 0 < B) (hA2 : A < 2 ^ 24) (hB2 : B < 2 ^ 24) (h1 : -600 ≤ e) (h2 : e ≤ 600) :
    FP.Core.round FP.Core.b32 (FP.Core.roundRatio FP.Core.b64 s A B e) = FP.Core.roundRatio FP.Core.b32 s A B e := by
  have eq1 : FP.Core.b64.qmin = -1074 ∧ FP.Core.b64.qmax = 971 ∧ FP.Core.b64.p = 53 ∧ FP.Core.b64.tails = 2 ^ 52 := by decide
  -- the numerator, so that the quotient has 26 digits
  obtain ⟨j, hj, A', hA', k1, k2⟩ : ∃ j : Nat, j ≤ 60 ∧ ∃ A', A' = A * 2 ^ j ∧ 2 ^ 25 * B ≤ A' ∧ A' < 2 ^ 26 * B := by
    obtain ⟨lb1, lb2⟩ := log_bd hB
    have l24 : B.log2 < 24 := by
      have : 2 ^ B.log2 < 2 ^ 24 := by omega
      exact (Nat.pow_lt_pow_iff_right (by decide : 1 < 2)).mp this
    obtain ⟨A1, k, e', a1, a2, a3, -, j, a5, a6⟩ := rr_big 0 hA hB
    have hk : 2 ^ k * B < 2 ^ 26 * B ∨ 26 ≤ k := by
      rcases Nat.lt_or_ge k 26 with h | h
      · left; exact Nat.mul_lt_mul_of_pos_right (Nat.pow_lt_pow_right (by decide) h) hB
      · right; exact h
    -- take the power of 2 anew
    have ex : ∀ n : Nat, A * 2 ^ n < 2 ^ 26 * B → n ≤ 60 → ∃ j : Nat, j ≤ 60 ∧ ∃ A', A' = A * 2 ^ j ∧ 2 ^ 25 * B ≤ A' ∧ A' < 2 ^ 26 * B := by
      intro n hn hn2
      obtain ⟨d, hd⟩ : ∃ d, d = 60 - n := ⟨_, rfl⟩
      induction d generalizing n with
      | zero =>
        refine ⟨n, hn2, _, rfl, ?_, hn⟩
        have hn60 : n = 60 := by omega
        subst hn60
        have : 2 ^ 60 ≤ A * 2 ^ 60 := by have := Nat.mul_le_mul_right (2 ^ 60) hA; omega
        omega
      | succ d ih =>
        by_cases hh : 2 ^ 25 * B ≤ A * 2 ^ n
        · exact ⟨n, hn2, _, rfl, hh, hn⟩
        · refine ih (n + 1) ?_ (by omega) (by omega)
          rw [Nat.pow_succ, ← Nat.mul_assoc]
          omega
    exact ex 0 (by rw [Nat.pow_zero]; omega) (by decide)
  have hrr : ∀ (f : FP.Core.Fmt), FP.Core.roundRatio f s A B e = FP.Core.roundRatio f s A' B (e - j) := by
    intro f
    rw [hA', rr_pow hA]
    congr 1
    omega
  rw [hrr, hrr]
  obtain ⟨m, hm⟩ : ∃ m, m = A' / B := ⟨_, rfl⟩
  obtain ⟨r, hr⟩ : ∃ r, r = A' % B := ⟨_, rfl⟩
  have hdm : A' = m * B + r := by
    have := Nat.div_add_mod A' B
    rw [hm, hr, Nat.mul_comm (A' / B)]
    omega
  have hrB : r < B := by rw [hr]; exact Nat.mod_lt _ hB
  have m1 : 2 ^ 25 ≤ m := by rw [hm]; exact (Nat.le_div_iff_mul_le hB).mpr k1
  have m2 : m < 2 ^ 26 := by rw [hm]; exact (Nat.div_lt_iff_lt_mul hB).mpr k2
  by_cases hr0 : r = 0
  · have hx : ∀ (f : FP.Core.Fmt), FP.Core.roundRatio f s A' B (e - j) = FP.Core.roundRatio f s m 1 (e - j) := by
      intro f
      refine rr_congr hB (by decide) ?_
      rw [hdm, hr0, Int.sub_self]
      show (m * B + 0) * 1 * 2 ^ 0 = m * B * 2 ^ 0
      omega
    rw [hx, hx]
    exact dr_exact (by omega) (by omega) (by omega)
  · have e32 : FP.Core.roundRatio FP.Core.b32 s A' B (e - j) = FP.Core.roundRatio FP.Core.b32 s (2 * m + 1) 1 (e - j - 1) := by
      refine rr_sticky (f := FP.Core.b32) hB m1 ?_ ?_
      · rw [Int.sub_self]
        show m * (B * 2 ^ 0) < A' * 2 ^ 0
        rw [Nat.pow_zero, Nat.mul_one, Nat.mul_one]; omega
      · rw [Int.sub_self]
        show A' * 2 ^ 0 < (m + 1) * (B * 2 ^ 0)
        rw [Nat.pow_zero, Nat.mul_one, Nat.mul_one, Nat.add_mul, Nat.one_mul]; omega
    rw [e32]
    have hqu : FP.Core.quantum FP.Core.b64 A' B (e - j) = e - j - 27 := by
      unfold FP.Core.quantum
      rw [lead_of (k := 25) hB k1 k2, eq1.1, eq1.2.2.1]
      omega
    have e64 : FP.Core.roundRatio FP.Core.b64 s A' B (e - j) = FP.Core.settle FP.Core.b64 s (FP.Core.nearest (A' * 2 ^ 27) B) (e - j - 27) := by
      unfold FP.Core.roundRatio
      rw [if_neg (by omega), hqu]
      unfold FP.Core.roundAt FP.Core.unitsNum FP.Core.unitsDen
      rw [show (e - (j : Int) - (e - (j : Int) - 27)).toNat = 27 by omega, show (e - (j : Int) - 27 - (e - (j : Int))).toNat = 0 by omega, Nat.pow_zero, Nat.mul_one]
    have n1 : m * 2 ^ 27 + 1 ≤ FP.Core.nearest (A' * 2 ^ 27) B := by
      refine near_ge hB ?_
      rw [hdm, Nat.add_mul, Nat.add_mul, Nat.one_mul, show m * 2 ^ 27 * B = m * B * 2 ^ 27 by ac_rfl]
      omega
    have n2 : FP.Core.nearest (A' * 2 ^ 27) B ≤ (m + 1) * 2 ^ 27 - 1 := by
      refine near_le hB ?_
      rw [hdm, Nat.sub_mul, Nat.one_mul, show (m + 1) * 2 ^ 27 * B = (m * B + B) * 2 ^ 27 by rw [Nat.add_mul, Nat.add_mul, Nat.add_mul, Nat.one_mul, Nat.mul_right_comm, Nat.mul_comm (2 ^ 27) B]]
      omega
    rw [e64]
    generalize FP.Core.nearest (A' * 2 ^ 27) B = C at *
    unfold FP.Core.settle FP.Core.bound
    rw [eq1.2.2.1, if_pos (by omega), eq1.2.1, if_pos (by omega)]
    show FP.Core.roundRatio FP.Core.b32 s C 1 (e - j - 27) = _
    refine rr_sticky (f := FP.Core.b32) (e := e - j) (e0 := e - j - 27) (by decide) m1 ?_ ?_
    · rw [show (e - (j : Int) - (e - (j : Int) - 27)).toNat = 27 by omega, show (e - (j : Int) - 27 - (e - (j : Int))).toNat = 0 by omega]
      omega
    · rw [show (e - (j : Int) - (e - (j : Int) - 27)).toNat = 27 by omega, show (e - (j : Int) - 27 - (e - (j : Int))).toNat = 0 by omega]
      omega
