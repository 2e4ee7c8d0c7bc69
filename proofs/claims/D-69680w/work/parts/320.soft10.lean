/-! ===== FLOATS, 12: Soft's compare is dcmp ===== -/
def rk (n : Nat) : Int := if dS n = true then -((n % 2 ^ 63 : Nat) : Int) else ((n % 2 ^ 63 : Nat) : Int)
/-- a finite double's magnitude, in units of 2 ^ -1074 -/
def dV (n : Nat) : Nat := dC n * 2 ^ (dQ n + 1074).toNat
theorem dV_eq (n : Nat) : dV n = if dE n = 0 then dT n else (2 ^ 52 + dT n) * 2 ^ (dE n - 1) := by
  unfold dV dC dQ
  by_cases h : dE n = 0
  · rw [if_pos h, if_pos h, if_pos h]
    show dT n * 2 ^ 0 = _
    omega
  · rw [if_neg h, if_neg h, if_neg h]
    congr 2
    omega
theorem dV_lt {m n : Nat} (h : m % 2 ^ 63 < n % 2 ^ 63) : dV m < dV n := by
  rw [dV_eq, dV_eq]
  have hm : dT m < 2 ^ 52 := Nat.mod_lt _ (by decide)
  have hn : dT n < 2 ^ 52 := Nat.mod_lt _ (by decide)
  have km : m % 2 ^ 63 = dE m * 2 ^ 52 + dT m := by unfold dE dT; omega
  have kn : n % 2 ^ 63 = dE n * 2 ^ 52 + dT n := by unfold dE dT; omega
  generalize dE m = e at *
  generalize dE n = f at *
  generalize dT m = t at *
  generalize dT n = u at *
  by_cases h1 : e = 0
  · rw [if_pos h1]
    by_cases h2 : f = 0
    · rw [if_pos h2]; omega
    · rw [if_neg h2]
      have : 1 ≤ 2 ^ (f - 1) := Nat.two_pow_pos _
      have := Nat.mul_le_mul_left (2 ^ 52 + u) this
      omega
  · rw [if_neg h1, if_neg (show ¬ f = 0 by omega)]
    by_cases h3 : e = f
    · subst h3
      exact Nat.mul_lt_mul_of_pos_right (by omega) (Nat.two_pow_pos _)
    · have h4 : (2 ^ 52 + t) * 2 ^ (e - 1) < 2 ^ 53 * 2 ^ (e - 1) := Nat.mul_lt_mul_of_pos_right (by omega) (Nat.two_pow_pos _)
      have h5 : 2 ^ 53 * 2 ^ (e - 1) = 2 ^ 52 * 2 ^ e := by
        rw [← Nat.pow_add, ← Nat.pow_add]
        congr 1
        omega
      have h6 : 2 ^ e ≤ 2 ^ (f - 1) := Nat.pow_le_pow_right (by decide) (by omega)
      have h7 := Nat.mul_le_mul_left (2 ^ 52) h6
      have h8 : 2 ^ 52 * 2 ^ (f - 1) ≤ (2 ^ 52 + u) * 2 ^ (f - 1) := Nat.mul_le_mul_right _ (by omega)
      omega
theorem dV_lt_iff (m n : Nat) : dV m < dV n ↔ m % 2 ^ 63 < n % 2 ^ 63 := by
  refine ⟨fun h => ?_, dV_lt⟩
  rcases Nat.lt_trichotomy (m % 2 ^ 63) (n % 2 ^ 63) with h1 | h1 | h1
  · exact h1
  · exfalso
    have : dV m = dV n := by
      rw [dV_eq, dV_eq]
      have e1 : dE m = dE n := by unfold dE; omega
      have e2 : dT m = dT n := by unfold dT; omega
      rw [e1, e2]
    omega
  · have := dV_lt h1
    omega
theorem dV_eq_iff (m n : Nat) : dV m = dV n ↔ m % 2 ^ 63 = n % 2 ^ 63 := by
  have h1 := dV_lt_iff m n
  have h2 := dV_lt_iff n m
  omega
theorem cmp_lt {a b : Int} (h : a < b) : compare a b = .lt := by
  rw [Int.compare_eq_lt]; exact h
theorem cmp_gt {a b : Int} (h : b < a) : compare a b = .gt := by
  rw [Int.compare_eq_gt]; exact h
theorem cmp_eq {a b : Int} (h : a = b) : compare a b = .eq := by
  rw [Int.compare_eq_eq]; exact h
theorem cmp_of {a b c d : Int} (h1 : a < b ↔ c < d) (h2 : a = b ↔ c = d) : compare a b = compare c d := by
  rcases Int.lt_trichotomy a b with h | h | h
  · rw [cmp_lt h, cmp_lt (h1.mp h)]
  · rw [cmp_eq h, cmp_eq (h2.mp h)]
  · rw [cmp_gt h, cmp_gt (by
      rcases Int.lt_trichotomy c d with k | k | k
      · have := h1.mpr k; omega
      · have := h2.mpr k; omega
      · exact k)]
theorem sig_scale (s : Bool) (c k : Nat) : FP.Core.signed s (c * k) = FP.Core.signed s c * (k : Int) := signed_mul s c k
theorem order_ok {m n : Nat} (hm : m < 2 ^ 64) (hn : n < 2 ^ 64) (om : okd m) (on : okd n) : FP.Core.order (FP.Core.decode FP.Core.b64 m) (FP.Core.decode FP.Core.b64 n) = some (compare (rk m) (rk n)) := by
  have fin : ∀ k, okd k → k < 2 ^ 64 → dE k ≠ 2047 → k % 2 ^ 63 < 2047 * 2 ^ 52 := by
    intro k hk hk2 h
    rcases okd_cases hk2 hk with ⟨a1, a2, a3⟩ | ⟨a1, a2, a3⟩ | ⟨a1, a2, a3, a4⟩
    · exact absurd a2 h
    · omega
    · unfold okd at hk; omega
  by_cases h1 : dE m = 2047
  · have t1 : dT m = 0 := by
      rcases okd_cases hm om with ⟨a1, a2, a3⟩ | ⟨a1, a2, a3⟩ | ⟨a1, a2, a3, a4⟩
      · exact a3
      · omega
      · omega
    have v1 : m % 2 ^ 63 = 2047 * 2 ^ 52 := by unfold dE dT at *; omega
    rw [dec_inf hm h1 t1]
    by_cases h2 : dE n = 2047
    · have t2 : dT n = 0 := by
        rcases okd_cases hn on with ⟨a1, a2, a3⟩ | ⟨a1, a2, a3⟩ | ⟨a1, a2, a3, a4⟩
        · exact a3
        · omega
        · omega
      have v2 : n % 2 ^ 63 = 2047 * 2 ^ 52 := by unfold dE dT at *; omega
      rw [dec_inf hn h2 t2]
      show some (compare (FP.Core.signed (dS m) 1) (FP.Core.signed (dS n) 1)) = _
      refine congrArg some ?_
      unfold rk
      rw [v1, v2]
      cases dS m <;> cases dS n <;> rfl
    · have v2 := fin n on hn h2
      rw [dec_fin hn h2]
      show some (compare (FP.Core.signed (dS m) 1) 0) = _
      refine congrArg some ?_
      unfold rk
      rw [v1]
      generalize n % 2 ^ 63 = v at *
      cases dS m with
      | true => rw [if_pos rfl, cmp_lt (show FP.Core.signed true 1 < 0 by decide), cmp_lt (by split <;> omega)]
      | false => rw [if_neg (by decide), cmp_gt (show 0 < FP.Core.signed false 1 by decide), cmp_gt (by split <;> omega)]
  · have v1 := fin m om hm h1
    rw [dec_fin hm h1]
    by_cases h2 : dE n = 2047
    · have t2 : dT n = 0 := by
        rcases okd_cases hn on with ⟨a1, a2, a3⟩ | ⟨a1, a2, a3⟩ | ⟨a1, a2, a3, a4⟩
        · exact a3
        · omega
        · omega
      have v2 : n % 2 ^ 63 = 2047 * 2 ^ 52 := by unfold dE dT at *; omega
      rw [dec_inf hn h2 t2]
      show some (compare 0 (FP.Core.signed (dS n) 1)) = _
      refine congrArg some ?_
      unfold rk
      rw [v2]
      generalize m % 2 ^ 63 = v at *
      cases dS n with
      | true => rw [if_pos (rfl : true = true), cmp_gt (show FP.Core.signed true 1 < 0 by decide), cmp_gt (by split <;> omega)]
      | false => rw [if_neg (by decide : ¬ false = true), cmp_lt (show 0 < FP.Core.signed false 1 by decide), cmp_lt (by split <;> omega)]
    · have v2 := fin n on hn h2
      rw [dec_fin hn h2]
      show some (compare (FP.Core.signed (dS m) (dC m * 2 ^ (dQ m - min (dQ m) (dQ n)).toNat)) (FP.Core.signed (dS n) (dC n * 2 ^ (dQ n - min (dQ m) (dQ n)).toNat))) = _
      refine congrArg some ?_
      have q1 := dQ_bd m
      have q2 := dQ_bd n
      obtain ⟨j, hj⟩ : ∃ j : Nat, min (dQ m) (dQ n) + 1074 = (j : Int) := ⟨(min (dQ m) (dQ n) + 1074).toNat, by omega⟩
      have w1 : dV m = dC m * 2 ^ (dQ m - min (dQ m) (dQ n)).toNat * 2 ^ j := by
        unfold dV
        rw [Nat.mul_assoc, ← Nat.pow_add]
        congr 2
        omega
      have w2 : dV n = dC n * 2 ^ (dQ n - min (dQ m) (dQ n)).toNat * 2 ^ j := by
        unfold dV
        rw [Nat.mul_assoc, ← Nat.pow_add]
        congr 2
        omega
      have u1 := dV_lt_iff m n
      have u2 := dV_lt_iff n m
      have u3 := dV_eq_iff m n
      generalize dC m * 2 ^ (dQ m - min (dQ m) (dQ n)).toNat = x at *
      generalize dC n * 2 ^ (dQ n - min (dQ m) (dQ n)).toNat = y at *
      have hp : 0 < 2 ^ j := Nat.two_pow_pos j
      have x1 : x < y ↔ m % 2 ^ 63 < n % 2 ^ 63 := by
        rw [← u1, w1, w2]
        exact (Nat.mul_lt_mul_right hp).symm
      have x2 : y < x ↔ n % 2 ^ 63 < m % 2 ^ 63 := by
        rw [← u2, w1, w2]
        exact (Nat.mul_lt_mul_right hp).symm
      have z1 : dV 0 = 0 := by decide
      have y0 : x = 0 ↔ m % 2 ^ 63 = 0 := by
        have := dV_eq_iff m 0
        rw [z1, w1, Nat.mul_eq_zero] at this
        have e0 : 0 % 2 ^ 63 = 0 := by decide
        omega
      have y1 : y = 0 ↔ n % 2 ^ 63 = 0 := by
        have := dV_eq_iff n 0
        rw [z1, w2, Nat.mul_eq_zero] at this
        have e0 : 0 % 2 ^ 63 = 0 := by decide
        omega
      unfold rk FP.Core.signed
      refine cmp_of ?_ ?_
      · cases dS m <;> cases dS n <;> simp only [if_true, if_false, Bool.false_eq_true] <;> omega
      · cases dS m <;> cases dS n <;> simp only [if_true, if_false, Bool.false_eq_true] <;> omega
def ordi : Ordering → Int32
  | .lt => -1
  | .eq => 0
  | .gt => 1
theorem neg_int (x : Int64) : x.toInt = if dS (un x) = true then ((un x % 2 ^ 63 : Nat) : Int) - 2 ^ 63 else ((un x % 2 ^ 63 : Nat) : Int) := by
  have h : x.toInt = x.toBitVec.toInt := rfl
  rw [h, BitVec.toInt_eq_toNat_cond]
  have hu : x.toBitVec.toNat = un x := rfl
  rw [hu]
  have := un_lt x
  unfold dS
  by_cases h : 2 ^ 63 ≤ un x
  · rw [if_neg (by omega), if_pos (decide_eq_true h)]; omega
  · rw [if_pos (by omega), if_neg (by rw [decide_eq_true_iff]; exact h)]; omega
theorem un_flip (x : Int64) : (x ^^^ 9223372036854775807).toInt = if dS (un x) = true then -((un x % 2 ^ 63 : Nat) : Int) - 1 else 2 ^ 63 - 1 - ((un x % 2 ^ 63 : Nat) : Int) := by
  have hx := un_lt x
  have e : un (x ^^^ 9223372036854775807) = un x / 2 ^ 63 * 2 ^ 63 + (2 ^ 63 - 1 - un x % 2 ^ 63) := by
    rw [un_xor, show un (9223372036854775807 : Int64) = 2 ^ 63 - 1 from rfl]
    have h1 : un x % 2 ^ 63 < 2 ^ 63 := Nat.mod_lt _ (by decide)
    apply Nat.eq_of_testBit_eq
    intro i
    rw [Nat.testBit_xor, Nat.testBit_two_pow_sub_one, Nat.mul_comm, Nat.testBit_two_pow_mul_add _ (by omega)]
    by_cases hi : i < 63
    · rw [decide_eq_true hi, if_pos hi, show 2 ^ 63 - 1 - un x % 2 ^ 63 = 2 ^ 63 - (un x % 2 ^ 63 + 1) by omega, Nat.testBit_two_pow_sub_succ h1, Nat.testBit_mod_two_pow, decide_eq_true hi]
      cases (un x).testBit i <;> rfl
    · rw [decide_eq_false hi, if_neg hi, Bool.xor_false, Nat.testBit_div_two_pow]
      congr 1
      omega
  rw [neg_int, e]
  have hd : dS (un x / 2 ^ 63 * 2 ^ 63 + (2 ^ 63 - 1 - un x % 2 ^ 63)) = dS (un x) := by
    unfold dS
    refine decide_eq_decide.mpr ?_
    omega
  rw [hd]
  have hm : (un x / 2 ^ 63 * 2 ^ 63 + (2 ^ 63 - 1 - un x % 2 ^ 63)) % 2 ^ 63 = 2 ^ 63 - 1 - un x % 2 ^ 63 := by omega
  rw [hm]
  have h1 : un x % 2 ^ 63 < 2 ^ 63 := Nat.mod_lt _ (by decide)
  split <;> omega
theorem X24_compare (a b : Int64) : F_X24_compare a b = some (ordi (compare (rk (un a)) (rk (un b)))) := by
  have mt : mr true ≠ 0 := by decide
  have mf : mr false = 0 := by decide
  have ra : ∀ x : Int64, rk (un x) = if dS (un x) = true then -((un x % 2 ^ 63 : Nat) : Int) else ((un x % 2 ^ 63 : Nat) : Int) := fun _ => rfl
  have key : ¬ (un a % 2 ^ 63 = 0 ∧ un b % 2 ^ 63 = 0) → F_X24_compare_b16 a b = some (ordi (compare (rk (un a)) (rk (un b)))) := by
    intro hz
    have fin : ∀ x y : Int64, x.toInt = (if dS (un a) = true then -((un a % 2 ^ 63 : Nat) : Int) - 1 else ((un a % 2 ^ 63 : Nat) : Int)) → y.toInt = (if dS (un b) = true then -((un b % 2 ^ 63 : Nat) : Int) - 1 else ((un b % 2 ^ 63 : Nat) : Int)) →
        F_X24_compare_b48 y x = some (ordi (compare (rk (un a)) (rk (un b)))) := by
      intro x y hx hy
      rw [ra, ra]
      unfold F_X24_compare_b48 F_X24_compare_b75
      simp only [Int64.lt_iff_toInt_lt, hx, hy]
      generalize un a % 2 ^ 63 = m at *
      generalize un b % 2 ^ 63 = n at *
      cases dS (un a) <;> cases dS (un b) <;> simp only [if_true, if_false, Bool.false_eq_true]
      · rcases Nat.lt_trichotomy m n with h | h | h
        · rw [if_pos (by omega), cmp_lt (by omega)]; rfl
        · rw [if_neg (by omega), if_neg (by omega), cmp_eq (by omega)]; rfl
        · rw [if_neg (by omega), if_pos (by omega), cmp_gt (by omega)]; rfl
      · rw [if_neg (by omega), if_pos (by omega), cmp_gt (by omega)]; rfl
      · rw [if_pos (by omega), cmp_lt (by omega)]; rfl
      · rcases Nat.lt_trichotomy m n with h | h | h
        · rw [if_neg (by omega), if_pos (by omega), cmp_gt (by omega)]; rfl
        · rw [if_neg (by omega), if_neg (by omega), cmp_eq (by omega)]; rfl
        · rw [if_pos (by omega), cmp_lt (by omega)]; rfl
    unfold F_X24_compare_b16 F_X24_compare_b31
    have na := neg_iff a
    have nb := neg_iff b
    have ia := neg_int a
    have ib := neg_int b
    have fa := un_flip a
    have fb := un_flip b
    by_cases ha : dS (un a) = true <;> by_cases hb : dS (un b) = true
    · rw [if_pos (na.mpr ha), if_pos (nb.mpr hb)]
      rw [if_pos ha] at fa; rw [if_pos hb] at fb
      exact fin _ _ (by rw [if_pos ha]; exact fa) (by rw [if_pos hb]; exact fb)
    · rw [if_pos (na.mpr ha), if_neg (fun h => hb (nb.mp h))]
      rw [if_pos ha] at fa; rw [if_neg hb] at ib
      exact fin _ _ (by rw [if_pos ha]; exact fa) (by rw [if_neg hb]; exact ib)
    · rw [if_neg (fun h => ha (na.mp h)), if_pos (nb.mpr hb)]
      rw [if_neg ha] at ia; rw [if_pos hb] at fb
      exact fin _ _ (by rw [if_neg ha]; exact ia) (by rw [if_pos hb]; exact fb)
    · rw [if_neg (fun h => ha (na.mp h)), if_neg (fun h => hb (nb.mp h))]
      rw [if_neg ha] at ia; rw [if_neg hb] at ib
      exact fin _ _ (by rw [if_neg ha]; exact ia) (by rw [if_neg hb]; exact ib)
  unfold F_X24_compare
  simp only [X24_isZero, Option.bind_some]
  by_cases h1 : un a % 2 ^ 63 = 0
  · rw [decide_eq_true h1, if_neg mt]
    by_cases h2 : un b % 2 ^ 63 = 0
    · rw [decide_eq_true h2, if_neg mt, ra, ra, h1, h2, cmp_eq (by split <;> split <;> rfl)]
      rfl
    · rw [decide_eq_false h2, if_pos mf]
      exact key (fun h => h2 h.2)
  · rw [decide_eq_false h1, if_pos mf]
    exact key (fun h => h1 h.1)
