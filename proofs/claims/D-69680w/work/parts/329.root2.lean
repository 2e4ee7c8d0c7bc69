/-! ===== FLOATS, 21: the model's root and the engine's ===== -/
theorem xn64 {y : UInt64} (h : okd y.toNat) : x_n64 y = true := by
  unfold x_n64
  refine decide_eq_true ?_
  rw [UInt64.le_iff_toNat_le, UInt64.toNat_and]
  show y.toNat &&& (2 ^ 63 - 1) ≤ _
  rw [Nat.and_two_pow_sub_one_eq_mod]
  exact h
theorem xn32 {y : UInt32} (h : okf y.toNat) : x_n32 y = true := by
  unfold x_n32
  refine decide_eq_true ?_
  rw [UInt32.le_iff_toNat_le, UInt32.toNat_and]
  show y.toNat &&& (2 ^ 31 - 1) ≤ _
  rw [Nat.and_two_pow_sub_one_eq_mod]
  exact h
/-- the double c * 2 ^ q -/
def dv (s : Bool) (c : Nat) (q : Int) : UInt64 := bd (FP.Core.roundRatio FP.Core.b64 s c 1 q)
theorem dv_ok (s : Bool) (c : Nat) (q : Int) : okd (dv s c q).toNat ∧ FP.Core.decode FP.Core.b64 (dv s c q).toNat = FP.Core.roundRatio FP.Core.b64 s c 1 q := by
  have h := rr_fits (f := FP.Core.b64) (s := s) f64.1 f64.2.1 (by decide) (A := c) (B := 1) (e := q) (by decide)
  exact (bd_nat h.1 h.2).2
theorem dv_congr {s : Bool} {c d : Nat} {q r : Int} (h : c * 2 ^ (q - r).toNat = d * 2 ^ (r - q).toNat) : dv s c q = dv s d r := by
  unfold dv
  refine congrArg bd (rr_congr (by decide) (by decide) ?_)
  rw [Nat.mul_one, Nat.mul_one]
  exact h
/-- exact: up to 2 ^ 53 -/
theorem rr_ex {s : Bool} {c : Nat} {q : Int} (h1 : -1074 ≤ q) (hx : (c < 2 ^ 53 ∧ q ≤ 971) ∨ (c ≤ 2 ^ 53 ∧ q ≤ 970)) : ∃ (C : Nat) (Q : Int), FP.Core.roundRatio FP.Core.b64 s c 1 q = .fin s C Q ∧ C * 2 ^ (Q - q).toNat = c * 2 ^ (q - Q).toNat := by
  have eq1 : FP.Core.b64.qmin = -1074 ∧ FP.Core.b64.qmax = 971 ∧ FP.Core.b64.p = 53 := by decide
  rcases Nat.eq_zero_or_pos c with h0 | h0
  · subst h0
    refine ⟨0, FP.Core.b64.qmin, ?_, by rw [Nat.zero_mul, Nat.zero_mul]⟩
    unfold FP.Core.roundRatio
    rw [if_pos rfl]
  · by_cases h53 : c = 2 ^ 53
    · subst h53
      have e : FP.Core.roundRatio FP.Core.b64 s (2 ^ 53) 1 q = FP.Core.roundRatio FP.Core.b64 s (2 ^ 52) 1 (q + 1) := by
        refine rr_congr (by decide) (by decide) ?_
        rw [show (q - (q + 1)).toNat = 0 by omega, show (q + 1 - q).toNat = 1 by omega]
      obtain ⟨j, hj⟩ := rr_exact (f := FP.Core.b64) (s := s) (by decide) (c := 2 ^ 52) (q := q + 1) (by decide) (by decide) (by rw [eq1.1]; omega) (by rw [eq1.2.1]; omega)
      rw [e, hj]
      refine ⟨_, _, rfl, ?_⟩
      rcases Nat.eq_zero_or_pos j with hj0 | hj0
      · subst hj0
        rw [show (q + 1 - ((0 : Nat) : Int) - q).toNat = 1 by omega, show (q - (q + 1 - ((0 : Nat) : Int))).toNat = 0 by omega]
      · rw [show (q + 1 - (j : Int) - q).toNat = 0 by omega, show (q - (q + 1 - (j : Int))).toNat = j - 1 by omega, Nat.pow_zero, Nat.mul_one, show j = (j - 1) + 1 by omega, Nat.pow_succ, show j - 1 + 1 - 1 = j - 1 by omega]
        omega
    · obtain ⟨j, hj⟩ := rr_exact (f := FP.Core.b64) (s := s) (by decide) (c := c) (q := q) (by rw [eq1.2.2]; omega) h0 (by rw [eq1.1]; omega) (by rw [eq1.2.1]; omega)
      rw [hj]
      refine ⟨_, _, rfl, ?_⟩
      rw [show (q - (j : Int) - q).toNat = 0 by omega, show (q - (q - (j : Int))).toNat = j by omega, Nat.pow_zero, Nat.mul_one]
theorem dec_pow {k : Int} {b : UInt64} (h : b = dv false (2 ^ 52) k) (h1 : -1074 ≤ k) (h2 : k ≤ 971) : FP.Core.decode FP.Core.b64 b.toNat = .fin false (2 ^ 52) k := by
  rw [h, (dv_ok _ _ _).2]
  have hf : FP.Core.fits FP.Core.b64 (.fin false (2 ^ 52) k) := ⟨by decide, by rw [show FP.Core.b64.qmin = -1074 by decide]; exact h1, by rw [show FP.Core.b64.qmax = 971 by decide]; exact h2, Or.inr (by decide)⟩
  exact fits_rr f64.1 f64.2.1 (by decide) hf
theorem dv_mul {c : Nat} {q k : Int} {b : UInt64} (h1 : -1074 ≤ q) (hx : (c < 2 ^ 53 ∧ q ≤ 971) ∨ (c ≤ 2 ^ 53 ∧ q ≤ 970)) (hb : FP.Core.decode FP.Core.b64 b.toNat = .fin false (2 ^ 52) (k - 52)) : FP.dmul (dv false c q) b = dv false c (q + k) := by
  obtain ⟨C, Q, e1, e2⟩ := rr_ex (s := false) h1 hx
  have e : FP.dmul (dv false c q) b = bd (FP.Core.round FP.Core.b64 (FP.Core.exactProduct (FP.Core.decode FP.Core.b64 (dv false c q).toNat) (FP.Core.decode FP.Core.b64 b.toNat))) := rfl
  rw [e, (dv_ok _ _ _).2, hb, e1]
  show bd (FP.Core.roundRatio FP.Core.b64 false (C * 2 ^ 52) 1 (Q + (k - 52))) = _
  unfold dv
  refine congrArg bd (rr_congr (by decide) (by decide) ?_)
  rw [Nat.mul_one, Nat.mul_one]
  have hpx : ∀ a b : Nat, 2 ^ a * 2 ^ b = 2 ^ (a + b) := fun a b => (Nat.pow_add 2 a b).symm
  rcases Int.lt_or_le q Q with h | h
  · rw [show (q - Q).toNat = 0 by omega, Nat.pow_zero, Nat.mul_one] at e2
    rw [← e2, Nat.mul_assoc, Nat.mul_assoc, hpx, hpx]
    congr 2
    omega
  · rw [show (Q - q).toNat = 0 by omega, Nat.pow_zero, Nat.mul_one] at e2
    rw [e2, Nat.mul_assoc, Nat.mul_assoc, hpx, hpx]
    congr 2
    omega
theorem dv_div {c : Nat} {q k : Int} {b : UInt64} (h1 : -1074 ≤ q) (hx : (c < 2 ^ 53 ∧ q ≤ 971) ∨ (c ≤ 2 ^ 53 ∧ q ≤ 970)) (hb : FP.Core.decode FP.Core.b64 b.toNat = .fin false (2 ^ 52) (k - 52)) : FP.ddiv (dv false c q) b = dv false c (q - k) := by
  obtain ⟨C, Q, e1, e2⟩ := rr_ex (s := false) h1 hx
  have e : FP.ddiv (dv false c q) b = bd (FP.Core.quotient FP.Core.b64 (FP.Core.decode FP.Core.b64 (dv false c q).toNat) (FP.Core.decode FP.Core.b64 b.toNat)) := rfl
  rw [e, (dv_ok _ _ _).2, hb, e1]
  show bd (FP.Core.roundRatio FP.Core.b64 false C (2 ^ 52) (Q - (k - 52))) = _
  unfold dv
  refine congrArg bd (rr_congr (by decide) (by decide) ?_)
  rw [Nat.mul_one]
  have hpx : ∀ a b : Nat, 2 ^ a * 2 ^ b = 2 ^ (a + b) := fun a b => (Nat.pow_add 2 a b).symm
  rcases Int.lt_or_le q Q with h | h
  · rw [show (q - Q).toNat = 0 by omega, Nat.pow_zero, Nat.mul_one] at e2
    rw [← e2, Nat.mul_assoc, Nat.mul_assoc, hpx, hpx]
    congr 2
    omega
  · rw [show (Q - q).toNat = 0 by omega, Nat.pow_zero, Nat.mul_one] at e2
    rw [e2, Nat.mul_assoc, Nat.mul_assoc, hpx, hpx]
    congr 2
    omega
/-- comparing with a power of 2 -/
theorem dv_cmp {c : Nat} {q k : Int} {b : UInt64} (ν : Int) (h1 : -1074 ≤ q) (hx : (c < 2 ^ 53 ∧ q ≤ 971) ∨ (c ≤ 2 ^ 53 ∧ q ≤ 970)) (hb : FP.Core.decode FP.Core.b64 b.toNat = .fin false (2 ^ 52) k) (n1 : ν ≤ q) (n2 : ν ≤ k) :
    FP.dcmp (dv false c q) b = some (compare ((c * 2 ^ (q - ν).toNat : Nat) : Int) ((2 ^ 52 * 2 ^ (k - ν).toNat : Nat) : Int)) := by
  obtain ⟨C, Q, e1, e2⟩ := rr_ex (s := false) h1 hx
  have e : FP.dcmp (dv false c q) b = FP.Core.order (FP.Core.decode FP.Core.b64 (dv false c q).toNat) (FP.Core.decode FP.Core.b64 b.toNat) := rfl
  rw [e, (dv_ok _ _ _).2, hb, e1]
  show some (compare ((C * 2 ^ (Q - min Q k).toNat : Nat) : Int) ((2 ^ 52 * 2 ^ (k - min Q k).toNat : Nat) : Int)) = _
  refine congrArg some ?_
  have hpx : ∀ a b : Nat, 2 ^ a * 2 ^ b = 2 ^ (a + b) := fun a b => (Nat.pow_add 2 a b).symm
  -- both in units of a small power
  obtain ⟨ω, w1, w2, w3⟩ : ∃ ω : Int, ω ≤ ν ∧ ω ≤ Q ∧ ω ≤ min Q k := ⟨min ν (min Q k), by omega, by omega, by omega⟩
  have u1 : C * 2 ^ (Q - min Q k).toNat * 2 ^ (min Q k - ω).toNat = C * 2 ^ (Q - ω).toNat := by
    rw [Nat.mul_assoc, hpx]; congr 2; omega
  have u2 : 2 ^ 52 * 2 ^ (k - min Q k).toNat * 2 ^ (min Q k - ω).toNat = 2 ^ 52 * 2 ^ (k - ω).toNat := by
    rw [Nat.mul_assoc, hpx]; congr 2; omega
  have u3 : c * 2 ^ (q - ν).toNat * 2 ^ (ν - ω).toNat = c * 2 ^ (q - ω).toNat := by
    rw [Nat.mul_assoc, hpx]; congr 2; omega
  have u4 : 2 ^ 52 * 2 ^ (k - ν).toNat * 2 ^ (ν - ω).toNat = 2 ^ 52 * 2 ^ (k - ω).toNat := by
    rw [Nat.mul_assoc, hpx]; congr 2; omega
  have u5 : C * 2 ^ (Q - ω).toNat = c * 2 ^ (q - ω).toNat := by
    rcases Int.lt_or_le q Q with h | h
    · rw [show (q - Q).toNat = 0 by omega, Nat.pow_zero, Nat.mul_one] at e2
      rw [← e2, Nat.mul_assoc, hpx]; congr 2; omega
    · rw [show (Q - q).toNat = 0 by omega, Nat.pow_zero, Nat.mul_one] at e2
      rw [e2, Nat.mul_assoc, hpx]; congr 2; omega
  have p1 := Nat.two_pow_pos (min Q k - ω).toNat
  have p2 := Nat.two_pow_pos (ν - ω).toNat
  have l1 : ∀ a b p : Nat, 0 < p → (a < b ↔ a * p < b * p) := fun a b p hp => (Nat.mul_lt_mul_right hp).symm
  have l2 : ∀ a b p : Nat, 0 < p → (a = b ↔ a * p = b * p) := fun a b p hp => ⟨fun h => by rw [h], fun h => Nat.mul_right_cancel hp h⟩
  refine cmp_of ?_ ?_
  · have a1 := l1 (C * 2 ^ (Q - min Q k).toNat) (2 ^ 52 * 2 ^ (k - min Q k).toNat) _ p1
    have a2 := l1 (c * 2 ^ (q - ν).toNat) (2 ^ 52 * 2 ^ (k - ν).toNat) _ p2
    rw [u1, u2, u5] at a1
    rw [u3, u4] at a2
    rw [Int.ofNat_lt, Int.ofNat_lt, a1, a2]
  · have a1 := l2 (C * 2 ^ (Q - min Q k).toNat) (2 ^ 52 * 2 ^ (k - min Q k).toNat) _ p1
    have a2 := l2 (c * 2 ^ (q - ν).toNat) (2 ^ 52 * 2 ^ (k - ν).toNat) _ p2
    rw [u1, u2, u5] at a1
    rw [u3, u4] at a2
    rw [Int.ofNat_inj, Int.ofNat_inj, a1, a2]
theorem jd_lt {x y : UInt64} {a b : Int} (h : FP.dcmp x y = some (compare a b)) (op : CmpOp) : (j_dcmp x y op < 0 ↔ a < b) ∧ (0 < j_dcmp x y op ↔ b < a) ∧ (j_dcmp x y op = 0 ↔ a = b) := by
  unfold j_dcmp
  rw [h]
  rcases Int.lt_trichotomy a b with k | k | k
  · rw [cmp_lt k]
    have e : Op.cmpValue (some Ordering.lt) op = (-1 : Int32) := by cases op <;> rfl
    rw [e]
    exact ⟨⟨fun _ => k, fun _ => by decide⟩, ⟨fun h => absurd h (by decide), fun h => by omega⟩, ⟨fun h => absurd h (by decide), fun h => by omega⟩⟩
  · rw [cmp_eq k]
    have e : Op.cmpValue (some Ordering.eq) op = (0 : Int32) := by cases op <;> rfl
    rw [e]
    exact ⟨⟨fun h => absurd h (by decide), fun h => by omega⟩, ⟨fun h => absurd h (by decide), fun h => by omega⟩, ⟨fun _ => k, fun _ => rfl⟩⟩
  · rw [cmp_gt k]
    have e : Op.cmpValue (some Ordering.gt) op = (1 : Int32) := by cases op <;> rfl
    rw [e]
    exact ⟨⟨fun h => absurd h (by decide), fun h => by omega⟩, ⟨fun _ => k, fun _ => by decide⟩, ⟨fun h => absurd h (by decide), fun h => by omega⟩⟩
