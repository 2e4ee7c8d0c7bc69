/-! ===== whole numbers as ints and longs ===== -/
def iw (x : Int) : Int32 := Int32.ofInt x
theorem iw_lit (n : Nat) : (OfNat.ofNat n : Int32) = iw (n : Int) := by
  show Int32.ofNat n = Int32.ofInt (n : Int)
  exact Int32.ofInt_eq_ofNat.symm
theorem iw_add (a b : Int) : iw a + iw b = iw (a + b) := (Int32.ofInt_add a b).symm
theorem iw_sub (a b : Int) : iw a - iw b = iw (a - b) := (Int32.ofInt_sub a b).symm
theorem iw_mul (a b : Int) : iw a * iw b = iw (a * b) := (Int32.ofInt_mul a b).symm
theorem iw_neg (a : Int) : -iw a = iw (-a) := (Int32.ofInt_neg a).symm
theorem iw_toInt {a : Int} (h : -2147483648 ≤ a) (h2 : a < 2147483648) : (iw a).toInt = a := Int32.toInt_ofInt_of_le (by omega) (by omega)
theorem iw_of (x : Int32) : iw x.toInt = x := Int32.ofInt_toInt x
theorem iw_lt {a b : Int} (h : -2147483648 ≤ a) (h2 : a < 2147483648) (h3 : -2147483648 ≤ b) (h4 : b < 2147483648) : iw a < iw b ↔ a < b := by
  rw [Int32.lt_iff_toInt_lt, iw_toInt h h2, iw_toInt h3 h4]
theorem iw_le {a b : Int} (h : -2147483648 ≤ a) (h2 : a < 2147483648) (h3 : -2147483648 ≤ b) (h4 : b < 2147483648) : iw a ≤ iw b ↔ a ≤ b := by
  rw [Int32.le_iff_toInt_le, iw_toInt h h2, iw_toInt h3 h4]
theorem iw_eq {a b : Int} (h : -2147483648 ≤ a) (h2 : a < 2147483648) (h3 : -2147483648 ≤ b) (h4 : b < 2147483648) : iw a = iw b ↔ a = b := by
  rw [← Int32.toInt_inj, iw_toInt h h2, iw_toInt h3 h4]
theorem iw_0 : iw 0 = 0 := rfl
theorem iw_1 : iw 1 = 1 := rfl
theorem iw_lt0 {a : Int} (h : -2147483648 ≤ a) (h2 : a < 2147483648) : iw a < 0 ↔ a < 0 := by
  rw [← iw_0, iw_lt h h2 (by decide) (by decide)]
theorem iw_0lt {a : Int} (h : -2147483648 ≤ a) (h2 : a < 2147483648) : 0 < iw a ↔ 0 < a := by
  rw [← iw_0, iw_lt (by decide) (by decide) h h2]
theorem iw_eq0 {a : Int} (h : -2147483648 ≤ a) (h2 : a < 2147483648) : iw a = 0 ↔ a = 0 := by
  rw [← iw_0, iw_eq h h2 (by decide) (by decide)]
theorem iw_div {a b : Int} (h : -2147483648 < a) (h2 : a < 2147483648) (h3 : -2147483648 ≤ b) (h4 : b < 2147483648) : iw a / iw b = iw (a.tdiv b) := by
  rw [← Int32.toInt_inj, Int32.toInt_div_of_ne_left, iw_toInt (by omega) h2, iw_toInt h3 h4, iw_toInt]
  · have h6 : (a.tdiv b).natAbs ≤ a.natAbs := by rw [Int.natAbs_tdiv]; exact Nat.div_le_self _ _
    omega
  · have h6 : (a.tdiv b).natAbs ≤ a.natAbs := by rw [Int.natAbs_tdiv]; exact Nat.div_le_self _ _
    omega
  · intro hm
    have : (iw a).toInt = Int32.minValue.toInt := by rw [hm]
    rw [iw_toInt (by omega) h2] at this
    have h6 : Int32.minValue.toInt = -2147483648 := by decide
    omega
theorem iw_rem {a b : Int} (h : -2147483648 < a) (h2 : a < 2147483648) (h3 : -2147483648 ≤ b) (h4 : b < 2147483648) : j_irem (iw a) (iw b) = iw (a.tmod b) := by
  unfold j_irem
  rw [iw_div h h2 h3 h4, iw_mul, iw_sub]
  congr 1
  have := Int.mul_tdiv_add_tmod a b
  rw [Int.mul_comm] at this
  omega
theorem iw_clamp {a : Int} (h : 0 ≤ a) (h2 : a < 2147483648) : (iw a).toNatClampNeg = a.toNat := by
  show (iw a).toInt.toNat = _
  rw [iw_toInt (by omega) h2]
theorem iw_in {j : Int} {n : Nat} (h : 0 ≤ j) (h2 : j < n) (h3 : n < 2147483648) : ¬ (iw j < 0 ∨ n ≤ (iw j).toNatClampNeg) := by
  rw [iw_lt0 (by omega) (by omega), iw_clamp h (by omega)]
  omega
/-! memory -/
theorem m_in_iw {M : Mem} {a : Nat} {j : Int} (h : 0 ≤ j) (h2 : j < (m_ln M a : Int)) (h3 : m_ln M a < 2147483648) : m_in M a (iw j) = true := by
  unfold m_in
  exact decide_eq_true (iw_in h h2 h3)
