/-! ===== natural numbers as longs ===== -/
def nl (n : Nat) : Int64 := Int64.ofNat n
def un (x : Int64) : Nat := x.toBitVec.toNat
theorem un_lt (x : Int64) : un x < 2 ^ 64 := x.toBitVec.isLt
theorem un_inj {x y : Int64} (h : un x = un y) : x = y := Int64.toBitVec_inj.mp (BitVec.eq_of_toNat_eq h)
theorem un_nl (n : Nat) : un (nl n) = n % 2 ^ 64 := by
  show (BitVec.ofNat 64 n).toNat = _
  exact BitVec.toNat_ofNat _ _
theorem un_nl' {n : Nat} (h : n < 2 ^ 64) : un (nl n) = n := by rw [un_nl, Nat.mod_eq_of_lt h]
theorem nl_un (x : Int64) : nl (un x) = x := un_inj (un_nl' (un_lt x))
theorem un_add (x y : Int64) : un (x + y) = (un x + un y) % 2 ^ 64 := BitVec.toNat_add _ _
theorem un_mul (x y : Int64) : un (x * y) = (un x * un y) % 2 ^ 64 := BitVec.toNat_mul _ _
theorem un_sub (x y : Int64) : un (x - y) = (2 ^ 64 - un y + un x) % 2 ^ 64 := BitVec.toNat_sub _ _
theorem un_and (x y : Int64) : un (x &&& y) = un x &&& un y := BitVec.toNat_and _ _
theorem un_or (x y : Int64) : un (x ||| y) = un x ||| un y := BitVec.toNat_or _ _
theorem un_xor (x y : Int64) : un (x ^^^ y) = un x ^^^ un y := BitVec.toNat_xor _ _
theorem nl_add (m n : Nat) : nl m + nl n = nl (m + n) := un_inj (by rw [un_add, un_nl, un_nl, un_nl, ← Nat.add_mod])
theorem nl_mul (m n : Nat) : nl m * nl n = nl (m * n) := un_inj (by rw [un_mul, un_nl, un_nl, un_nl, ← Nat.mul_mod])
theorem nl_sub {m n : Nat} (h : n ≤ m) (hm : m < 2 ^ 64) : nl m - nl n = nl (m - n) := un_inj (by
  rw [un_sub, un_nl' hm, un_nl' (by omega), un_nl' (by omega), show 2 ^ 64 - n + m = (m - n) + 2 ^ 64 by omega, Nat.add_mod_right, Nat.mod_eq_of_lt (by omega)])
theorem nl_lit (n : Nat) : (OfNat.ofNat n : Int64) = nl n := rfl
theorem nl_int {n : Nat} (h : n < 2 ^ 63) : (nl n).toInt = n := Int64.toInt_ofNat_of_lt h
theorem nl_lt {m n : Nat} (hm : m < 2 ^ 63) (hn : n < 2 ^ 63) : nl m < nl n ↔ m < n := by
  rw [Int64.lt_iff_toInt_lt, nl_int hm, nl_int hn]
  omega
theorem nl_eq {m n : Nat} (hm : m < 2 ^ 64) (hn : n < 2 ^ 64) : nl m = nl n ↔ m = n := by
  refine ⟨fun h => ?_, fun h => by rw [h]⟩
  have := congrArg un h
  rwa [un_nl' hm, un_nl' hn] at this
theorem sh_am : ∀ k : Fin 64, (Int32.ofNat k.val).toInt64 &&& 63 = Int64.ofNat k.val := by decide +kernel
theorem sh_sm : ∀ k : Fin 64, (Int64.ofNat k.val).toBitVec.smod 64 = BitVec.ofNat 64 k.val := by decide +kernel
theorem sh_um : ∀ k : Fin 64, (Int32.ofNat k.val).toInt64.toUInt64 &&& Int64.toUInt64 63 = UInt64.ofNat k.val := by decide +kernel
theorem un_shl (x : Int64) {k : Nat} (h : k < 64) : un (j_lshl x (Int32.ofNat k)) = un x * 2 ^ k % 2 ^ 64 := by
  unfold j_lshl
  rw [sh_am ⟨k, h⟩]
  show (x.toBitVec <<< ((Int64.ofNat k).toBitVec.smod 64)).toNat = _
  rw [sh_sm ⟨k, h⟩, BitVec.shiftLeft_eq', BitVec.toNat_shiftLeft, BitVec.toNat_ofNat]
  show x.toBitVec.toNat <<< (k % 2 ^ 64) % 2 ^ 64 = _
  have e : k % 2 ^ 64 = k := Nat.mod_eq_of_lt (by omega)
  rw [e, Nat.shiftLeft_eq]
  rfl
theorem un_ushr (x : Int64) {k : Nat} (h : k < 64) : un (j_lushr x (Int32.ofNat k)) = un x / 2 ^ k := by
  unfold j_lushr
  rw [sh_um ⟨k, h⟩]
  show (x.toUInt64 >>> UInt64.ofNat k).toNat = _
  rw [UInt64.toNat_shiftRight, UInt64.toNat_ofNat', Nat.shiftRight_eq_div_pow]
  have : k % 2 ^ 64 % 64 = k := by omega
  rw [this]
  rfl
theorem nl_shl {n k : Nat} (h : k < 64) : j_lshl (nl n) (Int32.ofNat k) = nl (n * 2 ^ k) := un_inj (by
  rw [un_shl _ h, un_nl, un_nl, Nat.mod_mul_mod])
theorem nl_ushr {n k : Nat} (hn : n < 2 ^ 64) (h : k < 64) : j_lushr (nl n) (Int32.ofNat k) = nl (n / 2 ^ k) := un_inj (by
  rw [un_ushr _ h, un_nl' hn, un_nl' (Nat.lt_of_le_of_lt (Nat.div_le_self _ _) hn)])
theorem nl_mask {n k : Nat} (hn : n < 2 ^ 64) (h : k ≤ 64) : nl n &&& nl (2 ^ k - 1) = nl (n % 2 ^ k) := un_inj (by
  have h1 : 2 ^ k ≤ 2 ^ 64 := Nat.pow_le_pow_right (by decide) h
  have h2 : 0 < 2 ^ k := Nat.two_pow_pos k
  rw [un_and, un_nl' hn, un_nl' (by omega), un_nl' (Nat.lt_of_le_of_lt (Nat.mod_le _ _) hn), Nat.and_two_pow_sub_one_eq_mod])
theorem nl_and1 {n : Nat} (hn : n < 2 ^ 64) : nl n &&& 1 = nl (n % 2) := nl_mask (k := 1) hn (by decide)
theorem i64_of {n : Nat} (h : n < 2 ^ 31) : (Int32.ofNat n).toInt64 = nl n := by
  apply Int64.toInt_inj.mp
  rw [Int32.toInt_toInt64, nl_int (by omega), Int32.toInt_ofNat_of_lt h]
theorem iw_nat (n : Nat) : iw (n : Int) = Int32.ofNat n := Int32.ofInt_eq_ofNat
