/-! ===== NUMBERS out of bytes ===== -/
theorem ui_int (x : Int32) : (ui x : Int) = x.toInt % 4294967296 := by
  unfold ui
  rw [show x.toInt = x.toBitVec.toInt from rfl, BitVec.toInt_eq_toNat_bmod]
  have h := x.toBitVec.isLt
  have e : (2 ^ 32 : Nat) = 4294967296 := rfl
  rw [e]
  have := Int.bmod_emod (x := (x.toBitVec.toNat : Int)) (m := 4294967296)
  omega
theorem un_int (x : Int64) : (un x : Int) = x.toInt % 18446744073709551616 := by
  unfold un
  rw [show x.toInt = x.toBitVec.toInt from rfl, BitVec.toInt_eq_toNat_bmod]
  have h := x.toBitVec.isLt
  have e : (2 ^ 64 : Nat) = 18446744073709551616 := rfl
  rw [e]
  have := Int.bmod_emod (x := (x.toBitVec.toNat : Int)) (m := 18446744073709551616)
  omega
/-- a byte as it is, without its sign -/
def bn (x : Int32) : Nat := ui x % 256
theorem bn_lt (x : Int32) : bn x < 256 := Nat.mod_lt _ (by decide)
theorem bn_int (x : Int32) : (bn x : Int) = x.toInt % 256 := by
  have := ui_int x
  unfold bn
  omega
theorem bn_i2b (x : Int32) : bn (j_i2b x) = bn x := by
  have h1 := bn_int (j_i2b x)
  have h2 := bn_int x
  have h3 : (j_i2b x).toInt = x.toInt.bmod 256 := by
    unfold j_i2b
    rw [Int8.toInt_toInt32, Int32.toInt_toInt8]
  rw [h3] at h1
  have := Int.bmod_emod (x := x.toInt) (m := 256)
  omega
theorem bn_and (x : Int32) : x &&& 255 = ni (bn x) := by
  refine ui_inj ?_
  have := bn_lt x
  rw [ui_and, ui_ni (by omega), show ui 255 = 2 ^ 8 - 1 from rfl, Nat.and_two_pow_sub_one_eq_mod]
  rfl
theorem bn_l32 (y : Int64) : (bn y.toInt32 : Int) = y.toInt % 256 := by
  rw [bn_int, Int64.toInt_toInt32, show (2 ^ 32 : Nat) = 4294967296 from rfl]
  have := Int.bmod_emod (x := y.toInt) (m := 4294967296)
  omega
/-- bytes read as a number, the highest first -/
def bev (f : Nat → Int32) : Nat → Nat → Nat
  | _, 0 => 0
  | a, w + 1 => bn (f a) * 256 ^ w + bev f (a + 1) w
theorem bev_lt (f : Nat → Int32) : ∀ (w a : Nat), bev f a w < 256 ^ w
  | 0, a => by show 0 < 1; decide
  | w + 1, a => by
    have h1 := bev_lt f w (a + 1)
    have h2 := bn_lt (f a)
    have h3 : bn (f a) * 256 ^ w ≤ 255 * 256 ^ w := Nat.mul_le_mul_right _ (by omega)
    show bn (f a) * 256 ^ w + bev f (a + 1) w < 256 ^ (w + 1)
    rw [Nat.pow_succ]
    omega
theorem bev_congr {f g : Nat → Int32} : ∀ (w a b : Nat), (∀ x, x < w → f (a + x) = g (b + x)) → bev f a w = bev g b w
  | 0, _, _, _ => rfl
  | w + 1, a, b, h => by
    show bn (f a) * 256 ^ w + bev f (a + 1) w = bn (g b) * 256 ^ w + bev g (b + 1) w
    have h0 : f a = g b := h 0 (by omega)
    rw [h0, bev_congr w (a + 1) (b + 1) (fun x hx => by rw [show a + 1 + x = a + (x + 1) by omega, show b + 1 + x = b + (x + 1) by omega]; exact h (x + 1) (by omega))]
theorem nbs_top (v : Int64) {w : Nat} (h : w ≤ 7) : bn (j_i2b (j_lshr v ((8 : Int32) * iw (w : Int))).toInt32) = un v / 256 ^ w % 256 := by
  have h1 := un_int v
  have key : ∀ b : Nat, b < 64 → (8 : Int32) * iw (w : Int) = Int32.ofNat b → (bn (j_i2b (j_lshr v ((8 : Int32) * iw (w : Int))).toInt32) : Int) = v.toInt / 2 ^ b % 256 := fun b hb e => by
    rw [bn_i2b, bn_l32, e, lsh_r v hb]
  have : w = 0 ∨ w = 1 ∨ w = 2 ∨ w = 3 ∨ w = 4 ∨ w = 5 ∨ w = 6 ∨ w = 7 := by omega
  rcases this with rfl | rfl | rfl | rfl | rfl | rfl | rfl | rfl
  · have := key 0 (by decide) (by decide); omega
  · have := key 8 (by decide) (by decide); omega
  · have := key 16 (by decide) (by decide); omega
  · have := key 24 (by decide) (by decide); omega
  · have := key 32 (by decide) (by decide); omega
  · have := key 40 (by decide) (by decide); omega
  · have := key 48 (by decide) (by decide); omega
  · have := key 56 (by decide) (by decide); omega
theorem nbs_bev (v : Int64) {f : Nat → Int32} : ∀ (w a : Nat), w ≤ 8 → (∀ i, i < w → f (a + i) = (nbs v w).getD i 0) → bev f a w = un v % 256 ^ w
  | 0, a, _, _ => by show 0 = _; rw [Nat.pow_zero, Nat.mod_one]
  | w + 1, a, hw, h => by
    show bn (f a) * 256 ^ w + bev f (a + 1) w = _
    have h0 : f a = j_i2b (j_lshr v ((8 : Int32) * iw (w : Int))).toInt32 := h 0 (by omega)
    rw [h0, nbs_top v (by omega), nbs_bev v w (a + 1) (by omega) (fun i hi => by rw [show a + 1 + i = a + (i + 1) by omega]; exact h (i + 1) (by omega)), Nat.mod_pow_succ, Nat.mul_comm, Nat.add_comm]
theorem ni_or {a b k : Nat} (hb : b < 2 ^ k) (h : a * 2 ^ k + b < 2 ^ 32) : ni (a * 2 ^ k) ||| ni b = ni (a * 2 ^ k + b) := by
  refine ui_inj ?_
  rw [ui_or, ui_ni (by omega), ui_ni (by omega), ui_ni h]
  have := Nat.two_pow_add_eq_or_of_lt hb a
  rw [Nat.mul_comm a, ← this]
theorem four_or (b0 b1 b2 b3 : Int32) : (j_ishl (b0 &&& 255) 24 ||| j_ishl (b1 &&& 255) 16 ||| j_ishl (b2 &&& 255) 8) ||| (b3 &&& 255) = ni (bn b0 * 16777216 + (bn b1 * 65536 + (bn b2 * 256 + bn b3))) := by
  have h0 := bn_lt b0
  have h1 := bn_lt b1
  have h2 := bn_lt b2
  have h3 := bn_lt b3
  rw [bn_and, bn_and, bn_and, bn_and, ish_l, ish_l, ish_l, ui_ni (by omega), ui_ni (by omega), ui_ni (by omega), show ui 24 % 32 = 24 from rfl, show ui 16 % 32 = 16 from rfl, show ui 8 % 32 = 8 from rfl]
  have e1 : ni (bn b0 * 2 ^ 24) ||| ni (bn b1 * 2 ^ 16) = ni ((bn b0 * 256 + bn b1) * 2 ^ 16) := by
    rw [ni_or (by omega) (by omega)]
    exact congrArg ni (by omega)
  have e2 : ni ((bn b0 * 256 + bn b1) * 2 ^ 16) ||| ni (bn b2 * 2 ^ 8) = ni (((bn b0 * 256 + bn b1) * 256 + bn b2) * 2 ^ 8) := by
    rw [ni_or (by omega) (by omega)]
    exact congrArg ni (by omega)
  rw [e1, e2, ni_or (by omega) (by omega)]
  exact congrArg ni (by omega)
theorem bev_4 (f : Nat → Int32) (a : Nat) : bev f a 4 = bn (f a) * 16777216 + (bn (f (a + 1)) * 65536 + (bn (f (a + 2)) * 256 + bn (f (a + 3)))) := by
  show bn (f a) * 256 ^ 3 + (bn (f (a + 1)) * 256 ^ 2 + (bn (f (a + 1 + 1)) * 256 ^ 1 + (bn (f (a + 1 + 1 + 1)) * 256 ^ 0 + 0))) = _
  rw [show a + 1 + 1 = a + 2 by omega, show a + 2 + 1 = a + 3 by omega]
  omega
theorem iw_ni (n : Nat) : iw (n : Int) = ni n := rfl
theorem E_four4 {M : Mem} {a : Nat} (h : ST M) (ha : a + 4 ≤ 60000) : F_X14_four M 1051 (iw (a : Int)) = some (iw (bev (cI M 1053) a 4 : Nat)) := by
  have ab1 : ∀ i, i < 4 → ab M 1053 (iw ((a + i : Nat) : Int)) = some (cI M 1053 (a + i)) := fun i hi => ab_of (Or.inr (Or.inl (t1053 h))) (l1053 h) (by omega) (by decide)
  have a0 : ab M 1053 (iw (a : Int)) = some (cI M 1053 a) := ab1 0 (by decide)
  unfold F_X14_four
  rw [show (1 : Int32) = iw ((1 : Nat) : Int) from rfl, show (2 : Int32) = iw ((2 : Nat) : Int) from rfl, show (3 : Int32) = iw ((3 : Nat) : Int) from rfl, iw_nad, iw_nad, iw_nad]
  simp only [g1051_960, g1052_1024, h, a0, ab1 1 (by decide), ab1 2 (by decide), ab1 3 (by decide), Option.bind_some]
  rw [four_or, bev_4, iw_ni]
