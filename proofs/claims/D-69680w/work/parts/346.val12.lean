/-! ===== VALUES, 12: bits of a lane; shifts ===== -/
theorem un_i32 (v : Int64) : ui v.toInt32 = un v % 2 ^ 32 := by
  show (BitVec.signExtend 32 v.toBitVec).toNat = _
  rw [BitVec.signExtend_eq_setWidth_of_le _ (by decide), BitVec.toNat_setWidth]
  rfl
theorem and_mask (v : Int64) (k : Nat) (hk : k < 64) : un (v &&& nl (2 ^ k - 1)) = un v % 2 ^ k := by
  have := Nat.pow_lt_pow_right (a := 2) (by decide) hk
  rw [un_and, un_nl' (by omega), Nat.and_two_pow_sub_one_eq_mod]
/-- a float's bits that are none -/
theorem wide_none {y : Int32} (h : ¬ okf (ui y)) : ∃ z : Int64, F_X24_wide y = some z ∧ ¬ okd (un z) := by
  have hy := ui_lt y
  have hE : fE (ui y) = 255 := by unfold okf at h; unfold fE; omega
  have hT : fT (ui y) ≠ 0 := by unfold okf at h; unfold fT fE at *; omega
  have hTl : fT (ui y) < 2 ^ 23 := Nat.mod_lt _ (by decide)
  have e1 : (j_ishr y 23 &&& 255 : Int32) = 255 := by
    rw [exp_field32]
    show ni (fE (ui y)) = 255
    rw [hE]
    rfl
  have e2 : (y &&& 8388607 : Int32).toInt64 = nl (fT (ui y)) := by
    have : (y &&& 8388607 : Int32) = ni (fT (ui y)) := by
      refine ui_inj ?_
      rw [ui_and, show ui 8388607 = 2 ^ 23 - 1 from rfl, Nat.and_two_pow_sub_one_eq_mod, ui_ni (by unfold fT; omega)]
      rfl
    rw [this]
    exact i64_of (by omega)
  have e3 : ∀ s : Int64, F_X24_wide_b11 s y = some ((s ||| 9218868437227405312) ||| nl (fT (ui y))) := by
    intro s
    unfold F_X24_wide_b11
    simp only [e1, e2]
    rfl
  unfold F_X24_wide
  simp only [e3]
  have fin : ∀ s : Bool, ¬ okd (un ((nl (sgb s) ||| 9218868437227405312) ||| nl (fT (ui y)))) := by
    intro s hh
    have a1 : (nl (sgb s) ||| 9218868437227405312 : Int64) = nl (2047 * 2 ^ 52 + sgb s) := by cases s <;> decide
    have a2 : nl (2047 * 2 ^ 52 + sgb s) ||| nl (fT (ui y)) = nl (2047 * 2 ^ 52 + sgb s + fT (ui y)) := by
      have : 2047 * 2 ^ 52 + sgb s = (2047 + (if s = true then 2048 else 0)) * 2 ^ 52 := by cases s <;> decide
      rw [this]
      exact nl_or (by omega) (by cases s <;> simp <;> omega)
    rw [a1, a2] at hh
    have hs : sgb s = 0 ∨ sgb s = 2 ^ 63 := by cases s <;> decide
    rw [un_nl' (by omega)] at hh
    unfold okd at hh
    omega
  by_cases hn : y < 0
  · rw [if_pos hn]
    exact ⟨_, rfl, fin true⟩
  · rw [if_neg hn]
    exact ⟨_, rfl, fin false⟩
theorem M_none (z : Int64) : ∃ w : Int32, F_X24_isNone z = some w ∧ (w = 0 ↔ okd (un z)) := by
  unfold F_X24_isNone F_X24_isNone_b17
  rw [mag_and, show (9218868437227405312 : Int64) = nl (2047 * 2 ^ 52) from rfl]
  have := nl_lt (m := 2047 * 2 ^ 52) (n := un z % 2 ^ 63) (by decide) (by omega)
  unfold okd
  by_cases h : 2047 * 2 ^ 52 < un z % 2 ^ 63
  · rw [if_pos (this.mpr h)]
    exact ⟨_, rfl, ⟨fun hh => absurd hh (by decide), fun hh => by omega⟩⟩
  · rw [if_neg (fun hh => h (this.mp hh))]
    exact ⟨_, rfl, ⟨fun _ => by omega, fun _ => by decide⟩⟩
/-- whether a lane has these bits: both alike -/
theorem bits_eq {k : Int32} (hk : Lk k) (v : Int64) : ∃ z : Int32, F_X23_isBits k v = some z ∧ F_X16_hasBits k v = some z ∧ (z = 0 ∨ z = 1) ∧ (z = 1 ↔ vb k v) := by
  have yes : (1 : Int32) = 0 ∨ (1 : Int32) = 1 := Or.inr rfl
  have no : (0 : Int32) = 0 ∨ (0 : Int32) = 1 := Or.inl rfl
  have lo : ∀ {k : Int32} (a b : Int64), (k = 1 ∨ k = 2 ∨ k = 3 ∨ k = 4) → a.toInt = lnLo k → b.toInt = lnHi k → (F_X23_isBits k v = if v = lnC k v then some 1 else some 0) → (F_X16_hasBits k v = if v < a then some 0 else if b < v then some 0 else some 1) → ∃ z : Int32, F_X23_isBits k v = some z ∧ F_X16_hasBits k v = some z ∧ (z = 0 ∨ z = 1) ∧ (z = 1 ↔ vb k v) := by
    intro k a b hk' ha hb h1 h2
    have hk5 : k = 1 ∨ k = 2 ∨ k = 3 ∨ k = 4 ∨ k = 5 := by rcases hk' with h | h | h | h <;> simp [h]
    have hvb := vb_rng (k := k) hk5 (v := v)
    have hc := lnC_eq hk5 v
    rw [h1, h2]
    simp only [Int64.lt_iff_toInt_lt, ha, hb]
    by_cases hv : lnLo k ≤ v.toInt ∧ v.toInt ≤ lnHi k
    · rw [if_pos (hc.mpr hv), if_neg (by omega), if_neg (by omega)]
      exact ⟨1, rfl, rfl, yes, ⟨fun _ => hvb.mpr hv, fun _ => rfl⟩⟩
    · rw [if_neg (fun h => hv (hc.mp h))]
      refine ⟨0, rfl, ?_, no, ⟨fun h => absurd h (by decide), fun h => absurd (hvb.mp h) hv⟩⟩
      by_cases h3 : v.toInt < lnLo k
      · rw [if_pos h3]
      · rw [if_neg h3, if_pos (by omega)]
  rcases hk with rfl | rfl | rfl | rfl | rfl | rfl | rfl | rfl
  · have e1 : F_X23_isBits 0 v = if v = 0 then some 1 else if v = 1 then some 1 else some 0 := rfl
    have e2 : F_X16_hasBits 0 v = if v = 0 then some 1 else if v = 1 then some 1 else some 0 := rfl
    have e3 : vb 0 v ↔ v = 0 ∨ v = 1 := by unfold vb; simp
    rw [e1, e2, e3]
    by_cases h0 : v = 0
    · rw [if_pos h0]
      exact ⟨1, rfl, rfl, yes, ⟨fun _ => Or.inl h0, fun _ => rfl⟩⟩
    · rw [if_neg h0]
      by_cases h1 : v = 1
      · rw [if_pos h1]
        exact ⟨1, rfl, rfl, yes, ⟨fun _ => Or.inr h1, fun _ => rfl⟩⟩
      · rw [if_neg h1]
        exact ⟨0, rfl, rfl, no, ⟨fun h => absurd h (by decide), fun h => h.elim (fun h => absurd h h0) (fun h => absurd h h1)⟩⟩
  · exact lo (-128) 127 (by simp) (by decide) (by decide) rfl rfl
  · exact lo (-32768) 32767 (by simp) (by decide) (by decide) rfl rfl
  · exact lo 0 65535 (by simp) (by decide) (by decide) rfl rfl
  · exact lo (-2147483648) 2147483647 (by simp) (by decide) (by decide) rfl rfl
  · exact ⟨1, rfl, rfl, yes, ⟨fun _ => (vb_rng (by simp)).mpr (i64_rng v), fun _ => rfl⟩⟩
  · have e1 : F_X23_isBits 6 v = if v = v &&& 4294967295 then (if 2139095040 < v &&& 2147483647 then some 0 else some 1) else some 0 := rfl
    have e2 : F_X16_hasBits 6 v = if v < 0 then some 0 else if 4294967295 < v then some 0 else (F_X24_wide v.toInt32).bind fun z1 => (F_X24_isNone z1).bind fun z2 => if z2 = 0 then some 1 else some 0 := rfl
    have hz : zx v.toInt32.toUInt32 = nl (un v % 2 ^ 32) := by
      rw [zx_nat]
      exact congrArg nl (un_i32 v)
    have hu := un_lt v
    have m1 : v = v &&& 4294967295 ↔ un v < 2 ^ 32 := by
      have := and_mask v 32 (by decide)
      constructor
      · intro h
        have h2 := congrArg un h
        rw [show un (v &&& 4294967295) = un v % 2 ^ 32 from this] at h2
        omega
      · intro h
        refine un_inj ?_
        rw [show un (v &&& 4294967295) = un v % 2 ^ 32 from this]
        omega
    have m2 : v &&& 2147483647 = nl (un v % 2 ^ 31) := un_inj (by rw [show un (v &&& 2147483647) = un v % 2 ^ 31 from and_mask v 31 (by decide), un_nl' (by omega)])
    have hi := neg_int v
    have m3 : (v < 0 ∨ 4294967295 < v) ↔ ¬ un v < 2 ^ 32 := by
      rw [Int64.lt_iff_toInt_lt, Int64.lt_iff_toInt_lt, show (0 : Int64).toInt = 0 from rfl, show (4294967295 : Int64).toInt = 4294967295 by decide, hi]
      unfold dS
      by_cases hb : 2 ^ 63 ≤ un v
      · rw [decide_eq_true hb, if_pos rfl]; omega
      · rw [decide_eq_false hb, if_neg (by decide)]; omega
    have hvb : vb 6 v ↔ un v < 2 ^ 32 ∧ okf (un v % 2 ^ 32) := by
      rw [vb_6, hz, un_i32]
      constructor
      · rintro ⟨h1, h2⟩
        have := congrArg un h1
        rw [un_nl' (by omega)] at this
        exact ⟨by omega, h2⟩
      · rintro ⟨h1, h2⟩
        exact ⟨un_inj (by rw [un_nl' (by omega)]; omega), h2⟩
    rw [e1, e2]
    by_cases hs : un v < 2 ^ 32
    · rw [if_pos (m1.mpr hs), m2, if_neg (fun h => m3.mp (Or.inl h) hs), if_neg (fun h => m3.mp (Or.inr h) hs)]
      have c : (2139095040 : Int64) < nl (un v % 2 ^ 31) ↔ 2139095040 < un v % 2 ^ 31 := nl_lt (m := 2139095040) (by decide) (by omega)
      by_cases ho : okf (un v % 2 ^ 32)
      · have : ¬ 2139095040 < un v % 2 ^ 31 := by unfold okf at ho; omega
        rw [if_neg (fun h => this (c.mp h)), X24_wide (by rw [un_i32]; exact ho)]
        obtain ⟨w, w1, w2⟩ := M_none (FP.f2d v.toInt32.toUInt32).toInt64
        simp only [Option.bind_some, w1]
        have : okd (un (FP.f2d v.toInt32.toUInt32).toInt64) := (f2d_ok (a := v.toInt32.toUInt32) (by show okf (ui v.toInt32); rw [un_i32]; exact ho)).1
        rw [if_pos (w2.mpr this)]
        exact ⟨1, rfl, rfl, yes, ⟨fun _ => hvb.mpr ⟨hs, ho⟩, fun _ => rfl⟩⟩
      · have : 2139095040 < un v % 2 ^ 31 := by unfold okf at ho; omega
        rw [if_pos (c.mpr this)]
        obtain ⟨z, z1, z2⟩ := wide_none (y := v.toInt32) (by rw [un_i32]; exact ho)
        obtain ⟨w, w1, w2⟩ := M_none z
        rw [z1]
        simp only [Option.bind_some, w1]
        rw [if_neg (fun h => z2 (w2.mp h))]
        exact ⟨0, rfl, rfl, no, ⟨fun h => absurd h (by decide), fun h => absurd (hvb.mp h).2 ho⟩⟩
    · rw [if_neg (fun h => hs (m1.mp h))]
      refine ⟨0, rfl, ?_, no, ⟨fun h => absurd h (by decide), fun h => absurd (hvb.mp h).1 hs⟩⟩
      have := m3.mpr hs
      by_cases h1 : v < 0
      · rw [if_pos h1]
      · rw [if_neg h1, if_pos (this.resolve_left h1)]
  · have e1 : F_X23_isBits 7 v = if 9218868437227405312 < v &&& 9223372036854775807 then some 0 else some 1 := rfl
    have e2 : F_X16_hasBits 7 v = (F_X24_isNone v).bind fun z3 => if z3 = 0 then some 1 else some 0 := rfl
    obtain ⟨w, w1, w2⟩ := M_none v
    rw [e1, e2, w1, mag_and, vb_7]
    simp only [Option.bind_some]
    have c : (9218868437227405312 : Int64) < nl (un v % 2 ^ 63) ↔ 9218868437227405312 < un v % 2 ^ 63 := nl_lt (m := 9218868437227405312) (by decide) (by omega)
    by_cases ho : okd (un v)
    · have : ¬ 9218868437227405312 < un v % 2 ^ 63 := by unfold okd at ho; omega
      rw [if_neg (fun h => this (c.mp h)), if_pos (w2.mpr ho)]
      exact ⟨1, rfl, rfl, yes, ⟨fun _ => ho, fun _ => rfl⟩⟩
    · have : 9218868437227405312 < un v % 2 ^ 63 := by unfold okd at ho; omega
      rw [if_pos (c.mpr this), if_neg (fun h => ho (w2.mp h))]
      exact ⟨0, rfl, rfl, no, ⟨fun h => absurd h (by decide), fun h => absurd h ho⟩⟩
/-- lanes that fit: both alike -/
theorem fits_eq {f t : Int32} (hf : Lk f) (ht : Lk t) : ∃ z : Int32, F_X20_fits f t = some z ∧ F_X16_isFitting f t = some z ∧ (z = 0 ∨ z = 1) ∧ (z = 1 ↔ fit f t) := by
  rcases hf with rfl | rfl | rfl | rfl | rfl | rfl | rfl | rfl <;> rcases ht with rfl | rfl | rfl | rfl | rfl | rfl | rfl | rfl <;> exact ⟨_, rfl, rfl, by decide, by simp [fit]⟩
/-! shifts -/
theorem un_sx (x : Int32) : un x.toInt64 % 2 ^ 32 = ui x := by
  show (BitVec.signExtend 64 x.toBitVec).toNat % 2 ^ 32 = x.toBitVec.toNat
  rw [BitVec.toNat_signExtend, BitVec.toNat_setWidth]
  have := x.toBitVec.isLt
  generalize x.toBitVec.toNat = z at *
  split <;> omega
theorem am63 (x : Int32) : x.toInt64 &&& 63 = nl (ui x % 64) := by
  refine un_inj ?_
  have e : un (x.toInt64 &&& 63) = un x.toInt64 % 2 ^ 6 := and_mask x.toInt64 6 (by decide)
  rw [e, un_nl' (by omega)]
  have := un_sx x
  omega
theorem am63' (x : Int32) : (x &&& 63).toInt64 &&& 63 = x.toInt64 &&& 63 := by
  rw [am63, am63]
  refine congrArg nl ?_
  rw [ui_and, show ui 63 = 2 ^ 6 - 1 from rfl, Nat.and_two_pow_sub_one_eq_mod]
  omega
theorem am31 (x : Int32) : x &&& 31 = Int32.ofNat (ui x % 32) := by
  refine ui_inj ?_
  have : ui (Int32.ofNat (ui x % 32)) = ui x % 32 := ui_ni (by omega)
  rw [ui_and, show ui 31 = 2 ^ 5 - 1 from rfl, Nat.and_two_pow_sub_one_eq_mod, this]
theorem sh_32 : ∀ k : Fin 32, (Int32.ofNat k.val).toBitVec.smod 32 = BitVec.ofNat 32 k.val := by decide +kernel
theorem sh_32u : ∀ k : Fin 32, (Int32.ofNat k.val).toUInt32 &&& Int32.toUInt32 31 = UInt32.ofNat k.val := by decide +kernel
theorem and31 : ∀ k : Fin 32, (Int32.ofNat k.val) &&& 31 = Int32.ofNat k.val := by decide +kernel
theorem ish_l (x n : Int32) : j_ishl x n = ni (ui x * 2 ^ (ui n % 32)) := by
  unfold j_ishl
  rw [am31]
  obtain ⟨b, hb, hb2⟩ : ∃ b, ui n % 32 = b ∧ b < 32 := ⟨_, rfl, Nat.mod_lt _ (by decide)⟩
  rw [hb]
  refine ui_inj ?_
  have e : ui (x <<< Int32.ofNat b) = (x.toBitVec <<< (BitVec.ofNat 32 b)).toNat := by
    show (x.toBitVec <<< ((Int32.ofNat b).toBitVec.smod 32)).toNat = _
    rw [sh_32 ⟨b, hb2⟩]
  rw [e, BitVec.shiftLeft_eq', BitVec.toNat_shiftLeft, BitVec.toNat_ofNat, Nat.mod_eq_of_lt (show b < 2 ^ 32 by omega), Nat.shiftLeft_eq]
  show _ = (BitVec.ofNat 32 (ui x * 2 ^ b)).toNat
  rw [BitVec.toNat_ofNat]
  rfl
theorem ish_r (x n : Int32) : (j_ishr x n).toInt = x.toInt / 2 ^ (ui n % 32) := by
  unfold j_ishr
  rw [am31]
  obtain ⟨b, hb, hb2⟩ : ∃ b, ui n % 32 = b ∧ b < 32 := ⟨_, rfl, Nat.mod_lt _ (by decide)⟩
  rw [hb]
  have e : (x >>> Int32.ofNat b).toInt = (x.toBitVec.sshiftRight b).toInt := by
    show (x.toBitVec.sshiftRight' ((Int32.ofNat b).toBitVec.smod 32)).toInt = _
    rw [sh_32 ⟨b, hb2⟩]
    show (x.toBitVec.sshiftRight (BitVec.ofNat 32 b).toNat).toInt = _
    rw [BitVec.toNat_ofNat, Nat.mod_eq_of_lt (by omega)]
  rw [e, BitVec.toInt_sshiftRight, Int.shiftRight_eq_div_pow]
  rfl
theorem lsh_r (x : Int64) {b : Nat} (hb : b < 64) : (j_lshr x (Int32.ofNat b)).toInt = x.toInt / 2 ^ b := by
  have e : (j_lshr x (Int32.ofNat b)).toInt = (x.toBitVec.sshiftRight b).toInt := by
    unfold j_lshr
    show (x.toBitVec.sshiftRight' (((Int32.ofNat b).toInt64 &&& 63).toBitVec.smod 64)).toInt = _
    rw [sh_sr ⟨b, hb⟩]
    show (x.toBitVec.sshiftRight (BitVec.ofNat 64 b).toNat).toInt = _
    rw [BitVec.toNat_ofNat, Nat.mod_eq_of_lt (by omega)]
  rw [e, BitVec.toInt_sshiftRight, Int.shiftRight_eq_div_pow]
  rfl
/-- shifts: 6 left, 7 right, 8 right with zeros; in the model's form -/
def shf (w k : Int32) (a n : Int64) : Int64 :=
  if k = 5 then (if w = 6 then j_lshl a n.toInt32 else if w = 7 then j_lshr a n.toInt32 else j_lushr a n.toInt32)
  else (if w = 6 then (j_ishl a.toInt32 n.toInt32).toInt64 else if w = 7 then (j_ishr a.toInt32 n.toInt32).toInt64 else (j_iushr a.toInt32 n.toInt32).toInt64)
theorem E_shift {w k : Int32} {a n : Int64} (hw : w = 6 ∨ w = 7 ∨ w = 8) (hk : k = 4 ∨ k = 5) (ha : vb k a) : F_X23_shift w k a n = some (shf w k a n) := by
  have m5l : j_lshl a (n.toInt32 &&& 63) = j_lshl a n.toInt32 := by unfold j_lshl; rw [am63']
  have m5r : j_lshr a (n.toInt32 &&& 63) = j_lshr a n.toInt32 := by unfold j_lshr; rw [am63']
  have m5u : j_lushr a (n.toInt32 &&& 63) = j_lushr a n.toInt32 := by
    unfold j_lushr
    have h := congrArg Int64.toUInt64 (am63' n.toInt32)
    have h : (n.toInt32 &&& 63).toInt64.toUInt64 &&& Int64.toUInt64 63 = n.toInt32.toInt64.toUInt64 &&& Int64.toUInt64 63 := h
    rw [h]
  rcases hk with rfl | rfl
  · have hb2 : ui n.toInt32 % 32 < 32 := Nat.mod_lt _ (by decide)
    have ha' := (vb_rng (k := 4) (by simp)).mp ha
    rw [show lnLo 4 = -2147483648 from rfl, show lnHi 4 = 2147483647 from rfl] at ha'
    have hai : a.toInt32.toInt = a.toInt := by
      rw [Int64.toInt_toInt32, Int.bmod_def]
      split <;> omega
    rcases hw with rfl | rfl | rfl
    · have e : F_X23_shift 6 4 a n = (F_X23_cut 4 (j_lshl a (n.toInt32 &&& 31))).bind fun z2 => some z2 := rfl
      rw [e, E_cut]
      refine congrArg some ?_
      show (j_lshl a (n.toInt32 &&& 31)).toInt32.toInt64 = (j_ishl a.toInt32 n.toInt32).toInt64
      refine congrArg Int32.toInt64 (ui_inj ?_)
      have h1 := un_i32 (j_lshl a (n.toInt32 &&& 31))
      rw [h1, am31, un_shl a (by omega), ish_l, un_i32 a]
      show _ = (BitVec.ofNat 32 _).toNat
      rw [BitVec.toNat_ofNat]
      generalize 2 ^ (ui n.toInt32 % 32) = P
      rw [Nat.mod_mod_of_dvd _ (by decide), Nat.mod_mul_mod]
    · have e : F_X23_shift 7 4 a n = some (j_lshr a (n.toInt32 &&& 31)) := rfl
      rw [e]
      refine congrArg some ?_
      show j_lshr a (n.toInt32 &&& 31) = (j_ishr a.toInt32 n.toInt32).toInt64
      rw [i64_eq, am31, lsh_r a (by omega), Int32.toInt_toInt64, ish_r, hai]
    · have e : F_X23_shift 8 4 a n = some ((j_iushr a.toInt32 (n.toInt32 &&& 31)).toInt64) := rfl
      rw [e]
      refine congrArg some ?_
      show (j_iushr a.toInt32 (n.toInt32 &&& 31)).toInt64 = (j_iushr a.toInt32 n.toInt32).toInt64
      unfold j_iushr
      have h : (n.toInt32 &&& 31).toUInt32 &&& Int32.toUInt32 31 = n.toInt32.toUInt32 &&& Int32.toUInt32 31 := by
        have h1 : (n.toInt32 &&& 31) &&& 31 = n.toInt32 &&& 31 := by
          rw [am31 n.toInt32]
          exact and31 ⟨_, hb2⟩
        exact congrArg Int32.toUInt32 h1
      rw [h]
  · rcases hw with rfl | rfl | rfl
    · have e : F_X23_shift 6 5 a n = (F_X23_cut 5 (j_lshl a (n.toInt32 &&& 63))).bind fun z2 => some z2 := rfl
      rw [e, E_cut, m5l]
      rfl
    · have e : F_X23_shift 7 5 a n = some (j_lshr a (n.toInt32 &&& 63)) := rfl
      rw [e, m5r]
      rfl
    · have e : F_X23_shift 8 5 a n = some (j_lushr a (n.toInt32 &&& 63)) := rfl
      rw [e, m5u]
      rfl
