/-! ===== VALUES, 1: a lane's values as doubles and back; conversion ===== -/
/-- a value of a lane as a double -/
def lnR (k : Int32) (v : Int64) : UInt64 := if k = 6 then FP.f2d v.toInt32.toUInt32 else if k = 7 then v.toUInt64 else FP.l2d v
/-- 32 bits as a long -/
def zx (y : UInt32) : Int64 := y.toInt32.toInt64 &&& 4294967295
/-- a double in a floating lane -/
def lnB (k : Int32) (x : UInt64) : Int64 := if k = 6 then zx (FP.d2f x) else x.toInt64
/-- cut to a lane of whole numbers -/
def lnC (k : Int32) (v : Int64) : Int64 := if k = 1 then (j_i2b v.toInt32).toInt64 else if k = 2 then (j_i2s v.toInt32).toInt64 else if k = 3 then v &&& 65535 else if k = 4 then v.toInt32.toInt64 else v
/-- bits that a lane has -/
def vb (k : Int32) (v : Int64) : Prop := if k = 6 then v = zx v.toInt32.toUInt32 ∧ okf (ui v.toInt32) else if k = 7 then okd (un v) else if k = 0 then v = 0 ∨ v = 1 else v = lnC k v
def Lk (k : Int32) : Prop := k = 0 ∨ k = 1 ∨ k = 2 ∨ k = 3 ∨ k = 4 ∨ k = 5 ∨ k = 6 ∨ k = 7
theorem vb_6 {v : Int64} : vb 6 v ↔ v = zx v.toInt32.toUInt32 ∧ okf (ui v.toInt32) := by
  unfold vb
  rw [if_pos rfl]
theorem vb_7 {v : Int64} : vb 7 v ↔ okd (un v) := by
  unfold vb
  rw [if_neg (by decide), if_pos rfl]
theorem vb_lo {k : Int32} {v : Int64} (h : k < 6) : vb k v ↔ if k = 0 then v = 0 ∨ v = 1 else v = lnC k v := by
  unfold vb
  rw [if_neg (by rintro rfl; revert h; decide), if_neg (by rintro rfl; revert h; decide)]
theorem l2d_ok (v : Int64) : okd (FP.l2d v).toNat := by rw [l2d_dv]; exact (dv_ok _ _ _).1
theorem E_real {k : Int32} {v : Int64} (h : vb k v) : F_X23_real k v = some (lnR k v) ∧ okd (lnR k v).toNat := by
  unfold F_X23_real F_X23_real_b28 lnR
  by_cases h6 : k = 6
  · subst h6
    obtain ⟨-, h⟩ := vb_6.mp h
    have h : okf v.toInt32.toUInt32.toNat := h
    rw [if_pos rfl, if_pos rfl]
    unfold ni2f
    rw [if_pos (xn32 h)]
    simp only [Option.bind_some]
    rw [if_pos (xn64 (f2d_ok h).1)]
    exact ⟨rfl, (f2d_ok h).1⟩
  · rw [if_neg h6, if_neg h6]
    by_cases h7 : k = 7
    · subst h7
      have h : okd v.toUInt64.toNat := vb_7.mp h
      rw [if_pos rfl, if_pos rfl]
      unfold nl2d
      rw [if_pos (xn64 h)]
      exact ⟨rfl, h⟩
    · rw [if_neg h7, if_neg h7]
      exact ⟨rfl, l2d_ok v⟩
theorem M_real {k : Int32} {v : Int64} (h : vb k v) : F_X16_real v k = some (lnR k v).toInt64 := by
  unfold F_X16_real F_X16_real_b29 lnR
  by_cases h6 : k = 6
  · subst h6
    obtain ⟨-, h⟩ := vb_6.mp h
    rw [if_pos rfl, if_pos rfl, X24_wide h]
    rfl
  · rw [if_neg h6, if_neg h6]
    by_cases h7 : k = 7
    · subst h7
      rw [if_pos rfl, if_pos rfl]
      rfl
    · rw [if_neg h7, if_neg h7, X24_of]
      rfl
theorem E_bits {k : Int32} {x : UInt64} (h : okd x.toNat) : F_X23_bits k x = some (lnB k x) := by
  unfold F_X23_bits F_X23_bits_b23 lnB
  by_cases h6 : k = 6
  · have := xn32 (d2f_ok h).1
    rw [if_pos h6, if_pos h6, if_pos this]
    unfold nf2i
    rw [if_pos this]
    rfl
  · rw [if_neg h6, if_neg h6]
    unfold nd2l
    rw [if_pos (xn64 h)]
    rfl
theorem M_ofReal {k : Int32} {x : UInt64} (h : okd x.toNat) : F_X16_ofReal x.toInt64 k = some (lnB k x) := by
  unfold F_X16_ofReal F_X16_ofReal_b19 lnB
  by_cases h6 : k = 6
  · have : okd (un x.toInt64) := h
    rw [if_pos h6, if_pos h6, X24_narrow this]
    rfl
  · rw [if_neg h6, if_neg h6]
theorem ofNat_toInt64 (n : Nat) : (UInt64.ofNat n).toInt64 = nl n := rfl
theorem zx_nat (y : UInt32) : zx y = nl y.toNat := by
  unfold zx
  refine un_inj ?_
  rw [un_and, show un 4294967295 = 2 ^ 32 - 1 from rfl, Nat.and_two_pow_sub_one_eq_mod, un_nl' (by have := y.toNat_lt; omega)]
  have e : un (y.toInt32.toInt64) % 2 ^ 32 = y.toNat := by
    show (BitVec.signExtend 64 y.toBitVec).toNat % 2 ^ 32 = y.toBitVec.toNat
    rw [BitVec.toNat_signExtend, BitVec.toNat_setWidth]
    have := y.toBitVec.isLt
    generalize y.toBitVec.toNat = z at *
    split <;> omega
  exact e
theorem zx_i32 (y : UInt32) : (zx y).toInt32.toUInt32 = y := by
  rw [zx_nat, nl_i32 y.toNat_lt]
  exact UInt32.ofNat_toNat
theorem zx_vb {y : UInt32} (h : okf y.toNat) : vb 6 (zx y) := by
  rw [vb_6]
  have e := zx_i32 y
  refine ⟨by rw [e], ?_⟩
  show okf (zx y).toInt32.toUInt32.toNat
  rw [e]
  exact h
theorem lnB_vb {k : Int32} {x : UInt64} (hk : k = 6 ∨ k = 7) (h : okd x.toNat) : vb k (lnB k x) := by
  rcases hk with rfl | rfl
  · exact zx_vb (d2f_ok h).1
  · rw [vb_7]
    exact h
/-- a value of one lane in another -/
noncomputable def cvt (f t : Int32) (v : Int64) : Int64 :=
  if f = t then v else if t = 6 ∧ f < 6 then zx (FP.l2f v) else if t = 6 ∨ t = 7 then lnB t (lnR f v) else if f < 6 then lnC t v else if t = 5 then FP.d2l (lnR f v) else lnC t (FP.d2i (lnR f v)).toInt64
theorem E_cut (k : Int32) (v : Int64) : F_X23_cut k v = some (lnC k v) := by
  unfold F_X23_cut lnC
  repeat (split; · rfl)
  rfl
theorem E_convert {f t : Int32} {v : Int64} (h : vb f v) : F_X23_convert f t v = some (cvt f t v) := by
  unfold F_X23_convert F_X23_convert_b30 F_X23_convert_b42 F_X23_convert_b90 cvt
  rw [(E_real h).1]
  simp only [Option.bind_some]
  have e1 : nf2i (FP.l2f v) = some (FP.l2f v).toInt32 := by
    unfold nf2i
    rw [if_pos (xn32 (y := FP.l2f v) (l2f_ok v))]
  rw [e1]
  simp only [Option.bind_some, E_cut, E_bits (E_real h).2]
  by_cases h1 : f = t
  · rw [if_pos h1, if_pos h1]
  rw [if_neg h1, if_neg h1]
  by_cases h6 : t = 6
  · subst h6
    by_cases hf : f < 6
    · simp [hf, zx]
    · simp [hf]
  · by_cases h7 : t = 7
    · subst h7
      simp
    · simp only [h6, h7, if_false, false_and, or_self]
      by_cases hf : f < 6
      · rw [if_pos hf, if_pos hf]
      · rw [if_neg hf, if_neg hf]
        split <;> rfl
theorem i2c_and (v : Int64) : (j_i2c v.toInt32).toInt64 = v &&& 65535 := by
  refine un_inj ?_
  rw [un_and, show un 65535 = 2 ^ 16 - 1 from rfl, Nat.and_two_pow_sub_one_eq_mod]
  have e1 : ui v.toInt32 = un v % 2 ^ 32 := by
    show (BitVec.signExtend 32 v.toBitVec).toNat = _
    rw [BitVec.signExtend_eq_setWidth_of_le _ (by decide), BitVec.toNat_setWidth]
    rfl
  have e2 : j_i2c v.toInt32 = ni (un v % 2 ^ 16) := by
    unfold j_i2c
    refine ui_inj ?_
    rw [ui_ni (by omega)]
    show (v.toInt32.toUInt32 % 65536).toNat = _
    rw [UInt32.toNat_mod]
    show ui v.toInt32 % 65536 = _
    rw [e1]
    omega
  rw [e2]
  unfold ni
  rw [i64_of (by omega), un_nl' (by omega)]
theorem M_b93 (k : Int32) (v : Int64) : F_X16_casted_b93 k v = some (lnC k v) := by
  unfold F_X16_casted_b93 lnC
  rw [i2c_and]
  repeat (split; · rfl)
  rfl
/-! ranges -/
def lnLo (k : Int32) : Int := if k = 1 then -128 else if k = 2 then -32768 else if k = 3 then 0 else if k = 4 then -2147483648 else -9223372036854775808
def lnHi (k : Int32) : Int := if k = 1 then 127 else if k = 2 then 32767 else if k = 3 then 65535 else if k = 4 then 2147483647 else 9223372036854775807
theorem i64_rng (v : Int64) : -9223372036854775808 ≤ v.toInt ∧ v.toInt ≤ 9223372036854775807 := by
  have h1 := Int64.le_toInt v
  have h2 := Int64.toInt_lt v
  omega
theorem lnC_1 (v : Int64) : (lnC 1 v).toInt = v.toInt.bmod 256 := by
  show (v.toInt32.toInt8.toInt32.toInt64).toInt = _
  rw [Int32.toInt_toInt64, Int8.toInt_toInt32, Int32.toInt_toInt8, Int64.toInt_toInt32]
  exact Int.bmod_bmod_of_dvd (by decide)
theorem lnC_2 (v : Int64) : (lnC 2 v).toInt = v.toInt.bmod 65536 := by
  show (v.toInt32.toInt16.toInt32.toInt64).toInt = _
  rw [Int32.toInt_toInt64, Int16.toInt_toInt32, Int32.toInt_toInt16, Int64.toInt_toInt32]
  exact Int.bmod_bmod_of_dvd (by decide)
theorem lnC_3 (v : Int64) : (lnC 3 v).toInt = v.toInt % 65536 := by
  show (v &&& 65535).toInt = _
  have e : v &&& 65535 = nl (un v % 65536) := by
    refine un_inj ?_
    rw [un_and, show un 65535 = 2 ^ 16 - 1 from rfl, Nat.and_two_pow_sub_one_eq_mod, un_nl' (by omega)]
  rw [e, nl_int (by omega), neg_int]
  unfold dS
  have := un_lt v
  split
  · rename_i h
    have := of_decide_eq_true h
    omega
  · rename_i h
    have : ¬ 2 ^ 63 ≤ un v := fun h2 => h (decide_eq_true h2)
    omega
theorem lnC_4 (v : Int64) : (lnC 4 v).toInt = v.toInt.bmod 4294967296 := by
  show (v.toInt32.toInt64).toInt = _
  rw [Int32.toInt_toInt64, Int64.toInt_toInt32]
theorem lnC_eq {k : Int32} (hk : k = 1 ∨ k = 2 ∨ k = 3 ∨ k = 4 ∨ k = 5) (v : Int64) : v = lnC k v ↔ lnLo k ≤ v.toInt ∧ v.toInt ≤ lnHi k := by
  have key : ∀ w : Int64, v = w ↔ v.toInt = w.toInt := fun w => Int64.toInt_inj.symm
  have hr := i64_rng v
  rw [key]
  rcases hk with rfl | rfl | rfl | rfl | rfl
  · rw [lnC_1, show lnLo 1 = -128 from rfl, show lnHi 1 = 127 from rfl, Int.bmod_def]
    split <;> omega
  · rw [lnC_2, show lnLo 2 = -32768 from rfl, show lnHi 2 = 32767 from rfl, Int.bmod_def]
    split <;> omega
  · rw [lnC_3, show lnLo 3 = 0 from rfl, show lnHi 3 = 65535 from rfl]
    omega
  · rw [lnC_4, show lnLo 4 = -2147483648 from rfl, show lnHi 4 = 2147483647 from rfl, Int.bmod_def]
    split <;> omega
  · rw [show lnLo 5 = -9223372036854775808 from rfl, show lnHi 5 = 9223372036854775807 from rfl]
    exact ⟨fun _ => hr, fun _ => rfl⟩
theorem lnC_rng {k : Int32} (hk : k = 1 ∨ k = 2 ∨ k = 3 ∨ k = 4 ∨ k = 5) (v : Int64) : lnLo k ≤ (lnC k v).toInt ∧ (lnC k v).toInt ≤ lnHi k := by
  rcases hk with rfl | rfl | rfl | rfl | rfl
  · rw [lnC_1, show lnLo 1 = -128 from rfl, show lnHi 1 = 127 from rfl, Int.bmod_def]
    split <;> omega
  · rw [lnC_2, show lnLo 2 = -32768 from rfl, show lnHi 2 = 32767 from rfl, Int.bmod_def]
    split <;> omega
  · rw [lnC_3, show lnLo 3 = 0 from rfl, show lnHi 3 = 65535 from rfl]
    omega
  · rw [lnC_4, show lnLo 4 = -2147483648 from rfl, show lnHi 4 = 2147483647 from rfl, Int.bmod_def]
    split <;> omega
  · exact i64_rng _
theorem vb_rng {k : Int32} (hk : k = 1 ∨ k = 2 ∨ k = 3 ∨ k = 4 ∨ k = 5) {v : Int64} : vb k v ↔ lnLo k ≤ v.toInt ∧ v.toInt ≤ lnHi k := by
  rw [← lnC_eq hk]
  unfold vb
  rcases hk with rfl | rfl | rfl | rfl | rfl <;> rfl
theorem lnC_vb {k : Int32} (hk : k = 1 ∨ k = 2 ∨ k = 3 ∨ k = 4 ∨ k = 5) (v : Int64) : vb k (lnC k v) := (vb_rng hk).mpr (lnC_rng hk v)
/-- the lanes that fit, without a cast -/
def fit (f t : Int32) : Prop := f = t ∨ (f ≠ 0 ∧ t ≠ 0 ∧ t ≠ 3 ∧ f < t ∧ (f = 3 → 4 ≤ t))
theorem lnR_lo {k : Int32} (h : k < 6) (v : Int64) : lnR k v = FP.l2d v := by
  unfold lnR
  rw [if_neg (by rintro rfl; revert h; decide), if_neg (by rintro rfl; revert h; decide)]
theorem zx_l2f (v : Int64) : ∃ y : Int32, F_X24_narrow (FP.f2d (FP.l2f v)).toInt64 = some y ∧ y.toInt64 &&& 4294967295 = zx (FP.l2f v) := by
  have h := l2f_ok v
  have h' : okf (FP.l2f v).toNat := h
  have h2 : okd (un (FP.f2d (FP.l2f v)).toInt64) := (f2d_ok h').1
  refine ⟨_, X24_narrow h2, ?_⟩
  have : FP.d2f (FP.f2d (FP.l2f v)).toInt64.toUInt64 = FP.l2f v := d2f_f2d h'
  rw [this]
  rfl
/-- lanes that fit, case by case -/
theorem fit_cases {f t : Int32} (hf : Lk f) (ht : Lk t) (hw : fit f t) (hne : f ≠ t) : (f = 1 ∨ f = 2 ∨ f = 3 ∨ f = 4 ∨ f = 5 ∨ f = 6) ∧ (t = 2 ∨ t = 4 ∨ t = 5 ∨ t = 6 ∨ t = 7) ∧ f < t ∧ (t = 2 → f = 1) := by
  rcases hw with e | ⟨w1, w2, w3, w4, w5⟩
  · exact absurd e hne
  rcases hf with rfl | rfl | rfl | rfl | rfl | rfl | rfl | rfl <;> rcases ht with rfl | rfl | rfl | rfl | rfl | rfl | rfl | rfl <;> first | exact absurd rfl hne | exact absurd rfl w1 | exact absurd rfl w2 | exact absurd rfl w3 | (exfalso; revert w4; decide) | (exfalso; revert w5; decide) | decide
theorem cvt_id {f t : Int32} {v : Int64} (hf : f = 1 ∨ f = 2 ∨ f = 3 ∨ f = 4 ∨ f = 5) (ht : t = 2 ∨ t = 4 ∨ t = 5) (hlt : f < t) (h2 : t = 2 → f = 1) (h : vb f v) : lnC t v = v := by
  have hr := (vb_rng hf).mp h
  refine ((lnC_eq (by rcases ht with h | h | h <;> simp [h]) v).mpr ?_).symm
  revert hr
  rcases hf with rfl | rfl | rfl | rfl | rfl <;> rcases ht with rfl | rfl | rfl <;> first | (exfalso; revert hlt; decide) | (exfalso; revert h2; decide) | skip
  all_goals simp only [lnLo, lnHi]
  all_goals simp
  all_goals omega
theorem M_widened {f t : Int32} {v : Int64} (hf : Lk f) (ht : Lk t) (hw : fit f t) (h : vb f v) : F_X16_widened v f t = some (cvt f t v) := by
  unfold F_X16_widened F_X16_widened_b16 F_X16_widened_b43 cvt
  by_cases hne : f = t
  · rw [if_pos hne, if_pos hne]
  obtain ⟨kf, kt, klt, k2⟩ := fit_cases hf ht hw hne
  rw [if_neg hne, if_neg hne]
  obtain ⟨y, y1, y2⟩ := zx_l2f v
  have hlt1 : ¬ f < 1 := by rcases kf with rfl | rfl | rfl | rfl | rfl | rfl <;> decide
  have hlt7 : ¬ 7 < f := by rcases kf with rfl | rfl | rfl | rfl | rfl | rfl <;> decide
  rw [if_neg hlt1, if_neg hlt7]
  simp only [X24_of, X24_floatOf, Option.bind_some, y1, y2]
  by_cases h7 : t = 7
  · subst h7
    by_cases h6 : f = 6
    · subst h6
      rw [X24_wide (vb_6.mp h).2]
      simp [lnB, lnR]
    · have : f < 6 := by rcases kf with rfl | rfl | rfl | rfl | rfl | rfl <;> first | decide | exact absurd rfl h6
      simp [h6, lnB, lnR_lo this]
  · by_cases h6 : t = 6
    · subst h6
      simp [klt]
    · simp only [h6, h7, if_false, false_and, or_self]
      have kt' : t = 2 ∨ t = 4 ∨ t = 5 := by
        rcases kt with h | h | h | h | h
        · exact Or.inl h
        · exact Or.inr (Or.inl h)
        · exact Or.inr (Or.inr h)
        · exact absurd h h6
        · exact absurd h h7
      have kf' : f = 1 ∨ f = 2 ∨ f = 3 ∨ f = 4 ∨ f = 5 := by
        rcases kf with h | h | h | h | h | h
        · exact Or.inl h
        · exact Or.inr (Or.inl h)
        · exact Or.inr (Or.inr (Or.inl h))
        · exact Or.inr (Or.inr (Or.inr (Or.inl h)))
        · exact Or.inr (Or.inr (Or.inr (Or.inr h)))
        · subst h
          rcases kt' with rfl | rfl | rfl <;> (revert klt; decide)
      have hlo : f < 6 := by rcases kf' with rfl | rfl | rfl | rfl | rfl <;> decide
      rw [if_pos hlo, cvt_id kf' kt' klt k2 h]
/-- the model's cast -/
theorem M_casted {f t : Int32} {v : Int64} (hf : Lk f) (ht : Lk t) (hw : f = t ∨ (f ≠ 0 ∧ t ≠ 0)) (h : vb f v) : F_X16_casted v f t = some (cvt f t v) := by
  by_cases hne : f = t
  · unfold F_X16_casted cvt
    rw [if_pos hne, if_pos hne]
  have h0 : f ≠ 0 ∧ t ≠ 0 := hw.resolve_left hne
  by_cases h7 : t = 7
  · have hfit : fit f t := Or.inr ⟨h0.1, h0.2, by rw [h7]; decide, by subst h7; rcases hf with rfl | rfl | rfl | rfl | rfl | rfl | rfl | rfl <;> first | decide | exact absurd rfl hne, by rw [h7]; exact fun _ => by decide⟩
    have := M_widened hf ht hfit h
    unfold F_X16_casted F_X16_casted_b25
    rw [if_neg hne, if_pos h7, this]
    rfl
  by_cases h6 : t = 6
  · by_cases hlo : f < 6
    · have hfit : fit f t := Or.inr ⟨h0.1, h0.2, by rw [h6]; decide, by rw [h6]; exact hlo, by rw [h6]; exact fun _ => by decide⟩
      have := M_widened hf ht hfit h
      unfold F_X16_casted F_X16_casted_b25
      rw [if_neg hne, if_neg h7, if_pos h6, if_pos hlo, this]
      rfl
    · have f7 : f = 7 := by rcases hf with rfl | rfl | rfl | rfl | rfl | rfl | rfl | rfl <;> first | rfl | exact absurd (by decide) hlo | exact absurd h6.symm hne
      subst f7
      subst h6
      unfold F_X16_casted F_X16_casted_b32 cvt
      rw [if_neg (by decide), if_neg (by decide), if_pos rfl, if_neg (by decide), if_pos rfl, if_neg (by decide), if_neg (by decide), if_pos (Or.inl rfl), X24_narrow (vb_7.mp h)]
      rfl
  · unfold F_X16_casted F_X16_casted_b32 F_X16_casted_b63 F_X16_casted_b78 F_X16_casted_b88 cvt
    simp only [hne, h7, h6, if_false, false_and, or_self, M_b93]
    by_cases f6 : f = 6
    · subst f6
      have hd : okd (un (FP.f2d v.toInt32.toUInt32).toInt64) := (f2d_ok (a := v.toInt32.toUInt32) (vb_6.mp h).2).1
      rw [if_pos rfl, if_pos rfl, X24_wide (vb_6.mp h).2, if_neg (by decide)]
      simp only [Option.bind_some, X16_cut_1 hd, X16_cut_0 hd]
      show _ = some (if t = 5 then FP.d2l (FP.f2d v.toInt32.toUInt32) else lnC t (FP.d2i (FP.f2d v.toInt32.toUInt32)).toInt64)
      by_cases h5 : t = 5
      · subst h5
        rw [if_pos rfl, if_pos rfl]
        rfl
      · rw [if_neg h5, if_neg h5]
        rfl
    · rw [if_neg f6]
      by_cases f7 : f = 7
      · subst f7
        have hd := vb_7.mp h
        rw [if_pos rfl, if_neg (show ¬ (7 : Int32) = 6 by decide), if_neg (show ¬ (7 : Int32) < 6 by decide)]
        simp only [Option.bind_some, X16_cut_1 hd, X16_cut_0 hd]
        show _ = some (if t = 5 then FP.d2l v.toUInt64 else lnC t (FP.d2i v.toUInt64).toInt64)
        by_cases h5 : t = 5
        · subst h5
          rw [if_pos rfl, if_pos rfl]
          rfl
        · rw [if_neg h5, if_neg h5]
      · rw [if_neg f7, if_pos (by rcases hf with rfl | rfl | rfl | rfl | rfl | rfl | rfl | rfl <;> first | decide | exact absurd rfl f6 | exact absurd rfl f7)]
/-- what is converted has bits of its lane -/
theorem cvt_vb {f t : Int32} {v : Int64} (hf : Lk f) (ht : Lk t) (hw : f = t ∨ (f ≠ 0 ∧ t ≠ 0)) (h : vb f v) : vb t (cvt f t v) := by
  by_cases hne : f = t
  · unfold cvt
    rw [if_pos hne, ← hne]
    exact h
  have h0 : f ≠ 0 ∧ t ≠ 0 := hw.resolve_left hne
  have hr := E_real h
  unfold cvt
  rw [if_neg hne]
  by_cases h6 : t = 6
  · subst h6
    by_cases hlo : f < 6
    · rw [if_pos ⟨rfl, hlo⟩]
      exact zx_vb (y := FP.l2f v) (l2f_ok v)
    · rw [if_neg (fun hh => hlo hh.2), if_pos (Or.inl rfl)]
      exact lnB_vb (Or.inl rfl) hr.2
  · rw [if_neg (fun hh => h6 hh.1)]
    by_cases h7 : t = 7
    · subst h7
      rw [if_pos (Or.inr rfl)]
      exact lnB_vb (Or.inr rfl) hr.2
    · rw [if_neg (fun hh => hh.elim h6 h7)]
      have ht' : t = 1 ∨ t = 2 ∨ t = 3 ∨ t = 4 ∨ t = 5 := by
        rcases ht with h | h | h | h | h | h | h | h
        · exact absurd h h0.2
        · exact Or.inl h
        · exact Or.inr (Or.inl h)
        · exact Or.inr (Or.inr (Or.inl h))
        · exact Or.inr (Or.inr (Or.inr (Or.inl h)))
        · exact Or.inr (Or.inr (Or.inr (Or.inr h)))
        · exact absurd h h6
        · exact absurd h h7
      by_cases hlo : f < 6
      · rw [if_pos hlo]
        exact lnC_vb ht' _
      · rw [if_neg hlo]
        by_cases h5 : t = 5
        · subst h5
          exact (vb_rng (by simp)).mpr (i64_rng _)
        · rw [if_neg h5]
          exact lnC_vb ht' _
