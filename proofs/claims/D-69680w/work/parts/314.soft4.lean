/-! ===== FLOATS, 6: Soft's isInfinite, isZero, narrow, wide ===== -/
def ni (n : Nat) : Int32 := Int32.ofNat n
def ui (x : Int32) : Nat := x.toBitVec.toNat
theorem ui_lt (x : Int32) : ui x < 2 ^ 32 := x.toBitVec.isLt
theorem ui_inj {x y : Int32} (h : ui x = ui y) : x = y := Int32.toBitVec_inj.mp (BitVec.eq_of_toNat_eq h)
theorem ui_ni {n : Nat} (h : n < 2 ^ 32) : ui (ni n) = n := by
  show (BitVec.ofNat 32 n).toNat = n
  rw [BitVec.toNat_ofNat, Nat.mod_eq_of_lt h]
theorem ni_ui (x : Int32) : ni (ui x) = x := ui_inj (ui_ni (ui_lt x))
theorem ui_or (x y : Int32) : ui (x ||| y) = ui x ||| ui y := BitVec.toNat_or _ _
theorem ui_and (x y : Int32) : ui (x &&& y) = ui x &&& ui y := BitVec.toNat_and _ _
theorem ni_sign {k : Nat} (h : k < 2 ^ 31) (s : Bool) : ni k ||| (if s = true then -2147483648 else 0) = ni (k + if s = true then 2 ^ 31 else 0) := by
  cases s with
  | true =>
    apply ui_inj
    simp only [if_true]
    rw [ui_or, ui_ni (by omega), show ui (-2147483648 : Int32) = 2 ^ 31 from rfl, ui_ni (by omega), Nat.or_comm]
    have := Nat.two_pow_add_eq_or_of_lt h 1
    rw [Nat.mul_one] at this
    omega
  | false =>
    apply ui_inj
    simp only [Bool.false_eq_true, if_false, Nat.add_zero]
    rw [ui_or, show ui (0 : Int32) = 0 from rfl, Nat.or_zero]
theorem nl_i32 {k : Nat} (h : k < 2 ^ 32) : (nl k).toInt32 = ni k := by
  apply ui_inj
  rw [ui_ni h]
  show (BitVec.signExtend 32 (BitVec.ofNat 64 k)).toNat = k
  rw [BitVec.signExtend_eq_setWidth_of_le _ (by decide), BitVec.toNat_setWidth, BitVec.toNat_ofNat]
  omega
/-- the magnitude of a double -/
theorem mag_and (x : Int64) : x &&& 9223372036854775807 = nl (un x % 2 ^ 63) := by
  conv => lhs; rw [← nl_un x]
  exact nl_mask (k := 63) (un_lt x) (by decide)
theorem X24_isInfinite (x : Int64) : F_X24_isInfinite x = some (mr (decide (un x % 2 ^ 63 = 2047 * 2 ^ 52))) := by
  unfold F_X24_isInfinite F_X24_isInfinite_b17
  rw [mag_and]
  have hc : (nl (un x % 2 ^ 63) = 9218868437227405312) ↔ un x % 2 ^ 63 = 2047 * 2 ^ 52 := by
    rw [show (9218868437227405312 : Int64) = nl (2047 * 2 ^ 52) from rfl, nl_eq (by omega) (by decide)]
  by_cases h : un x % 2 ^ 63 = 2047 * 2 ^ 52
  · rw [if_pos (hc.mpr h), decide_eq_true h]; rfl
  · rw [if_neg (fun k => h (hc.mp k)), decide_eq_false h]; rfl
theorem X24_isZero (x : Int64) : F_X24_isZero x = some (mr (decide (un x % 2 ^ 63 = 0))) := by
  unfold F_X24_isZero F_X24_isZero_b15
  rw [mag_and]
  have hc : (nl (un x % 2 ^ 63) = 0) ↔ un x % 2 ^ 63 = 0 := by
    rw [show (0 : Int64) = nl 0 from rfl, nl_eq (by omega) (by decide)]
  by_cases h : un x % 2 ^ 63 = 0
  · rw [if_pos (hc.mpr h), decide_eq_true h]; rfl
  · rw [if_neg (fun k => h (hc.mp k)), decide_eq_false h]; rfl
/-- not a NaN -/
def okd (n : Nat) : Prop := n % 2 ^ 63 ≤ 2047 * 2 ^ 52
theorem okd_cases {n : Nat} (hn : n < 2 ^ 64) (h : okd n) : (n % 2 ^ 63 = 2047 * 2 ^ 52 ∧ dE n = 2047 ∧ dT n = 0) ∨ (n % 2 ^ 63 = 0 ∧ dC n = 0 ∧ dE n = 0) ∨ (n % 2 ^ 63 ≠ 2047 * 2 ^ 52 ∧ n % 2 ^ 63 ≠ 0 ∧ dE n ≠ 2047 ∧ dC n ≠ 0) := by
  unfold okd at h
  unfold dC dE dT
  by_cases h1 : n % 2 ^ 63 = 2047 * 2 ^ 52
  · exact Or.inl ⟨h1, by omega, by omega⟩
  · by_cases h2 : n % 2 ^ 63 = 0
    · refine Or.inr (Or.inl ⟨h2, ?_, by omega⟩)
      rw [if_pos (by omega)]
      omega
    · refine Or.inr (Or.inr ⟨h1, h2, by omega, ?_⟩)
      split <;> omega
theorem not_nan {n : Nat} (hn : n < 2 ^ 64) (h : okd n) : FP.Core.decode FP.Core.b64 n ≠ .nan := by
  rcases okd_cases hn h with ⟨h1, h2, h3⟩ | ⟨h1, h2, h3⟩ | ⟨h1, h2, h3, h4⟩
  · rw [dec_inf hn h2 h3]; exact fun h => by cases h
  · rw [dec_fin hn (by omega)]; exact fun h => by cases h
  · rw [dec_fin hn h3]; exact fun h => by cases h
theorem neg_iff (x : Int64) : x < 0 ↔ dS (un x) = true := by
  unfold dS
  rw [decide_eq_true_iff, Int64.lt_iff_toInt_lt]
  have h3 : x.toInt = x.toBitVec.toInt := rfl
  have h4 : un x = x.toBitVec.toNat := rfl
  have h5 := un_lt x
  rw [h3, BitVec.toInt_eq_toNat_cond, h4]
  rw [h4] at h5
  show (_ : Int) < 0 ↔ _
  split <;> omega
theorem enc32 (s : Bool) (A B : Nat) (e : Int) : FP.Core.encode FP.Core.b32 (FP.Core.roundRatio FP.Core.b32 s A B e) = FP.Core.encode FP.Core.b32 (FP.Core.roundRatio FP.Core.b32 false A B e) + if s = true then 2 ^ 31 else 0 := by
  cases s with
  | true => rw [enc_neg, f32.2.2.2.2]; rfl
  | false => rfl
theorem enc32_lt {A B : Nat} {e : Int} : FP.Core.encode FP.Core.b32 (FP.Core.roundRatio FP.Core.b32 false A B e) < 2 ^ 31 := by
  have := enc_lt (f := FP.Core.b32) f32.1 (by decide) A B e
  rw [f32.2.2.2.2] at this
  exact this
/-- the significand and the exponent that Soft takes stand for the same number -/
theorem sg_congr {f : FP.Core.Fmt} {s : Bool} {c : Nat} {q : Int} (h0 : 0 < c) (h : c < 2 ^ 53) : FP.Core.roundRatio f s (2 * sgm c + 0) 1 (sge c q - 1) = FP.Core.roundRatio f s c 1 q := by
  obtain ⟨l1, -, -⟩ := log53 h0 h
  refine rr_congr (by decide) (by decide) ?_
  unfold sge sgm
  rw [show (q - ((52 - c.log2 : Nat) : Int) - 1 - q).toNat = 0 by omega, show (q - (q - ((52 - c.log2 : Nat) : Int) - 1)).toNat = 52 - c.log2 + 1 by omega, Nat.pow_succ]
  simp only [Nat.mul_one, Nat.pow_zero, Nat.add_zero]
  ac_rfl
theorem dQ_bd (n : Nat) : -1074 ≤ dQ n ∧ dQ n ≤ 972 := by
  unfold dQ dE
  split <;> omega
/-- the nearest float -/
theorem X24_narrow {x : Int64} (hx : okd (un x)) : F_X24_narrow x = some ((FP.d2f x.toUInt64).toInt32) := by
  have eD : (FP.d2f x.toUInt64).toInt32 = ni (FP.Core.encode FP.Core.b32 (FP.Core.round FP.Core.b32 (FP.Core.decode FP.Core.b64 (un x)))) := by
    have h1 : x.toUInt64.toNat = un x := rfl
    have h2 : FP.Core.dIsNaN x.toUInt64 = false := decide_eq_false (by rw [h1]; exact not_nan (un_lt x) hx)
    unfold FP.d2f
    rw [h2]
    rfl
  rw [eD]
  have tail : F_X24_narrow_b12 (if dS (un x) = true then -2147483648 else 0) x = some (ni (FP.Core.encode FP.Core.b32 (FP.Core.round FP.Core.b32 (FP.Core.decode FP.Core.b64 (un x))))) := by
    unfold F_X24_narrow_b12
    rw [X24_isInfinite]
    rcases okd_cases (un_lt x) hx with ⟨h1, h2, h3⟩ | ⟨h1, h2, h3⟩ | ⟨h1, h2, h3, h4⟩
    · rw [decide_eq_true h1]
      show some _ = some _
      rw [dec_inf (un_lt x) h2 h3]
      congr 1
      show _ = ni (FP.Core.encode FP.Core.b32 (.inf (dS (un x))))
      cases dS (un x) <;> decide
    · have hne : ¬ un x % 2 ^ 63 = 2047 * 2 ^ 52 := by omega
      rw [decide_eq_false hne]
      show (F_X24_isZero x).bind _ = _
      rw [X24_isZero, decide_eq_true h1]
      show some _ = some _
      rw [dec_fin (un_lt x) (by omega), h2]
      congr 1
      show _ = ni (FP.Core.encode FP.Core.b32 (FP.Core.roundRatio FP.Core.b32 (dS (un x)) 0 1 (dQ (un x))))
      unfold FP.Core.roundRatio
      rw [if_pos rfl]
      cases dS (un x) <;> decide
    · rw [decide_eq_false h1]
      show (F_X24_isZero x).bind _ = _
      rw [X24_isZero, decide_eq_false h2]
      show (F_X24_significand x).bind _ = _
      rw [X24_significand h4, X24_exponent h4]
      have hc0 : 0 < dC (un x) := by omega
      have hc1 := dC_lt (un x)
      obtain ⟨l1, l2, l3⟩ := log53 hc0 hc1
      have hq := dQ_bd (un x)
      have hr := X24_rounded (p := 24) (bias := 127) (m := sgm (dC (un x))) (e := sge (dC (un x)) (dQ (un x))) (more := false) (by decide) (by decide) (by omega) (by omega) (by unfold sge; omega) (by unfold sge; omega)
      show ((F_X24_rounded (nl (sgm (dC (un x)))) (iw (sge (dC (un x)) (dQ (un x)))) (mr false) (iw ((24 : Nat) : Int)) (iw ((127 : Nat) : Int))).bind _) = _
      rw [hr]
      show some _ = some _
      have hk : rndm 24 127 (sgm (dC (un x))) (sge (dC (un x)) (dQ (un x))) false = FP.Core.encode FP.Core.b32 (FP.Core.roundRatio FP.Core.b32 false (dC (un x)) 1 (dQ (un x))) := by
        have := rndm_ok (f := FP.Core.b32) f32.1 f32.2.1 (by decide) (by decide) (m := sgm (dC (un x))) (e := sge (dC (un x)) (dQ (un x))) (more := false) (by omega) (by omega) (fun h => by cases h)
        rw [← sg_congr hc0 hc1]
        exact this
      rw [hk, dec_fin (un_lt x) h3]
      show some _ = some (ni (FP.Core.encode FP.Core.b32 (FP.Core.roundRatio FP.Core.b32 (dS (un x)) (dC (un x)) 1 (dQ (un x)))))
      have hlt := enc32_lt (A := dC (un x)) (B := 1) (e := dQ (un x))
      rw [enc32 (dS (un x)), nl_i32 (by omega), ni_sign hlt]
  unfold F_X24_narrow
  by_cases hn : x < 0
  · rw [if_pos hn]
    rw [(neg_iff x).mp hn] at tail
    exact tail
  · rw [if_neg hn]
    have : dS (un x) = false := by
      cases h : dS (un x) with
      | false => rfl
      | true => exact absurd ((neg_iff x).mpr h) hn
    rw [this] at tail
    exact tail
