/-! ===== VALUES, 8: the built-in functions, roots and rounding; the model's ===== -/
theorem ofNat_un (a : Int64) : UInt64.ofNat (un a) = a.toUInt64 := UInt64.ofNat_toNat (x := a.toUInt64)
theorem tb_ei {α β : Type} {M : Mem} {st : Nat} {c : Int32} {g : α → Option (β ⊕ (Nat × Mem))} : tb (eTh M st c) g = eTh M st c := by
  unfold tb eTh
  cases vg M st 2 with
  | none => rfl
  | some u =>
    simp only [Option.bind_some]
    cases F_X1_with M st c with
    | none => rfl
    | some z =>
      simp only [Option.bind_some]
      cases ie z.2 z.1 <;> rfl
theorem tb_mi {α β : Type} {M : Mem} {v0 : Nat} {c : Int32} {g : α → Option (β ⊕ (Nat × Mem))} : tb (mTh M v0 c) g = mTh M v0 c := by
  unfold tb mTh
  cases vg M v0 17 with
  | none => rfl
  | some u =>
    simp only [Option.bind_some]
    cases F_X16_fails M v0 c with
    | none => rfl
    | some z =>
      simp only [Option.bind_some]
      cases ie z.2 z.1 <;> rfl
theorem blt_11 (k : Int32) (a b : Int64) : blt 11 k a b = (if rk (un a) < 0 then none else if un a % 2 ^ 63 = 0 ∨ un a % 2 ^ 63 = 2047 * 2 ^ 52 then some a else F_X24_root a) := by
  unfold blt
  simp
theorem rk_fin {x : Int64} (hx : okd (un x)) (h1 : ¬ rk (un x) < 0) (h2 : ¬ (un x % 2 ^ 63 = 0 ∨ un x % 2 ^ 63 = 2047 * 2 ^ 52)) : dE (un x) ≠ 2047 ∧ dC (un x) ≠ 0 ∧ dS (un x) = false := by
  rcases okd_cases (un_lt x) hx with ⟨a1, a2, a3⟩ | ⟨a1, a2, a3⟩ | ⟨a1, a2, a3, a4⟩
  · exact absurd (Or.inr a1) h2
  · exact absurd (Or.inl a1) h2
  · refine ⟨a3, a4, ?_⟩
    unfold rk at h1
    cases hs : dS (un x) with
    | false => rfl
    | true => rw [hs, if_pos rfl] at h1; omega
theorem E_blt_11 {a b : Int64} {M : Mem} {st : Nat} (ha : vb 7 a) : F_X37_work M 11 7 a b st = eRes (blt 11 7 a b) M st := by
  have hx : okd (un a) := vb_7.mp ha
  have hx' : okd a.toUInt64.toNat := hx
  have e : F_X37_work M 11 7 a b st = (F_X23_real 7 a).bind fun z9 => tb (F_X37_real M 11 z9 st) fun z10 => (F_X23_bits 7 z10.1).bind fun z11 => some (Sum.inl (z11, z10.2)) := rfl
  rw [e, (E_real ha).1, blt_11, lnR_7]
  simp only [Option.bind_some]
  have e2 : F_X37_real M 11 a.toUInt64 st = if j_dcmp a.toUInt64 0 .g < 0 then eTh M st 8 else (F_X49_root a.toUInt64).bind fun z3 => some (Sum.inl (z3, M)) := rfl
  rw [e2]
  have o := ord_rk (x := a.toUInt64) (y := 0) hx' (by unfold okd; decide)
  have k1 := (jd_lt o .g).1
  rw [show rk (0 : UInt64).toNat = 0 by decide, show a.toUInt64.toNat = un a from rfl] at k1
  simp only [k1]
  by_cases hneg : rk (un a) < 0
  · rw [if_pos hneg, if_pos hneg, tb_ei]
    rfl
  · rw [if_neg hneg, if_neg hneg]
    by_cases hz : un a % 2 ^ 63 = 0 ∨ un a % 2 ^ 63 = 2047 * 2 ^ 52
    · rw [if_pos hz]
      have er : F_X49_root a.toUInt64 = some a.toUInt64 := by
        unfold F_X49_root F_X49_root_b14
        have k2 := (jd_lt o .l).2.2
        have k3 := (jd_lt (ord_rk (x := a.toUInt64) hx' (y := 9218868437227405311) (by unfold okd; decide)) .l).2.1
        rw [show rk (0 : UInt64).toNat = 0 by decide, show a.toUInt64.toNat = un a from rfl] at k2
        rw [show rk (9218868437227405311 : UInt64).toNat = 9218868437227405311 by decide, show a.toUInt64.toNat = un a from rfl] at k3
        simp only [k2, k3]
        unfold rk at hneg ⊢
        rcases hz with h | h
        · rw [if_pos (by rw [h]; split <;> rfl)]
        · rw [h] at hneg ⊢
          have : dS (un a) = false := by
            cases hs : dS (un a) with
            | false => rfl
            | true => rw [hs] at hneg; exact absurd (by decide) hneg
          rw [this]
          rfl
      rw [er]
      show ((F_X23_bits 7 a.toUInt64).bind fun z11 => some (Sum.inl (z11, M))) = _
      rw [E_bits hx', lnB_7]
      rfl
    · rw [if_neg hz]
      obtain ⟨f1, f2, f3⟩ := rk_fin hx hneg hz
      obtain ⟨y, y1, y2, y3⟩ := root_eq f1 f2 f3
      rw [y1, y2]
      show ((F_X23_bits 7 y).bind fun z11 => some (Sum.inl (z11, M))) = _
      rw [E_bits y3, lnB_7]
      rfl
theorem rwh_ok {way n : Nat} (hn : n < 2 ^ 64) (hx : okd n) : okd (rwh way n).toNat := by
  unfold rwh
  split
  · rw [UInt64.toNat_ofNat_of_lt' hn]
    exact hx
  · exact (dv_ok _ _ _).1
theorem E_blt_r {f : Int32} {a b : Int64} {M : Mem} {st : Nat} (hf : f = 12 ∨ f = 13 ∨ f = 14) (ha : vb 7 a) : F_X37_work M f 7 a b st = eRes (blt f 7 a b) M st := by
  have hx : okd (un a) := vb_7.mp ha
  have e : F_X37_work M f 7 a b st = (F_X23_real 7 a).bind fun z9 => tb (F_X37_real M f z9 st) fun z10 => (F_X23_bits 7 z10.1).bind fun z11 => some (Sum.inl (z11, z10.2)) := by rcases hf with rfl | rfl | rfl <;> rfl
  have e2 : blt f 7 a b = some (rwh (if f = 12 then 0 else if f = 13 then 1 else 2) (un a)).toInt64 := by
    unfold blt
    rcases hf with rfl | rfl | rfl <;> simp
  rw [e, (E_real ha).1, e2, lnR_7]
  simp only [Option.bind_some]
  have er : F_X37_real M f a.toUInt64 st = some (Sum.inl (rwh (if f = 12 then 0 else if f = 13 then 1 else 2) (un a), M)) := by
    rw [← ofNat_un]
    rcases hf with rfl | rfl | rfl
    · exact X37_fc (up := false) (un_lt a) hx
    · exact X37_fc (up := true) (un_lt a) hx
    · have e3 : F_X37_real M 14 (UInt64.ofNat (un a)) st = (F_X20_nearest (UInt64.ofNat (un a))).bind fun z4 => some (Sum.inl (z4, M)) := rfl
      rw [e3, X20_nearest (un_lt a) hx]
      rfl
  rw [er]
  show ((F_X23_bits 7 _).bind fun z11 => some (Sum.inl (z11, M))) = _
  rw [E_bits (rwh_ok (un_lt a) hx), lnB_7]
  rfl
/-- which built-in functions take which lanes -/
def Bk (f k : Int32) : Prop := ((f = 0 ∨ f = 1 ∨ f = 2 ∨ f = 3) ∧ Ak k) ∨ ((f = 4 ∨ f = 5 ∨ f = 6 ∨ f = 7 ∨ f = 8 ∨ f = 9 ∨ f = 10) ∧ (k = 4 ∨ k = 5)) ∨ ((f = 11 ∨ f = 12 ∨ f = 13 ∨ f = 14) ∧ k = 7)
theorem E_work {f k : Int32} {a b : Int64} {M : Mem} {st : Nat} (h : Bk f k) (ha : vb k a) (hb : (f = 2 ∨ f = 3 ∨ f = 4 ∨ f = 5) → vb k b) : F_X37_work M f k a b st = eRes (blt f k a b) M st := by
  rcases h with ⟨rfl | rfl | rfl | rfl, hk⟩ | ⟨rfl | rfl | rfl | rfl | rfl | rfl | rfl, hk⟩ | ⟨rfl | rfl | rfl | rfl, rfl⟩
  · exact E_blt_0 hk ha
  · exact E_blt_1 hk ha
  · exact E_blt_2 hk ha (hb (by simp))
  · exact E_blt_3 hk ha (hb (by simp))
  · exact E_blt_45 (by simp) hk ha (hb (by simp))
  · exact E_blt_45 (by simp) hk ha (hb (by simp))
  · exact E_blt_678 (by simp)
  · exact E_blt_678 (by simp)
  · exact E_blt_678 (by simp)
  · exact E_blt_9
  · exact E_blt_10
  · exact E_blt_11 ha
  · exact E_blt_r (by simp) ha
  · exact E_blt_r (by simp) ha
  · exact E_blt_r (by simp) ha
/-! the model -/
theorem M_blt_0 {k : Int32} {a b : Int64} {M : Mem} {v0 : Nat} (hk : Ak k) (ha : vb k a) : F_X16_built M v0 0 k a b = mRes (blt 0 k a b) M v0 := by
  have e : F_X16_built M v0 0 k a b = if 5 < k then (F_X16_real a k).bind fun z14 => (F_X16_ofReal (z14 &&& 9223372036854775807) k).bind fun z15 => some (Sum.inl (z15, M)) else if a < 0 then (if k = 4 then F_X16_built_b107 M (((-a).toInt32).toInt64) else F_X16_built_b107 M (-a)) else F_X16_built_b107 M a := rfl
  have e2 : blt 0 k a b = if k < 6 then some (if a < 0 then lnC k (0 - a) else a) else some (a &&& (if k = 6 then 2147483647 else 9223372036854775807)) := by unfold blt; rw [if_pos rfl]
  have e3 : (0 : Int64) - a = -a := Int64.zero_sub a
  rw [e, e2, e3]
  rcases hk with rfl | rfl | rfl | rfl
  · by_cases h0 : a < 0 <;> simp [h0, F_X16_built_b107, mRes, lnC]
  · by_cases h0 : a < 0 <;> simp [h0, F_X16_built_b107, mRes, lnC]
  · obtain ⟨h1, h2⟩ := vb_6.mp ha
    have h2' : okf a.toInt32.toUInt32.toNat := h2
    rw [if_pos (by decide), if_neg (by decide), M_real ha, lnR_6]
    simp only [Option.bind_some]
    rw [mag_and, show un (FP.f2d a.toInt32.toUInt32).toInt64 = (FP.f2d a.toInt32.toUInt32).toNat from rfl]
    have hab := f2d_abs h2'
    obtain ⟨c1, c2, c3⟩ := abs_f a.toInt32.toUInt32.toNat_lt h2'
    have hok : okd (UInt64.ofNat ((FP.f2d a.toInt32.toUInt32).toNat % 2 ^ 63)).toNat := by
      rw [← hab]
      exact (f2d_ok (by rw [c1]; exact c2)).1
    have e4 : nl ((FP.f2d a.toInt32.toUInt32).toNat % 2 ^ 63) = (UInt64.ofNat ((FP.f2d a.toInt32.toUInt32).toNat % 2 ^ 63)).toInt64 := rfl
    rw [e4, M_ofReal hok, lnB_6, ← hab, d2f_f2d (by rw [c1]; exact c2), if_pos trivial]
    refine congrArg (fun z => some (Sum.inl (z, M))) ?_
    rw [zx_nat, c1]
    refine un_inj ?_
    rw [un_and, show un 2147483647 = 2 ^ 31 - 1 from rfl, Nat.and_two_pow_sub_one_eq_mod, un_nl' (by omega)]
    have : un a = a.toInt32.toUInt32.toNat := by
      have := congrArg un h1
      rw [zx_nat, un_nl' (by have := a.toInt32.toUInt32.toNat_lt; omega)] at this
      exact this
    rw [this]
  · rw [if_pos (by decide), if_neg (by decide), M_real ha, lnR_7]
    simp only [Option.bind_some]
    rw [mag_and]
    have hx := vb_7.mp ha
    obtain ⟨c1, c2, c3⟩ := abs_d (un_lt a) hx
    have e4 : nl (un a.toUInt64.toInt64 % 2 ^ 63) = (UInt64.ofNat (un a % 2 ^ 63)).toInt64 := rfl
    rw [e4, M_ofReal (by rw [c1]; exact c2), lnB_7, if_neg (by decide), mag_and]
    rfl
theorem M_blt_1 {k : Int32} {a b : Int64} {M : Mem} {v0 : Nat} (hk : Ak k) (ha : vb k a) : F_X16_built M v0 1 k a b = mRes (blt 1 k a b) M v0 := by
  have e : F_X16_built M v0 1 k a b = if 5 < k then (F_X16_real a k).bind fun z16 => (F_X24_compare z16 0).bind fun z17 => F_X16_built_b130 M z17 k else (F_J20_compare a 0).bind fun z18 => F_X16_built_b130 M z18 k := rfl
  have e2 : blt 1 k a b = some (if k < 6 then (ordi (compare (lnV k a) (lnV k 0))).toInt64 else lnB k (FP.l2d (ordi (compare (lnV k a) (lnV k 0))).toInt64)) := by
    unfold blt
    rw [if_neg (by decide), if_pos rfl]
  rw [e, e2]
  unfold F_X16_built_b130 F_X16_built_b154
  by_cases h6 : k < 6
  · have h5 : ¬ 5 < k := by rcases hk with rfl | rfl | rfl | rfl <;> first | decide | exact absurd h6 (by decide)
    rw [if_neg h5, if_pos h6, J_compare]
    simp only [Option.bind_some]
    rw [if_neg h5]
    unfold lnV
    rw [if_pos h6, if_pos h6]
    rfl
  · have h5 : 5 < k := by rcases hk with rfl | rfl | rfl | rfl <;> first | decide | exact absurd (by decide) h6
    have hz : lnV k 0 = rk (un 0) := by
      unfold lnV
      rw [if_neg h6]
      rcases hk with rfl | rfl | rfl | rfl
      · exact absurd (by decide) h6
      · exact absurd (by decide) h6
      · decide +kernel
      · rfl
    rw [if_pos h5, if_neg h6, M_real ha, hz]
    simp only [Option.bind_some]
    rw [X24_compare]
    simp only [Option.bind_some]
    rw [if_pos h5, X24_of]
    simp only [Option.bind_some]
    rw [M_ofReal (l2d_ok _)]
    have e3 : lnV k a = rk (un (lnR k a).toInt64) := by
      unfold lnV
      rw [if_neg h6]
      rfl
    rw [e3]
    rfl
theorem M_blt_2 {k : Int32} {a b : Int64} {M : Mem} {v0 : Nat} (ha : vb k a) (hb : vb k b) : F_X16_built M v0 2 k a b = mRes (blt 2 k a b) M v0 := by
  have e : F_X16_built M v0 2 k a b = (F_X16_ranked a k).bind fun z19 => (F_X16_ranked b k).bind fun z20 => if z20 < z19 then F_X16_built_b176 M b else F_X16_built_b176 M a := rfl
  have e2 : blt 2 k a b = some (if lnT k b < lnT k a then b else a) := by
    unfold blt
    rw [if_neg (by decide), if_neg (by decide), if_pos rfl]
  obtain ⟨r, r1, r2⟩ := M_ranked ha
  obtain ⟨s, s1, s2⟩ := M_ranked hb
  rw [e, e2, r1, s1]
  simp only [Option.bind_some, Int64.lt_iff_toInt_lt, r2, s2]
  split <;> rfl
theorem M_blt_3 {k : Int32} {a b : Int64} {M : Mem} {v0 : Nat} (ha : vb k a) (hb : vb k b) : F_X16_built M v0 3 k a b = mRes (blt 3 k a b) M v0 := by
  have e : F_X16_built M v0 3 k a b = (F_X16_ranked a k).bind fun z21 => (F_X16_ranked b k).bind fun z22 => if z21 < z22 then F_X16_built_b198 M b else F_X16_built_b198 M a := rfl
  have e2 : blt 3 k a b = some (if lnT k a < lnT k b then b else a) := by
    unfold blt
    rw [if_neg (by decide), if_neg (by decide), if_neg (by decide), if_pos rfl]
  obtain ⟨r, r1, r2⟩ := M_ranked ha
  obtain ⟨s, s1, s2⟩ := M_ranked hb
  rw [e, e2, r1, s1]
  simp only [Option.bind_some, Int64.lt_iff_toInt_lt, r2, s2]
  split <;> rfl
theorem tb_m {r : Option Int64} {M : Mem} {v0 : Nat} : (tb (mRes r M v0) fun z : Int64 × Mem => some (Sum.inl (z.1, z.2))) = mRes r M v0 := by
  cases r with
  | some v => rfl
  | none => exact tb_mi
theorem M_blt_678 {f k : Int32} {a b : Int64} {M : Mem} {v0 : Nat} (hv : vg M v0 17 = some ()) (hf : f = 6 ∨ f = 7 ∨ f = 8) : F_X16_built M v0 f k a b = mRes (blt f k a b) M v0 := by
  have e : F_X16_built M v0 f k a b = (vg M v0 17).bind fun _ => tb (F_X16_exact M v0 (f - 6) k a b) fun z9 => some (Sum.inl (z9.1, z9.2)) := by rcases hf with rfl | rfl | rfl <;> rfl
  have e2 : blt f k a b = exv (f - 6) k a b := by
    unfold blt
    rcases hf with rfl | rfl | rfl <;> simp
  rw [e, e2, hv, M_exact (by rcases hf with rfl | rfl | rfl <;> decide)]
  exact tb_m
theorem M_blt_9 {k : Int32} {a b : Int64} {M : Mem} {v0 : Nat} : F_X16_built M v0 9 k a b = mRes (blt 9 k a b) M v0 := by
  have e : F_X16_built M v0 9 k a b = if k = 4 then F_X16_built_b342 M (a &&& 4294967295) 0 else F_X16_built_b342 M a 0 := rfl
  have e2 : blt 9 k a b = some (nl (bcn (un (if k = 4 then a &&& 4294967295 else a)) 64)) := by
    unfold blt
    simp
  rw [e, e2]
  unfold F_X16_built_b342
  simp only [M_ones, Option.bind_some, if_true]
  split
  · rw [bcn_64]; rfl
  · rw [bcn_64]; rfl
theorem M_blt_10 {k : Int32} {a b : Int64} {M : Mem} {v0 : Nat} : F_X16_built M v0 10 k a b = mRes (blt 10 k a b) M v0 := by
  have e : F_X16_built M v0 10 k a b = if k = 4 then F_X16_built_b342 M (a &&& 4294967295) 1 else F_X16_built_b342 M a 1 := rfl
  have e2 : blt 10 k a b = some (iw (hbn (un (if k = 4 then a &&& 4294967295 else a)) 64)).toInt64 := by
    unfold blt
    simp
  rw [e, e2]
  unfold F_X16_built_b342
  simp only [M_ones, Option.bind_some]
  split <;> rfl
theorem M_blt_11 {a b : Int64} {M : Mem} {v0 : Nat} (ha : vb 7 a) : F_X16_built M v0 11 7 a b = mRes (blt 11 7 a b) M v0 := by
  have hx : okd (un a) := vb_7.mp ha
  have e : F_X16_built M v0 11 7 a b = if a < 0 then (F_X24_isZero a).bind fun z23 => if z23 = 0 then mTh M v0 8 else F_X16_built_b372 M a else F_X16_built_b372 M a := rfl
  rw [e, blt_11]
  have hn := neg_iff a
  have b372 : ¬ rk (un a) < 0 → F_X16_built_b372 M a = mRes (if un a % 2 ^ 63 = 0 ∨ un a % 2 ^ 63 = 2047 * 2 ^ 52 then some a else F_X24_root a) M v0 := by
    intro h
    unfold F_X16_built_b372 F_X16_built_b388 F_X16_built_b398
    rw [X24_isZero, X24_isInfinite]
    simp only [Option.bind_some, mr_0, decide_eq_false_iff_not]
    by_cases h1 : un a % 2 ^ 63 = 0
    · rw [if_neg (fun hh => hh h1), if_pos (Or.inl h1)]
      rfl
    · rw [if_pos h1]
      by_cases h2 : un a % 2 ^ 63 = 2047 * 2 ^ 52
      · rw [if_neg (fun hh => hh h2), if_pos (Or.inr h2)]
        rfl
      · rw [if_pos h2, if_neg (by omega)]
        obtain ⟨f1, f2, f3⟩ := rk_fin hx h (by omega)
        obtain ⟨y, y1, y2, y3⟩ := root_eq f1 f2 f3
        rw [y1]
        rfl
  have hrk : rk (un a) < 0 ↔ dS (un a) = true ∧ un a % 2 ^ 63 ≠ 0 := by
    unfold rk
    cases dS (un a) <;> simp <;> omega
  rw [X24_isZero]
  simp only [Option.bind_some, mr_0, decide_eq_false_iff_not]
  by_cases h0 : a < 0
  · rw [if_pos h0]
    by_cases h1 : un a % 2 ^ 63 = 0
    · have : ¬ rk (un a) < 0 := fun hh => (hrk.mp hh).2 h1
      rw [if_neg (fun hh => hh h1), if_neg this, b372 this]
    · rw [if_pos h1, if_pos (hrk.mpr ⟨hn.mp h0, h1⟩)]
      rfl
  · have : ¬ rk (un a) < 0 := fun hh => h0 (hn.mpr (hrk.mp hh).1)
    rw [if_neg h0, if_neg this, b372 this]
theorem M_blt_r {f : Int32} {a b : Int64} {M : Mem} {v0 : Nat} (hf : f = 12 ∨ f = 13 ∨ f = 14) (ha : vb 7 a) : F_X16_built M v0 f 7 a b = mRes (blt f 7 a b) M v0 := by
  have hx : okd (un a) := vb_7.mp ha
  have e2 : blt f 7 a b = some (rwh (if f = 12 then 0 else if f = 13 then 1 else 2) (un a)).toInt64 := by
    unfold blt
    rcases hf with rfl | rfl | rfl <;> simp
  rw [e2]
  rcases hf with rfl | rfl | rfl
  · have e : F_X16_built M v0 12 7 a b = F_X16_built_b421 M a (iw ((0 : Nat) : Int)) := rfl
    rw [e]
    unfold F_X16_built_b421
    rw [X16_rounded_val (by decide) hx]
    rfl
  · have e : F_X16_built M v0 13 7 a b = F_X16_built_b421 M a (iw ((1 : Nat) : Int)) := rfl
    rw [e]
    unfold F_X16_built_b421
    rw [X16_rounded_val (by decide) hx]
    rfl
  · have e : F_X16_built M v0 14 7 a b = F_X16_built_b421 M a (iw ((2 : Nat) : Int)) := rfl
    rw [e]
    unfold F_X16_built_b421
    rw [X16_rounded_val (by decide) hx]
    rfl
