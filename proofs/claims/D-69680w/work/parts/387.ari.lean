/-! ===== VALUES, 13: the model's arithmetic by its signs ===== -/
theorem vb4i {v : Int64} (h : vb 4 v) : -2147483648 ≤ v.toInt ∧ v.toInt < 2147483648 := by
  have h' : v = v.toInt32.toInt64 := h
  have e := congrArg Int64.toInt h'
  rw [Int32.toInt_toInt64] at e
  have a1 := v.toInt32.le_toInt
  have a2 := v.toInt32.toInt_lt
  rw [e]
  exact ⟨by omega, by omega⟩
theorem bw64 {x : Int} (h1 : -9223372036854775808 ≤ x) (h2 : x < 9223372036854775808) : x.bmod (2 ^ 64) = x := by
  rw [Int.bmod_eq_of_le] <;> omega
theorem bw32 {x : Int} (h1 : -2147483648 ≤ x) (h2 : x < 2147483648) : x.bmod (2 ^ 32) = x := by
  rw [Int.bmod_eq_of_le] <;> omega
theorem i4_back {v : Int64} (h1 : -2147483648 ≤ v.toInt) (h2 : v.toInt < 2147483648) : v.toInt32.toInt64 = v := by
  refine Int64.toInt_inj.mp ?_
  rw [Int32.toInt_toInt64, Int64.toInt_toInt32, bw32 h1 h2]
theorem i4_div {a b : Int64} (a1 : -2147483648 ≤ a.toInt ∧ a.toInt < 2147483648) (h0 : b ≠ 0) (h1 : b ≠ -1) : (a / b).toInt32.toInt64 = a / b := by
    have hb0 : b.toInt ≠ 0 := fun q => h0 (Int64.toInt_inj.mp q)
    have hb1 : b.toInt ≠ -1 := fun q => h1 (Int64.toInt_inj.mp q)
    have n1 := Int.natAbs_tdiv_le_natAbs a.toInt b.toInt
    have e : (a / b).toInt = a.toInt.tdiv b.toInt := by
      rw [Int64.toInt_div]
      exact bw64 (by omega) (by omega)
    by_cases q : b.toInt = 1
    · rw [q, Int.tdiv_one] at e
      exact i4_back (by omega) (by omega)
    · have n2 : (a.toInt.tdiv b.toInt).natAbs * 2 ≤ a.toInt.natAbs := by
        rw [Int.natAbs_tdiv]
        have := Nat.div_mul_le_self a.toInt.natAbs b.toInt.natAbs
        exact Nat.le_trans (Nat.mul_le_mul_left _ (by omega)) this
      exact i4_back (by rw [e]; omega) (by rw [e]; omega)
theorem i4_rem {a b : Int64} (a1 : -2147483648 ≤ a.toInt ∧ a.toInt < 2147483648) : (j_lrem a b).toInt32.toInt64 = j_lrem a b := by
    have n1 := Int.natAbs_tdiv_le_natAbs a.toInt b.toInt
    have e0 : (a / b).toInt = a.toInt.tdiv b.toInt := by
      rw [Int64.toInt_div]
      exact bw64 (by omega) (by omega)
    have n1 : (a.toInt.tmod b.toInt).natAbs ≤ a.toInt.natAbs := by
      rw [Int.natAbs_tmod]
      exact Nat.mod_le _ _
    have n2 : 0 ≤ a.toInt → 0 ≤ a.toInt.tmod b.toInt := fun q => Int.tmod_nonneg _ q
    have n4 : a.toInt ≤ 0 → a.toInt.tmod b.toInt ≤ 0 := fun q => by have := Int.tmod_nonneg b.toInt (a := -a.toInt) (by omega); rw [Int.neg_tmod] at this; omega
    have n3 := Int.tmod_add_mul_tdiv a.toInt b.toInt
    rw [Int.mul_comm] at n3
    have e : (j_lrem a b).toInt = a.toInt.tmod b.toInt := by
      unfold j_lrem
      rw [Int64.toInt_sub, Int64.toInt_mul, e0]
      generalize a.toInt.tdiv b.toInt * b.toInt = z at *
      rw [bw64 (x := z) (by omega) (by omega), bw64 (by omega) (by omega)]
      omega
    exact i4_back (by rw [e]; omega) (by rw [e]; omega)
theorem lnC_div {k : Int32} {a b : Int64} (hk : k = 4 ∨ k = 5) (ha : vb k a) (h0 : b ≠ 0) (h1 : b ≠ -1) : lnC k (a / b) = a / b := by
  rcases hk with rfl | rfl
  · exact i4_div (vb4i ha) h0 h1
  · rfl
theorem lnC_rem {k : Int32} {a b : Int64} (hk : k = 4 ∨ k = 5) (ha : vb k a) : lnC k (j_lrem a b) = j_lrem a b := by
  rcases hk with rfl | rfl
  · exact i4_rem (vb4i ha)
  · rfl
theorem M_ari {M : Mem} {w k : Int32} {a b : Int64} (h : K0 M) (hs : ST M) (hw : Wk w) (hk : Ak k) (ha : vb k a) (hb : vb k b) : F_X16_arithmetic M 1068 (sgn w) k a b = mRes (ari w k a b) M 1068 := by
  have r : 20 ≤ sgn w ∧ sgn w < 65 := by rcases hw with rfl | rfl | rfl | rfl | rfl <;> decide
  unfold F_X16_arithmetic ari
  by_cases h5 : 5 < k
  · have hk' : k = 6 ∨ k = 7 := by rcases hk with rfl | rfl | rfl | rfl <;> first | exact absurd h5 (by decide) | exact Or.inl rfl | exact Or.inr rfl
    rw [if_pos h5, if_pos h5, M_real ha, M_real hb]
    simp only [Option.bind_some, v1068 hs]
    rw [M_floating h hw (E_real ha).2 (E_real hb).2]
    cases hd : dnn w (d64 (lnR k a)) (d64 (lnR k b)) with
    | true =>
      rw [if_pos rfl, if_pos rfl, tb_mTh]
      rfl
    | false =>
      rw [if_neg (by decide), if_neg (by decide)]
      show ((F_X16_ofReal (dop w (lnR k a) (lnR k b)).toInt64 k).bind fun z24 => some (Sum.inl (z24, M))) = some (Sum.inl (_, M))
      obtain ⟨z, z1, z2, z3⟩ := E_floating hw hk' ha hb hd
      rcases hk' with rfl | rfl
      · have oa := (vb_6.mp ha).2
        have ob := (vb_6.mp hb).2
        have hd' : dnn w (d32 a.toInt32.toUInt32) (d32 b.toInt32.toUInt32) = false := by
          rw [← dnn_f hw oa ob, ← lnR_6, ← lnR_6]; exact hd
        obtain ⟨f1, f2, f3⟩ := f_all hw oa ob hd'
        rw [lnR_6, lnR_6, M_ofReal f2]
        simp only [Option.bind_some, if_true]
        unfold lnB
        rw [if_pos rfl, f1]
      · rw [M_ofReal (dop_ok hw hd), lnB_7, lnR_7, lnR_7, if_neg (by decide)]
        rfl
  · have hk' : k = 4 ∨ k = 5 := by rcases hk with rfl | rfl | rfl | rfl <;> first | exact Or.inl rfl | exact Or.inr rfl | exact absurd (by decide) h5
    rw [if_neg h5, if_neg h5]
    have e94 : ∀ v, F_X16_arithmetic_b294 M k v = some (.inl (lnC k v, M)) := by
      intro v
      rcases hk' with rfl | rfl <;> rfl
    rw [h.vg r.1 r.2]
    simp only [Option.bind_some]
    rw [h.eq r.1 r.2 (by decide) (by decide), h.eq r.1 r.2 (by decide) (by decide)]
    simp only [Option.bind_some]
    have e07 : F_X16_arithmetic_b107 M (sgn w) k a b = F_X16_arithmetic_b221 M k a b (if w = 1 then 0 else if w = 2 then 1 else if w = 3 then 2 else if w = 4 then 3 else -1) := by
      unfold F_X16_arithmetic_b107
      rw [h.vg r.1 r.2]
      simp only [Option.bind_some]
      rw [h.hash r.1 r.2]
      simp only [Option.bind_some]
      rw [h.vg r.1 r.2]
      simp only [Option.bind_some]
      rw [h.eq r.1 r.2 (by decide) (by decide), h.eq r.1 r.2 (by decide) (by decide), h.eq r.1 r.2 (by decide) (by decide), h.eq r.1 r.2 (by decide) (by decide)]
      rcases hw with rfl | rfl | rfl | rfl | rfl <;> rfl
    rcases hw with rfl | rfl | rfl | rfl | rfl
    · show F_X16_arithmetic_b107 M (sgn 1) k a b = _
      rw [e07]
      show F_X16_arithmetic_b294 M k (a + b) = _
      rw [e94]
      rfl
    · show F_X16_arithmetic_b107 M (sgn 2) k a b = _
      rw [e07]
      show F_X16_arithmetic_b294 M k (a - b) = _
      rw [e94]
      rfl
    · show F_X16_arithmetic_b107 M (sgn 3) k a b = _
      rw [e07]
      show F_X16_arithmetic_b294 M k (a * b) = _
      rw [e94]
      rfl
    · show F_X16_arithmetic_b51 M 1 1068 (sgn 4) k a b = _
      unfold F_X16_arithmetic_b51 F_X16_arithmetic_b72 F_X16_arithmetic_b102
      rw [if_neg (by decide)]
      by_cases hb0 : b = 0
      · rw [if_pos hb0, if_pos ⟨Or.inl rfl, hb0⟩]
        rfl
      · rw [if_neg hb0, if_neg (show ¬ (((4 : Int32) = 4 ∨ (4 : Int32) = 5) ∧ b = 0) from fun hh => hb0 hh.2), if_neg (by decide)]
        by_cases h1 : b = -1
        · rw [if_pos h1, h.vg r.1 r.2]
          simp only [Option.bind_some]
          rw [h.eq r.1 r.2 (by decide) (by decide)]
          show F_X16_arithmetic_b294 M k (-a) = _
          rw [e94, if_pos h1]
          rfl
        · rw [if_neg h1, e07]
          show F_X16_arithmetic_b221 M k a b 3 = _
          unfold F_X16_arithmetic_b221
          rw [if_neg (by decide), if_neg (by decide), if_neg (by decide), if_pos rfl, if_neg hb0]
          show F_X16_arithmetic_b294 M k (a / b) = _
          rw [e94, if_neg h1, lnC_div hk' ha hb0 h1]
          rfl
    · show F_X16_arithmetic_b51 M 1 1068 (sgn 5) k a b = _
      unfold F_X16_arithmetic_b51 F_X16_arithmetic_b72 F_X16_arithmetic_b102
      rw [if_neg (by decide)]
      by_cases hb0 : b = 0
      · rw [if_pos hb0, if_pos ⟨Or.inr rfl, hb0⟩]
        rfl
      · rw [if_neg hb0, if_neg (show ¬ (((5 : Int32) = 4 ∨ (5 : Int32) = 5) ∧ b = 0) from fun hh => hb0 hh.2), if_neg (by decide)]
        by_cases h1 : b = -1
        · rw [if_pos h1, h.vg r.1 r.2]
          simp only [Option.bind_some]
          rw [h.eq r.1 r.2 (by decide) (by decide)]
          show F_X16_arithmetic_b294 M k 0 = some (Sum.inl (if b = -1 then 0 else j_lrem a b, M))
          rw [e94, if_pos h1]
          rcases hk' with rfl | rfl <;> rfl
        · rw [if_neg h1, e07]
          show F_X16_arithmetic_b221 M k a b (-1) = _
          unfold F_X16_arithmetic_b221
          rw [if_neg (by decide), if_neg (by decide), if_neg (by decide), if_neg (by decide), if_neg hb0]
          show F_X16_arithmetic_b294 M k (j_lrem a b) = some (Sum.inl (if b = -1 then 0 else j_lrem a b, M))
          rw [e94, if_neg h1, lnC_rem hk' ha]
