/-! ===== VALUES, 11: casts by rule; bits of a lane; shifts ===== -/
theorem bnd {t : Int32} (ht : t = 1 ∨ t = 2 ∨ t = 3 ∨ t = 4 ∨ t = 5) (v : Int64) : ∃ w : Int64, F_X20_bounded v t = some w ∧ (∀ M, F_X16_casted_2_b196 M t v = some (Sum.inl (w, M))) ∧ vb t w := by
  have key : ∀ lo hi : Int64, F_X20_least t = some lo → F_X16_least t = some lo → F_X20_greatest t = some hi → F_X16_greatest t = some hi → lo.toInt = lnLo t → hi.toInt = lnHi t → lnLo t ≤ lnHi t → ∃ w : Int64, F_X20_bounded v t = some w ∧ (∀ M, F_X16_casted_2_b196 M t v = some (Sum.inl (w, M))) ∧ vb t w := by
    intro lo hi a1 a2 a3 a4 a5 a6 a7
    have hmn : ∃ m : Int64, F_J7_min v hi = some m ∧ m.toInt ≤ hi.toInt := by
      unfold F_J7_min F_J7_min_b11
      by_cases h : hi < v
      · rw [if_pos h]; exact ⟨_, rfl, Int.le_refl _⟩
      · rw [if_neg h]
        rw [Int64.lt_iff_toInt_lt] at h
        exact ⟨_, rfl, by omega⟩
    obtain ⟨m, m1, m2⟩ := hmn
    have hmx : ∃ w : Int64, F_J7_max_2 lo m = some w ∧ lo.toInt ≤ w.toInt ∧ w.toInt ≤ hi.toInt := by
      unfold F_J7_max_2 F_J7_max_2_b11
      by_cases h : lo < m
      · rw [if_pos h]
        rw [Int64.lt_iff_toInt_lt] at h
        exact ⟨_, rfl, by omega, m2⟩
      · rw [if_neg h]
        exact ⟨_, rfl, Int.le_refl _, by omega⟩
    obtain ⟨w, w1, w2, w3⟩ := hmx
    refine ⟨w, ?_, fun M => ?_, (vb_rng ht).mpr (by omega)⟩
    · unfold F_X20_bounded
      rw [a1, a3]
      simp only [Option.bind_some, m1, w1]
    · unfold F_X16_casted_2_b196
      rw [a2, a4]
      simp only [Option.bind_some, m1, w1]
  rcases ht with rfl | rfl | rfl | rfl | rfl
  · exact key (-128) 127 rfl rfl rfl rfl (by decide) (by decide) (by decide)
  · exact key (-32768) 32767 rfl rfl rfl rfl (by decide) (by decide) (by decide)
  · exact key 0 65535 rfl rfl rfl rfl (by decide) (by decide) (by decide)
  · exact key (-2147483648) 2147483647 rfl rfl rfl rfl (by decide) (by decide) (by decide)
  · exact key (-9223372036854775808) 9223372036854775807 rfl rfl rfl rfl (by decide) (by decide) (by decide)
theorem Lk_lo {k : Int32} (h : Lk k) (h0 : k ≠ 0) (h6 : k < 6) : k = 1 ∨ k = 2 ∨ k = 3 ∨ k = 4 ∨ k = 5 := by
  rcases h with rfl | rfl | rfl | rfl | rfl | rfl | rfl | rfl <;> first | exact absurd rfl h0 | exact absurd h6 (by decide) | simp
theorem Lk_hi {k : Int32} (h : Lk k) (h6 : ¬ k < 6) : k = 6 ∨ k = 7 := by
  rcases h with rfl | rfl | rfl | rfl | rfl | rfl | rfl | rfl <;> first | exact absurd (by decide) h6 | simp
theorem lt6 {k : Int32} (h : Lk k) : ¬ k < 6 ↔ 5 < k := by
  rcases h with rfl | rfl | rfl | rfl | rfl | rfl | rfl | rfl <;> decide
/-- whether two values are the same number -/
theorem same_ck {f t : Int32} {v w : Int64} (hf : Lk f) (ht : Lk t) (hv : vb f v) (hw : vb t w) : ∃ z : Int32, F_X20_isSame f v t w = some z ∧ (z = 0 ∨ z = 1) ∧
    ((f < 6 → t < 6 → (z = 1 ↔ w = v)) ∧ (f < 6 → ¬ t < 6 → F_X16_isSame (lnR t w).toInt64 v = some z) ∧ (¬ f < 6 → t < 6 → F_X16_isSame (lnR f v).toInt64 w = some z) ∧
     (¬ f < 6 → ¬ t < 6 → (z = 1 ↔ rk (lnR f v).toNat = rk (lnR t w).toNat))) := by
  have rf := E_real hv
  have rt := E_real hw
  have one : ∀ z : Int32, z = 0 ∨ z = 1 → z &&& 1 = z := fun z h => by rcases h with rfl | rfl <;> decide
  have e10 : ((1 : Int32) &&& 1 = 0 ∨ (1 : Int32) &&& 1 = 1) := Or.inr (by decide)
  have e00 : ((0 : Int32) &&& 1 = 0 ∨ (0 : Int32) &&& 1 = 1) := Or.inl (by decide)
  have uniq : ∀ (a b : Int32) (P : Prop), (a = 0 ∨ a = 1) → (b = 0 ∨ b = 1) → (a = 1 ↔ P) → (b = 1 ↔ P) → a = b := by
    intro a b P ha hb h1 h2
    have h3 := h1.trans h2.symm
    rcases ha with rfl | rfl <;> rcases hb with rfl | rfl
    · rfl
    · exact absurd (h3.mpr rfl) (by decide)
    · exact absurd (h3.mp rfl) (by decide)
    · rfl
  unfold F_X20_isSame F_X20_isSame_b24 F_X20_isSame_b25 F_X20_isSame_b57 F_X20_isSame_b58 F_X20_isSame_b87
  rw [rf.1, rt.1]
  simp only [Option.bind_some]
  by_cases h1 : f < 6
  · rw [if_pos h1]
    by_cases h2 : t < 6
    · rw [if_pos h2]
      by_cases h3 : v = w
      · rw [if_pos h3]
        exact ⟨_, rfl, e10, ⟨fun _ _ => ⟨fun _ => h3.symm, fun _ => by decide⟩, fun _ h => absurd h2 h, fun h => absurd h1 h, fun h => absurd h1 h⟩⟩
      · rw [if_neg h3]
        exact ⟨_, rfl, e00, ⟨fun _ _ => ⟨fun h => absurd h (by decide), fun h => absurd h.symm h3⟩, fun _ h => absurd h2 h, fun h => absurd h1 h, fun h => absurd h1 h⟩⟩
    · rw [if_neg h2, if_pos h1, if_pos h1]
      obtain ⟨z, z1, z2, z3⟩ := E_whole (v := v) rt.2
      obtain ⟨y, y1, y2, y3⟩ := M_same (v := v) rt.2
      have := uniq z y _ z2 y2 z3 y3
      rw [z1]
      simp only [Option.bind_some, one z z2]
      exact ⟨z, rfl, z2, ⟨fun _ h => absurd h h2, fun _ _ => by rw [y1, this], fun h => absurd h1 h, fun h => absurd h1 h⟩⟩
  · rw [if_neg h1, if_neg h1]
    by_cases h2 : t < 6
    · rw [if_pos h2, if_neg h1]
      obtain ⟨z, z1, z2, z3⟩ := E_whole (v := w) rf.2
      obtain ⟨y, y1, y2, y3⟩ := M_same (v := w) rf.2
      have := uniq z y _ z2 y2 z3 y3
      rw [z1]
      simp only [Option.bind_some, one z z2]
      exact ⟨z, rfl, z2, ⟨fun h => absurd h h1, fun h => absurd h h1, fun _ _ => by rw [y1, this], fun _ h => absurd h2 h⟩⟩
    · rw [if_neg h2]
      have o := (jd_lt (ord_rk rf.2 rt.2) .l).2.2
      simp only [o]
      by_cases h3 : rk (lnR f v).toNat = rk (lnR t w).toNat
      · rw [if_pos h3]
        exact ⟨_, rfl, e10, ⟨fun h => absurd h h1, fun h => absurd h h1, fun _ h => absurd h h2, fun _ _ => ⟨fun _ => h3, fun _ => by decide⟩⟩⟩
      · rw [if_neg h3]
        exact ⟨_, rfl, e00, ⟨fun h => absurd h h1, fun h => absurd h h1, fun _ h => absurd h h2, fun _ _ => ⟨fun h => absurd h (by decide), fun h => absurd h h3⟩⟩⟩
/-- a cast by a rule: both alike -/
theorem cast_eq {f t rule : Int32} {v : Int64} (hf : Lk f) (ht : Lk t) (h0 : f = 0 ↔ t = 0) (hr : rule = 0 ∨ rule = 1 ∨ rule = 2 ∨ rule = 3) (hv : vb f v) :
    ∃ r : Option Int64, (∀ M st, F_X20_cast M f t rule v st = eRes r M st) ∧ (∀ M v0, F_X16_casted_2 M v0 v f t rule = mRes r M v0) ∧ (∀ w, r = some w → vb t w) := by
  have hp : f = t ∨ (f ≠ 0 ∧ t ≠ 0) := by
    by_cases hf0 : f = 0
    · exact Or.inl (hf0.trans (h0.mp hf0).symm)
    · exact Or.inr ⟨hf0, fun h => hf0 (h0.mpr h)⟩
  have hE := E_convert (t := t) hv
  have hM := M_casted hf ht hp hv
  have hvt := cvt_vb hf ht hp hv
  have b29 : ∀ M, F_X20_cast_b29 M f t v = some (Sum.inl (cvt f t v, M)) := fun M => by
    unfold F_X20_cast_b29
    rw [hE]
    rfl
  have b37 : ∀ M, F_X16_casted_2_b37 M v f t = some (Sum.inl (cvt f t v, M)) := fun M => by
    unfold F_X16_casted_2_b37
    rw [hM]
    rfl
  obtain ⟨z, z1, z2, zA, zB, zC, zD⟩ := same_ck hf ht hv hvt
  have ex : ∀ M st, F_X20_exact M f t v st = eRes (if z = 1 then some (cvt f t v) else none) M st := by
    intro M st
    unfold F_X20_exact
    rw [hE]
    simp only [Option.bind_some, z1]
    rcases z2 with rfl | rfl <;> rfl
  by_cases hft : f = t
  · -- the same lane
    have ec : cvt f t v = v := by unfold cvt; rw [if_pos hft]
    refine ⟨some v, fun M st => ?_, fun M v0 => ?_, fun w hw => by cases hw; rw [← hft]; exact hv⟩
    · unfold F_X20_cast
      have z11 : z = 1 := by
        by_cases h6 : f < 6
        · exact (zA h6 (hft ▸ h6)).mpr ec
        · exact (zD h6 (hft ▸ h6)).mpr (by rw [ec, hft])
      rw [ex, z11, if_pos rfl, b29, ec]
      rcases hr with rfl | rfl | rfl | rfl <;> simp [hft, eRes, tb]
    · unfold F_X16_casted_2
      rw [if_pos hft]
      rfl
  · have hnz := hp.resolve_left hft
    have l5 : 5 < t ↔ ¬ t < 6 := (lt6 ht).symm
    have l5f : 5 < f ↔ ¬ f < 6 := (lt6 hf).symm
    rcases hr with rfl | hr
    · refine ⟨some (cvt f t v), fun M st => ?_, fun M v0 => ?_, fun w hw => by cases hw; exact hvt⟩
      · unfold F_X20_cast
        rw [if_neg (by decide), if_pos rfl, b29]
        rfl
      · unfold F_X16_casted_2 F_X16_casted_2_b19
        rw [if_neg hft, if_pos rfl, if_pos rfl, b37]
        split <;> rfl
    · by_cases h2 : rule = 2
      · subst h2
        refine ⟨if z = 1 then some (cvt f t v) else none, fun M st => ?_, fun M v0 => ?_, fun w hw => ?_⟩
        · unfold F_X20_cast
          rw [if_pos rfl, ex]
          exact tb_e
        · have b144 : ∀ y : Int32, F_X16_casted_2_b144 M v0 (cvt f t v) y = mRes (if y = 0 then none else some (cvt f t v)) M v0 := by
            intro y
            unfold F_X16_casted_2_b144
            split <;> rfl
          have hz : (if z = 0 then none else some (cvt f t v)) = if z = 1 then some (cvt f t v) else none := by rcases z2 with rfl | rfl <;> rfl
          unfold F_X16_casted_2 F_X16_casted_2_b19 F_X16_casted_2_b45 F_X16_casted_2_b96 F_X16_casted_2_b142
          rw [if_neg hft, hM]
          simp only [Option.bind_some, l5, l5f, b144]
          by_cases t6 : t < 6
          · simp only [t6, not_true, if_false, if_true, if_neg (show ¬ (2 : Int32) = 0 by decide), if_neg (show ¬ (1 : Int32) = 0 by decide)]
            by_cases f6 : f < 6
            · simp only [f6, not_true, if_false]
              by_cases hc : cvt f t v = v
              · rw [if_pos hc, (zA f6 t6).mpr hc]
                rfl
              · rw [if_neg hc]
                have : ¬ z = 1 := fun h => hc ((zA f6 t6).mp h)
                rw [if_neg this]
            · simp only [f6, not_false_eq_true, if_true]
              rw [M_real hv]
              simp only [Option.bind_some]
              rw [zC f6 t6]
              simp only [Option.bind_some, hz]
          · simp only [t6, not_false_eq_true, if_true, if_neg (show ¬ (2 : Int32) = 0 by decide)]
            by_cases f6 : f < 6
            · simp only [f6, not_true, if_false]
              rw [M_real hvt]
              simp only [Option.bind_some]
              rw [zB f6 t6]
              simp only [Option.bind_some, hz]
            · simp only [f6, not_false_eq_true, if_true]
              rw [M_real hv, M_real hvt]
              simp only [Option.bind_some]
              rw [X24_compare]
              simp only [Option.bind_some, ordi_eq]
              have hd := zD f6 t6
              by_cases hc : rk (un (lnR f v).toInt64) = rk (un (lnR t (cvt f t v)).toInt64)
              · rw [if_pos hc, hd.mpr hc]
                rfl
              · rw [if_neg hc]
                have : ¬ z = 1 := fun h => hc (hd.mp h)
                rw [if_neg this]
        · rcases z2 with rfl | rfl
          · rw [if_neg (by decide)] at hw
            cases hw
          · rw [if_pos rfl] at hw
            cases hw
            exact hvt
      · have hr' : rule = 1 ∨ rule = 3 := by
          rcases hr with h | h | h
          · exact Or.inl h
          · exact absurd h h2
          · exact Or.inr h
        have hn0 : ¬ rule = 0 := by rcases hr' with rfl | rfl <;> decide
        by_cases t6 : t < 6
        · have t' := Lk_lo ht hnz.2 t6
          by_cases f6 : f < 6
          · obtain ⟨w, w1, w2, w3⟩ := bnd t' v
            refine ⟨some w, fun M st => ?_, fun M v0 => ?_, fun y hy => by cases hy; exact w3⟩
            · unfold F_X20_cast
              rw [if_neg h2, if_neg hn0, if_pos t6, if_neg hft, if_pos f6, w1]
              rfl
            · unfold F_X16_casted_2 F_X16_casted_2_b19 F_X16_casted_2_b45
              simp only [l5, l5f, hft, t6, f6, not_true, if_false, hn0, h2, if_neg (show ¬ (1 : Int32) = 0 by decide), w2]
              rfl
          · have rf := E_real hv
            by_cases h3 : rule = 3
            · have hq := rwh_ok (way := 2) (lnR f v).toNat_lt rf.2
              obtain ⟨w, w1, w2, w3⟩ := bnd t' (FP.d2l (rwh 2 (lnR f v).toNat))
              refine ⟨some w, fun M st => ?_, fun M v0 => ?_, fun y hy => by cases hy; exact w3⟩
              · unfold F_X20_cast F_X20_cast_b70
                have hnr : F_X20_nearest (lnR f v) = some (rwh 2 (lnR f v).toNat) := by
                  have := X20_nearest (lnR f v).toNat_lt rf.2
                  rw [UInt64.ofNat_toNat] at this
                  exact this
                rw [if_neg h2, if_neg hn0, if_pos t6, if_neg hft, if_neg f6, rf.1]
                simp only [Option.bind_some]
                rw [if_pos h3, hnr]
                simp only [Option.bind_some]
                rw [w1]
                rfl
              · unfold F_X16_casted_2 F_X16_casted_2_b19 F_X16_casted_2_b45 F_X16_casted_2_b190
                simp only [l5, l5f, hft, t6, f6, not_true, not_false_eq_true, if_false, if_true, hn0, h2, if_neg (show ¬ (1 : Int32) = 0 by decide), h3, M_real hv, Option.bind_some]
                have hrr : F_X16_rounded (lnR f v).toInt64 2 = some (rwh 2 (lnR f v).toNat).toInt64 := X16_rounded_val (x := (lnR f v).toInt64) (way := 2) (by decide) rf.2
                rw [hrr]
                simp only [Option.bind_some, if_neg (show ¬ (3 : Int32) = 0 by decide), if_neg (show ¬ (3 : Int32) = 2 by decide)]
                rw [X16_cut_1 (x := (rwh 2 (lnR f v).toNat).toInt64) hq]
                simp only [Option.bind_some]
                exact w2 M
            · obtain ⟨w, w1, w2, w3⟩ := bnd t' (FP.d2l (lnR f v))
              refine ⟨some w, fun M st => ?_, fun M v0 => ?_, fun y hy => by cases hy; exact w3⟩
              · unfold F_X20_cast F_X20_cast_b70
                rw [if_neg h2, if_neg hn0, if_pos t6, if_neg hft, if_neg f6, rf.1]
                simp only [Option.bind_some]
                rw [if_neg h3, w1]
                rfl
              · unfold F_X16_casted_2 F_X16_casted_2_b19 F_X16_casted_2_b45 F_X16_casted_2_b190
                simp only [l5, l5f, hft, t6, f6, not_true, not_false_eq_true, if_false, if_true, hn0, h2, if_neg (show ¬ (1 : Int32) = 0 by decide), h3, M_real hv, Option.bind_some]
                rw [X16_cut_1 (x := (lnR f v).toInt64) rf.2]
                simp only [Option.bind_some]
                exact w2 M
        · refine ⟨some (cvt f t v), fun M st => ?_, fun M v0 => ?_, fun w hw => by cases hw; exact hvt⟩
          · unfold F_X20_cast
            rw [if_neg h2, if_neg hn0, if_neg t6, b29]
            rfl
          · unfold F_X16_casted_2 F_X16_casted_2_b19
            simp only [l5, hft, t6, not_false_eq_true, if_true, if_false, hn0, h2, b37]
            rfl
