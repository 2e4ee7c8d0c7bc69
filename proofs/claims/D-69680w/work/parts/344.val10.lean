/-! ===== VALUES, 10: whole doubles in the model; casts by rule; bits of a lane ===== -/
theorem M_same {x : UInt64} {v : Int64} (hx : okd x.toNat) : ∃ z : Int32, F_X16_isSame x.toInt64 v = some z ∧ (z = 0 ∨ z = 1) ∧ (z = 1 ↔ whl x v) := by
  have hx' : okd (un x.toInt64) := hx
  have ux : un x.toInt64 = x.toNat := rfl
  have rv := i64_rng v
  have hE := uE_pos
  have sf : ∀ z : Nat, FP.Core.signed false z = (z : Int) := fun _ => rfl
  have st : ∀ z : Nat, FP.Core.signed true z = -(z : Int) := fun _ => rfl
  have zz : ¬ whl x v → ∀ z : Int32, z = 0 → (z = 0 ∨ z = 1) ∧ (z = 1 ↔ whl x v) := fun nw z hz => ⟨Or.inl hz, ⟨fun h => absurd (hz.symm.trans h) (by decide), fun h => absurd h nw⟩⟩
  have oo : whl x v → ∀ z : Int32, z = 1 → (z = 0 ∨ z = 1) ∧ (z = 1 ↔ whl x v) := fun w z hz => ⟨Or.inr hz, ⟨fun _ => w, fun _ => hz⟩⟩
  unfold F_X16_isSame F_X16_isSame_b18 F_X16_isSame_b33
  rw [M_zer hx, M_inf hx]
  simp only [Option.bind_some, mr_0]
  rcases d64_cases hx with ⟨s, e, m, hs⟩ | ⟨s, c, q, e, m, hs, hcz⟩
  · have nw : ¬ whl x v := by unfold whl; rw [e]; exact id
    rw [e]
    rw [if_pos (show dZ (.inf s) = false from rfl), if_neg (show ¬ dI (.inf s) = false by show ¬ (true = false); decide)]
    exact ⟨_, rfl, zz nw _ rfl⟩
  · obtain ⟨hfE, e1, e2, e3, hc, q1, q2⟩ := d64_fin e
    have hw : whl x v ↔ vX s c q = v.toInt * (uE : Int) := by unfold whl; rw [e]
    have hdm := Nat.div_add_mod (c * 2 ^ (q + 1074).toNat) uE
    have hWd : dW x.toNat = c * 2 ^ (q + 1074).toNat / uE := by
      unfold dW
      rw [← e2, ← e3, W_div q1]
    rw [e]
    by_cases hc0 : c = 0
    · subst hc0
      have hw0 : whl x v ↔ v = 0 := by
        rw [hw]
        unfold vX
        rw [Nat.zero_mul, i64_eq]
        have : FP.Core.signed s 0 = 0 := by cases s <;> rfl
        rw [this]
        show _ ↔ v.toInt = 0
        constructor
        · intro h
          rcases Int.mul_eq_zero.mp h.symm with h2 | h2
          · exact h2
          · omega
        · intro h
          rw [h, Int.zero_mul]
      rw [if_neg (show ¬ dZ (.fin s 0 q) = false by show ¬ (true = false); decide)]
      by_cases hv : v = 0
      · rw [if_pos hv]
        exact ⟨_, rfl, oo (hw0.mpr hv) _ (by decide)⟩
      · rw [if_neg hv]
        exact ⟨_, rfl, zz (fun h => hv (hw0.mp h)) _ (by decide)⟩
    · have hm0 : x.toNat % 2 ^ 63 ≠ 0 := fun h => hc0 (hcz.mpr h)
      rw [if_pos (show dZ (.fin s c q) = false from beq_false_of_ne hc0), if_pos (show dI (.fin s c q) = false from rfl), X24_isGreat hx']
      simp only [Option.bind_some, mr_0]
      rw [ux, ← e2, ← e3]
      have hww : whl x v ↔ c * 2 ^ (q + 1074).toNat % uE = 0 ∧ FP.Core.signed s (c * 2 ^ (q + 1074).toNat / uE) = v.toInt := by
        rw [hw]
        unfold vX
        generalize c * 2 ^ (q + 1074).toNat = P at *
        constructor
        · intro h
          have h1 : P = v.toInt.natAbs * uE := by
            have := congrArg Int.natAbs h
            rw [sg_abs, Int.natAbs_mul, Int.natAbs_natCast] at this
            exact this
          have h2 : P / uE = v.toInt.natAbs := by rw [h1, Nat.mul_div_cancel _ hE]
          refine ⟨by rw [h1]; exact Nat.mul_mod_left _ _, ?_⟩
          rw [h2]
          cases s
          · rw [sf] at h ⊢
            rcases Int.lt_or_le v.toInt 0 with h3 | h3
            · have := Int.mul_neg_of_neg_of_pos h3 (show (0 : Int) < uE by omega)
              omega
            · omega
          · rw [st] at h ⊢
            rcases Int.lt_or_le 0 v.toInt with h3 | h3
            · have := Int.mul_pos h3 (show (0 : Int) < uE by omega)
              omega
            · omega
        · rintro ⟨h1, h2⟩
          rw [h1, Nat.add_zero] at hdm
          rw [← h2, ← signed_mul, Nat.mul_comm, hdm]
      by_cases hg : x.toNat % 2 ^ 63 = 2047 * 2 ^ 52 ∨ (x.toNat % 2 ^ 63 ≠ 0 ∧ 11 < sge c q)
      · rw [decide_eq_true hg, if_neg (by decide)]
        refine ⟨_, rfl, zz (fun h => ?_) _ rfl⟩
        have h11 : 11 < sge c q := by omega
        have := great_W (n := x.toNat) (by rw [← e2]; exact hc0) (by rw [← e2, ← e3]; exact h11)
        rw [hWd] at this
        have h2 := (hww.mp h).2
        have h3 := sg_abs s (c * 2 ^ (q + 1074).toNat / uE)
        omega
      · rw [decide_eq_false hg, if_pos rfl]
        have hg' : ¬ (un x.toInt64 % 2 ^ 63 = 2047 * 2 ^ 52 ∨ (un x.toInt64 % 2 ^ 63 ≠ 0 ∧ 11 < sge (dC (un x.toInt64)) (dQ (un x.toInt64)))) := by
          rw [ux, ← e2, ← e3]
          exact hg
        obtain ⟨k1, k2⟩ := X24_cut hx' hg'
        rw [ux, hWd] at k1 k2
        rw [k1]
        simp only [Option.bind_some]
        have hng := neg_iff x.toInt64
        rw [ux, ← e1] at hng
        unfold F_X16_isSame_b74 F_X16_isSame_b75 F_X16_isSame_b90 F_X16_isSame_b116 F_X16_isSame_b117
        have hzn := neg_iff (nl (c * 2 ^ (q + 1074).toNat / uE))
        rw [un_nl' k2] at hzn
        by_cases hbig : 9223372036854775808 ≤ c * 2 ^ (q + 1074).toNat / uE
        · rw [if_pos (hzn.mpr (decide_eq_true hbig))]
          have hfr : c * 2 ^ (q + 1074).toNat % uE = 0 := by
            by_cases hf : c * 2 ^ (q + 1074).toNat % uE = 0
            · exact hf
            · have := small_fr hc q1 hf
              omega
          have hmin : nl (c * 2 ^ (q + 1074).toNat / uE) = -9223372036854775808 ↔ c * 2 ^ (q + 1074).toNat / uE = 9223372036854775808 := by
            rw [show (-9223372036854775808 : Int64) = nl 9223372036854775808 from rfl, nl_eq (by omega) (by decide)]
          have h3 := sg_abs s (c * 2 ^ (q + 1074).toNat / uE)
          by_cases t1 : c * 2 ^ (q + 1074).toNat / uE = 9223372036854775808
          · rw [if_pos (hmin.mpr t1)]
            rw [t1] at hww
            by_cases t2 : x.toInt64 < 0
            · rw [if_pos t2]
              have hst : s = true := hng.mp t2
              rw [hst, st] at hww
              rw [hmin.mpr t1]
              by_cases t3 : v = -9223372036854775808
              · rw [if_pos t3]
                refine ⟨_, rfl, oo (hww.mpr ⟨hfr, ?_⟩) _ (by decide)⟩
                rw [t3]
                decide
              · rw [if_neg t3]
                refine ⟨_, rfl, zz (fun h => t3 ?_) _ (by decide)⟩
                rw [i64_eq, ← (hww.mp h).2]
                decide
            · rw [if_neg t2]
              have hst : s = false := by
                cases hs2 : s with
                | false => rfl
                | true => exact absurd (hng.mpr hs2) t2
              refine ⟨_, rfl, zz (fun h => ?_) _ (by decide)⟩
              have := (hww.mp h).2
              rw [hst, sf] at this
              omega
          · rw [if_neg (fun h => t1 (hmin.mp h))]
            refine ⟨_, rfl, zz (fun h => ?_) _ (by decide)⟩
            have := (hww.mp h).2
            omega
        · have hlt : c * 2 ^ (q + 1074).toNat / uE < 9223372036854775808 := by omega
          rw [if_neg (fun h => hbig (of_decide_eq_true (hzn.mp h)))]
          -- the amount against the double's
          have hcmp : (F_X24_compare (FP.l2d (nl (c * 2 ^ (q + 1074).toNat / uE))).toInt64 (x.toInt64 &&& 9223372036854775807)) = some (ordi (compare (rk (FP.l2d (nl (c * 2 ^ (q + 1074).toNat / uE))).toNat) (rk (x.toNat % 2 ^ 63)))) := by
            rw [X24_compare, mag_and, un_nl' (by omega)]
            rfl
          have hl : FP.l2d (nl (c * 2 ^ (q + 1074).toNat / uE)) = dv false (c * 2 ^ (q + 1074).toNat / uE) 0 := by
            rw [l2d_dv, nl_int (by omega), decide_eq_false (by omega), Int.natAbs_natCast]
          obtain ⟨a1, a2, a3⟩ := abs_d x.toNat_lt hx
          have e' : d64 (UInt64.ofNat (x.toNat % 2 ^ 63)) = .fin false c q := by
            show FP.Core.decode FP.Core.b64 (UInt64.ofNat (x.toNat % 2 ^ 63)).toNat = _
            rw [a1, a3]
            have : FP.Core.decode FP.Core.b64 x.toNat = .fin s c q := e
            rw [this]
          have hq := whole_eq e' (t := false) (fun _ => rfl) .l
          have o := ord_rk (x := dv false (c * 2 ^ (q + 1074).toNat / uE) 0) (y := UInt64.ofNat (x.toNat % 2 ^ 63)) (dv_ok _ _ _).1 (by rw [a1]; exact a2)
          rw [a1] at o
          have hq2 := (jd_lt o .l).2.2
          rw [hq] at hq2
          simp only [X24_of, Option.bind_some, hcmp]
          rw [hl]
          have hoe := ordi_eq (rk (dv false (c * 2 ^ (q + 1074).toNat / uE) 0).toNat) (rk (x.toNat % 2 ^ 63))
          simp only [hoe, ← hq2]
          have hval : ∀ w : Int64, w.toInt = FP.Core.signed s (c * 2 ^ (q + 1074).toNat / uE) → ∃ z : Int32, (if w = v then (if c * 2 ^ (q + 1074).toNat % uE = 0 then some ((1 : Int32) &&& 1) else some (0 &&& 1)) else some (0 &&& 1)) = some z ∧ (z = 0 ∨ z = 1) ∧ (z = 1 ↔ whl x v) := by
            intro w hwv
            have hv : w = v ↔ FP.Core.signed s (c * 2 ^ (q + 1074).toNat / uE) = v.toInt := by rw [i64_eq, hwv]
            by_cases t1 : w = v
            · rw [if_pos t1]
              by_cases t2 : c * 2 ^ (q + 1074).toNat % uE = 0
              · rw [if_pos t2]
                exact ⟨_, rfl, oo (hww.mpr ⟨t2, hv.mp t1⟩) _ (by decide)⟩
              · rw [if_neg t2]
                exact ⟨_, rfl, zz (fun h => t2 (hww.mp h).1) _ (by decide)⟩
            · rw [if_neg t1]
              exact ⟨_, rfl, zz (fun h => t1 (hv.mpr (hww.mp h).2)) _ (by decide)⟩
          by_cases hneg : x.toInt64 < 0
          · rw [if_pos hneg]
            refine hval _ ?_
            rw [hng.mp hneg, st, nl_neg (by omega), i64_small (by omega) (by omega)]
          · rw [if_neg hneg]
            refine hval _ ?_
            have hst : s = false := by
              cases hs2 : s with
              | false => rfl
              | true => exact absurd (hng.mpr hs2) hneg
            rw [hst, sf, nl_int (by omega)]
