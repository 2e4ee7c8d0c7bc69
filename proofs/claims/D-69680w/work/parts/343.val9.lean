/-! ===== VALUES, 9: whether a double is a whole number ===== -/
/-- a finite double's value, in units of 2 ^ -1074 -/
def vX (s : Bool) (c : Nat) (q : Int) : Int := FP.Core.signed s (c * 2 ^ (q + 1074).toNat)
def uE : Nat := 2 ^ 1074
/-- a double is just this whole number -/
def whl (x : UInt64) (v : Int64) : Prop := match d64 x with
  | .fin s c q => vX s c q = v.toInt * (uE : Int)
  | _ => False
theorem fin_ord {x y : UInt64} {s t : Bool} {c d : Nat} {q r : Int} (hx : d64 x = .fin s c q) (hy : d64 y = .fin t d r) (h1 : -1074 ≤ q) (h2 : -1074 ≤ r) : FP.dcmp x y = some (compare (vX s c q) (vX t d r)) := by
  show FP.Core.order (d64 x) (d64 y) = _
  rw [hx, hy]
  show some (compare (FP.Core.signed s (c * 2 ^ (q - min q r).toNat)) (FP.Core.signed t (d * 2 ^ (r - min q r).toNat))) = _
  refine congrArg some ?_
  have hpx : ∀ a b : Nat, 2 ^ a * 2 ^ b = 2 ^ (a + b) := fun a b => (Nat.pow_add 2 a b).symm
  refine cmp_scale (p := 2 ^ (min q r + 1074).toNat) (q := 1) (Nat.two_pow_pos _) (by decide) ?_ ?_
  · unfold vX
    rw [← signed_mul, Nat.mul_assoc, hpx, show (q - min q r).toNat + (min q r + 1074).toNat = (q + 1074).toNat by omega]
    exact (Int.mul_one _).symm
  · unfold vX
    rw [← signed_mul, Nat.mul_assoc, hpx, show (r - min q r).toNat + (min q r + 1074).toNat = (r + 1074).toNat by omega]
    exact (Int.mul_one _).symm
theorem d64_fin {x : UInt64} {s : Bool} {c : Nat} {q : Int} (h : d64 x = .fin s c q) : dE x.toNat ≠ 2047 ∧ s = dS x.toNat ∧ c = dC x.toNat ∧ q = dQ x.toNat ∧ c < 2 ^ 53 ∧ -1074 ≤ q ∧ q ≤ 971 := by
  have hn : x.toNat < 2 ^ 64 := x.toNat_lt
  have hE : dE x.toNat ≠ 2047 := by
    intro hh
    have e : FP.Core.fieldE FP.Core.b64 x.toNat = dE x.toNat := rfl
    have h' : FP.Core.decode FP.Core.b64 x.toNat = .fin s c q := h
    unfold FP.Core.decode at h'
    rw [e, hh] at h'
    rw [if_pos (by decide)] at h'
    split at h' <;> cases h'
  have e := dec_fin hn hE
  have h' : FP.Core.decode FP.Core.b64 x.toNat = .fin s c q := h
  rw [e] at h'
  injection h' with i1 i2 i3
  have hb : dE x.toNat < 2048 := Nat.mod_lt _ (by decide)
  refine ⟨hE, i1.symm, i2.symm, i3.symm, by rw [← i2]; exact dC_lt _, ?_, ?_⟩
  · rw [← i3]; unfold dQ; split <;> omega
  · rw [← i3]; unfold dQ; split <;> omega
/-- the whole part, in units -/
theorem W_div {c : Nat} {q : Int} (h : -1074 ≤ q) : c * 2 ^ q.toNat / 2 ^ (-q).toNat = c * 2 ^ (q + 1074).toNat / uE := by
  unfold uE
  have hpx : ∀ a b : Nat, 2 ^ a * 2 ^ b = 2 ^ (a + b) := fun a b => (Nat.pow_add 2 a b).symm
  rcases Int.lt_or_le q 0 with h0 | h0
  · obtain ⟨k, rfl⟩ : ∃ k : Nat, q = -(k : Int) := ⟨(-q).toNat, by omega⟩
    rw [show (-(k : Int)).toNat = 0 by omega, show (-(-(k : Int))).toNat = k by omega, Nat.pow_zero, Nat.mul_one, show (-(k : Int) + 1074).toNat = 1074 - k by omega, show 2 ^ 1074 = 2 ^ k * 2 ^ (1074 - k) by rw [hpx]; congr 1; omega, Nat.mul_div_mul_right _ _ (Nat.two_pow_pos _)]
  · obtain ⟨k, rfl⟩ : ∃ k : Nat, q = (k : Int) := ⟨q.toNat, by omega⟩
    rw [show ((k : Int)).toNat = k by omega, show (-(k : Int)).toNat = 0 by omega, Nat.pow_zero, Nat.div_one, show ((k : Int) + 1074).toNat = k + 1074 by omega, Nat.pow_add, ← Nat.mul_assoc, Nat.mul_div_cancel _ (Nat.two_pow_pos _)]
theorem uE_pos : 0 < uE := Nat.two_pow_pos _
/-- a part behind the point: then it is small -/
theorem small_fr {c : Nat} {q : Int} (hc : c < 2 ^ 53) (h : -1074 ≤ q) (hf : c * 2 ^ (q + 1074).toNat % uE ≠ 0) : c * 2 ^ (q + 1074).toNat / uE < 2 ^ 52 := by
  have hq : q < 0 := by
    rcases Int.lt_or_le q 0 with h0 | h0
    · exact h0
    · exfalso
      apply hf
      obtain ⟨k, rfl⟩ : ∃ k : Nat, q = (k : Int) := ⟨q.toNat, by omega⟩
      rw [show ((k : Int) + 1074).toNat = k + 1074 by omega, Nat.pow_add, ← Nat.mul_assoc]
      exact Nat.mul_mod_left _ _
  rw [← W_div h, show q.toNat = 0 by omega, Nat.pow_zero, Nat.mul_one, Nat.div_lt_iff_lt_mul (Nat.two_pow_pos _)]
  have : 2 ^ 1 ≤ 2 ^ (-q).toNat := Nat.pow_le_pow_right (by decide) (by omega)
  have := Nat.mul_le_mul_left (2 ^ 52) this
  generalize 2 ^ (-q).toNat = X at *
  omega
/-- the whole part as a double against the double -/
theorem whole_eq {x : UInt64} {s t : Bool} {c : Nat} {q : Int} (hx : d64 x = .fin s c q) (hs : c * 2 ^ (q + 1074).toNat / uE ≠ 0 → t = s) (op : CmpOp) :
    (j_dcmp (dv t (c * 2 ^ (q + 1074).toNat / uE) 0) x op = 0 ↔ c * 2 ^ (q + 1074).toNat % uE = 0) := by
  obtain ⟨-, -, -, -, hc, q1, q2⟩ := d64_fin hx
  have hdm := Nat.div_add_mod (c * 2 ^ (q + 1074).toNat) uE
  have hE := uE_pos
  have sf : ∀ z : Nat, FP.Core.signed false z = (z : Int) := fun _ => rfl
  have st : ∀ z : Nat, FP.Core.signed true z = -(z : Int) := fun _ => rfl
  by_cases hf : c * 2 ^ (q + 1074).toNat % uE = 0
  · refine ⟨fun _ => hf, fun _ => ?_⟩
    rw [hf, Nat.add_zero] at hdm
    by_cases hW : c * 2 ^ (q + 1074).toNat / uE = 0
    · -- both zero
      rw [hW, Nat.mul_zero] at hdm
      obtain ⟨C, Q, e1, e2⟩ := dv_dec (s := t) (c := 0) (by decide)
      rw [Nat.zero_mul] at e2
      have hC : C = 0 := by
        rcases Nat.mul_eq_zero.mp e2 with h | h
        · exact h
        · have := Nat.two_pow_pos (Q - 0).toNat
          omega
      rw [hW]
      obtain ⟨-, -, -, -, -, k1, k2⟩ := d64_fin e1
      have o := fin_ord e1 hx k1 q1
      rw [(jd_lt o op).2.2]
      unfold vX
      rw [hC, Nat.zero_mul, ← hdm]
      cases t <;> cases s <;> rfl
    · have ht := hs hW
      subst ht
      have e : dv t (c * 2 ^ (q + 1074).toNat / uE) 0 = x := by
        have h1 := dv_self x.toNat_lt (d64_fin hx).1
        have h2 := d64_fin hx
        rw [← h2.2.1, ← h2.2.2.1, ← h2.2.2.2.1, UInt64.ofNat_toNat] at h1
        rw [h1]
        refine dv_congr ?_
        have hpx : ∀ a b : Nat, 2 ^ a * 2 ^ b = 2 ^ (a + b) := fun a b => (Nat.pow_add 2 a b).symm
        refine Nat.mul_right_cancel hE ?_
        rw [Nat.mul_right_comm, Nat.mul_comm (c * 2 ^ (q + 1074).toNat / uE), hdm]
        unfold uE
        rw [Nat.mul_assoc, hpx, Nat.mul_assoc, hpx]
        congr 2
        omega
      rw [e]
      have o := fin_ord hx hx q1 q1
      rw [(jd_lt o op).2.2]
  · refine ⟨fun h => ?_, fun h => absurd h hf⟩
    exfalso
    have hsm := small_fr hc q1 hf
    have hr : 0 < c * 2 ^ (q + 1074).toNat % uE := by omega
    obtain ⟨C, Q, e1, e2⟩ := dv_dec (s := t) (c := c * 2 ^ (q + 1074).toNat / uE) (by omega)
    obtain ⟨-, -, -, -, -, k1, k2⟩ := d64_fin e1
    have o := fin_ord e1 hx k1 q1
    rw [(jd_lt o op).2.2] at h
    have hv : C * 2 ^ (Q + 1074).toNat = c * 2 ^ (q + 1074).toNat / uE * uE := by
      have hpx : ∀ a b : Nat, 2 ^ a * 2 ^ b = 2 ^ (a + b) := fun a b => (Nat.pow_add 2 a b).symm
      unfold uE at *
      rcases Int.lt_or_le 0 Q with g | g
      · rw [show (0 - Q).toNat = 0 by omega, Nat.pow_zero, Nat.mul_one] at e2
        rw [← e2, Nat.mul_assoc, hpx]; congr 2; omega
      · rw [show (Q - 0).toNat = 0 by omega, Nat.pow_zero, Nat.mul_one] at e2
        rw [e2, Nat.mul_assoc, hpx]; congr 2; omega
    unfold vX at h
    rw [hv] at h
    have ha := congrArg Int.natAbs h
    rw [sg_abs, sg_abs, Nat.mul_comm] at ha
    omega
theorem c_m63 : d64 14114281232179134464 = .fin true (2 ^ 52) 11 := by decide
theorem c_63 : d64 4890909195324358656 = .fin false (2 ^ 52) 11 := by decide
theorem vX_63 (s : Bool) : vX s (2 ^ 52) 11 = FP.Core.signed s (9223372036854775808 * uE) := by
  unfold vX
  refine congrArg (FP.Core.signed s) ?_
  unfold uE
  rw [show ((11 : Int) + 1074).toNat = 11 + 1074 from rfl, Nat.pow_add 2 11 1074, ← Nat.mul_assoc]
theorem E_whole {x : UInt64} {v : Int64} (hx : okd x.toNat) : ∃ z : Int32, F_X20_isWhole x v = some z ∧ (z = 0 ∨ z = 1) ∧ (z = 1 ↔ whl x v) := by
  unfold F_X20_isWhole F_X20_isWhole_b35 F_X20_isWhole_b36
  have rv := i64_rng v
  rcases d64_cases hx with ⟨s, e, m, hs⟩ | ⟨s, c, q, e, -, -, -⟩
  · have nw : ¬ whl x v := by unfold whl; rw [e]; exact id
    have zz : ∀ z : Int32, z = 0 → (z = 0 ∨ z = 1) ∧ (z = 1 ↔ whl x v) := fun z hz => ⟨Or.inl hz, ⟨fun h => absurd (hz.symm.trans h) (by decide), fun h => absurd h nw⟩⟩
    have o1 := (jd_lt (ord_rk hx (y := 14114281232179134464) (by unfold okd; decide)) .l).1
    have o2 := (jd_lt (ord_rk hx (y := 4890909195324358656) (by unfold okd; decide)) .g).1
    rw [show rk (14114281232179134464 : UInt64).toNat = -4890909195324358656 by decide] at o1
    rw [show rk (4890909195324358656 : UInt64).toNat = 4890909195324358656 by decide] at o2
    unfold rk at o1 o2
    rw [hs, m] at o1 o2
    cases s with
    | true =>
      rw [if_pos (o1.mpr (by decide))]
      exact ⟨_, rfl, zz _ (by decide)⟩
    | false =>
      rw [if_neg (fun h => absurd (o1.mp h) (by decide)), if_neg (fun h => absurd (o2.mp h) (by decide))]
      exact ⟨_, rfl, zz _ (by decide)⟩
  · obtain ⟨-, e1, e2, e3, hc, q1, q2⟩ := d64_fin e
    have o1 := (jd_lt (fin_ord e c_m63 q1 (by decide)) .l).1
    have o2 := (jd_lt (fin_ord e c_63 q1 (by decide)) .g).1
    rw [vX_63] at o1 o2
    have hw : whl x v ↔ vX s c q = v.toInt * (uE : Int) := by unfold whl; rw [e]
    have hE := uE_pos
    have hdm := Nat.div_add_mod (c * 2 ^ (q + 1074).toNat) uE
    have hml := Nat.mod_lt (c * 2 ^ (q + 1074).toNat) hE
    have sf : ∀ z : Nat, FP.Core.signed false z = (z : Int) := fun _ => rfl
    have st : ∀ z : Nat, FP.Core.signed true z = -(z : Int) := fun _ => rfl
    have zz : ¬ whl x v → ∀ z : Int32, z = 0 → (z = 0 ∨ z = 1) ∧ (z = 1 ↔ whl x v) := fun nw z hz => ⟨Or.inl hz, ⟨fun h => absurd (hz.symm.trans h) (by decide), fun h => absurd h nw⟩⟩
    -- what is out of range is no long
    have hle : ∀ a : Int, a ≤ 9223372036854775807 → a * (uE : Int) ≤ 9223372036854775807 * (uE : Int) := fun a h => Int.mul_le_mul_of_nonneg_right h (by omega)
    have hge : ∀ a : Int, -9223372036854775808 ≤ a → -9223372036854775808 * (uE : Int) ≤ a * (uE : Int) := fun a h => Int.mul_le_mul_of_nonneg_right h (by omega)
    rw [sf, st] at *
    by_cases r1 : vX s c q < -((9223372036854775808 * uE : Nat) : Int)
    · rw [if_pos (o1.mpr r1)]
      refine ⟨_, rfl, zz (fun h => ?_) _ (by decide)⟩
      have := hge _ rv.1
      rw [hw.mp h] at r1
      omega
    · rw [if_neg (fun h => r1 (o1.mp h))]
      by_cases r2 : vX s c q < ((9223372036854775808 * uE : Nat) : Int)
      · rw [if_pos (o2.mpr r2)]
        -- in range: the cut is the whole part
        have hW : c * 2 ^ (q + 1074).toNat / uE ≤ 9223372036854775808 ∧ (s = false → c * 2 ^ (q + 1074).toNat / uE < 9223372036854775808) := by
          unfold vX at r1 r2
          generalize c * 2 ^ (q + 1074).toNat = P at *
          constructor
          · rw [← Nat.lt_succ_iff, Nat.div_lt_iff_lt_mul hE]
            cases s
            · rw [sf] at r2; omega
            · rw [st] at r1; omega
          · intro hs
            rw [Nat.div_lt_iff_lt_mul hE]
            rw [hs, sf] at r2
            omega
        have hd : FP.d2l x = Int64.ofInt (FP.Core.signed s (c * 2 ^ (q + 1074).toNat / uE)) := by
          show Int64.ofInt (FP.Core.toInt (-2 ^ 63) (2 ^ 63 - 1) (d64 x)) = _
          rw [e]
          refine congrArg Int64.ofInt ?_
          show max (-2 ^ 63 : Int) (min (2 ^ 63 - 1) (FP.Core.signed s (c * 2 ^ q.toNat / 2 ^ (-q).toNat))) = _
          rw [W_div q1]
          generalize c * 2 ^ (q + 1074).toNat / uE = W at *
          cases s
          · rw [sf]; have := hW.2 rfl; omega
          · rw [st]; omega
        have hi : (FP.d2l x).toInt = FP.Core.signed s (c * 2 ^ (q + 1074).toNat / uE) := by
          rw [hd, i64_small]
          · generalize c * 2 ^ (q + 1074).toNat / uE = W at *
            cases s
            · rw [sf]; omega
            · rw [st]; omega
          · generalize c * 2 ^ (q + 1074).toNat / uE = W at *
            cases s
            · rw [sf]; have := hW.2 rfl; omega
            · rw [st]; omega
        have hl : FP.l2d (FP.d2l x) = dv (s && decide (c * 2 ^ (q + 1074).toNat / uE ≠ 0)) (c * 2 ^ (q + 1074).toNat / uE) 0 := by
          rw [l2d_dv, hi, sg_abs, sg_neg]
        have hq := whole_eq e (t := s && decide (c * 2 ^ (q + 1074).toNat / uE ≠ 0)) (fun h => by rw [decide_eq_true h, Bool.and_true]) .l
        rw [hl]
        have hv : (FP.d2l x = v) ↔ FP.Core.signed s (c * 2 ^ (q + 1074).toNat / uE) = v.toInt := by rw [i64_eq, hi]
        have hww : whl x v ↔ c * 2 ^ (q + 1074).toNat % uE = 0 ∧ FP.Core.signed s (c * 2 ^ (q + 1074).toNat / uE) = v.toInt := by
          rw [hw]
          unfold vX
          generalize c * 2 ^ (q + 1074).toNat = P at *
          constructor
          · intro h
            have h1 : P = v.toInt.natAbs * uE := by
              have := congrArg Int.natAbs h
              rw [sg_abs, Int.natAbs_mul, Int.natAbs_natCast] at this
              exact this
            have h2 : P / uE = v.toInt.natAbs := by rw [h1, Nat.mul_div_cancel _ hE]
            refine ⟨by rw [h1]; exact Nat.mul_mod_left _ _, ?_⟩
            rw [h2]
            cases s
            · rw [sf] at h ⊢
              rcases Int.lt_or_le v.toInt 0 with h3 | h3
              · have := Int.mul_neg_of_neg_of_pos h3 (show (0 : Int) < uE by omega)
                omega
              · omega
            · rw [st] at h ⊢
              rcases Int.lt_or_le 0 v.toInt with h3 | h3
              · have := Int.mul_pos h3 (show (0 : Int) < uE by omega)
                omega
              · omega
          · rintro ⟨h1, h2⟩
            rw [h1, Nat.add_zero] at hdm
            rw [← h2, ← signed_mul, Nat.mul_comm, hdm]
        by_cases c1 : c * 2 ^ (q + 1074).toNat % uE = 0
        · rw [if_pos (hq.mpr c1)]
          by_cases c2 : FP.d2l x = v
          · rw [if_pos c2]
            exact ⟨_, rfl, Or.inr (by decide), ⟨fun _ => hww.mpr ⟨c1, hv.mp c2⟩, fun _ => by decide⟩⟩
          · rw [if_neg c2]
            exact ⟨_, rfl, zz (fun h => c2 (hv.mpr (hww.mp h).2)) _ (by decide)⟩
        · rw [if_neg (fun h => c1 (hq.mp h))]
          exact ⟨_, rfl, zz (fun h => c1 (hww.mp h).1) _ (by decide)⟩
      · rw [if_neg (fun h => r2 (o2.mp h))]
        refine ⟨_, rfl, zz (fun h => ?_) _ (by decide)⟩
        have := hle _ rv.2
        rw [hw.mp h] at r2
        omega
