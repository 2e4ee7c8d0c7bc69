/-! ===== FLOATS, 8: Soft's add ===== -/
/-- an exact sum, rounded: in units of any small enough power of 2 -/
def sgv (s : Bool) (c : Nat) : Int := FP.Core.signed s c
theorem signed_mul (s : Bool) (c k : Nat) : FP.Core.signed s (c * k) = FP.Core.signed s c * k := by
  cases s with
  | true =>
    show -((c * k : Nat) : Int) = -(c : Int) * k
    rw [Int.natCast_mul, Int.neg_mul]
  | false =>
    show ((c * k : Nat) : Int) = (c : Int) * k
    rw [Int.natCast_mul]
theorem sum_round {s t : Bool} {c d : Nat} {q r : Int} (ν : Int) (h1 : ν ≤ q) (h2 : ν ≤ r) : FP.Core.round FP.Core.b64 (FP.Core.exactSum (.fin s c q) (.fin t d r)) =
    FP.Core.roundRatio FP.Core.b64 (FP.Core.sumSign s t (FP.Core.signed s (c * 2 ^ (q - ν).toNat) + FP.Core.signed t (d * 2 ^ (r - ν).toNat))) (FP.Core.signed s (c * 2 ^ (q - ν).toNat) + FP.Core.signed t (d * 2 ^ (r - ν).toNat)).natAbs 1 ν := by
  generalize hμ : min q r = μ
  have hk : ν ≤ μ := by omega
  obtain ⟨j, hj⟩ : ∃ j : Nat, (μ - ν).toNat = j := ⟨_, rfl⟩
  have e1 : (q - ν).toNat = (q - μ).toNat + j := by omega
  have e2 : (r - ν).toNat = (r - μ).toNat + j := by omega
  rw [e1, e2, Nat.pow_add, Nat.pow_add, ← Nat.mul_assoc, ← Nat.mul_assoc, signed_mul s (c * 2 ^ (q - μ).toNat) (2 ^ j), signed_mul t (d * 2 ^ (r - μ).toNat) (2 ^ j), ← Int.add_mul]
  show FP.Core.roundRatio FP.Core.b64 (FP.Core.sumSign s t (FP.Core.sumUnits s c q t d r (min q r))) (FP.Core.sumUnits s c q t d r (min q r)).natAbs 1 (min q r) = _
  rw [hμ]
  show FP.Core.roundRatio FP.Core.b64 (FP.Core.sumSign s t (FP.Core.signed s (c * 2 ^ (q - μ).toNat) + FP.Core.signed t (d * 2 ^ (r - μ).toNat))) (FP.Core.signed s (c * 2 ^ (q - μ).toNat) + FP.Core.signed t (d * 2 ^ (r - μ).toNat)).natAbs 1 μ = _
  generalize FP.Core.signed s (c * 2 ^ (q - μ).toNat) + FP.Core.signed t (d * 2 ^ (r - μ).toNat) = v
  have hp : (0 : Int) < ((2 ^ j : Nat) : Int) := by
    have := Nat.two_pow_pos j
    omega
  have hs : FP.Core.sumSign s t (v * ((2 ^ j : Nat) : Int)) = FP.Core.sumSign s t v := by
    unfold FP.Core.sumSign
    have z1 : v * ((2 ^ j : Nat) : Int) = 0 ↔ v = 0 := by
      rw [Int.mul_eq_zero]
      omega
    have z2 : v * ((2 ^ j : Nat) : Int) < 0 ↔ v < 0 := by
      constructor
      · intro h
        rcases Int.lt_or_le v 0 with h3 | h3
        · exact h3
        · have := Int.mul_nonneg h3 (Int.le_of_lt hp)
          omega
      · intro h
        exact Int.mul_neg_of_neg_of_pos h hp
    simp only [z1, z2]
  rw [hs, Int.natAbs_mul]
  refine rr_congr (by decide) (by decide) ?_
  rw [hj, show (ν - μ).toNat = 0 by omega, Nat.pow_zero, Nat.mul_one, Nat.mul_one, Nat.mul_one]
  rfl
theorem sum_comm (s t : Bool) (c d : Nat) (q r : Int) : FP.Core.round FP.Core.b64 (FP.Core.exactSum (.fin s c q) (.fin t d r)) = FP.Core.round FP.Core.b64 (FP.Core.exactSum (.fin t d r) (.fin s c q)) := by
  rw [sum_round (min q r) (by omega) (by omega), sum_round (min q r) (by omega) (by omega), Int.add_comm]
  congr 1
  unfold FP.Core.sumSign
  rw [Bool.and_comm]
/-- a finite double that is not 0, by its significand of 53 digits -/
theorem sg_units {c : Nat} {q ν : Int} (h0 : 0 < c) (h : c < 2 ^ 53) (hν : ν ≤ sge c q) : c * 2 ^ (q - ν).toNat = sgm c * 2 ^ (sge c q - ν).toNat := by
  obtain ⟨l1, -, -⟩ := log53 h0 h
  unfold sgm sge at *
  rw [Nat.mul_assoc, ← Nat.pow_add]
  congr 2
  omega
theorem mr_of (b : Bool) (v : Int64) (h : v < 0 ↔ b = true) {α : Type} (p q : α) : (if v < 0 then p else q) = if b = true then p else q := by
  by_cases hb : b = true
  · rw [if_pos hb, if_pos (h.mpr hb)]
  · rw [if_neg hb, if_neg (fun k => hb (h.mp k))]
theorem mr_eq (a b : Bool) : mr a = mr b ↔ a = b := by cases a <;> cases b <;> decide
theorem sgn_pos {s t : Bool} {V : Nat} (h : 0 < V) : FP.Core.sumSign s t (FP.Core.signed s V) = s := by
  unfold FP.Core.sumSign
  cases s with
  | true =>
    show (if -(V : Int) = 0 then (true && t) else decide (-(V : Int) < 0)) = true
    rw [if_neg (by omega)]
    exact decide_eq_true (by omega)
  | false =>
    show (if (V : Int) = 0 then (false && t) else decide ((V : Int) < 0)) = false
    rw [if_neg (by omega)]
    exact decide_eq_false (by omega)
set_option maxRecDepth 8000 in
/-- the sum, the greater one first -/
theorem X24_add_core {x y : Int64} (hx : dC (un x) ≠ 0) (hy : dC (un y) ≠ 0) (hxE : dE (un x) ≠ 2047) (hyE : dE (un y) ≠ 2047)
    (hge : sge (dC (un y)) (dQ (un y)) < sge (dC (un x)) (dQ (un x)) ∨ (sge (dC (un y)) (dQ (un y)) = sge (dC (un x)) (dQ (un x)) ∧ sgm (dC (un y)) ≤ sgm (dC (un x)))) :
    F_X24_add_b115 y x = some (nl (FP.Core.encode FP.Core.b64 (FP.Core.round FP.Core.b64 (FP.Core.exactSum (FP.Core.decode FP.Core.b64 (un x)) (FP.Core.decode FP.Core.b64 (un y)))))) := by
  rw [dec_fin (un_lt x) hxE, dec_fin (un_lt y) hyE]
  have cx0 : 0 < dC (un x) := by omega
  have cy0 : 0 < dC (un y) := by omega
  have cx1 := dC_lt (un x)
  have cy1 := dC_lt (un y)
  obtain ⟨lx1, lx2, lx3⟩ := log53 cx0 cx1
  obtain ⟨ly1, ly2, ly3⟩ := log53 cy0 cy1
  have qx := dQ_bd (un x)
  have qy := dQ_bd (un y)
  have sx : sge (dC (un x)) (dQ (un x)) = dQ (un x) - (52 - (dC (un x)).log2 : Nat) := rfl
  have sy : sge (dC (un y)) (dQ (un y)) = dQ (un y) - (52 - (dC (un y)).log2 : Nat) := rfl
  have nx : x < 0 ↔ dS (un x) = true := neg_iff x
  have ny : y < 0 ↔ dS (un y) = true := neg_iff y
  -- the exact sum in units of the smaller exponent, less 8
  rw [sum_round (sge (dC (un y)) (dQ (un y)) - 8) (by omega) (by omega), sg_units cx0 cx1 (by omega), sg_units cy0 cy1 (by omega)]
  unfold F_X24_add_b115
  rw [X24_exponent hx, X24_exponent hy, X24_significand hx, X24_significand hy]
  generalize sge (dC (un x)) (dQ (un x)) = ex at *
  generalize sge (dC (un y)) (dQ (un y)) = ey at *
  generalize sgm (dC (un x)) = mx at *
  generalize sgm (dC (un y)) = my at *
  generalize dS (un x) = s at *
  generalize dS (un y) = t at *
  obtain ⟨w, hw⟩ : ∃ w : Nat, ex - ey = (w : Int) := ⟨(ex - ey).toNat, by omega⟩
  have e1 : (ex - (ey - 8)).toNat = w + 8 := by omega
  have e2 : (ey - (ey - 8)).toNat = 8 := by omega
  rw [e1, e2]
  have hw2 : w < 2200 := by omega
  simp only [Option.bind_some]
  have i1 : iw ex - 8 = iw (ex - 8) := by rw [show (8 : Int32) = iw 8 from rfl, iw_sub]
  have i2 : iw ex - iw ey = iw (w : Int) := by rw [iw_sub, hw]
  have i3 : j_lshl (nl mx) 8 = nl (mx * 2 ^ 8) := nl_shl (k := 8) (by decide)
  have i4 : j_lshl (nl my) 8 = nl (my * 2 ^ 8) := nl_shl (k := 8) (by decide)
  rw [i1, i2, i3, i4]
  have hP : 0 < 2 ^ w := Nat.two_pow_pos w
  -- what is shifted out
  obtain ⟨n, hn⟩ : ∃ n, my * 2 ^ 8 / 2 ^ w = n := ⟨_, rfl⟩
  obtain ⟨rem, hrem⟩ : ∃ rem, my * 2 ^ 8 % 2 ^ w = rem := ⟨_, rfl⟩
  have hdm : 2 ^ w * n + rem = my * 2 ^ 8 := by rw [← hn, ← hrem]; exact Nat.div_add_mod _ _
  have hrl : rem < 2 ^ w := by rw [← hrem]; exact Nat.mod_lt _ hP
  have hnle : n ≤ my * 2 ^ 8 := by rw [← hn]; exact Nat.div_le_self _ _
  have h62 : ((62 : Int32) < iw (w : Int)) ↔ 62 < w := by
    rw [show (62 : Int32) = iw 62 from rfl, iw_lt (by omega) (by omega) (by omega) (by omega)]
    omega
  have hred : (if (62 : Int32) < iw (w : Int) then F_X24_add_b176 0 x y (iw (ex - 8)) (iw (w : Int)) (nl (mx * 2 ^ 8)) (nl (my * 2 ^ 8)) else F_X24_add_b176 (j_lushr (nl (my * 2 ^ 8)) (iw (w : Int))) x y (iw (ex - 8)) (iw (w : Int)) (nl (mx * 2 ^ 8)) (nl (my * 2 ^ 8))) =
      F_X24_add_b201 (mr (decide (rem ≠ 0))) x y (iw (ex - 8)) (nl (mx * 2 ^ 8)) (nl n) := by
    by_cases hb : 62 < w
    · have hbig : my * 2 ^ 8 < 2 ^ w := by
        have : 2 ^ 62 < 2 ^ w := Nat.pow_lt_pow_right (by decide) hb
        omega
      have hn0 : n = 0 := by rw [← hn]; exact Nat.div_eq_of_lt hbig
      have hr0 : rem ≠ 0 := by
        rw [← hrem, Nat.mod_eq_of_lt hbig]
        omega
      rw [if_pos (h62.mpr hb), decide_eq_true hr0, hn0]
      unfold F_X24_add_b176 F_X24_add_b196
      rw [if_pos (h62.mpr hb)]
      rfl
    · rw [if_neg (fun h => hb (h62.mp h))]
      have hsh : j_lushr (nl (my * 2 ^ 8)) (iw (w : Int)) = nl n := by rw [iw_nat, nl_ushr (by omega) (by omega), hn]
      rw [hsh]
      unfold F_X24_add_b176 F_X24_add_b196
      rw [if_neg (fun h => hb (h62.mp h))]
      have hback : j_lshl (nl n) (iw (w : Int)) = nl (n * 2 ^ w) := by rw [iw_nat, nl_shl (by omega)]
      have hcomm : n * 2 ^ w = 2 ^ w * n := Nat.mul_comm _ _
      have hiff : (j_lshl (nl n) (iw (w : Int)) = nl (my * 2 ^ 8)) ↔ rem = 0 := by
        rw [hback, nl_eq (by omega) (by omega)]
        omega
      by_cases hr0 : rem = 0
      · rw [if_pos (hiff.mpr hr0), decide_eq_false (by omega)]
        rfl
      · rw [if_neg (fun h => hr0 (hiff.mp h)), decide_eq_true hr0]
        rfl
  rw [hred]
  clear hred
  -- the signs
  have hs1 : F_X24_add_b201 (mr (decide (rem ≠ 0))) x y (iw (ex - 8)) (nl (mx * 2 ^ 8)) (nl n) = F_X24_add_b227 (mr s) (mr t) x (iw (ex - 8)) (nl (mx * 2 ^ 8)) (nl n) (mr (decide (rem ≠ 0))) := by
    unfold F_X24_add_b201 F_X24_add_b215
    rw [mr_of s x nx]
    cases s <;> cases t <;> simp [nx, ny, mr]
  rw [hs1]
  clear hs1
  unfold F_X24_add_b227
  have eW : mx * 2 ^ (w + 8) = mx * 2 ^ 8 * 2 ^ w := by rw [Nat.add_comm, Nat.pow_add, Nat.mul_assoc]
  by_cases hst : s = t
  · -- of one sign
    subst hst
    rw [if_pos rfl, mr_of s x nx]
    have hmade : F_X24_add_b242 (mr s) (iw (ex - 8)) (nl (mx * 2 ^ 8)) (nl n) (mr (decide (rem ≠ 0))) = some (nl (FP.Core.encode FP.Core.b64 (FP.Core.roundRatio FP.Core.b64 s (2 * (mx * 2 ^ 8 + n) + if decide (rem ≠ 0) = true then 1 else 0) 1 (ex - 8 - 1)))) := by
      unfold F_X24_add_b242
      rw [nl_add, X24_made (by omega) (by omega) (fun _ => by omega) (by omega) (by omega)]
      rfl
    have hif : (if s = true then F_X24_add_b242 1 (iw (ex - 8)) (nl (mx * 2 ^ 8)) (nl n) (mr (decide (rem ≠ 0))) else F_X24_add_b242 0 (iw (ex - 8)) (nl (mx * 2 ^ 8)) (nl n) (mr (decide (rem ≠ 0)))) = F_X24_add_b242 (mr s) (iw (ex - 8)) (nl (mx * 2 ^ 8)) (nl n) (mr (decide (rem ≠ 0))) := by cases s <;> rfl
    rw [hif, hmade]
    refine congrArg (fun z => some (nl (FP.Core.encode FP.Core.b64 z))) ?_
    obtain ⟨V, hV⟩ : ∃ V, mx * 2 ^ (w + 8) + my * 2 ^ 8 = V := ⟨_, rfl⟩
    have hV0 : 0 < V := by
      have := Nat.mul_pos (show 0 < my by omega) (show 0 < 2 ^ 8 by decide)
      omega
    have hsum : FP.Core.signed s (mx * 2 ^ (w + 8)) + FP.Core.signed s (my * 2 ^ 8) = FP.Core.signed s V := by
      rw [← hV]
      cases s with
      | true =>
        show -((mx * 2 ^ (w + 8) : Nat) : Int) + -((my * 2 ^ 8 : Nat) : Int) = -((mx * 2 ^ (w + 8) + my * 2 ^ 8 : Nat) : Int)
        omega
      | false => rfl
    have hsgn : FP.Core.sumSign s s (FP.Core.signed s V) = s := sgn_pos hV0
    have habs : (FP.Core.signed s V).natAbs = V := by
      unfold FP.Core.signed
      cases s <;> simp
    rw [hsum, hsgn, habs]
    have hVn : V = 2 ^ w * (mx * 2 ^ 8 + n) + rem := by
      rw [← hV, eW, Nat.mul_add, ← hdm]
      have : mx * 2 ^ 8 * 2 ^ w = 2 ^ w * (mx * 2 ^ 8) := Nat.mul_comm _ _
      omega
    by_cases hr0 : rem = 0
    · rw [decide_eq_false (by omega)]
      refine rr_congr (by decide) (by decide) ?_
      rw [show (ex - 8 - 1 - (ey - 8)).toNat = w - 1 by omega, show (ey - 8 - (ex - 8 - 1)).toNat = 1 - w by omega, hVn, hr0]
      simp only [Bool.false_eq_true, if_false, Nat.add_zero, Nat.mul_one]
      rcases Nat.eq_zero_or_pos w with h0 | h0
      · subst h0
        simp
        omega
      · obtain ⟨w', rfl⟩ : ∃ w', w = w' + 1 := ⟨w - 1, by omega⟩
        rw [show w' + 1 - 1 = w' by omega, show 1 - (w' + 1) = 0 by omega, Nat.pow_zero, Nat.mul_one]
        generalize mx * 2 ^ 8 + n = Z
        rw [show 2 ^ (w' + 1) = 2 ^ w' * 2 from by rw [Nat.pow_succ]]
        ac_rfl
    · rw [decide_eq_true hr0]
      symm
      refine rr_sticky (by decide) ?_ ?_ ?_
      · show 2 ^ 54 ≤ mx * 2 ^ 8 + n
        omega
      · rw [show (ex - 8 - (ey - 8)).toNat = w by omega, show (ey - 8 - (ex - 8)).toNat = 0 by omega, Nat.pow_zero, Nat.mul_one, Nat.one_mul, hVn, Nat.mul_comm]
        omega
      · rw [show (ex - 8 - (ey - 8)).toNat = w by omega, show (ey - 8 - (ex - 8)).toNat = 0 by omega, Nat.pow_zero, Nat.mul_one, Nat.one_mul, hVn, Nat.mul_comm (mx * 2 ^ 8 + n + 1), Nat.mul_add (2 ^ w) (mx * 2 ^ 8 + n) 1]
        omega
  · -- of unlike signs
    have hts : t = !s := by cases s <;> cases t <;> first | rfl | exact absurd rfl hst
    rw [if_neg (fun h => hst ((mr_eq s t).mp h))]
    have hnm : n ≤ mx * 2 ^ 8 ∧ (rem ≠ 0 → 2 ^ 54 + n + 1 ≤ mx * 2 ^ 8) := by
      rcases Nat.eq_zero_or_pos w with h0 | h0
      · subst h0
        rw [Nat.pow_zero, Nat.one_mul] at hdm
        rw [Nat.pow_zero] at hrl
        have : my ≤ mx := by omega
        omega
      · have h2w : 2 ≤ 2 ^ w := by
          have := Nat.pow_le_pow_right (show 0 < 2 by decide) h0
          simpa using this
        have hn2 : 2 * n ≤ my * 2 ^ 8 := by
          have := Nat.mul_le_mul_right n h2w
          omega
        refine ⟨by omega, fun hr0 => ?_⟩
        have hw9 : 9 ≤ w := by
          rcases Nat.lt_or_ge w 9 with h9 | h9
          · exfalso
            apply hr0
            rw [← hrem]
            have hd : 2 ^ w ∣ my * 2 ^ 8 := Nat.dvd_trans (Nat.pow_dvd_pow 2 (by omega : w ≤ 8)) (Nat.dvd_mul_left _ _)
            exact Nat.mod_eq_zero_of_dvd hd
          · exact h9
        have h512 : 512 ≤ 2 ^ w := by
          have := Nat.pow_le_pow_right (show 0 < 2 by decide) hw9
          simpa using this
        have hn3 : 512 * n ≤ my * 2 ^ 8 := by
          have := Nat.mul_le_mul_right n h512
          omega
        omega
    obtain ⟨hnm1, hnm2⟩ := hnm
    have hsub : nl (mx * 2 ^ 8) - nl n = nl (mx * 2 ^ 8 - n) := nl_sub hnm1 (by omega)
    rw [hsub]
    -- the exact sum
    obtain ⟨V, hV⟩ : ∃ V, V + my * 2 ^ 8 = mx * 2 ^ (w + 8) := by
      refine ⟨mx * 2 ^ (w + 8) - my * 2 ^ 8, Nat.sub_add_cancel ?_⟩
      rw [eW, ← hdm]
      have h8 := Nat.mul_le_mul_left (2 ^ w) hnm1
      have h9 : mx * 2 ^ 8 * 2 ^ w = 2 ^ w * (mx * 2 ^ 8) := Nat.mul_comm _ _
      rcases Nat.eq_zero_or_pos rem with h0 | h0
      · omega
      · have h10 := Nat.mul_le_mul_left (2 ^ w) (show n + 1 ≤ mx * 2 ^ 8 by have := hnm2 (by omega); omega)
        rw [Nat.mul_add, Nat.mul_one] at h10
        omega
    have hsum : FP.Core.signed s (mx * 2 ^ (w + 8)) + FP.Core.signed t (my * 2 ^ 8) = FP.Core.signed s V := by
      rw [hts, ← hV]
      cases s with
      | true =>
        show -((V + my * 2 ^ 8 : Nat) : Int) + ((my * 2 ^ 8 : Nat) : Int) = -(V : Int)
        omega
      | false =>
        show ((V + my * 2 ^ 8 : Nat) : Int) + -((my * 2 ^ 8 : Nat) : Int) = (V : Int)
        omega
    have habs : (FP.Core.signed s V).natAbs = V := by
      unfold FP.Core.signed
      cases s <;> simp
    have hVn : V + rem = 2 ^ w * (mx * 2 ^ 8 - n) := by
      rw [Nat.mul_sub]
      rw [eW, ← hdm] at hV
      have h9 : mx * 2 ^ 8 * 2 ^ w = 2 ^ w * (mx * 2 ^ 8) := Nat.mul_comm _ _
      omega
    rw [hsum, habs]
    -- the row from the difference on
    have b290 : ∀ (D : Nat) (more : Bool), F_X24_add_b290 x (iw (ex - 8)) (mr more) (nl D) = F_X24_add_b302 (mr s) (iw (ex - 8)) (mr more) (nl D) := by
      intro D more
      unfold F_X24_add_b290
      rw [mr_of s x nx]
      cases s <;> rfl
    by_cases hr0 : rem = 0
    · have hV2 : V = 2 ^ w * (mx * 2 ^ 8 - n) := by omega
      rw [decide_eq_false (by omega), if_pos (by decide)]
      unfold F_X24_add_b270
      have e9 : nl (mx * 2 ^ 8 - n) - (0 : Int32).toInt64 = nl (mx * 2 ^ 8 - n) := by
        rw [show (0 : Int32).toInt64 = nl 0 from rfl, nl_sub (Nat.zero_le _) (by omega), Nat.sub_zero]
      simp only [e9]
      by_cases hD : mx * 2 ^ 8 - n = 0
      · rw [if_pos (by rw [hD]; rfl), if_pos (by decide)]
        have hV0 : V = 0 := by rw [hV2, hD, Nat.mul_zero]
        rw [hV0]
        have : FP.Core.sumSign s t (FP.Core.signed s 0) = false := by
          rw [hts]
          cases s <;> rfl
        rw [this]
        rfl
      · rw [if_neg (by rw [show (0 : Int64) = nl 0 from rfl, nl_eq (by omega) (by decide)]; exact hD), show (mr false) = mr false from rfl, b290]
        have hV0 : 0 < V := by rw [hV2]; exact Nat.mul_pos hP (by omega)
        have hsgn : FP.Core.sumSign s t (FP.Core.signed s V) = s := sgn_pos hV0
        rw [hsgn]
        unfold F_X24_add_b302 F_X24_add_b311
        rw [X24_made (by omega) (by omega) (fun h => by cases h) (by omega) (by omega)]
        show some _ = some _
        refine congrArg (fun z => some (nl (FP.Core.encode FP.Core.b64 z))) ?_
        refine rr_congr (by decide) (by decide) ?_
        rw [show (ex - 8 - 1 - (ey - 8)).toNat = w - 1 by omega, show (ey - 8 - (ex - 8 - 1)).toNat = 1 - w by omega, hV2]
        simp only [Bool.false_eq_true, if_false, Nat.add_zero, Nat.mul_one]
        generalize mx * 2 ^ 8 - n = Z
        rcases Nat.eq_zero_or_pos w with h0 | h0
        · subst h0
          simp
          omega
        · obtain ⟨w', rfl⟩ : ∃ w', w = w' + 1 := ⟨w - 1, by omega⟩
          rw [show w' + 1 - 1 = w' by omega, show 1 - (w' + 1) = 0 by omega, Nat.pow_zero, Nat.mul_one]
          rw [show 2 ^ (w' + 1) = 2 ^ w' * 2 from by rw [Nat.pow_succ]]
          ac_rfl
    · have hb := hnm2 hr0
      rw [decide_eq_true hr0, if_neg (by decide)]
      unfold F_X24_add_b270
      have e9 : nl (mx * 2 ^ 8 - n) - (1 : Int32).toInt64 = nl (mx * 2 ^ 8 - n - 1) := by
        rw [show (1 : Int32).toInt64 = nl 1 from rfl, nl_sub (by omega) (by omega)]
      simp only [e9]
      rw [if_neg (by rw [show (0 : Int64) = nl 0 from rfl, nl_eq (by omega) (by decide)]; omega), b290]
      obtain ⟨Z, hZ⟩ : ∃ Z, mx * 2 ^ 8 - n = Z + 1 := ⟨mx * 2 ^ 8 - n - 1, by omega⟩
      rw [hZ, Nat.mul_add, Nat.mul_one] at hVn
      rw [hZ, Nat.add_sub_cancel]
      have hV0 : 0 < V := by
        have : 0 < 2 ^ w * Z := Nat.mul_pos hP (by omega)
        omega
      have hsgn : FP.Core.sumSign s t (FP.Core.signed s V) = s := sgn_pos hV0
      rw [hsgn]
      unfold F_X24_add_b302 F_X24_add_b311
      rw [X24_made (by omega) (by omega) (fun _ => by omega) (by omega) (by omega)]
      show some _ = some _
      refine congrArg (fun z => some (nl (FP.Core.encode FP.Core.b64 z))) ?_
      symm
      refine rr_sticky (by decide) ?_ ?_ ?_
      · show 2 ^ 54 ≤ Z
        omega
      · rw [show (ex - 8 - (ey - 8)).toNat = w by omega, show (ey - 8 - (ex - 8)).toNat = 0 by omega, Nat.pow_zero, Nat.mul_one, Nat.one_mul, Nat.mul_comm]
        omega
      · rw [show (ex - 8 - (ey - 8)).toNat = w by omega, show (ey - 8 - (ex - 8)).toNat = 0 by omega, Nat.pow_zero, Nat.mul_one, Nat.one_mul, Nat.mul_comm (Z + 1), Nat.mul_add, Nat.mul_one]
        omega
