/-! ===== FLOATS, 19: the model's rest is drem ===== -/
theorem nl_div {a b : Nat} (ha : a < 2 ^ 63) (hb : b < 2 ^ 63) : nl a / nl b = nl (a / b) := by
  have hd := Nat.div_le_self a b
  apply Int64.toInt_inj.mp
  rw [Int64.toInt_div_of_ne_left, nl_int ha, nl_int hb, nl_int (by omega)]
  · exact (Int.ofNat_tdiv a b).symm
  · intro hm
    have : (nl a).toInt = Int64.minValue.toInt := by rw [hm]
    rw [nl_int ha] at this
    have h6 : Int64.minValue.toInt = -9223372036854775808 := by decide
    omega
theorem nl_rem {a b : Nat} (ha : a < 2 ^ 63) (hb : b < 2 ^ 63) : j_lrem (nl a) (nl b) = nl (a % b) := by
  unfold j_lrem
  have h1 := Nat.div_add_mod a b
  have h2 : a / b * b ≤ a := Nat.div_mul_le_self a b
  rw [nl_div ha hb, nl_mul, nl_sub h2 (by omega)]
  congr 1
  rw [Nat.mul_comm] at h1
  omega
theorem sgn_and (x : Int64) : x &&& -9223372036854775808 = nl (sgb (dS (un x))) := by
  have := sgn_xor x 0
  rw [show un (0 : Int64) = 0 from rfl, show dS 0 = false by decide] at this
  have e : x ^^^ (0 : Int64) = x := by
    apply un_inj
    rw [un_xor, show un (0 : Int64) = 0 from rfl, Nat.xor_zero]
  rw [e] at this
  rw [this]
  cases dS (un x) <;> rfl
theorem rest_loop {n : Nat} {f : Int} {s : Bool} (hn1 : 2 ^ 52 ≤ n) (hn : n < 2 ^ 53) (hf : -2000 ≤ f) (hf2 : f ≤ 2000) : ∀ (k N r : Nat), k + 1 ≤ N → r < n → k ≤ 5000 →
    F_X16_rest_b67 N (nl n) (iw f) (nl (sgb s)) (nl r) (iw (f + k)) = some (nl (FP.Core.encode FP.Core.b64 (FP.Core.roundRatio FP.Core.b64 s (r * 2 ^ k % n) 1 f))) := by
  intro k
  induction k with
  | zero =>
    intro N r hN hr _
    obtain ⟨N', rfl⟩ : ∃ n', N = n' + 1 := ⟨N - 1, by omega⟩
    show F_X16_rest_b67_st (F_X16_rest_b67 N') _ _ _ _ _ = _
    unfold F_X16_rest_b67_st
    rw [if_neg (by rw [iw_lt (by omega) (by omega) (by omega) (by omega)]; omega), Nat.pow_zero, Nat.mul_one, Nat.mod_eq_of_lt hr]
    have z1 : (nl r = 0) ↔ r = 0 := by rw [show (0 : Int64) = nl 0 from rfl, nl_eq (by omega) (by decide)]
    by_cases h0 : r = 0
    · subst h0
      rw [if_pos (by decide), ← sgb_zero]
    · rw [if_neg (fun h => h0 (z1.mp h))]
      have hk := made_floor (s := false) (A := r) (B := 1) (m := r) (e := f) (e0 := f) (more := false) (by decide) (by omega) (by omega) (fun h => by cases h) (by omega) (by omega) (fun _ => by rw [Int.sub_self]; show r * (1 * 2 ^ 0) = r * 2 ^ 0; rw [Nat.one_mul]) (fun h => by cases h)
      rw [show (0 : Int32) = mr false from rfl, hk]
      simp only [Option.bind_some]
      refine congrArg some ?_
      rw [enc64 s]
      have hlt := enc64_lt (A := r) (B := 1) (e := f)
      have := nl_sign hlt s
      rw [← this]
      congr 1
      cases s <;> rfl
  | succ k ih =>
    intro N r hN hr hk
    obtain ⟨N', rfl⟩ : ∃ n', N = n' + 1 := ⟨N - 1, by omega⟩
    show F_X16_rest_b67_st (F_X16_rest_b67 N') _ _ _ _ _ = _
    unfold F_X16_rest_b67_st
    have hz : ¬ nl n = 0 := by rw [show (0 : Int64) = nl 0 from rfl, nl_eq (by omega) (by decide)]; omega
    have e1 : j_lshl (nl r) 1 = nl (r * 2) := nl_shl (k := 1) (by decide)
    have e2 : iw (f + ((k + 1 : Nat) : Int)) + (-1 : Int32) = iw (f + (k : Int)) := by
      rw [show (-1 : Int32) = iw (-1) from rfl, iw_add]
      congr 1
      omega
    rw [if_pos (by rw [iw_lt (by omega) (by omega) (by omega) (by omega)]; omega), if_neg hz]
    simp only [e1, e2]
    rw [nl_rem (by omega) (by omega), ih N' (r * 2 % n) (by omega) (Nat.mod_lt _ (by omega)) (by omega)]
    have e3 : r * 2 % n * 2 ^ k % n = r * 2 ^ (k + 1) % n := by
      rw [Nat.mod_mul_mod, Nat.pow_succ, Nat.mul_assoc, Nat.mul_comm 2 (2 ^ k)]
    rw [e3]
theorem sg_w {s t : Bool} {c d : Nat} {q r : Int} : FP.Core.round FP.Core.b64 (FP.Core.exactRemainder (.fin s c q) (.fin t d r)) = FP.Core.round FP.Core.b64 (FP.Core.exactRemainder (.fin s (sgm c) (sge c q)) (.fin t (sgm d) (sge d r))) := (rem_w FP.Core.b64).symm
theorem X16_rest {a b : Int64} (ha : okd (un a)) (hb : okd (un b)) (hi : un a % 2 ^ 63 ≠ 2047 * 2 ^ 52) (hj : un b % 2 ^ 63 ≠ 0) : F_X16_rest a b = some ((FP.drem a.toUInt64 b.toUInt64).toInt64) := by
  have eD : (FP.drem a.toUInt64 b.toUInt64).toInt64 = nl (FP.Core.encode FP.Core.b64 (FP.Core.round FP.Core.b64 (FP.Core.exactRemainder (FP.Core.decode FP.Core.b64 (un a)) (FP.Core.decode FP.Core.b64 (un b))))) := rfl
  rw [eD]
  have la := un_lt a
  have lb := un_lt b
  have mt : mr true ≠ 0 := by decide
  have mf : mr false = 0 := by decide
  unfold F_X16_rest F_X16_rest_b14
  simp only [X24_isInfinite, X24_isZero, Option.bind_some, sgn_and]
  rcases okd_cases lb hb with ⟨b1, b2, b3⟩ | ⟨b1, b2, b3⟩ | ⟨b1, b2, b3, b4⟩
  · rw [decide_eq_true b1, if_neg mt, dec_inf lb b2 b3]
    have hfin : dE (un a) ≠ 2047 := by
      rcases okd_cases la ha with ⟨a1, a2, a3⟩ | ⟨a1, a2, a3⟩ | ⟨a1, a2, a3, a4⟩
      · exact absurd a1 hi
      · omega
      · exact a3
    rw [dec_fin la hfin]
    show some a = some (nl (FP.Core.encode FP.Core.b64 (FP.Core.roundRatio FP.Core.b64 (dS (un a)) (dC (un a)) 1 (dQ (un a)))))
    rcases okd_cases la ha with ⟨a1, a2, a3⟩ | ⟨a1, a2, a3⟩ | ⟨a1, a2, a3, a4⟩
    · exact absurd a1 hi
    · rw [a2, enc_zero, ← zero_bits la a1, nl_un]
    · rw [enc_id la a3 a4, nl_un]
  · exact absurd b1 hj
  · rw [decide_eq_false b1, if_pos mf]
    rcases okd_cases la ha with ⟨a1, a2, a3⟩ | ⟨a1, a2, a3⟩ | ⟨a1, a2, a3, a4⟩
    · exact absurd a1 hi
    · rw [decide_eq_true a1, if_neg mt, dec_fin la (by omega), dec_fin lb b3, a2]
      have e : FP.Core.exactRemainder (.fin (dS (un a)) 0 (dQ (un a))) (.fin (dS (un b)) (dC (un b)) (dQ (un b))) = .fin (dS (un a)) (FP.Core.inUnits 0 (dQ (un a)) (min (dQ (un a)) (dQ (un b))) % FP.Core.inUnits (dC (un b)) (dQ (un b)) (min (dQ (un a)) (dQ (un b)))) (min (dQ (un a)) (dQ (un b))) := if_neg b4
      rw [e]
      unfold FP.Core.inUnits
      rw [Nat.zero_mul, Nat.zero_mod]
      show some a = some (nl (FP.Core.encode FP.Core.b64 (FP.Core.roundRatio FP.Core.b64 (dS (un a)) 0 1 _)))
      rw [enc_zero, ← zero_bits la a1, nl_un]
    · rw [decide_eq_false a2, if_pos mf, X24_significand a4, X24_significand b4, X24_exponent a4, X24_exponent b4, dec_fin la a3, dec_fin lb b3, sg_w]
      simp only [Option.bind_some]
      have hid := enc_id la a3 a4
      obtain ⟨-, ga, ma⟩ := log53 (show 0 < dC (un a) by omega) (dC_lt _)
      obtain ⟨-, gb, mb⟩ := log53 (show 0 < dC (un b) by omega) (dC_lt _)
      have qa := dQ_bd (un a)
      have qb := dQ_bd (un b)
      have ka : sge (dC (un a)) (dQ (un a)) = dQ (un a) - (52 - (dC (un a)).log2 : Nat) := rfl
      have kb : sge (dC (un b)) (dQ (un b)) = dQ (un b) - (52 - (dC (un b)).log2 : Nat) := rfl
      have hsa : FP.Core.roundRatio FP.Core.b64 (dS (un a)) (sgm (dC (un a))) 1 (sge (dC (un a)) (dQ (un a))) = FP.Core.roundRatio FP.Core.b64 (dS (un a)) (dC (un a)) 1 (dQ (un a)) := by
        rw [← sg_congr (by omega) (dC_lt _)]
        refine rr_congr (by decide) (by decide) ?_
        generalize sge (dC (un a)) (dQ (un a)) = ea
        rw [show (ea - (ea - 1)).toNat = 1 by omega, show (ea - 1 - ea).toNat = 0 by omega]
        omega
      rw [← hsa] at hid
      have hla : -1126 ≤ sge (dC (un a)) (dQ (un a)) ∧ sge (dC (un a)) (dQ (un a)) ≤ 972 := by omega
      have hlb : -1126 ≤ sge (dC (un b)) (dQ (un b)) ∧ sge (dC (un b)) (dQ (un b)) ≤ 972 := by omega
      clear ka kb hsa
      generalize sge (dC (un a)) (dQ (un a)) = e at *
      generalize sge (dC (un b)) (dQ (un b)) = f at *
      generalize sgm (dC (un a)) = m at *
      generalize sgm (dC (un b)) = n at *
      generalize dS (un a) = s at *
      have ex : FP.Core.exactRemainder (.fin s m e) (.fin (dS (un b)) n f) = .fin s (FP.Core.inUnits m e (min e f) % FP.Core.inUnits n f (min e f)) (min e f) := if_neg (by omega)
      rw [ex]
      show _ = some (nl (FP.Core.encode FP.Core.b64 (FP.Core.roundRatio FP.Core.b64 s (FP.Core.inUnits m e (min e f) % FP.Core.inUnits n f (min e f)) 1 (min e f))))
      unfold FP.Core.inUnits
      have cl : (iw e < iw f) ↔ e < f := iw_lt (by omega) (by omega) (by omega) (by omega)
      by_cases hef : e < f
      · rw [if_pos (cl.mpr hef), show min e f = e by omega, Int.sub_self, show (0 : Int).toNat = 0 from rfl, Nat.pow_zero, Nat.mul_one]
        have hlt : m < n * 2 ^ (f - e).toNat := by
          have h1 : 2 ^ 1 ≤ 2 ^ (f - e).toNat := Nat.pow_le_pow_right (by decide) (by omega)
          have := Nat.mul_le_mul gb h1
          omega
        rw [Nat.mod_eq_of_lt hlt, hid, nl_un]
      · rw [if_neg (fun h => hef (cl.mp h)), if_neg (by rw [show (0 : Int64) = nl 0 from rfl, nl_eq (by omega) (by decide)]; omega), show min e f = f by omega, Int.sub_self, show (0 : Int).toNat = 0 from rfl, Nat.pow_zero, Nat.mul_one, nl_rem (by omega) (by omega)]
        obtain ⟨k, hk⟩ : ∃ k : Nat, e = f + k := ⟨(e - f).toNat, by omega⟩
        have hxN : 3000 ≤ xN := by decide
        rw [hk, rest_loop gb mb (by omega) (by omega) k xN (m % n) (by omega) (Nat.mod_lt _ (by omega)) (by omega), Nat.mod_mul_mod, show (f + (k : Int) - f).toNat = k by omega]
