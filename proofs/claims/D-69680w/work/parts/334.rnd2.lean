/-! ===== FLOATS, 26: rounding to whole numbers, the model whole and the engine ===== -/
/-- a double rounded to a whole number by a way -/
noncomputable def rwh (way n : Nat) : UInt64 := if 1075 ≤ dE n ∨ n % 2 ^ 63 = 0 then UInt64.ofNat n else
  dv (dS n) (rQ way (dS n) (dC n / 2 ^ (-dQ n).toNat) (dC n % 2 ^ (-dQ n).toNat) (2 ^ (-dQ n).toNat)) 0
theorem un_ofNat (x : Int64) : (UInt64.ofNat (un x)).toInt64 = x := by
  have : UInt64.ofNat (un x) = x.toUInt64 := UInt64.ofNat_toNat (x := x.toUInt64)
  rw [this]
  rfl
theorem sge_neg {n : Nat} (h0 : dC n ≠ 0) : sge (dC n) (dQ n) < 0 ↔ ¬ 1075 ≤ dE n := by
  have h1 : dT n < 2 ^ 52 := Nat.mod_lt _ (by decide)
  by_cases hE : dE n = 0
  · have : dQ n = -1074 := by unfold dQ; rw [if_pos hE]
    unfold sge
    rw [this]
    omega
  · have e1 : dQ n = (dE n : Int) - 1075 := by unfold dQ; rw [if_neg hE]
    have e2 : dC n = 2 ^ 52 + dT n := by unfold dC; rw [if_neg hE]
    have e3 : (dC n).log2 = 52 := by rw [e2]; exact log2_53 h1
    unfold sge
    rw [e1, e3]
    omega
theorem rQ_scale {way : Nat} {s : Bool} {c k j : Nat} : rQ way s (c * 2 ^ j / 2 ^ (k + j)) (c * 2 ^ j % 2 ^ (k + j)) (2 ^ (k + j)) = rQ way s (c / 2 ^ k) (c % 2 ^ k) (2 ^ k) := by
  have hp := Nat.two_pow_pos j
  rw [Nat.pow_add, Nat.mul_div_mul_right _ _ hp, Nat.mul_mod_mul_right]
  unfold rQ
  rw [rUp_scale hp]
theorem X16_rounded_val {x : Int64} {way : Nat} (hw : way ≤ 2) (hx : okd (un x)) : F_X16_rounded x (iw way) = some (rwh way (un x)).toInt64 := by
  have mt : mr true ≠ 0 := by decide
  have mf : mr false = 0 := by decide
  unfold F_X16_rounded F_X16_rounded_b14
  simp only [X24_isInfinite, X24_isZero, Option.bind_some]
  have stay : (1075 ≤ dE (un x) ∨ un x % 2 ^ 63 = 0) → some x = some (rwh way (un x)).toInt64 := by
    intro h
    unfold rwh
    rw [if_pos h, un_ofNat]
  rcases okd_cases (un_lt x) hx with ⟨a1, a2, a3⟩ | ⟨a1, a2, a3⟩ | ⟨a1, a2, a3, a4⟩
  · rw [decide_eq_false (show ¬ un x % 2 ^ 63 = 0 by omega), if_pos mf, decide_eq_true a1, if_neg mt]
    exact stay (Or.inl (by omega))
  · rw [decide_eq_true a1, if_neg mt]
    exact stay (Or.inr a1)
  · rw [decide_eq_false a2, if_pos mf, decide_eq_false a1, if_pos mf, X24_exponent a4, X24_significand a4]
    simp only [Option.bind_some]
    obtain ⟨l1, g1, g2⟩ := log53 (show 0 < dC (un x) by omega) (dC_lt _)
    have qx := dQ_bd (un x)
    have kx : sge (dC (un x)) (dQ (un x)) = dQ (un x) - (52 - (dC (un x)).log2 : Nat) := rfl
    have c1 : iw (sge (dC (un x)) (dQ (un x))) < 0 ↔ sge (dC (un x)) (dQ (un x)) < 0 := iw_lt0 (by omega) (by omega)
    by_cases hE : 1075 ≤ dE (un x)
    · rw [if_neg (fun h => by have := (sge_neg a4).mp (c1.mp h); omega)]
      exact stay (Or.inl hE)
    · have hneg := (sge_neg a4).mpr hE
      rw [if_pos (c1.mpr hneg), sgn_and, iw_neg]
      have hQ : dQ (un x) < 0 := by
        unfold dQ
        split <;> omega
      have er : rwh way (un x) = dv (dS (un x)) (rQ way (dS (un x)) (dC (un x) / 2 ^ (-dQ (un x)).toNat) (dC (un x) % 2 ^ (-dQ (un x)).toNat) (2 ^ (-dQ (un x)).toNat)) 0 := by
        unfold rwh
        rw [if_neg (by omega)]
      obtain ⟨k, hk⟩ : ∃ k : Nat, (-dQ (un x)).toNat = k := ⟨_, rfl⟩
      obtain ⟨j, hj⟩ : ∃ j : Nat, 52 - (dC (un x)).log2 = j := ⟨_, rfl⟩
      have es : -sge (dC (un x)) (dQ (un x)) = ((k + j : Nat) : Int) := by omega
      have em : sgm (dC (un x)) = dC (un x) * 2 ^ j := by unfold sgm; rw [hj]
      rw [er, hk, es, em, ← rQ_scale (j := j)]
      rw [em] at g1 g2
      generalize dC (un x) * 2 ^ j = m at *
      have hkj : k + j < 2000 := by omega
      have hkj0 : 0 < k + j := by omega
      generalize k + j = K at *
      have c53 : ((53 : Int32) < iw (K : Int)) ↔ 53 < K := by rw [show (53 : Int32) = iw 53 from rfl, iw_lt (by omega) (by omega) (by omega) (by omega)]; omega
      unfold F_X16_rounded_b60
      by_cases h53 : 53 < K
      · rw [if_pos (c53.mpr h53), if_pos (c53.mpr h53)]
        have hp : 2 ^ 54 ≤ 2 ^ K := Nat.pow_le_pow_right (by decide) (by omega)
        have e0 : m / 2 ^ K = 0 := Nat.div_eq_of_lt (by omega)
        have e1 : m % 2 ^ K = m := Nat.mod_eq_of_lt (by omega)
        have := b83 (s := dS (un x)) (way := way) (m := m) (k := K) (W := m / 2 ^ K) (fr := m % 2 ^ K) hw g2 hkj0 hkj rfl rfl
        rw [e0, e1] at this ⊢
        exact this
      · rw [if_neg (fun h => h53 (c53.mp h)), if_neg (fun h => h53 (c53.mp h))]
        have hp : 2 ^ K ≤ 2 ^ 53 := Nat.pow_le_pow_right (by decide) (by omega)
        have hp0 := Nat.two_pow_pos K
        have e1 : j_lushr (nl m) (iw (K : Int)) = nl (m / 2 ^ K) := by rw [iw_nat, nl_ushr (by omega) (by omega)]
        have e2 : nl m &&& (j_lshl 1 (iw (K : Int)) - 1) = nl (m % 2 ^ K) := by
          rw [iw_nat, show (1 : Int64) = nl 1 from rfl, nl_shl (by omega), Nat.one_mul, nl_sub (by omega) (by omega), nl_mask (by omega) (by omega)]
        rw [e1, e2]
        exact b83 hw g2 hkj0 hkj rfl rfl
/-! the engine -/
theorem cmp_scale {a b c d : Int} {p q : Nat} (hp : 0 < p) (hq : 0 < q) (h1 : a * (p : Int) = c * (q : Int)) (h2 : b * (p : Int) = d * (q : Int)) : compare a b = compare c d := by
  have hp' : (0 : Int) < p := by omega
  have hq' : (0 : Int) < q := by omega
  refine cmp_of ?_ ?_
  · constructor
    · intro h
      have := Int.mul_lt_mul_of_pos_right h hp'
      rw [h1, h2] at this
      exact Int.lt_of_mul_lt_mul_right this (by omega)
    · intro h
      have := Int.mul_lt_mul_of_pos_right h hq'
      rw [← h1, ← h2] at this
      exact Int.lt_of_mul_lt_mul_right this (by omega)
  · constructor
    · intro h
      subst h
      exact Int.eq_of_mul_eq_mul_right (by omega) (h1.symm.trans h2)
    · intro h
      subst h
      exact Int.eq_of_mul_eq_mul_right (by omega) (h1.trans h2.symm)
/-- comparing doubles by value -/
theorem dv_ord {s t : Bool} {c d : Nat} {q k : Int} {b : UInt64} (ν : Int) (h1 : -1074 ≤ q) (hx : (c < 2 ^ 53 ∧ q ≤ 971) ∨ (c ≤ 2 ^ 53 ∧ q ≤ 970)) (hb : FP.Core.decode FP.Core.b64 b.toNat = .fin t d k) (n1 : ν ≤ q) (n2 : ν ≤ k) :
    FP.dcmp (dv s c q) b = some (compare (FP.Core.signed s (c * 2 ^ (q - ν).toNat)) (FP.Core.signed t (d * 2 ^ (k - ν).toNat))) := by
  obtain ⟨C, Q, e1, e2⟩ := rr_ex (s := s) h1 hx
  have e : FP.dcmp (dv s c q) b = FP.Core.order (FP.Core.decode FP.Core.b64 (dv s c q).toNat) (FP.Core.decode FP.Core.b64 b.toNat) := rfl
  rw [e, (dv_ok _ _ _).2, hb, e1]
  show some (compare (FP.Core.signed s (C * 2 ^ (Q - min Q k).toNat)) (FP.Core.signed t (d * 2 ^ (k - min Q k).toNat))) = _
  refine congrArg some ?_
  have hpx : ∀ a b : Nat, 2 ^ a * 2 ^ b = 2 ^ (a + b) := fun a b => (Nat.pow_add 2 a b).symm
  obtain ⟨ω, w1, w2, w3⟩ : ∃ ω : Int, ω ≤ ν ∧ ω ≤ Q ∧ ω ≤ min Q k := ⟨min ν (min Q k), by omega, by omega, by omega⟩
  have u5 : C * 2 ^ (Q - ω).toNat = c * 2 ^ (q - ω).toNat := by
    rcases Int.lt_or_le q Q with h | h
    · rw [show (q - Q).toNat = 0 by omega, Nat.pow_zero, Nat.mul_one] at e2
      rw [← e2, Nat.mul_assoc, hpx]; congr 2; omega
    · rw [show (Q - q).toNat = 0 by omega, Nat.pow_zero, Nat.mul_one] at e2
      rw [e2, Nat.mul_assoc, hpx]; congr 2; omega
  refine cmp_scale (p := 2 ^ (min Q k - ω).toNat) (q := 2 ^ (ν - ω).toNat) (Nat.two_pow_pos _) (Nat.two_pow_pos _) ?_ ?_
  · rw [← signed_mul, ← signed_mul, Nat.mul_assoc, hpx, Nat.mul_assoc, hpx, show (Q - min Q k).toNat + (min Q k - ω).toNat = (Q - ω).toNat by omega, u5, show (q - ν).toNat + (ν - ω).toNat = (q - ω).toNat by omega]
  · rw [← signed_mul, ← signed_mul, Nat.mul_assoc, hpx, Nat.mul_assoc, hpx, show (k - min Q k).toNat + (min Q k - ω).toNat = (k - ω).toNat by omega, show (k - ν).toNat + (ν - ω).toNat = (k - ω).toNat by omega]
theorem l2d_dv (v : Int64) : FP.l2d v = dv (decide (v.toInt < 0)) v.toInt.natAbs 0 := rfl
theorem i64_small {i : Int} (h1 : -2 ^ 63 ≤ i) (h2 : i < 2 ^ 63) : (Int64.ofInt i).toInt = i := Int64.toInt_ofInt_of_le (by omega) (by omega)
theorem sg_abs (s : Bool) (c : Nat) : (FP.Core.signed s c).natAbs = c := by
  cases s
  · exact Int.natAbs_natCast _
  · show (-(c : Int)).natAbs = c
    omega
theorem sg_neg (s : Bool) (c : Nat) : decide (FP.Core.signed s c < 0) = (s && decide (c ≠ 0)) := by
  cases s
  · show decide ((c : Int) < 0) = _
    rw [decide_eq_false (by omega)]
    rfl
  · show decide (-(c : Int) < 0) = _
    rw [Bool.true_and]
    by_cases h : c = 0
    · rw [decide_eq_false (by omega), decide_eq_false (by omega)]
    · rw [decide_eq_true (by omega), decide_eq_true (by omega)]
/-- a double below 2 ^ 52: its whole part and what is left -/
theorem small_q {n : Nat} (hE : ¬ 1075 ≤ dE n) : dQ n < 0 ∧ -1074 ≤ dQ n := by
  unfold dQ
  split <;> omega
theorem d2l_small {n : Nat} (hn : n < 2 ^ 64) (hE : ¬ 1075 ≤ dE n) : FP.d2l (UInt64.ofNat n) = Int64.ofInt (FP.Core.signed (dS n) (dC n / 2 ^ (-dQ n).toNat)) := by
  have e1 : (UInt64.ofNat n).toNat = n := UInt64.toNat_ofNat_of_lt' hn
  obtain ⟨q1, q2⟩ := small_q hE
  show Int64.ofInt (FP.Core.toInt (-2 ^ 63) (2 ^ 63 - 1) (FP.Core.decode FP.Core.b64 (UInt64.ofNat n).toNat)) = _
  rw [e1, dec_fin hn (by omega)]
  refine congrArg Int64.ofInt ?_
  show max (-2 ^ 63 : Int) (min (2 ^ 63 - 1) (FP.Core.signed (dS n) (dC n * 2 ^ (dQ n).toNat / 2 ^ (-dQ n).toNat))) = _
  rw [show (dQ n).toNat = 0 by omega, Nat.pow_zero, Nat.mul_one]
  have h1 := Nat.div_le_self (dC n) (2 ^ (-dQ n).toNat)
  have h2 := dC_lt n
  generalize dC n / 2 ^ (-dQ n).toNat = W at *
  cases dS n
  · show max (-2 ^ 63 : Int) (min (2 ^ 63 - 1) (W : Int)) = (W : Int)
    omega
  · show max (-2 ^ 63 : Int) (min (2 ^ 63 - 1) (-(W : Int))) = -(W : Int)
    omega
theorem l2d_sg {s : Bool} {W : Nat} (h : W < 2 ^ 60) : FP.l2d (Int64.ofInt (FP.Core.signed s W)) = dv (s && decide (W ≠ 0)) W 0 := by
  have hb : -2 ^ 63 ≤ FP.Core.signed s W ∧ FP.Core.signed s W < 2 ^ 63 := by
    have := sg_abs s W
    omega
  rw [l2d_dv, i64_small hb.1 hb.2, sg_abs, sg_neg]
theorem dv_self {n : Nat} (hn : n < 2 ^ 64) (h3 : dE n ≠ 2047) : UInt64.ofNat n = dv (dS n) (dC n) (dQ n) := by
  have h4 : okd n := by
    unfold okd
    have h5 : n % 2 ^ 63 = dE n * 2 ^ 52 + dT n := by unfold dE dT; omega
    have h6 : dE n < 2048 := Nat.mod_lt _ (by decide)
    have h7 : dT n < 2 ^ 52 := Nat.mod_lt _ (by decide)
    omega
  have e1 : (UInt64.ofNat n).toNat = n := UInt64.toNat_ofNat_of_lt' hn
  have := bd_dec (a := UInt64.ofNat n) (by rw [e1]; exact h4)
  rw [e1, dec_fin hn h3] at this
  rw [← this]
  unfold dv
  refine congrArg bd ?_
  have hf : FP.Core.fits FP.Core.b64 (.fin (dS n) (dC n) (dQ n)) := by
    rw [← dec_fin hn h3]
    unfold FP.Core.decode
    split
    · split <;> trivial
    · rename_i h
      have ht : FP.Core.fieldT FP.Core.b64 n < 2 ^ 52 := Nat.mod_lt _ (by decide)
      have he : FP.Core.fieldE FP.Core.b64 n < 2048 := Nat.mod_lt _ (by decide)
      have h' : FP.Core.fieldE FP.Core.b64 n ≠ 2047 := h
      split
      · exact ⟨by show _ < 2 ^ 53; omega, by decide, by decide, Or.inl rfl⟩
      · rename_i h2
        refine ⟨?_, ?_, ?_, Or.inr ?_⟩
        · show 2 ^ 52 + _ < 2 ^ 53; omega
        · show (-1074 : Int) ≤ -1074 + _; omega
        · show (-1074 : Int) + _ ≤ 971; omega
        · show 2 ^ 52 ≤ 2 ^ 52 + _; omega
  exact (fits_rr f64.1 f64.2.1 (by decide) hf).symm
theorem rest_small {n : Nat} (hn : n < 2 ^ 64) (hE : ¬ 1075 ≤ dE n) : ∃ t : Bool, FP.dsub (UInt64.ofNat n) (FP.l2d (FP.d2l (UInt64.ofNat n))) = dv t (dC n % 2 ^ (-dQ n).toNat) (dQ n) ∧ (dC n % 2 ^ (-dQ n).toNat = 0 ∨ t = dS n) := by
  obtain ⟨q1, q2⟩ := small_q hE
  have hc := dC_lt n
  have e0 : (UInt64.ofNat n).toNat = n := UInt64.toNat_ofNat_of_lt' hn
  have hWc := Nat.div_le_self (dC n) (2 ^ (-dQ n).toNat)
  have hdm := Nat.div_add_mod (dC n) (2 ^ (-dQ n).toNat)
  have hdec := dec_fin hn (show dE n ≠ 2047 by omega)
  rw [d2l_small hn hE, l2d_sg (by omega)]
  have e1 : ∀ b : UInt64, FP.dsub (UInt64.ofNat n) b = bd (FP.Core.round FP.Core.b64 (FP.Core.exactSum (FP.Core.decode FP.Core.b64 (UInt64.ofNat n).toNat) (FP.Core.negate (FP.Core.decode FP.Core.b64 b.toNat)))) := fun _ => rfl
  rw [e1, e0, hdec, (dv_ok _ _ _).2]
  generalize dC n = c at *
  generalize dS n = s at *
  generalize dQ n = q at *
  obtain ⟨k, hk⟩ : ∃ k : Nat, (-q).toNat = k := ⟨_, rfl⟩
  rw [hk] at hWc hdm ⊢
  generalize c / 2 ^ k = W at *
  generalize c % 2 ^ k = fr at *
  obtain ⟨C, Q, f1, f2⟩ := rr_ex (s := s && decide (W ≠ 0)) (c := W) (q := 0) (by decide) (Or.inl ⟨by omega, by decide⟩)
  rw [f1]
  show ∃ t, bd (FP.Core.round FP.Core.b64 (FP.Core.exactSum (.fin s c q) (.fin (!(s && decide (W ≠ 0))) C Q))) = _ ∧ _
  obtain ⟨ν, n1, n2⟩ : ∃ ν : Int, ν ≤ q ∧ ν ≤ Q := ⟨min q Q, by omega, by omega⟩
  rw [sum_round ν n1 n2]
  have hpx : ∀ a b : Nat, 2 ^ a * 2 ^ b = 2 ^ (a + b) := fun a b => (Nat.pow_add 2 a b).symm
  have u1 : C * 2 ^ (Q - ν).toNat = W * 2 ^ (-ν).toNat := by
    rcases Int.lt_or_le 0 Q with h | h
    · rw [show (0 - Q).toNat = 0 by omega, Nat.pow_zero, Nat.mul_one] at f2
      rw [← f2, Nat.mul_assoc, hpx]; congr 2; omega
    · rw [show (Q - 0).toNat = 0 by omega, Nat.pow_zero, Nat.mul_one] at f2
      rw [f2, Nat.mul_assoc, hpx]; congr 2; omega
  have u2 : c * 2 ^ (q - ν).toNat = W * 2 ^ (-ν).toNat + fr * 2 ^ (q - ν).toNat := by
    rw [← hdm, Nat.add_mul, Nat.mul_comm (2 ^ k) W, Nat.mul_assoc, hpx]
    congr 4
    omega
  have u3 : FP.Core.signed s (c * 2 ^ (q - ν).toNat) + FP.Core.signed (!(s && decide (W ≠ 0))) (C * 2 ^ (Q - ν).toNat) = FP.Core.signed s (fr * 2 ^ (q - ν).toNat) := by
    rw [u1, u2]
    cases s with
    | false =>
      show ((W * 2 ^ (-ν).toNat + fr * 2 ^ (q - ν).toNat : Nat) : Int) + -((W * 2 ^ (-ν).toNat : Nat) : Int) = ((fr * 2 ^ (q - ν).toNat : Nat) : Int)
      omega
    | true =>
      by_cases hW : W = 0
      · rw [decide_eq_false (show ¬ W ≠ 0 by omega), hW, Nat.zero_mul, Nat.zero_add]
        show -((fr * 2 ^ (q - ν).toNat : Nat) : Int) + -((0 : Nat) : Int) = -((fr * 2 ^ (q - ν).toNat : Nat) : Int)
        omega
      · rw [decide_eq_true (show W ≠ 0 by omega)]
        show -((W * 2 ^ (-ν).toNat + fr * 2 ^ (q - ν).toNat : Nat) : Int) + ((W * 2 ^ (-ν).toNat : Nat) : Int) = -((fr * 2 ^ (q - ν).toNat : Nat) : Int)
        omega
  rw [u3, sg_abs]
  have hr : ∀ t : Bool, bd (FP.Core.roundRatio FP.Core.b64 t (fr * 2 ^ (q - ν).toNat) 1 ν) = dv t fr q := by
    intro t
    unfold dv
    refine congrArg bd (rr_congr (by decide) (by decide) ?_)
    rw [Nat.mul_one, Nat.mul_one, show (ν - q).toNat = 0 by omega, Nat.pow_zero, Nat.mul_one]
  rw [hr]
  refine ⟨_, rfl, ?_⟩
  by_cases hf : fr = 0
  · exact Or.inl hf
  · refine Or.inr ?_
    have hp : fr * 2 ^ (q - ν).toNat ≠ 0 := Nat.mul_ne_zero hf (Nat.ne_of_gt (Nat.two_pow_pos _))
    generalize fr * 2 ^ (q - ν).toNat = Y at *
    unfold FP.Core.sumSign
    rw [if_neg (by have := sg_abs s Y; omega), sg_neg, decide_eq_true hp, Bool.and_true]
theorem c_h : FP.Core.decode FP.Core.b64 (4602678819172646912 : UInt64).toNat = .fin false (2 ^ 52) (-53) := by decide
theorem c_mh : FP.Core.decode FP.Core.b64 (13826050856027422720 : UInt64).toNat = .fin true (2 ^ 52) (-53) := by decide
/-- what is left against a half -/
theorem half_cmp {s t : Bool} {fr k : Nat} {q : Int} (hq : (-q).toNat = k) (q1 : q < 0) (q2 : -1074 ≤ q) (hf : fr < 2 ^ 53) (ht : fr = 0 ∨ t = s) (op : CmpOp) :
    ((0 < j_dcmp (dv t fr q) 4602678819172646912 op ↔ s = false ∧ 2 ^ k < 2 * fr) ∧ (j_dcmp (dv t fr q) 4602678819172646912 op = 0 ↔ s = false ∧ 2 * fr = 2 ^ k)) ∧
    ((j_dcmp (dv t fr q) 13826050856027422720 op < 0 ↔ s = true ∧ 2 ^ k < 2 * fr) ∧ (j_dcmp (dv t fr q) 13826050856027422720 op = 0 ↔ s = true ∧ 2 * fr = 2 ^ k)) := by
  obtain ⟨ν, n1, n2⟩ : ∃ ν : Int, ν ≤ q ∧ ν ≤ -53 := ⟨min q (-53), by omega, by omega⟩
  have o1 := dv_ord (s := t) (c := fr) (q := q) ν q2 (Or.inl ⟨hf, by omega⟩) c_h n1 n2
  have o2 := dv_ord (s := t) (c := fr) (q := q) ν q2 (Or.inl ⟨hf, by omega⟩) c_mh n1 n2
  have hpx : ∀ a b : Nat, 2 ^ a * 2 ^ b = 2 ^ (a + b) := fun a b => (Nat.pow_add 2 a b).symm
  have hH : 2 * (2 ^ 52 * 2 ^ (-53 - ν).toNat) = 2 ^ k * 2 ^ (q - ν).toNat := by
    rw [hpx, hpx, show 2 * 2 ^ (52 + (-53 - ν).toNat) = 2 ^ (52 + (-53 - ν).toNat + 1) by rw [Nat.pow_succ]; omega]
    congr 1
    omega
  have hX := Nat.two_pow_pos (q - ν).toNat
  generalize 2 ^ (q - ν).toNat = X at *
  generalize 2 ^ 52 * 2 ^ (-53 - ν).toNat = H at *
  have hP := Nat.two_pow_pos k
  generalize 2 ^ k = P at *
  have hHp : 0 < H := by
    have := Nat.mul_pos hP hX
    omega
  have l1 : H < fr * X ↔ P < 2 * fr := by
    rw [← Nat.mul_lt_mul_left (a := 2) (by decide), hH, ← Nat.mul_assoc, Nat.mul_lt_mul_right hX]
  have l2 : fr * X = H ↔ 2 * fr = P := by
    constructor
    · intro h
      refine Nat.mul_right_cancel hX ?_
      rw [← hH, ← h, Nat.mul_assoc]
    · intro h
      have : 2 * (fr * X) = 2 * H := by rw [hH, ← h, Nat.mul_assoc]
      omega
  have v0 : fr = 0 → fr * X = 0 := fun h => by rw [h, Nat.zero_mul]
  obtain ⟨-, a2, a3⟩ := jd_lt o1 op
  obtain ⟨b1, -, b3⟩ := jd_lt o2 op
  rw [a2, a3, b1, b3]
  have sf : ∀ z : Nat, FP.Core.signed false z = (z : Int) := fun _ => rfl
  have st : ∀ z : Nat, FP.Core.signed true z = -(z : Int) := fun _ => rfl
  rw [sf, st]
  generalize fr * X = Y at *
  rcases ht with h | h
  · have := v0 h
    cases t <;> cases s <;> simp only [sf, st] <;> refine ⟨⟨?_, ?_⟩, ?_, ?_⟩ <;> constructor <;> intro hh <;> first | (exfalso; omega) | (exact absurd hh.1 (by decide)) | (obtain ⟨-, hh⟩ := hh; exfalso; omega)
  · subst h
    cases t <;> simp only [sf, st] <;> refine ⟨⟨?_, ?_⟩, ?_, ?_⟩ <;> constructor <;> intro hh <;> first | (exact absurd hh.1 (by decide)) | (obtain ⟨-, hh⟩ := hh; omega) | (exact ⟨by first | rfl | trivial, by omega⟩) | (exfalso; omega)
theorem dv_m0 : dv true 0 0 = 9223372036854775808 := by decide +kernel
theorem sg_ne0 {s : Bool} {Q : Nat} (h0 : Q ≠ 0) (h : Q < 2 ^ 60) : Int64.ofInt (FP.Core.signed s Q) ≠ 0 := by
  intro hh
  have := congrArg Int64.toInt hh
  have hb := sg_abs s Q
  rw [i64_small (by omega) (by omega)] at this
  have : FP.Core.signed s Q = 0 := this
  omega
theorem near_b87 {n Q : Nat} (hn : n < 2 ^ 64) (hx : okd n) (h : Q < 2 ^ 60) : F_X20_nearest_b87 (UInt64.ofNat n) (Int64.ofInt (FP.Core.signed (dS n) Q)) = some (dv (dS n) Q 0) := by
  have e0 : (UInt64.ofNat n).toNat = n := UInt64.toNat_ofNat_of_lt' hn
  unfold F_X20_nearest_b87 F_X20_nearest_b108 F_X20_nearest_b114 F_X20_nearest_b116
  by_cases h0 : Q = 0
  · subst h0
    have ez : Int64.ofInt (FP.Core.signed (dS n) 0) = 0 := by cases dS n <;> rfl
    rw [ez, if_pos rfl]
    have c0 : FP.dcmp (UInt64.ofNat n) 0 = some (compare (rk n) (rk 0)) := by
      have := order_ok hn (n := 0) (by decide) hx (by unfold okd; decide)
      show FP.Core.order (FP.Core.decode FP.Core.b64 (UInt64.ofNat n).toNat) _ = _
      rw [e0]
      exact this
    have k0 := (jd_lt c0 .g).1
    have r0 : rk 0 = 0 := by decide
    rw [r0] at k0
    have hnd : nd2l (UInt64.ofNat n) = some (nl n) := by
      unfold nd2l
      rw [if_pos (xn64 (by rw [e0]; exact hx))]
      rfl
    have hng := neg_iff (nl n)
    rw [un_nl' hn] at hng
    rw [hnd]
    simp only [Option.bind_some]
    cases hs : dS n with
    | true =>
      rw [dv_m0]
      by_cases hd : j_dcmp (UInt64.ofNat n) 0 .g < 0
      · rw [if_pos hd]
      · rw [if_neg hd, if_pos (hng.mpr hs)]
    | false =>
      rw [if_neg (fun hh => by
        have := k0.mp hh
        unfold rk at this
        rw [hs, if_neg (by decide)] at this
        omega), if_neg (fun hh => by rw [hng.mp hh] at hs; cases hs)]
      rfl
  · rw [if_neg (sg_ne0 h0 h), l2d_sg h, decide_eq_true h0, Bool.and_true]
theorem sg_odd {s : Bool} {W : Nat} (h : W < 2 ^ 60) : Int64.ofInt (FP.Core.signed s W) &&& 1 = 1 ↔ W % 2 = 1 := by
  have e : ∃ m : Nat, Int64.ofInt (FP.Core.signed s W) = nl m ∧ m < 2 ^ 64 ∧ m % 2 = W % 2 := by
    cases s
    · exact ⟨W, (nl_ofInt W).symm, by omega, rfl⟩
    · by_cases h0 : W = 0
      · subst h0
        exact ⟨0, rfl, by decide, rfl⟩
      · refine ⟨2 ^ 64 - W, ?_, by omega, by omega⟩
        show Int64.ofInt (-(W : Int)) = _
        rw [← nl_neg (by omega)]
        refine un_inj ?_
        rw [un_nl' (by omega)]
        have : un (-nl W) = (2 ^ 64 - un (nl W)) % 2 ^ 64 := BitVec.toNat_neg _
        rw [this, un_nl' (by omega), Nat.mod_eq_of_lt (by omega)]
  obtain ⟨m, e1, e2, e3⟩ := e
  rw [e1, nl_and1 e2, show (1 : Int64) = nl 1 from rfl, nl_eq (by omega) (by decide), e3]
theorem sg_up (s : Bool) (W : Nat) : (if s = true then Int64.ofInt (FP.Core.signed s W) - 1 else Int64.ofInt (FP.Core.signed s W) + 1) = Int64.ofInt (FP.Core.signed s (W + 1)) := by
  cases s
  · rw [if_neg (by decide), show (1 : Int64) = Int64.ofInt 1 from rfl, ← Int64.ofInt_add]
    rfl
  · rw [if_pos rfl, show (1 : Int64) = Int64.ofInt 1 from rfl, ← Int64.ofInt_sub]
    refine congrArg Int64.ofInt ?_
    show -(W : Int) - 1 = -((W + 1 : Nat) : Int)
    omega
theorem in_52 {n : Nat} (hn : n < 2 ^ 64) (hx : okd n) (a b : CmpOp) : (j_dcmp (UInt64.ofNat n) 4841369599423283200 a < 0 ∧ 0 < j_dcmp (UInt64.ofNat n) 14064741636278059008 b) ↔ ¬ 1075 ≤ dE n := by
  have e0 : (UInt64.ofNat n).toNat = n := UInt64.toNat_ofNat_of_lt' hn
  have c1 : FP.dcmp (UInt64.ofNat n) 4841369599423283200 = some (compare (rk n) (rk 4841369599423283200)) := by
    have := order_ok hn (n := 4841369599423283200) (by decide) hx (by unfold okd; decide)
    show FP.Core.order (FP.Core.decode FP.Core.b64 (UInt64.ofNat n).toNat) _ = _
    rw [e0]
    exact this
  have c2 : FP.dcmp (UInt64.ofNat n) 14064741636278059008 = some (compare (rk n) (rk 14064741636278059008)) := by
    have := order_ok hn (n := 14064741636278059008) (by decide) hx (by unfold okd; decide)
    show FP.Core.order (FP.Core.decode FP.Core.b64 (UInt64.ofNat n).toNat) _ = _
    rw [e0]
    exact this
  rw [(jd_lt c1 a).1, (jd_lt c2 b).2.1, show rk 4841369599423283200 = 4841369599423283200 by decide, show rk 14064741636278059008 = -4841369599423283200 by decide]
  have h5 : n % 2 ^ 63 = dE n * 2 ^ 52 + dT n := by unfold dE dT; omega
  have h7 : dT n < 2 ^ 52 := Nat.mod_lt _ (by decide)
  unfold rk
  split <;> omega
theorem X20_nearest {n : Nat} (hn : n < 2 ^ 64) (hx : okd n) : F_X20_nearest (UInt64.ofNat n) = some (rwh 2 n) := by
  have hin := in_52 hn hx .l .g
  unfold F_X20_nearest F_X20_nearest_b16
  by_cases hE : 1075 ≤ dE n
  · have er : rwh 2 n = UInt64.ofNat n := by unfold rwh; rw [if_pos (Or.inl hE)]
    rw [er]
    by_cases h1 : j_dcmp (UInt64.ofNat n) 4841369599423283200 .l < 0
    · rw [if_pos h1, if_neg (fun h2 => hin.mp ⟨h1, h2⟩ hE)]
    · rw [if_neg h1]
  · obtain ⟨h1, h2⟩ := hin.mpr hE
    rw [if_pos h1, if_pos h2]
    obtain ⟨t, hr, ht⟩ := rest_small hn hE
    obtain ⟨q1, q2⟩ := small_q hE
    have hc := dC_lt n
    have hWc := Nat.div_le_self (dC n) (2 ^ (-dQ n).toNat)
    have hfc := Nat.mod_le (dC n) (2 ^ (-dQ n).toNat)
    simp only [hr, dv_x, if_true]
    rw [d2l_small hn hE]
    have er : some (rwh 2 n) = some (dv (dS n) (rQ 2 (dS n) (dC n / 2 ^ (-dQ n).toNat) (dC n % 2 ^ (-dQ n).toNat) (2 ^ (-dQ n).toNat)) 0) := by
      unfold rwh
      by_cases hz : n % 2 ^ 63 = 0
      · rw [if_pos (Or.inr hz)]
        have c0 : dC n = 0 := by
          unfold dC dE dT
          rw [if_pos (by omega)]
          omega
        rw [c0, Nat.zero_div, Nat.zero_mod]
        have : rQ 2 (dS n) 0 0 (2 ^ (-dQ n).toNat) = 0 := by
          unfold rQ rUp
          have := Nat.two_pow_pos (-dQ n).toNat
          rw [if_pos rfl, decide_eq_false (by omega)]
          rfl
        rw [this, dv_self hn (by omega), c0]
        refine congrArg some (dv_congr ?_)
        rw [Nat.zero_mul, Nat.zero_mul]
      · rw [if_neg (by omega)]
    rw [er]
    obtain ⟨k, hk⟩ : ∃ k : Nat, (-dQ n).toNat = k := ⟨_, rfl⟩
    rw [hk] at hWc hfc ht ⊢
    have b87 := fun (Q : Nat) (h : Q < 2 ^ 60) => near_b87 hn hx h
    have H1 := fun op => half_cmp (s := dS n) hk q1 q2 (by omega) ht op
    generalize dC n / 2 ^ k = W at *
    generalize dC n % 2 ^ k = fr at *
    have hup : rUp 2 (dS n) W fr (2 ^ k) = decide (2 ^ k < 2 * fr ∨ (2 * fr = 2 ^ k ∧ W % 2 = 1)) := by unfold rUp; rw [if_pos rfl]
    have stay : ¬ (2 ^ k < 2 * fr ∨ (2 * fr = 2 ^ k ∧ W % 2 = 1)) → F_X20_nearest_b87 (UInt64.ofNat n) (Int64.ofInt (FP.Core.signed (dS n) W)) = some (dv (dS n) (rQ 2 (dS n) W fr (2 ^ k)) 0) := by
      intro h
      unfold rQ
      rw [hup, decide_eq_false h, if_neg (by decide)]
      exact b87 W (by omega)
    have go : (2 ^ k < 2 * fr ∨ (2 * fr = 2 ^ k ∧ W % 2 = 1)) → F_X20_nearest_b87 (UInt64.ofNat n) (Int64.ofInt (FP.Core.signed (dS n) (W + 1))) = some (dv (dS n) (rQ 2 (dS n) W fr (2 ^ k)) 0) := by
      intro h
      unfold rQ
      rw [hup, decide_eq_true h, if_pos rfl]
      exact b87 (W + 1) (by omega)
    have su := sg_up (dS n) W
    have so := sg_odd (s := dS n) (W := W) (by omega)
    unfold F_X20_nearest_b53 F_X20_nearest_b57 F_X20_nearest_b83
    simp only [so, (H1 .l).1.1, (H1 .l).1.2, (H1 .g).2.1, (H1 .l).2.2]
    cases hs : dS n with
    | false =>
      rw [hs] at stay go su
      rw [if_neg (by decide)] at su
      rw [su]
      simp only [true_and, Bool.false_eq_true, false_and, if_false]
      by_cases g1 : 2 ^ k < 2 * fr
      · rw [if_pos g1]; exact go (Or.inl g1)
      · rw [if_neg g1]
        by_cases g2 : 2 * fr = 2 ^ k
        · rw [if_pos g2]
          by_cases g3 : W % 2 = 1
          · rw [if_pos g3]; exact go (Or.inr ⟨g2, g3⟩)
          · rw [if_neg g3]; exact stay (by omega)
        · rw [if_neg g2]; exact stay (by omega)
    | true =>
      rw [hs] at stay go su
      rw [if_pos rfl] at su
      rw [su]
      simp only [true_and, Bool.true_eq_false, false_and, if_false]
      by_cases g1 : 2 ^ k < 2 * fr
      · rw [if_pos g1]; exact go (Or.inl g1)
      · rw [if_neg g1]
        by_cases g2 : 2 * fr = 2 ^ k
        · rw [if_pos g2]
          by_cases g3 : W % 2 = 1
          · rw [if_pos g3]; exact go (Or.inr ⟨g2, g3⟩)
          · rw [if_neg g3]; exact stay (by omega)
        · rw [if_neg g2]; exact stay (by omega)
