/-! ===== FLOATS, 9: Soft's add is dadd ===== -/
/-- a finite double rounded is itself -/
theorem enc_id {n : Nat} (hn : n < 2 ^ 64) (h : dE n ≠ 2047) (h0 : dC n ≠ 0) : FP.Core.encode FP.Core.b64 (FP.Core.roundRatio FP.Core.b64 (dS n) (dC n) 1 (dQ n)) = n := by
  have hE : dE n < 2048 := Nat.mod_lt _ (by decide)
  have hT : dT n < 2 ^ 52 := Nat.mod_lt _ (by decide)
  have hc := dC_lt n
  obtain ⟨b1, b2⟩ := log_bd (show 0 < dC n by omega)
  have hlead : FP.Core.leading (dC n) 1 = ((dC n).log2 : Int) := lead_of (by decide) (by omega) (by omega)
  have hq : FP.Core.quantum FP.Core.b64 (dC n) 1 (dQ n) = dQ n := by
    unfold FP.Core.quantum
    rw [hlead, show FP.Core.b64.qmin = -1074 by decide, show ((FP.Core.b64.p : Int) - 1) = 52 by decide]
    by_cases hz : dE n = 0
    · have e1 : dQ n = -1074 := if_pos hz
      have e2 : dC n = dT n := if_pos hz
      have : (dC n).log2 < 52 := by
        have h5 : 2 ^ (dC n).log2 < 2 ^ 52 := by omega
        exact (Nat.pow_lt_pow_iff_right (by decide : 1 < 2)).mp h5
      omega
    · have e1 : dQ n = (dE n : Int) - 1075 := if_neg hz
      have e2 : dC n = 2 ^ 52 + dT n := if_neg hz
      have : (dC n).log2 = 52 := by rw [e2]; exact log2_53 hT
      omega
  unfold FP.Core.roundRatio
  rw [if_neg h0, hq]
  unfold FP.Core.roundAt FP.Core.unitsNum FP.Core.unitsDen
  rw [Int.sub_self, show (0 : Int).toNat = 0 from rfl, Nat.pow_zero, Nat.mul_one, Nat.mul_one]
  have hnear : FP.Core.nearest (dC n) 1 = dC n := (near_char (A := dC n) (B := 1) (Q := dC n) (by omega) (by omega)).1 (by omega)
  rw [hnear]
  unfold FP.Core.settle
  rw [if_pos (show dC n < 2 ^ FP.Core.b64.p from hc)]
  unfold FP.Core.bound
  have hqx : dQ n ≤ FP.Core.b64.qmax := by
    rw [show FP.Core.b64.qmax = 971 by decide]
    unfold dQ
    split <;> omega
  rw [if_pos hqx]
  show (if dC n < 2 ^ 52 then FP.Core.assemble FP.Core.b64 (dS n) 0 (dC n) else FP.Core.assemble FP.Core.b64 (dS n) ((dQ n - FP.Core.b64.qmin).toNat + 1) (dC n - 2 ^ 52)) = n
  rw [show FP.Core.b64.qmin = -1074 by decide]
  have asm : ∀ e t : Nat, FP.Core.assemble FP.Core.b64 (dS n) e t = (if dS n = true then 2 ^ 63 else 0) + e * 2 ^ 52 + t := fun e t => by
    show ((dS n).toNat * 2 ^ 11 + e) * 2 ^ 52 + t = _
    cases dS n <;> simp <;> omega
  have hS : (if dS n = true then 2 ^ 63 else 0) = n / 2 ^ 63 * 2 ^ 63 := by
    unfold dS
    by_cases hs : 2 ^ 63 ≤ n
    · rw [if_pos (decide_eq_true hs)]; omega
    · rw [if_neg (by rw [decide_eq_true_iff]; exact hs)]; omega
  by_cases hz : dE n = 0
  · have e2 : dC n = dT n := if_pos hz
    rw [if_pos (by omega), asm, hS, e2]
    unfold dE dT at *
    omega
  · have e1 : dQ n = (dE n : Int) - 1075 := if_neg hz
    have e2 : dC n = 2 ^ 52 + dT n := if_neg hz
    rw [if_neg (by omega), asm, hS, e2, e1, show ((dE n : Int) - 1075 - -1074).toNat + 1 = dE n by omega]
    unfold dE dT at *
    omega
theorem enc_inf {n : Nat} (hn : n < 2 ^ 64) (h : n % 2 ^ 63 = 2047 * 2 ^ 52) : FP.Core.encode FP.Core.b64 (.inf (dS n)) = n := by
  show ((dS n).toNat * 2 ^ 11 + 2047) * 2 ^ 52 + 0 = n
  unfold dS
  by_cases hs : 2 ^ 63 ≤ n
  · rw [decide_eq_true hs]
    show (1 * 2 ^ 11 + 2047) * 2 ^ 52 + 0 = n
    omega
  · rw [decide_eq_false hs]
    show (0 * 2 ^ 11 + 2047) * 2 ^ 52 + 0 = n
    omega
theorem enc_zero (s : Bool) (q : Int) : FP.Core.encode FP.Core.b64 (FP.Core.roundRatio FP.Core.b64 s 0 1 q) = if s = true then 2 ^ 63 else 0 := by
  unfold FP.Core.roundRatio
  rw [if_pos rfl]
  cases s <;> decide
theorem zero_bits {n : Nat} (hn : n < 2 ^ 64) (h : n % 2 ^ 63 = 0) : n = if dS n = true then 2 ^ 63 else 0 := by
  unfold dS
  by_cases hs : 2 ^ 63 ≤ n
  · rw [if_pos (decide_eq_true hs)]; omega
  · rw [if_neg (by rw [decide_eq_true_iff]; exact hs)]; omega
/-- a finite double and a zero -/
theorem sum_zero {s t : Bool} {c : Nat} {q r : Int} (h0 : 0 < c) : FP.Core.round FP.Core.b64 (FP.Core.exactSum (.fin s c q) (.fin t 0 r)) = FP.Core.roundRatio FP.Core.b64 s c 1 q := by
  rw [sum_round (min q r) (by omega) (by omega), Nat.zero_mul]
  have e : FP.Core.signed s (c * 2 ^ (q - min q r).toNat) + FP.Core.signed t 0 = FP.Core.signed s (c * 2 ^ (q - min q r).toNat) := by
    cases t <;> simp [FP.Core.signed]
  have hp : 0 < c * 2 ^ (q - min q r).toNat := Nat.mul_pos h0 (Nat.two_pow_pos _)
  rw [e, sgn_pos hp]
  have habs : ∀ V : Nat, (FP.Core.signed s V).natAbs = V := fun V => by
    unfold FP.Core.signed
    cases s <;> simp
  rw [habs]
  refine rr_congr (by decide) (by decide) ?_
  rw [show (min q r - q).toNat = 0 by omega, Nat.pow_zero, Nat.mul_one, Nat.mul_one, Nat.mul_one]
theorem X24_add {a b : Int64} (ha : okd (un a)) (hb : okd (un b)) (hi : un a % 2 ^ 63 = 2047 * 2 ^ 52 → un b % 2 ^ 63 = 2047 * 2 ^ 52 → dS (un a) = dS (un b)) : F_X24_add a b = some ((FP.dadd a.toUInt64 b.toUInt64).toInt64) := by
  have eD : (FP.dadd a.toUInt64 b.toUInt64).toInt64 = nl (FP.Core.encode FP.Core.b64 (FP.Core.round FP.Core.b64 (FP.Core.exactSum (FP.Core.decode FP.Core.b64 (un a)) (FP.Core.decode FP.Core.b64 (un b))))) := rfl
  rw [eD]
  have la := un_lt a
  have lb := un_lt b
  have mt : mr true ≠ 0 := by decide
  have mf : mr false = 0 := by decide
  unfold F_X24_add
  rw [X24_isInfinite]
  simp only [Option.bind_some]
  rcases okd_cases la ha with ⟨a1, a2, a3⟩ | ⟨a1, a2, a3⟩ | ⟨a1, a2, a3, a4⟩
  · -- an infinity and anything
    rw [decide_eq_true a1, if_neg mt]
    unfold F_X24_add_b14 F_X24_add_b34 F_X24_add_b35
    rw [X24_isZero, decide_eq_false (by omega)]
    simp only [Option.bind_some]
    rw [if_pos mf, dec_inf la a2 a3]
    have hres : FP.Core.round FP.Core.b64 (FP.Core.exactSum (.inf (dS (un a))) (FP.Core.decode FP.Core.b64 (un b))) = .inf (dS (un a)) := by
      rcases okd_cases lb hb with ⟨b1, b2, b3⟩ | ⟨b1, b2, b3⟩ | ⟨b1, b2, b3, b4⟩
      · rw [dec_inf lb b2 b3, ← hi a1 b1]
        show FP.Core.round FP.Core.b64 (if dS (un a) = dS (un a) then .inf (dS (un a)) else .nan) = _
        rw [if_pos rfl]
        rfl
      · rw [dec_fin lb (by omega)]; rfl
      · rw [dec_fin lb b3]; rfl
    rw [hres, enc_inf la a1, nl_un]
  · -- a zero and anything
    have hna : ¬ un a % 2 ^ 63 = 2047 * 2 ^ 52 := by omega
    rw [decide_eq_false hna, if_pos mf, X24_isZero b]
    simp only [Option.bind_some]
    rw [dec_fin la (by omega), a2]
    rcases okd_cases lb hb with ⟨b1, b2, b3⟩ | ⟨b1, b2, b3⟩ | ⟨b1, b2, b3, b4⟩
    · rw [decide_eq_false (by omega), if_pos mf, X24_isInfinite, decide_eq_true b1]
      simp only [Option.bind_some]
      rw [if_neg mt, dec_inf lb b2 b3]
      unfold F_X24_add_b50
      have hres : FP.Core.round FP.Core.b64 (FP.Core.exactSum (.fin (dS (un a)) 0 (dQ (un a))) (.inf (dS (un b)))) = .inf (dS (un b)) := rfl
      rw [hres, enc_inf lb b1, nl_un]
    · rw [decide_eq_true b1, if_neg mt]
      unfold F_X24_add_b14 F_X24_add_b35
      rw [X24_isZero, X24_isZero, decide_eq_true a1, decide_eq_true b1]
      simp only [Option.bind_some]
      rw [if_neg mt, if_neg mt, dec_fin lb (by omega), b2, sum_round (min (dQ (un a)) (dQ (un b))) (by omega) (by omega), Nat.zero_mul, Nat.zero_mul]
      have e0 : FP.Core.signed (dS (un a)) 0 + FP.Core.signed (dS (un b)) 0 = 0 := by
        cases dS (un a) <;> cases dS (un b) <;> rfl
      rw [e0]
      show _ = some (nl (FP.Core.encode FP.Core.b64 (FP.Core.roundRatio FP.Core.b64 (dS (un a) && dS (un b)) 0 1 (min (dQ (un a)) (dQ (un b))))))
      rw [enc_zero]
      refine congrArg some (un_inj ?_)
      rw [un_and, zero_bits la a1, zero_bits lb b1]
      generalize dS (un a) = s
      generalize dS (un b) = t
      cases s <;> cases t <;> decide
    · rw [decide_eq_false b2, if_pos mf, X24_isInfinite, decide_eq_false b1]
      simp only [Option.bind_some]
      rw [if_pos mf, X24_isZero, decide_eq_true a1]
      simp only [Option.bind_some]
      rw [if_neg mt, dec_fin lb b3, sum_comm, sum_zero (by omega), enc_id lb b3 b4]
      unfold F_X24_add_b50
      rw [nl_un]
  · rw [decide_eq_false a1, if_pos mf, X24_isZero b]
    simp only [Option.bind_some]
    rw [dec_fin la a3]
    rcases okd_cases lb hb with ⟨b1, b2, b3⟩ | ⟨b1, b2, b3⟩ | ⟨b1, b2, b3, b4⟩
    · rw [decide_eq_false (by omega), if_pos mf, X24_isInfinite, decide_eq_true b1]
      simp only [Option.bind_some]
      rw [if_neg mt, dec_inf lb b2 b3]
      unfold F_X24_add_b50
      have hres : FP.Core.round FP.Core.b64 (FP.Core.exactSum (.fin (dS (un a)) (dC (un a)) (dQ (un a))) (.inf (dS (un b)))) = .inf (dS (un b)) := rfl
      rw [hres, enc_inf lb b1, nl_un]
    · rw [decide_eq_true b1, if_neg mt]
      unfold F_X24_add_b14 F_X24_add_b34 F_X24_add_b35
      rw [X24_isZero, decide_eq_false a2]
      simp only [Option.bind_some]
      rw [if_pos mf, dec_fin lb (by omega), b2, sum_zero (by omega), enc_id la a3 a4, nl_un]
    · rw [decide_eq_false b2, if_pos mf, X24_isInfinite, decide_eq_false b1]
      simp only [Option.bind_some]
      rw [if_pos mf, X24_isZero, decide_eq_false a2]
      simp only [Option.bind_some]
      rw [if_pos mf, X24_exponent a4, X24_exponent b4, X24_significand a4, X24_significand b4]
      simp only [Option.bind_some]
      have qa := dQ_bd (un a)
      have qb := dQ_bd (un b)
      have ka : sge (dC (un a)) (dQ (un a)) = dQ (un a) - (52 - (dC (un a)).log2 : Nat) := rfl
      have kb : sge (dC (un b)) (dQ (un b)) = dQ (un b) - (52 - (dC (un b)).log2 : Nat) := rfl
      obtain ⟨-, -, ma⟩ := log53 (show 0 < dC (un a) by omega) (dC_lt _)
      obtain ⟨-, -, mb⟩ := log53 (show 0 < dC (un b) by omega) (dC_lt _)
      have c1 : (iw (sge (dC (un b)) (dQ (un b))) < iw (sge (dC (un a)) (dQ (un a)))) ↔ sge (dC (un b)) (dQ (un b)) < sge (dC (un a)) (dQ (un a)) := iw_lt (by omega) (by omega) (by omega) (by omega)
      have c2 : (iw (sge (dC (un a)) (dQ (un a))) = iw (sge (dC (un b)) (dQ (un b)))) ↔ sge (dC (un a)) (dQ (un a)) = sge (dC (un b)) (dQ (un b)) := iw_eq (by omega) (by omega) (by omega) (by omega)
      have c3 : (nl (sgm (dC (un a))) < nl (sgm (dC (un b)))) ↔ sgm (dC (un a)) < sgm (dC (un b)) := nl_lt (by omega) (by omega)
      have g1 : F_X24_add_b86 a b = F_X24_add_b115 b a := rfl
      have g2 : F_X24_add_b90 a b = F_X24_add_b115 a b := rfl
      have fst : (sge (dC (un b)) (dQ (un b)) < sge (dC (un a)) (dQ (un a)) ∨ (sge (dC (un b)) (dQ (un b)) = sge (dC (un a)) (dQ (un a)) ∧ sgm (dC (un b)) ≤ sgm (dC (un a)))) → F_X24_add_b86 a b = some (nl (FP.Core.encode FP.Core.b64 (FP.Core.round FP.Core.b64 (FP.Core.exactSum (.fin (dS (un a)) (dC (un a)) (dQ (un a))) (FP.Core.decode FP.Core.b64 (un b)))))) := by
        intro h
        rw [g1, X24_add_core a4 b4 a3 b3 h, dec_fin la a3]
      have snd : (sge (dC (un a)) (dQ (un a)) < sge (dC (un b)) (dQ (un b)) ∨ (sge (dC (un a)) (dQ (un a)) = sge (dC (un b)) (dQ (un b)) ∧ sgm (dC (un a)) ≤ sgm (dC (un b)))) → F_X24_add_b90 a b = some (nl (FP.Core.encode FP.Core.b64 (FP.Core.round FP.Core.b64 (FP.Core.exactSum (.fin (dS (un a)) (dC (un a)) (dQ (un a))) (FP.Core.decode FP.Core.b64 (un b)))))) := by
        intro h
        rw [g2, X24_add_core b4 a4 b3 a3 h, dec_fin la a3, dec_fin lb b3, sum_comm]
      simp only [c1, c2, c3]
      split
      · rename_i h1
        exact fst (Or.inl h1)
      · rename_i h1
        split
        · rename_i h2
          split
          · rename_i h3
            exact snd (Or.inr ⟨h2, by omega⟩)
          · rename_i h3
            exact fst (Or.inr ⟨h2.symm, by omega⟩)
        · rename_i h2
          exact snd (Or.inl (by omega))
