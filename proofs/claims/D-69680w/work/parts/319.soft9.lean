/-! ===== FLOATS, 11: Soft's divide ===== -/
/-- the long division, k turns to go: the invariant is A * 2 ^ done = (q * 2 + ..) -/
theorem div_loop {a b : Int64} {s : Bool} {n : Nat} (hn1 : 2 ^ 52 ≤ n) (hn : n < 2 ^ 53) : ∀ (k N q r : Nat), k + 1 ≤ N → k ≤ 57 → r < 2 * n → q < 2 ^ (57 - k) →
    ∃ q' r' : Nat, F_X24_divide_b65 N a b (nl (sgb s)) (nl r) (nl n) (nl q) (iw (57 - (k : Int))) = F_X24_divide_b123 (mr s) a b (nl r') (nl q') ∧ q' < 2 ^ 57 ∧ r' < 2 * n ∧ (q * (2 * n) + r) * 2 ^ k = q' * (2 * n) + r' := by
  intro k
  induction k with
  | zero =>
    intro N q r hN _ hr hq
    obtain ⟨N', rfl⟩ : ∃ n', N = n' + 1 := ⟨N - 1, by omega⟩
    refine ⟨q, r, ?_, by simpa using hq, hr, by rw [Nat.pow_zero, Nat.mul_one]⟩
    show F_X24_divide_b65_st (F_X24_divide_b65 N') _ _ _ _ _ _ _ = _
    unfold F_X24_divide_b65_st
    rw [if_neg (by decide)]
    cases s with
    | true => rw [if_neg (by decide)]; rfl
    | false => rw [if_pos (by decide)]; rfl
  | succ k ih =>
    intro N q r hN hk hr hq
    obtain ⟨N', rfl⟩ : ∃ n', N = n' + 1 := ⟨N - 1, by omega⟩
    have hpw : 2 ^ (57 - k) = 2 * 2 ^ (57 - (k + 1)) := by rw [show 57 - k = (57 - (k + 1)) + 1 by omega, Nat.pow_succ, Nat.mul_comm]
    have hp57 : 2 ^ (57 - (k + 1)) ≤ 2 ^ 57 := Nat.pow_le_pow_right (by decide) (by omega)
    have hlt : iw (57 - ((k + 1 : Nat) : Int)) < (57 : Int32) := by
      rw [show (57 : Int32) = iw 57 from rfl, iw_lt (by omega) (by omega) (by omega) (by omega)]
      omega
    have hinc : iw (57 - ((k + 1 : Nat) : Int)) + 1 = iw (57 - (k : Int)) := by
      rw [show (1 : Int32) = iw 1 from rfl, iw_add]
      congr 1
      omega
    have e1 : ∀ x : Nat, j_lshl (nl x) 1 = nl (x * 2) := fun x => nl_shl (k := 1) (by decide)
    show ∃ q' r' : Nat, F_X24_divide_b65_st (F_X24_divide_b65 N') _ _ _ _ _ _ _ = _ ∧ _
    unfold F_X24_divide_b65_st
    rw [if_pos hlt]
    simp only [e1]
    by_cases h : r < n
    · rw [if_pos (by rw [nl_lt (by omega) (by omega)]; exact h)]
      unfold F_X24_divide_b99
      simp only [e1, hinc]
      obtain ⟨q', r', i1, i2, i3, i4⟩ := ih N' (q * 2) (r * 2) (by omega) (by omega) (by omega) (by omega)
      refine ⟨q', r', i1, i2, i3, ?_⟩
      rw [← i4, Nat.pow_succ]
      have : (q * 2 * (2 * n) + r * 2) = (q * (2 * n) + r) * 2 := by
        rw [Nat.add_mul]; congr 1; ac_rfl
      rw [this]
      ac_rfl
    · rw [if_neg (by rw [nl_lt (by omega) (by omega)]; exact h), nl_sub (by omega) (by omega)]
      have e2 : nl (q * 2) ||| 1 = nl (q * 2 + 1) := by
        refine un_inj ?_
        rw [un_or, un_nl' (by omega), un_nl' (by omega), show un (1 : Int64) = 1 from rfl]
        have := Nat.two_pow_add_eq_or_of_lt (i := 1) (show 1 < 2 ^ 1 by decide) q
        rw [Nat.mul_comm q, ← this]
      rw [e2]
      unfold F_X24_divide_b99
      simp only [e1, hinc]
      obtain ⟨q', r', i1, i2, i3, i4⟩ := ih N' (q * 2 + 1) ((r - n) * 2) (by omega) (by omega) (by omega) (by omega)
      refine ⟨q', r', i1, i2, i3, ?_⟩
      rw [← i4, Nat.pow_succ]
      have : ((q * 2 + 1) * (2 * n) + (r - n) * 2) = (q * (2 * n) + r) * 2 := by
        rw [Nat.add_mul, Nat.add_mul, Nat.one_mul, show q * 2 * (2 * n) = q * (2 * n) * 2 by ac_rfl]
        omega
      rw [this]
      ac_rfl
theorem X24_divide {a b : Int64} (ha : okd (un a)) (hb : okd (un b)) (hi : ¬ (un a % 2 ^ 63 = 2047 * 2 ^ 52 ∧ un b % 2 ^ 63 = 2047 * 2 ^ 52)) (hj : ¬ (un a % 2 ^ 63 = 0 ∧ un b % 2 ^ 63 = 0)) :
    F_X24_divide a b = some ((FP.ddiv a.toUInt64 b.toUInt64).toInt64) := by
  have eD : (FP.ddiv a.toUInt64 b.toUInt64).toInt64 = nl (FP.Core.encode FP.Core.b64 (FP.Core.quotient FP.Core.b64 (FP.Core.decode FP.Core.b64 (un a)) (FP.Core.decode FP.Core.b64 (un b)))) := rfl
  rw [eD]
  have la := un_lt a
  have lb := un_lt b
  have mt : mr true ≠ 0 := by decide
  have mf : mr false = 0 := by decide
  unfold F_X24_divide
  simp only [X24_isInfinite, X24_isZero, Option.bind_some, sgn_xor]
  rcases okd_cases la ha with ⟨a1, a2, a3⟩ | ⟨a1, a2, a3⟩ | ⟨a1, a2, a3, a4⟩
  · rw [decide_eq_true a1, if_neg mt, dec_inf la a2 a3]
    unfold F_X24_divide_b23
    rw [sgb_inf]
    refine congrArg (fun z => some (nl (FP.Core.encode FP.Core.b64 z))) ?_
    rcases okd_cases lb hb with ⟨b1, b2, b3⟩ | ⟨b1, b2, b3⟩ | ⟨b1, b2, b3, b4⟩
    · exact absurd ⟨a1, b1⟩ hi
    · rw [dec_fin lb (by omega)]; rfl
    · rw [dec_fin lb b3]; rfl
  · have hna : ¬ un a % 2 ^ 63 = 2047 * 2 ^ 52 := by omega
    rw [decide_eq_false hna, if_pos mf, decide_eq_true a1, dec_fin la (by omega), a2]
    rcases okd_cases lb hb with ⟨b1, b2, b3⟩ | ⟨b1, b2, b3⟩ | ⟨b1, b2, b3, b4⟩
    · rw [decide_eq_false (show ¬ un b % 2 ^ 63 = 0 by omega), if_pos mf, if_neg mt, dec_inf lb b2 b3]
      unfold F_X24_divide_b44
      rw [sgb_zero']
      rfl
    · exact absurd ⟨a1, b1⟩ hj
    · rw [decide_eq_false b2, if_pos mf, if_neg mt, dec_fin lb b3]
      unfold F_X24_divide_b44
      show some (nl _) = some (nl (FP.Core.encode FP.Core.b64 (if dC (un b) = 0 then (if (0 : Nat) = 0 then .nan else .inf (dS (un a) != dS (un b))) else FP.Core.roundRatio FP.Core.b64 (dS (un a) != dS (un b)) 0 (dC (un b)) _)))
      rw [if_neg b4, sgb_zero']
      rfl
  · rw [decide_eq_false a1, if_pos mf, decide_eq_false a2, dec_fin la a3]
    rcases okd_cases lb hb with ⟨b1, b2, b3⟩ | ⟨b1, b2, b3⟩ | ⟨b1, b2, b3, b4⟩
    · rw [decide_eq_false (show ¬ un b % 2 ^ 63 = 0 by omega), if_pos mf, if_pos mf, decide_eq_true b1, if_neg mt, dec_inf lb b2 b3]
      unfold F_X24_divide_b44
      rw [sgb_zero']
      rfl
    · rw [decide_eq_true b1, if_neg mt, dec_fin lb (by omega), b2]
      unfold F_X24_divide_b23
      rw [sgb_inf]
      refine congrArg (fun z => some (nl (FP.Core.encode FP.Core.b64 z))) ?_
      show _ = (if (0 : Nat) = 0 then (if dC (un a) = 0 then FP.Core.Datum.nan else .inf (dS (un a) != dS (un b))) else FP.Core.roundRatio FP.Core.b64 (dS (un a) != dS (un b)) (dC (un a)) 0 (dQ (un a) - dQ (un b)))
      rw [if_pos rfl, if_neg a4]
    · rw [decide_eq_false b2, if_pos mf, if_pos mf, decide_eq_false b1, if_pos mf, dec_fin lb b3, X24_significand a4, X24_significand b4]
      simp only [Option.bind_some]
      show _ = some (nl (FP.Core.encode FP.Core.b64 (if dC (un b) = 0 then (if dC (un a) = 0 then .nan else .inf (dS (un a) != dS (un b))) else FP.Core.roundRatio FP.Core.b64 (dS (un a) != dS (un b)) (dC (un a)) (dC (un b)) (dQ (un a) - dQ (un b)))))
      rw [if_neg b4]
      generalize hs : (dS (un a) != dS (un b)) = s
      obtain ⟨la2, ga, ma⟩ := log53 (show 0 < dC (un a) by omega) (dC_lt _)
      obtain ⟨lb2, gb, mb⟩ := log53 (show 0 < dC (un b) by omega) (dC_lt _)
      have qa := dQ_bd (un a)
      have qb := dQ_bd (un b)
      have ka : sge (dC (un a)) (dQ (un a)) = dQ (un a) - (52 - (dC (un a)).log2 : Nat) := rfl
      have kb : sge (dC (un b)) (dQ (un b)) = dQ (un b) - (52 - (dC (un b)).log2 : Nat) := rfl
      have hrr : FP.Core.roundRatio FP.Core.b64 s (dC (un a)) (dC (un b)) (dQ (un a) - dQ (un b)) = FP.Core.roundRatio FP.Core.b64 s (sgm (dC (un a))) (sgm (dC (un b))) (sge (dC (un a)) (dQ (un a)) - sge (dC (un b)) (dQ (un b))) := by
        refine rr_congr (by omega) (by omega) ?_
        unfold sgm
        rw [ka, kb]
        generalize 52 - (dC (un a)).log2 = i
        generalize 52 - (dC (un b)).log2 = j
        have hpw : 2 ^ j * 2 ^ (dQ (un a) - dQ (un b) - (dQ (un a) - (i : Int) - (dQ (un b) - (j : Int)))).toNat = 2 ^ i * 2 ^ (dQ (un a) - (i : Int) - (dQ (un b) - (j : Int)) - (dQ (un a) - dQ (un b))).toNat := by
          rw [← Nat.pow_add, ← Nat.pow_add]
          congr 1
          omega
        generalize (dQ (un a) - dQ (un b) - (dQ (un a) - (i : Int) - (dQ (un b) - (j : Int)))).toNat = x at *
        generalize (dQ (un a) - (i : Int) - (dQ (un b) - (j : Int)) - (dQ (un a) - dQ (un b))).toNat = y at *
        calc dC (un a) * (dC (un b) * 2 ^ j) * 2 ^ x = dC (un a) * dC (un b) * (2 ^ j * 2 ^ x) := by ac_rfl
          _ = dC (un a) * dC (un b) * (2 ^ i * 2 ^ y) := by rw [hpw]
          _ = dC (un a) * 2 ^ i * dC (un b) * 2 ^ y := by ac_rfl
      rw [hrr]
      have hea := X24_exponent a4
      have heb := X24_exponent b4
      generalize sge (dC (un a)) (dQ (un a)) = ea at *
      generalize sge (dC (un b)) (dQ (un b)) = eb at *
      generalize sgm (dC (un a)) = m at *
      generalize sgm (dC (un b)) = n at *
      obtain ⟨q, r, i1, i2, i3, i4⟩ := div_loop (a := a) (b := b) (s := s) gb mb 57 xN 0 m (by decide) (by decide) (by omega) (by decide)
      have i1 : F_X24_divide_b65 xN a b (nl (sgb s)) (nl m) (nl n) 0 0 = F_X24_divide_b123 (mr s) a b (nl r) (nl q) := i1
      rw [i1]
      rw [Nat.zero_mul, Nat.zero_add] at i4
      unfold F_X24_divide_b123 F_X24_divide_b149
      rw [hea, heb]
      simp only [Option.bind_some]
      rw [show (56 : Int32) = iw 56 from rfl, iw_sub, iw_sub]
      have hm56 : m * 2 ^ 57 = 2 * (m * 2 ^ 56) := by omega
      have hq54 : 2 ^ 54 ≤ q := by
        rcases Nat.lt_or_ge q (2 ^ 54) with h | h
        · have h1 : q * (2 * n) ≤ (2 ^ 54 - 1) * (2 * n) := Nat.mul_le_mul (by omega) (Nat.le_refl _)
          omega
        · exact h
      have hqn : q * (2 * n) = 2 * (q * n) := by ac_rfl
      have hq1 : (q + 1) * n = q * n + n := by rw [Nat.add_mul, Nat.one_mul]
      have key : ∀ more : Bool, (more = true ↔ r ≠ 0) → F_X24_made (mr s) (nl q) (iw (ea - eb - 56)) (mr more) = some (nl (FP.Core.encode FP.Core.b64 (FP.Core.roundRatio FP.Core.b64 s m n (ea - eb)))) := by
        intro more hmore
        refine made_floor (by omega) (by omega) (by omega) (fun _ => hq54) (by omega) (by omega) ?_ ?_
        · intro hf
          have hz : r = 0 := by
            rcases Nat.eq_zero_or_pos r with h | h
            · exact h
            · rw [hmore.mpr (by omega)] at hf; cases hf
          rw [show (ea - eb - 56 - (ea - eb)).toNat = 0 by omega, show (ea - eb - (ea - eb - 56)).toNat = 56 by omega, Nat.pow_zero, Nat.mul_one]
          omega
        · intro ht
          have hz := hmore.mp ht
          rw [show (ea - eb - 56 - (ea - eb)).toNat = 0 by omega, show (ea - eb - (ea - eb - 56)).toNat = 56 by omega, Nat.pow_zero, Nat.mul_one, hq1]
          omega
      have z1 : (nl r = 0) ↔ r = 0 := by rw [show (0 : Int64) = nl 0 from rfl, nl_eq (by omega) (by decide)]
      by_cases hr : r = 0
      · rw [if_pos (z1.mpr hr), show (0 : Int32) = mr false from rfl, key false ⟨fun h => (by cases h), fun h => absurd hr h⟩]
        rfl
      · rw [if_neg (fun h => hr (z1.mp h)), show (1 : Int32) = mr true from rfl, key true ⟨fun _ => hr, fun _ => rfl⟩]
        rfl
