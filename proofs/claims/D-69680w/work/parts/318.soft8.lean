/-! ===== FLOATS, 10: Soft's multiply and divide ===== -/
theorem dS_bit {n : Nat} (hn : n < 2 ^ 64) : n.testBit 63 = dS n := by
  rw [Nat.testBit_eq_decide_div_mod_eq]
  unfold dS
  refine decide_eq_decide.mpr ?_
  omega
def sgb (s : Bool) : Nat := if s = true then 2 ^ 63 else 0
theorem sgn_xor (a b : Int64) : (a ^^^ b) &&& -9223372036854775808 = nl (sgb (dS (un a) != dS (un b))) := by
  refine un_inj ?_
  have e2 : ∀ s : Bool, un (nl (sgb s)) = sgb s := fun s => by cases s <;> decide
  rw [un_and, un_xor, show un (-9223372036854775808 : Int64) = 2 ^ 63 from rfl, e2]
  apply Nat.eq_of_testBit_eq
  intro i
  have e1 : ∀ s : Bool, (sgb s).testBit i = (s && decide (63 = i)) := fun s => by
    cases s with
    | true =>
      show (2 ^ 63).testBit i = _
      rw [Nat.testBit_two_pow, Bool.true_and]
    | false =>
      show (0).testBit i = _
      rw [Nat.zero_testBit, Bool.false_and]
  rw [Nat.testBit_and, Nat.testBit_xor, Nat.testBit_two_pow, e1]
  by_cases hi : 63 = i
  · subst hi
    rw [dS_bit (un_lt a), dS_bit (un_lt b)]
  · rw [decide_eq_false hi, Bool.and_false, Bool.and_false]
theorem sgb_ne (s : Bool) : (nl (sgb s) = 0) ↔ s = false := by cases s <;> decide
theorem sgb_inf (s : Bool) : nl (sgb s) ||| 9218868437227405312 = nl (FP.Core.encode FP.Core.b64 (.inf s)) := by cases s <;> decide
theorem sgb_zero (s : Bool) (q : Int) : nl (sgb s) = nl (FP.Core.encode FP.Core.b64 (FP.Core.roundRatio FP.Core.b64 s 0 1 q)) := by rw [enc_zero]; rfl
theorem sgb_zero' (s : Bool) : nl (sgb s) = nl (FP.Core.encode FP.Core.b64 (.fin s 0 FP.Core.b64.qmin)) := by cases s <;> decide
/-- made, of what is below A / B * 2 ^ e0 -/
theorem made_floor {s : Bool} {A B m : Nat} {e e0 : Int} {more : Bool} (hB : 0 < B) (h0 : 0 < m) (h : m < 2 ^ 62) (hm : more = true → 2 ^ 54 ≤ m) (he : -18000 ≤ e) (he2 : e ≤ 20000)
    (h1 : more = false → m * (B * 2 ^ (e - e0).toNat) = A * 2 ^ (e0 - e).toNat)
    (h2 : more = true → m * (B * 2 ^ (e - e0).toNat) < A * 2 ^ (e0 - e).toNat ∧ A * 2 ^ (e0 - e).toNat < (m + 1) * (B * 2 ^ (e - e0).toNat)) :
    F_X24_made (mr s) (nl m) (iw e) (mr more) = some (nl (FP.Core.encode FP.Core.b64 (FP.Core.roundRatio FP.Core.b64 s A B e0))) := by
  rw [X24_made h0 h hm he he2]
  cases more with
  | true =>
    obtain ⟨k1, k2⟩ := h2 rfl
    rw [rr_sticky (f := FP.Core.b64) (s := s) hB (hm rfl) k1 k2, if_pos rfl]
  | false =>
    have k := h1 rfl
    have c1 : FP.Core.roundRatio FP.Core.b64 s A B e0 = FP.Core.roundRatio FP.Core.b64 s (A * 2 ^ (e0 - e).toNat) (B * 2 ^ (e - e0).toNat) e := by
      refine rr_congr hB (Nat.mul_pos hB (Nat.two_pow_pos _)) ?_
      ac_rfl
    rw [c1, ← k, if_neg (by decide)]
    have c2 : FP.Core.roundRatio FP.Core.b64 s (m * (B * 2 ^ (e - e0).toNat)) (B * 2 ^ (e - e0).toNat) e = FP.Core.roundRatio FP.Core.b64 s (2 * m + 0) 1 (e - 1) := by
      refine rr_congr (Nat.mul_pos hB (Nat.two_pow_pos _)) (by decide) ?_
      rw [show (e - (e - 1)).toNat = 1 by omega, show (e - 1 - e).toNat = 0 by omega]
      generalize B * 2 ^ (e - e0).toNat = X
      rw [Nat.mul_one, Nat.pow_zero, Nat.mul_one, Nat.add_zero, Nat.mul_right_comm, Nat.mul_comm m (2 ^ 1)]
    rw [c2]
/-- the digits of a product, by halves of 27 -/
theorem mul_digits {m n : Nat} (hm : m < 2 ^ 53) (hn : n < 2 ^ 53) :
    let low := m % 2 ^ 27 * (n % 2 ^ 27)
    let mid := m / 2 ^ 27 * (n % 2 ^ 27) + m % 2 ^ 27 * (n / 2 ^ 27) + low / 2 ^ 27
    let high := m / 2 ^ 27 * (n / 2 ^ 27) + mid / 2 ^ 27
    low < 2 ^ 54 ∧ mid < 2 ^ 55 ∧ m * n = high * 2 ^ 54 + mid % 2 ^ 27 * 2 ^ 27 + low % 2 ^ 27 := by
  intro low mid high
  have a1 : m / 2 ^ 27 < 2 ^ 26 := by omega
  have a2 : n / 2 ^ 27 < 2 ^ 26 := by omega
  have a3 : m % 2 ^ 27 < 2 ^ 27 := Nat.mod_lt _ (by decide)
  have a4 : n % 2 ^ 27 < 2 ^ 27 := Nat.mod_lt _ (by decide)
  have em : m = 2 ^ 27 * (m / 2 ^ 27) + m % 2 ^ 27 := (Nat.div_add_mod _ _).symm
  have en : n = 2 ^ 27 * (n / 2 ^ 27) + n % 2 ^ 27 := (Nat.div_add_mod _ _).symm
  have l1 : low ≤ (2 ^ 27 - 1) * (2 ^ 27 - 1) := Nat.mul_le_mul (by omega) (by omega)
  have l2 : m / 2 ^ 27 * (n % 2 ^ 27) ≤ (2 ^ 26 - 1) * (2 ^ 27 - 1) := Nat.mul_le_mul (by omega) (by omega)
  have l3 : m % 2 ^ 27 * (n / 2 ^ 27) ≤ (2 ^ 27 - 1) * (2 ^ 26 - 1) := Nat.mul_le_mul (by omega) (by omega)
  refine ⟨by omega, by omega, ?_⟩
  have e : m * n = m / 2 ^ 27 * (n / 2 ^ 27) * 2 ^ 54 + (m / 2 ^ 27 * (n % 2 ^ 27) + m % 2 ^ 27 * (n / 2 ^ 27)) * 2 ^ 27 + m % 2 ^ 27 * (n % 2 ^ 27) := by
    generalize m / 2 ^ 27 = x at *
    generalize n / 2 ^ 27 = y at *
    generalize m % 2 ^ 27 = u at *
    generalize n % 2 ^ 27 = v at *
    rw [em, en, Nat.add_mul, Nat.mul_add, Nat.mul_add]
    have w1 : 2 ^ 27 * x * (2 ^ 27 * y) = x * y * 2 ^ 54 := by
      rw [show (2 : Nat) ^ 54 = 2 ^ 27 * 2 ^ 27 from rfl]; ac_rfl
    have w2 : 2 ^ 27 * x * v = x * v * 2 ^ 27 := by ac_rfl
    have w3 : u * (2 ^ 27 * y) = u * y * 2 ^ 27 := by ac_rfl
    rw [w1, w2, w3]
    omega
  rw [e]
  show _ = (m / 2 ^ 27 * (n / 2 ^ 27) + mid / 2 ^ 27) * 2 ^ 54 + mid % 2 ^ 27 * 2 ^ 27 + low % 2 ^ 27
  have em : mid = m / 2 ^ 27 * (n % 2 ^ 27) + m % 2 ^ 27 * (n / 2 ^ 27) + low / 2 ^ 27 := rfl
  have el : low = m % 2 ^ 27 * (n % 2 ^ 27) := rfl
  rw [← el]
  generalize m / 2 ^ 27 * (n % 2 ^ 27) + m % 2 ^ 27 * (n / 2 ^ 27) = z at *
  generalize m / 2 ^ 27 * (n / 2 ^ 27) = w at *
  omega
theorem X24_multiply {a b : Int64} (ha : okd (un a)) (hb : okd (un b)) (hi : ¬ (un a % 2 ^ 63 = 2047 * 2 ^ 52 ∧ un b % 2 ^ 63 = 0)) (hj : ¬ (un b % 2 ^ 63 = 2047 * 2 ^ 52 ∧ un a % 2 ^ 63 = 0)) :
    F_X24_multiply a b = some ((FP.dmul a.toUInt64 b.toUInt64).toInt64) := by
  have eD : (FP.dmul a.toUInt64 b.toUInt64).toInt64 = nl (FP.Core.encode FP.Core.b64 (FP.Core.round FP.Core.b64 (FP.Core.exactProduct (FP.Core.decode FP.Core.b64 (un a)) (FP.Core.decode FP.Core.b64 (un b))))) := rfl
  rw [eD]
  have la := un_lt a
  have lb := un_lt b
  have mt : mr true ≠ 0 := by decide
  have mf : mr false = 0 := by decide
  unfold F_X24_multiply
  simp only [X24_isInfinite, X24_isZero, Option.bind_some, sgn_xor]
  rcases okd_cases la ha with ⟨a1, a2, a3⟩ | ⟨a1, a2, a3⟩ | ⟨a1, a2, a3, a4⟩
  · rw [decide_eq_true a1, if_neg mt, dec_inf la a2 a3]
    unfold F_X24_multiply_b23
    rw [sgb_inf]
    refine congrArg (fun z => some (nl (FP.Core.encode FP.Core.b64 z))) ?_
    rcases okd_cases lb hb with ⟨b1, b2, b3⟩ | ⟨b1, b2, b3⟩ | ⟨b1, b2, b3, b4⟩
    · rw [dec_inf lb b2 b3]; rfl
    · exact absurd ⟨a1, b1⟩ hi
    · rw [dec_fin lb b3]
      show _ = FP.Core.round FP.Core.b64 (if dC (un b) = 0 then .nan else .inf (dS (un a) != dS (un b)))
      rw [if_neg b4]; rfl
  · have hna : ¬ un a % 2 ^ 63 = 2047 * 2 ^ 52 := by omega
    rw [decide_eq_false hna, if_pos mf, decide_eq_true a1, dec_fin la (by omega), a2]
    rcases okd_cases lb hb with ⟨b1, b2, b3⟩ | ⟨b1, b2, b3⟩ | ⟨b1, b2, b3, b4⟩
    · exact absurd ⟨b1, a1⟩ hj
    · rw [decide_eq_false (show ¬ un b % 2 ^ 63 = 2047 * 2 ^ 52 by omega), if_pos mf, if_neg mt, dec_fin lb (by omega)]
      unfold F_X24_multiply_b44
      show some (nl _) = some (nl (FP.Core.encode FP.Core.b64 (FP.Core.roundRatio FP.Core.b64 (dS (un a) != dS (un b)) (0 * dC (un b)) 1 _)))
      rw [Nat.zero_mul, ← sgb_zero]
    · rw [decide_eq_false b1, if_pos mf, if_neg mt, dec_fin lb b3]
      unfold F_X24_multiply_b44
      show some (nl _) = some (nl (FP.Core.encode FP.Core.b64 (FP.Core.roundRatio FP.Core.b64 (dS (un a) != dS (un b)) (0 * dC (un b)) 1 _)))
      rw [Nat.zero_mul, ← sgb_zero]
  · rw [decide_eq_false a1, if_pos mf, decide_eq_false a2, dec_fin la a3]
    rcases okd_cases lb hb with ⟨b1, b2, b3⟩ | ⟨b1, b2, b3⟩ | ⟨b1, b2, b3, b4⟩
    · rw [decide_eq_true b1, if_neg mt, dec_inf lb b2 b3]
      unfold F_X24_multiply_b23
      rw [sgb_inf]
      refine congrArg (fun z => some (nl (FP.Core.encode FP.Core.b64 z))) ?_
      show _ = FP.Core.round FP.Core.b64 (if dC (un a) = 0 then .nan else .inf (dS (un a) != dS (un b)))
      rw [if_neg a4]; rfl
    · rw [decide_eq_false (show ¬ un b % 2 ^ 63 = 2047 * 2 ^ 52 by omega), if_pos mf, if_pos mf, decide_eq_true b1, if_neg mt, dec_fin lb (by omega), b2]
      unfold F_X24_multiply_b44
      show some (nl _) = some (nl (FP.Core.encode FP.Core.b64 (FP.Core.roundRatio FP.Core.b64 (dS (un a) != dS (un b)) (dC (un a) * 0) 1 _)))
      rw [Nat.mul_zero, ← sgb_zero]
    · rw [decide_eq_false b1, if_pos mf, if_pos mf, decide_eq_false b2, if_pos mf, dec_fin lb b3, X24_significand a4, X24_significand b4]
      simp only [Option.bind_some]
      show _ = some (nl (FP.Core.encode FP.Core.b64 (FP.Core.roundRatio FP.Core.b64 (dS (un a) != dS (un b)) (dC (un a) * dC (un b)) 1 (dQ (un a) + dQ (un b)))))
      generalize hs : (dS (un a) != dS (un b)) = s
      obtain ⟨-, ga, ma⟩ := log53 (show 0 < dC (un a) by omega) (dC_lt _)
      obtain ⟨-, gb, mb⟩ := log53 (show 0 < dC (un b) by omega) (dC_lt _)
      have qa := dQ_bd (un a)
      have qb := dQ_bd (un b)
      have ka : sge (dC (un a)) (dQ (un a)) = dQ (un a) - (52 - (dC (un a)).log2 : Nat) := rfl
      have kb : sge (dC (un b)) (dQ (un b)) = dQ (un b) - (52 - (dC (un b)).log2 : Nat) := rfl
      have hprod : dC (un a) * dC (un b) * 2 ^ (dQ (un a) + dQ (un b) - (sge (dC (un a)) (dQ (un a)) + sge (dC (un b)) (dQ (un b)))).toNat = sgm (dC (un a)) * sgm (dC (un b)) := by
        have e : (dQ (un a) + dQ (un b) - (sge (dC (un a)) (dQ (un a)) + sge (dC (un b)) (dQ (un b)))).toNat = (52 - (dC (un a)).log2) + (52 - (dC (un b)).log2) := by omega
        rw [e, Nat.pow_add]
        unfold sgm
        ac_rfl
      have hrr : FP.Core.roundRatio FP.Core.b64 s (dC (un a) * dC (un b)) 1 (dQ (un a) + dQ (un b)) = FP.Core.roundRatio FP.Core.b64 s (sgm (dC (un a)) * sgm (dC (un b))) 1 (sge (dC (un a)) (dQ (un a)) + sge (dC (un b)) (dQ (un b))) := by
        refine rr_congr (by decide) (by decide) ?_
        rw [Nat.mul_one, hprod, show (sge (dC (un a)) (dQ (un a)) + sge (dC (un b)) (dQ (un b)) - (dQ (un a) + dQ (un b))).toNat = 0 by omega, Nat.pow_zero, Nat.mul_one, Nat.mul_one]
      rw [hrr]
      obtain ⟨d1, d2, d3⟩ := mul_digits ma mb
      have c27 : (134217727 : Int64) = nl (2 ^ 27 - 1) := rfl
      have c19 : (524287 : Int64) = nl (2 ^ 19 - 1) := rfl
      have s27 : (27 : Int32) = Int32.ofNat 27 := rfl
      have hea := X24_exponent a4
      have heb := X24_exponent b4
      generalize sge (dC (un a)) (dQ (un a)) = ea at *
      generalize sge (dC (un b)) (dQ (un b)) = eb at *
      generalize sgm (dC (un a)) = m at *
      generalize sgm (dC (un b)) = n at *
      have hmn1 : m * n < 2 ^ 106 := by
        have := Nat.mul_le_mul (show m ≤ 2 ^ 53 - 1 by omega) (show n ≤ 2 ^ 53 - 1 by omega)
        omega
      have hmn2 : 2 ^ 104 ≤ m * n := by
        have := Nat.mul_le_mul ga gb
        omega
      rw [c27, c19, s27, nl_mask (n := m) (by omega) (by decide), nl_mask (n := n) (by omega) (by decide), nl_ushr (n := m) (by omega) (by decide), nl_ushr (n := n) (by omega) (by decide)]
      rw [nl_mul, nl_mul, nl_mul, nl_mul, nl_add]
      generalize hlow : m % 2 ^ 27 * (n % 2 ^ 27) = low at *
      rw [nl_ushr (n := low) (by omega) (by decide), nl_add]
      generalize hmid : m / 2 ^ 27 * (n % 2 ^ 27) + m % 2 ^ 27 * (n / 2 ^ 27) + low / 2 ^ 27 = mid at *
      rw [nl_ushr (n := mid) (by omega) (by decide), nl_add]
      generalize hhigh : m / 2 ^ 27 * (n / 2 ^ 27) + mid / 2 ^ 27 = high at *
      rw [nl_mask (n := mid) (by omega) (by decide), nl_mask (n := low) (by omega) (by decide), nl_mask (n := mid % 2 ^ 27) (by omega) (by decide)]
      have hP : m * n = high * 2 ^ 54 + mid % 2 ^ 27 * 2 ^ 27 + low % 2 ^ 27 := d3
      have hl27 : low % 2 ^ 27 < 2 ^ 27 := Nat.mod_lt _ (by decide)
      have hm27 : mid % 2 ^ 27 < 2 ^ 27 := Nat.mod_lt _ (by decide)
      generalize low % 2 ^ 27 = l at *
      generalize mid % 2 ^ 27 = c at *
      have hV : j_lshl (nl high) 8 ||| j_lushr (nl c) 19 = nl (high * 2 ^ 8 + c / 2 ^ 19) := by
        rw [show (8 : Int32) = Int32.ofNat 8 from rfl, show (19 : Int32) = Int32.ofNat 19 from rfl, nl_shl (by decide), nl_ushr (by omega) (by decide)]
        refine un_inj ?_
        rw [un_or, un_nl' (by omega), un_nl' (by omega), un_nl' (by omega)]
        have := Nat.two_pow_add_eq_or_of_lt (i := 8) (show c / 2 ^ 19 < 2 ^ 8 by omega) high
        rw [Nat.mul_comm high, ← this]
      have fin : ∀ more : Bool, (more = true ↔ ¬ (l = 0 ∧ c % 2 ^ 19 = 0)) → F_X24_multiply_b160 (mr more) a b (nl (sgb s)) (nl high) (nl c) = some (nl (FP.Core.encode FP.Core.b64 (FP.Core.roundRatio FP.Core.b64 s (m * n) 1 (ea + eb)))) := by
        intro more hmore
        have mid2 : F_X24_multiply_b174 (mr s) a b (nl high) (nl c) (mr more) = some (nl (FP.Core.encode FP.Core.b64 (FP.Core.roundRatio FP.Core.b64 s (m * n) 1 (ea + eb)))) := by
          unfold F_X24_multiply_b174
          rw [hea, heb, hV]
          simp only [Option.bind_some]
          rw [show (46 : Int32) = iw 46 from rfl, iw_add, iw_add]
          have key := made_floor (s := s) (A := m * n) (B := 1) (m := high * 2 ^ 8 + c / 2 ^ 19) (e := ea + eb + 46) (e0 := ea + eb) (more := more) (by decide) (by omega) (by omega) (fun _ => by omega) (by omega) (by omega)
            (fun hf => by
              have hz : l = 0 ∧ c % 2 ^ 19 = 0 := by
                rcases Classical.em (l = 0 ∧ c % 2 ^ 19 = 0) with h | h
                · exact h
                · rw [hmore.mpr h] at hf; cases hf
              rw [show (ea + eb + 46 - (ea + eb)).toNat = 46 by omega, show (ea + eb - (ea + eb + 46)).toNat = 0 by omega, hP]
              omega)
            (fun ht => by
              have hz := hmore.mp ht
              rw [show (ea + eb + 46 - (ea + eb)).toNat = 46 by omega, show (ea + eb - (ea + eb + 46)).toNat = 0 by omega, hP]
              omega)
          rw [key]
          rfl
        unfold F_X24_multiply_b160
        have hs0 := sgb_ne s
        cases s with
        | true => rw [if_neg (by decide)]; exact mid2
        | false => rw [if_pos (by decide)]; exact mid2
      have z1 : (nl l = 0) ↔ l = 0 := by rw [show (0 : Int64) = nl 0 from rfl, nl_eq (by omega) (by decide)]
      have z2 : (nl (c % 2 ^ 19) = 0) ↔ c % 2 ^ 19 = 0 := by rw [show (0 : Int64) = nl 0 from rfl, nl_eq (by omega) (by decide)]
      unfold F_X24_multiply_b155
      by_cases y1 : l = 0
      · rw [if_pos (z1.mpr y1)]
        by_cases y2 : c % 2 ^ 19 = 0
        · rw [if_pos (z2.mpr y2)]
          exact fin false ⟨fun h => (by cases h), fun h => absurd ⟨y1, y2⟩ h⟩
        · rw [if_neg (fun h => y2 (z2.mp h))]
          exact fin true ⟨fun _ h => y2 h.2, fun _ => rfl⟩
      · rw [if_neg (fun h => y1 (z1.mp h))]
        exact fin true ⟨fun _ h => y1 h.1, fun _ => rfl⟩
