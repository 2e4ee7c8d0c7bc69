/-! ===== FLOATS, 13: cutting doubles to whole numbers ===== -/
/-- the whole part of a finite double's magnitude -/
def dW (n : Nat) : Nat := dC n * 2 ^ (dQ n).toNat / 2 ^ (-dQ n).toNat
theorem dW_sg {c : Nat} {q : Int} {k : Nat} : c * 2 ^ q.toNat / 2 ^ (-q).toNat = c * 2 ^ k * 2 ^ (q - k).toNat / 2 ^ (-(q - (k : Int))).toNat := by
  rcases Int.lt_or_le q 0 with h | h
  · obtain ⟨j, rfl⟩ : ∃ j : Nat, q = -(j : Int) := ⟨(-q).toNat, by omega⟩
    rw [show (-(j : Int)).toNat = 0 by omega, show (-(-(j : Int))).toNat = j by omega, show (-(j : Int) - (k : Int)).toNat = 0 by omega, show (-(-(j : Int) - (k : Int))).toNat = k + j by omega, Nat.pow_zero, Nat.mul_one, Nat.mul_one, Nat.pow_add, Nat.mul_comm c, Nat.mul_div_mul_left _ _ (Nat.two_pow_pos k)]
  · obtain ⟨j, rfl⟩ : ∃ j : Nat, q = (j : Int) := ⟨q.toNat, by omega⟩
    rw [show ((j : Int)).toNat = j by omega, show (-(j : Int)).toNat = 0 by omega, Nat.pow_zero, Nat.div_one]
    rcases Nat.lt_or_ge j k with h2 | h2
    · rw [show ((j : Int) - (k : Int)).toNat = 0 by omega, show (-((j : Int) - (k : Int))).toNat = k - j by omega, Nat.pow_zero, Nat.mul_one]
      have e : 2 ^ k = 2 ^ j * 2 ^ (k - j) := by rw [← Nat.pow_add]; congr 1; omega
      rw [e, ← Nat.mul_assoc, Nat.mul_div_cancel _ (Nat.two_pow_pos _)]
    · rw [show ((j : Int) - (k : Int)).toNat = j - k by omega, show (-((j : Int) - (k : Int))).toNat = 0 by omega, Nat.pow_zero, Nat.div_one, Nat.mul_assoc, ← Nat.pow_add]
      congr 2
      omega
theorem X24_isGreat {x : Int64} (hx : okd (un x)) : F_X24_isGreat x = some (mr (decide (un x % 2 ^ 63 = 2047 * 2 ^ 52 ∨ (un x % 2 ^ 63 ≠ 0 ∧ 11 < sge (dC (un x)) (dQ (un x)))))) := by
  have mt : mr true ≠ 0 := by decide
  have mf : mr false = 0 := by decide
  unfold F_X24_isGreat F_X24_isGreat_b23 F_X24_isGreat_b27 F_X24_isGreat_b28
  simp only [X24_isInfinite, X24_isZero, Option.bind_some]
  rcases okd_cases (un_lt x) hx with ⟨a1, a2, a3⟩ | ⟨a1, a2, a3⟩ | ⟨a1, a2, a3, a4⟩
  · rw [decide_eq_true a1, if_neg mt, decide_eq_true (Or.inl a1)]
    rfl
  · rw [decide_eq_false (show ¬ un x % 2 ^ 63 = 2047 * 2 ^ 52 by omega), if_pos mf, decide_eq_true a1, if_neg mt, decide_eq_false (by omega)]
    rfl
  · rw [decide_eq_false a1, if_pos mf, decide_eq_false a2, if_pos mf, X24_exponent a4]
    simp only [Option.bind_some]
    have qx := dQ_bd (un x)
    have kx : sge (dC (un x)) (dQ (un x)) = dQ (un x) - (52 - (dC (un x)).log2 : Nat) := rfl
    have e : ((11 : Int32) < iw (sge (dC (un x)) (dQ (un x)))) ↔ 11 < sge (dC (un x)) (dQ (un x)) := by
      rw [show (11 : Int32) = iw 11 from rfl, iw_lt (by omega) (by omega) (by omega) (by omega)]
    by_cases h : 11 < sge (dC (un x)) (dQ (un x))
    · rw [if_pos (e.mpr h), decide_eq_true (Or.inr ⟨a2, h⟩)]
      rfl
    · rw [if_neg (fun k => h (e.mp k)), decide_eq_false (by omega)]
      rfl
theorem X24_cut {x : Int64} (hx : okd (un x)) (hg : ¬ (un x % 2 ^ 63 = 2047 * 2 ^ 52 ∨ (un x % 2 ^ 63 ≠ 0 ∧ 11 < sge (dC (un x)) (dQ (un x))))) : F_X24_cut x = some (nl (dW (un x))) ∧ dW (un x) < 2 ^ 64 := by
  have mt : mr true ≠ 0 := by decide
  have mf : mr false = 0 := by decide
  unfold F_X24_cut F_X24_cut_b43
  simp only [X24_isZero, Option.bind_some]
  rcases okd_cases (un_lt x) hx with ⟨a1, a2, a3⟩ | ⟨a1, a2, a3⟩ | ⟨a1, a2, a3, a4⟩
  · exact absurd (Or.inl a1) hg
  · have e : dW (un x) = 0 := by unfold dW; rw [a2, Nat.zero_mul, Nat.zero_div]
    rw [decide_eq_true a1, if_neg mt, e]
    exact ⟨rfl, by decide⟩
  · rw [decide_eq_false a2, if_pos mf, X24_exponent a4, X24_significand a4]
    simp only [Option.bind_some]
    have hs : dW (un x) = sgm (dC (un x)) * 2 ^ (sge (dC (un x)) (dQ (un x))).toNat / 2 ^ (-sge (dC (un x)) (dQ (un x))).toNat := dW_sg
    rw [hs]
    obtain ⟨-, g1, g2⟩ := log53 (show 0 < dC (un x) by omega) (dC_lt _)
    have qx := dQ_bd (un x)
    have kx : sge (dC (un x)) (dQ (un x)) = dQ (un x) - (52 - (dC (un x)).log2 : Nat) := rfl
    have hle : sge (dC (un x)) (dQ (un x)) ≤ 11 := by omega
    have hl : -1126 ≤ sge (dC (un x)) (dQ (un x)) := by omega
    generalize sge (dC (un x)) (dQ (un x)) = e at *
    generalize sgm (dC (un x)) = m at *
    have c1 : iw e < 0 ↔ e < 0 := iw_lt0 (by omega) (by omega)
    have c2 : iw e < (-52 : Int32) ↔ e < -52 := by rw [show (-52 : Int32) = iw (-52) from rfl, iw_lt (by omega) (by omega) (by omega) (by omega)]
    by_cases h1 : e < 0
    · rw [if_pos (c1.mpr h1)]
      obtain ⟨j, rfl⟩ : ∃ j : Nat, e = -(j : Int) := ⟨(-e).toNat, by omega⟩
      rw [show (-(j : Int)).toNat = 0 by omega, show (-(-(j : Int))).toNat = j by omega, Nat.pow_zero, Nat.mul_one]
      have hd := Nat.div_le_self m (2 ^ j)
      by_cases h2 : 52 < j
      · rw [if_pos (c2.mpr (by omega))]
        have hp : 2 ^ 53 ≤ 2 ^ j := Nat.pow_le_pow_right (by decide) (by omega)
        have h0 : m / 2 ^ j = 0 := Nat.div_eq_of_lt (by omega)
        rw [h0]
        exact ⟨rfl, by decide⟩
      · rw [if_neg (fun k => by have := c2.mp k; omega), iw_neg, show -(-(j : Int)) = (j : Int) by omega, iw_nat, nl_ushr (by omega) (by omega)]
        exact ⟨rfl, by omega⟩
    · rw [if_neg (fun k => h1 (c1.mp k))]
      obtain ⟨j, rfl⟩ : ∃ j : Nat, e = (j : Int) := ⟨e.toNat, by omega⟩
      rw [show ((j : Int)).toNat = j by omega, show (-(j : Int)).toNat = 0 by omega, Nat.pow_zero, Nat.div_one, iw_nat, nl_shl (by omega)]
      have hp : 2 ^ j ≤ 2 ^ 11 := Nat.pow_le_pow_right (by decide) (by omega)
      have := Nat.mul_le_mul (show m ≤ 2 ^ 53 - 1 by omega) hp
      exact ⟨rfl, by omega⟩
theorem nl_neg {n : Nat} (h : n < 2 ^ 64) : -nl n = Int64.ofInt (-(n : Int)) := by
  rw [Int64.ofInt_neg]
  congr 1
theorem nl_ofInt (n : Nat) : nl n = Int64.ofInt (n : Int) := (Int64.ofInt_eq_ofNat (n := n)).symm
theorem great_W {n : Nat} (h0 : dC n ≠ 0) (h : 11 < sge (dC n) (dQ n)) : 2 ^ 64 ≤ dW n := by
  have hs : dW n = sgm (dC n) * 2 ^ (sge (dC n) (dQ n)).toNat / 2 ^ (-sge (dC n) (dQ n)).toNat := dW_sg
  rw [hs]
  obtain ⟨-, g1, g2⟩ := log53 (show 0 < dC n by omega) (dC_lt _)
  generalize sge (dC n) (dQ n) = e at *
  generalize sgm (dC n) = m at *
  obtain ⟨j, rfl⟩ : ∃ j : Nat, e = (j : Int) := ⟨e.toNat, by omega⟩
  rw [show ((j : Int)).toNat = j by omega, show (-(j : Int)).toNat = 0 by omega, Nat.pow_zero, Nat.div_one]
  have hp : 2 ^ 12 ≤ 2 ^ j := Nat.pow_le_pow_right (by decide) (by omega)
  have := Nat.mul_le_mul g1 hp
  omega
/-- a double cut, H the greatest -/
theorem X16_cut_b13 {x : Int64} {H : Nat} (hx : okd (un x)) (hH : H < 2 ^ 63) : F_X16_cut_b13 (nl H) x = some (Int64.ofInt (FP.Core.toInt (-(H : Int) - 1) H (FP.Core.decode FP.Core.b64 (un x)))) := by
  have mt : mr true ≠ 0 := by decide
  have mf : mr false = 0 := by decide
  have hx1 := un_lt x
  have st : F_X16_cut_b13 (nl H) x = F_X16_cut_b25 (mr (dS (un x))) x (nl H) := by
    unfold F_X16_cut_b13
    have := neg_iff x
    cases hd : dS (un x) with
    | true => rw [if_pos (this.mpr hd)]; rfl
    | false => rw [if_neg (fun h => by rw [this.mp h] at hd; cases hd)]; rfl
  rw [st]
  unfold F_X16_cut_b25
  rw [X24_isGreat hx]
  simp only [Option.bind_some]
  have big : ∀ (s : Bool) (t : Int64), F_X16_cut_b67 (nl H) (mr s) t = some (Int64.ofInt (if s = true then -(H : Int) - 1 else H)) := by
    intro s t
    unfold F_X16_cut_b67 F_X16_cut_b72 F_X16_cut_b92
    rw [if_neg (by decide)]
    cases s with
    | true =>
      rw [if_neg (by decide), if_pos rfl, nl_neg (by omega), show (1 : Int64) = Int64.ofInt 1 from rfl, ← Int64.ofInt_sub]
    | false => rw [if_pos (by decide), if_neg (by decide), nl_ofInt]
  by_cases hg : un x % 2 ^ 63 = 2047 * 2 ^ 52 ∨ (un x % 2 ^ 63 ≠ 0 ∧ 11 < sge (dC (un x)) (dQ (un x)))
  · rw [decide_eq_true hg, if_neg mt]
    unfold F_X16_cut_b46
    rw [if_neg mt, big]
    refine congrArg (fun z => some (Int64.ofInt z)) ?_
    rcases okd_cases hx1 hx with ⟨a1, a2, a3⟩ | ⟨a1, a2, a3⟩ | ⟨a1, a2, a3, a4⟩
    · rw [dec_inf hx1 a2 a3]; rfl
    · omega
    · have hw := great_W a4 (by omega)
      rw [dec_fin hx1 a3]
      show _ = max (-(H : Int) - 1) (min (H : Int) (FP.Core.signed (dS (un x)) (dW (un x))))
      cases dS (un x) with
      | true =>
        show _ = max (-(H : Int) - 1) (min (H : Int) (-(dW (un x) : Int)))
        rw [if_pos rfl]; omega
      | false =>
        show _ = max (-(H : Int) - 1) (min (H : Int) (dW (un x) : Int))
        rw [if_neg (by decide)]; omega
  · obtain ⟨c1, c2⟩ := X24_cut hx hg
    rw [decide_eq_false hg, if_pos mf, c1]
    simp only [Option.bind_some]
    have hfin : FP.Core.decode FP.Core.b64 (un x) = .fin (dS (un x)) (dC (un x)) (dQ (un x)) := by
      rcases okd_cases hx1 hx with ⟨a1, a2, a3⟩ | ⟨a1, a2, a3⟩ | ⟨a1, a2, a3, a4⟩
      · exact absurd (Or.inl a1) hg
      · exact dec_fin hx1 (by omega)
      · exact dec_fin hx1 a3
    rw [hfin]
    show _ = some (Int64.ofInt (max (-(H : Int) - 1) (min (H : Int) (FP.Core.signed (dS (un x)) (dW (un x))))))
    generalize dW (un x) = W at *
    generalize dS (un x) = s at *
    unfold F_X16_cut_b46
    rw [if_pos mf]
    have bigW : H < W → (Int64.ofInt (if s = true then -(H : Int) - 1 else H)) = Int64.ofInt (max (-(H : Int) - 1) (min (H : Int) (FP.Core.signed s W))) := by
      intro hW
      refine congrArg Int64.ofInt ?_
      cases s with
      | true =>
        show _ = max (-(H : Int) - 1) (min (H : Int) (-(W : Int)))
        rw [if_pos rfl]; omega
      | false =>
        show _ = max (-(H : Int) - 1) (min (H : Int) (W : Int))
        rw [if_neg (by decide)]; omega
    by_cases hW : W < 2 ^ 63
    · have n1 : ¬ nl W < 0 := by
        rw [show (0 : Int64) = nl 0 from rfl, nl_lt hW (by decide)]; omega
      rw [if_neg n1]
      have n2 : nl H < nl W ↔ H < W := nl_lt hH hW
      by_cases hc : H < W
      · rw [if_pos (n2.mpr hc), big, bigW hc]
      · rw [if_neg (fun k => hc (n2.mp k))]
        unfold F_X16_cut_b72 F_X16_cut_b106
        rw [if_pos rfl]
        cases s with
        | true =>
          rw [if_neg mt, nl_neg c2]
          refine congrArg (fun z => some (Int64.ofInt z)) ?_
          show _ = max (-(H : Int) - 1) (min (H : Int) (-(W : Int)))
          omega
        | false =>
          rw [if_pos mf, nl_ofInt]
          refine congrArg (fun z => some (Int64.ofInt z)) ?_
          show _ = max (-(H : Int) - 1) (min (H : Int) (W : Int))
          omega
    · have n1 : nl W < 0 := by
        rw [neg_iff, un_nl' c2]
        unfold dS
        exact decide_eq_true (by omega)
      rw [if_pos n1, big, bigW (by omega)]
theorem X16_cut_1 {x : Int64} (hx : okd (un x)) : F_X16_cut x 1 = some (FP.d2l x.toUInt64) := by
  unfold F_X16_cut
  rw [if_neg (by decide), show (9223372036854775807 : Int64) = nl (2 ^ 63 - 1) from rfl, X16_cut_b13 hx (by decide)]
  rfl
theorem X16_cut_0 {x : Int64} (hx : okd (un x)) : F_X16_cut x 0 = some ((FP.d2i x.toUInt64).toInt64) := by
  unfold F_X16_cut
  rw [if_pos (by decide), show (2147483647 : Int64) = nl (2 ^ 31 - 1) from rfl, X16_cut_b13 hx (by decide)]
  have e : (FP.d2i x.toUInt64) = Int32.ofInt (FP.Core.toInt (-2 ^ 31) (2 ^ 31 - 1) (FP.Core.decode FP.Core.b64 (un x))) := rfl
  rw [e]
  refine congrArg some ?_
  have b : ∀ d : FP.Core.Datum, -2 ^ 31 ≤ FP.Core.toInt (-2 ^ 31) (2 ^ 31 - 1) d ∧ FP.Core.toInt (-2 ^ 31) (2 ^ 31 - 1) d ≤ 2 ^ 31 - 1 := by
    intro d
    cases d with
    | nan => decide
    | inf s => cases s <;> decide
    | fin s c q =>
      show -2 ^ 31 ≤ max (-2 ^ 31) (min (2 ^ 31 - 1) (FP.Core.truncate s c q)) ∧ max (-2 ^ 31) (min (2 ^ 31 - 1) (FP.Core.truncate s c q)) ≤ 2 ^ 31 - 1
      omega
  have hb := b (FP.Core.decode FP.Core.b64 (un x))
  show Int64.ofInt (FP.Core.toInt (-2 ^ 31) (2 ^ 31 - 1) (FP.Core.decode FP.Core.b64 (un x))) = _
  generalize FP.Core.toInt (-2 ^ 31) (2 ^ 31 - 1) (FP.Core.decode FP.Core.b64 (un x)) = z at *
  apply Int64.toInt_inj.mp
  rw [Int32.toInt_toInt64, Int64.toInt_ofInt_of_le (by omega) (by omega), Int32.toInt_ofInt_of_le (by omega) (by omega)]
