/-! ===== FLOATS, 25: rounding to whole numbers, the model ===== -/
/-- whether the whole part goes up: way 0 down, 1 up, 2 to the nearest; fr of P is left -/
def rUp (way : Nat) (s : Bool) (W fr P : Nat) : Bool :=
  if way = 2 then decide (P < 2 * fr ∨ (2 * fr = P ∧ W % 2 = 1)) else decide (fr ≠ 0) && (decide (way = 0) == s)
def rQ (way : Nat) (s : Bool) (W fr P : Nat) : Nat := if rUp way s W fr P = true then W + 1 else W
theorem rUp_scale {way : Nat} {s : Bool} {W fr P k : Nat} (hk : 0 < k) : rUp way s W (fr * k) (P * k) = rUp way s W fr P := by
  unfold rUp
  have e1 : (P * k < 2 * (fr * k)) ↔ P < 2 * fr := by
    rw [← Nat.mul_assoc]
    exact Nat.mul_lt_mul_right hk
  have e2 : (2 * (fr * k) = P * k) ↔ 2 * fr = P := by
    rw [← Nat.mul_assoc]
    exact ⟨fun h => Nat.mul_right_cancel hk h, fun h => by rw [h]⟩
  have e3 : (fr * k ≠ 0) ↔ fr ≠ 0 := by
    rw [Ne, Nat.mul_eq_zero]
    omega
  simp only [e1, e2, e3]
theorem or_sgb {s : Bool} {k : Nat} (h : k < 2 ^ 63) : nl (sgb s) ||| nl k = nl (k + sgb s) := by
  have := nl_sign h s
  have e : nl (sgb s) = if s = true then -9223372036854775808 else 0 := by cases s <;> rfl
  rw [e]
  exact this
/-- the end: a whole number below 2 ^ 53 with a sign -/
theorem b195 {s : Bool} {Q : Nat} (h : Q < 2 ^ 60) : F_X16_rounded_b195 (nl (sgb s)) (nl Q) = some (dv s Q 0).toInt64 := by
  unfold F_X16_rounded_b195 F_X16_rounded_b216
  have z1 : (nl Q = 0) ↔ Q = 0 := by rw [show (0 : Int64) = nl 0 from rfl, nl_eq (by omega) (by decide)]
  have edv : (dv s Q 0).toInt64 = nl (FP.Core.encode FP.Core.b64 (FP.Core.roundRatio FP.Core.b64 s Q 1 0)) := rfl
  rw [edv]
  by_cases h0 : Q = 0
  · subst h0
    rw [if_pos (z1.mpr rfl), ← sgb_zero]
  · rw [if_neg (fun h => h0 (z1.mp h)), X24_of]
    have e : (FP.l2d (nl Q)).toInt64 = nl (FP.Core.encode FP.Core.b64 (FP.Core.roundRatio FP.Core.b64 (decide ((nl Q).toInt < 0)) (nl Q).toInt.natAbs 1 0)) := rfl
    have hi : (nl Q).toInt = Q := nl_int (by omega)
    rw [e, hi, decide_eq_false (by omega)]
    simp only [Option.bind_some]
    rw [enc64 s]
    refine congrArg some ?_
    rw [or_sgb]
    · rfl
    · exact enc64_lt
theorem b184 {s u : Bool} {W : Nat} (h : W < 2 ^ 55) : F_X16_rounded_b184 (nl (sgb s)) (nl W) (mr u) = some (dv s (if u = true then W + 1 else W) 0).toInt64 := by
  unfold F_X16_rounded_b184
  cases u with
  | true =>
    rw [if_neg (by decide), if_pos rfl]
    have : nl W + 1 = nl (W + 1) := nl_add W 1
    simp only [this]
    exact b195 (by omega)
  | false =>
    rw [if_pos (by decide), if_neg (by decide)]
    exact b195 (by omega)
theorem b83 {s : Bool} {way m k W fr : Nat} (hw : way ≤ 2) (hm : m < 2 ^ 53) (hk : 0 < k) (hk2 : k < 2000) (hW : W = m / 2 ^ k) (hfr : fr = m % 2 ^ k) :
    F_X16_rounded_b83 (nl fr) (iw way) (iw k) (nl (sgb s)) (nl W) = some (dv s (rQ way s W fr (2 ^ k)) 0).toInt64 := by
  have hWm : W ≤ m := by rw [hW]; exact Nat.div_le_self _ _
  have hfm : fr ≤ m := by rw [hfr]; exact Nat.mod_le _ _
  have hf2 : fr < 2 ^ k := by rw [hfr]; exact Nat.mod_lt _ (Nat.two_pow_pos _)
  have z0 : ∀ a : Nat, a < 2 ^ 63 → ((0 : Int64) < nl a ↔ 0 < a) := fun a h => by rw [show (0 : Int64) = nl 0 from rfl, nl_lt (by decide) h]
  have fin : ∀ u : Bool, rUp way s W fr (2 ^ k) = u → F_X16_rounded_b184 (nl (sgb s)) (nl W) (mr u) = some (dv s (rQ way s W fr (2 ^ k)) 0).toInt64 := by
    intro u hu
    rw [b184 (by omega)]
    unfold rQ
    rw [hu]
  unfold F_X16_rounded_b83 F_X16_rounded_b162 F_X16_rounded_b174 F_X16_rounded_b181 F_X16_rounded_b182
  have c2 : (iw (way : Int) = 2) ↔ way = 2 := by rw [show (2 : Int32) = iw 2 from rfl, iw_eq (by omega) (by omega) (by omega) (by omega)]; omega
  have c0 : (iw (way : Int) = 0) ↔ way = 0 := by rw [iw_eq0 (by omega) (by omega)]; omega
  by_cases h2 : way = 2
  · rw [if_pos (c2.mpr h2)]
    -- the half
    have b109 : ∀ H : Nat, H < 2 ^ 63 → ((H < fr ↔ 2 ^ k < 2 * fr) ∧ (fr = H ↔ 2 * fr = 2 ^ k)) → F_X16_rounded_b109 (nl H) (nl (sgb s)) (nl W) (nl fr) = some (dv s (rQ way s W fr (2 ^ k)) 0).toInt64 := by
      intro H hH hh
      unfold F_X16_rounded_b109 F_X16_rounded_b136 F_X16_rounded_b140 F_X16_rounded_b141
      rw [nl_and1 (by omega)]
      have k1 : (nl H < nl fr) ↔ 2 ^ k < 2 * fr := by rw [nl_lt hH (by omega)]; exact hh.1
      have k2 : (nl fr = nl H) ↔ 2 * fr = 2 ^ k := by rw [nl_eq (by omega) (by omega)]; exact hh.2
      have k3 : (nl (W % 2) = 1) ↔ W % 2 = 1 := by rw [show (1 : Int64) = nl 1 from rfl, nl_eq (by omega) (by decide)]
      simp only [k1, k2, k3]
      have hu : rUp way s W fr (2 ^ k) = decide (2 ^ k < 2 * fr ∨ (2 * fr = 2 ^ k ∧ W % 2 = 1)) := by
        unfold rUp
        rw [if_pos h2]
      by_cases j1 : 2 ^ k < 2 * fr
      · rw [if_pos j1]
        exact fin true (by rw [hu]; exact decide_eq_true (Or.inl j1))
      · rw [if_neg j1]
        by_cases j2 : 2 * fr = 2 ^ k
        · rw [if_pos j2]
          by_cases j3 : W % 2 = 1
          · rw [if_pos j3]
            exact fin true (by rw [hu]; exact decide_eq_true (Or.inr ⟨j2, j3⟩))
          · rw [if_neg j3]
            exact fin false (by rw [hu]; exact decide_eq_false (by omega))
        · rw [if_neg j2]
          exact fin false (by rw [hu]; exact decide_eq_false (by omega))
    have c54 : ((54 : Int32) < iw (k : Int)) ↔ 54 < k := by rw [show (54 : Int32) = iw 54 from rfl, iw_lt (by omega) (by omega) (by omega) (by omega)]; omega
    by_cases h54 : 54 < k
    · rw [if_pos (c54.mpr h54)]
      have hp : 2 ^ 55 ≤ 2 ^ k := Nat.pow_le_pow_right (by decide) (by omega)
      have e63 : (9223372036854775807 : Int64) = nl 9223372036854775807 := rfl
      rw [e63]
      generalize 2 ^ k = P at *
      exact b109 9223372036854775807 (by decide) ⟨by omega, by omega⟩
    · rw [if_neg (fun h => h54 (c54.mp h))]
      have e : iw (k : Int) - 1 = Int32.ofNat (k - 1) := by
        rw [show (1 : Int32) = iw 1 from rfl, iw_sub, ← iw_nat]
        congr 1
        omega
      have e2 : j_lshl 1 (iw (k : Int) - 1) = nl (1 * 2 ^ (k - 1)) := by
        rw [e, show (1 : Int64) = nl 1 from rfl, nl_shl (by omega)]
      rw [e2, Nat.one_mul]
      have hp : 2 ^ (k - 1) ≤ 2 ^ 53 := Nat.pow_le_pow_right (by decide) (by omega)
      have hp2 : 2 ^ k = 2 * 2 ^ (k - 1) := by rw [show k = (k - 1) + 1 by omega, Nat.pow_succ, Nat.add_sub_cancel]; omega
      exact b109 (2 ^ (k - 1)) (by omega) ⟨by omega, by omega⟩
  · rw [if_neg (fun h => h2 (c2.mp h))]
    have hu : rUp way s W fr (2 ^ k) = (decide (fr ≠ 0) && (decide (way = 0) == s)) := by
      unfold rUp
      rw [if_neg h2]
    have zf := z0 fr (by omega)
    by_cases hf0 : 0 < fr
    · rw [if_pos (zf.mpr hf0), decide_eq_true (show fr ≠ 0 by omega), Bool.true_and] at *
      by_cases hw0 : way = 0
      · rw [if_pos (c0.mpr hw0)]
        rw [decide_eq_true hw0] at hu
        cases s with
        | true => rw [if_neg (by decide), if_pos rfl]; exact fin true hu
        | false => rw [if_pos (by decide), if_neg (by decide)]; exact fin false hu
      · rw [if_neg (fun h => hw0 (c0.mp h))]
        rw [decide_eq_false hw0] at hu
        cases s with
        | true => rw [if_neg (by decide), if_neg (by decide)]; exact fin false hu
        | false => rw [if_pos (by decide), if_pos rfl]; exact fin true hu
    · rw [if_neg (fun h => hf0 (zf.mp h))]
      exact fin false (by rw [hu, decide_eq_false (by omega), Bool.false_and])
