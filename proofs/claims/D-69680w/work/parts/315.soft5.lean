/-! ===== FLOATS, 7: Soft's wide, floatOf ===== -/
theorem sh_sr32 : ((23 : Int32) &&& 31).toBitVec.smod 32 = BitVec.ofNat 32 23 := by decide +kernel
theorem ui_sshr23 (x : Int32) : ui (j_ishr x 23) = if ui x < 2 ^ 31 then ui x / 2 ^ 23 else 2 ^ 32 - 1 - (2 ^ 32 - 1 - ui x) / 2 ^ 23 := by
  have e : ui (j_ishr x 23) = (x.toBitVec.sshiftRight 23).toNat := by
    unfold j_ishr
    show (x.toBitVec.sshiftRight' (((23 : Int32) &&& 31).toBitVec.smod 32)).toNat = _
    rw [sh_sr32]
    rfl
  rw [e]
  have hlt := ui_lt x
  by_cases h : ui x < 2 ^ 31
  · rw [if_pos h, BitVec.sshiftRight_eq_of_msb_false (by
      rw [BitVec.msb_eq_false_iff_two_mul_lt]
      have : x.toBitVec.toNat < 2 ^ 31 := h
      omega), BitVec.toNat_ushiftRight, Nat.shiftRight_eq_div_pow]
    rfl
  · rw [if_neg h, BitVec.sshiftRight_eq_of_msb_true (by
      rw [BitVec.msb_eq_true_iff_two_mul_ge]
      have : ¬ x.toBitVec.toNat < 2 ^ 31 := h
      omega), BitVec.toNat_not, BitVec.toNat_ushiftRight, BitVec.toNat_not, Nat.shiftRight_eq_div_pow]
    rfl
theorem exp_field32 (x : Int32) : j_ishr x 23 &&& 255 = ni (ui x / 2 ^ 23 % 256) := by
  apply ui_inj
  have hlt := ui_lt x
  rw [ui_and, ui_sshr23, show ui (255 : Int32) = 2 ^ 8 - 1 from rfl, Nat.and_two_pow_sub_one_eq_mod, ui_ni (by omega)]
  split <;> omega
def fE (n : Nat) : Nat := n / 2 ^ 23 % 256
def fT (n : Nat) : Nat := n % 2 ^ 23
def fC (n : Nat) : Nat := if fE n = 0 then fT n else 2 ^ 23 + fT n
def fQ (n : Nat) : Int := if fE n = 0 then -149 else (fE n : Int) - 150
def fS (n : Nat) : Bool := decide (2 ^ 31 ≤ n)
theorem dec32_S {n : Nat} (hn : n < 2 ^ 32) : FP.Core.fieldS FP.Core.b32 n = fS n := by
  unfold FP.Core.fieldS fS
  show (n / 2 ^ 23 / 2 ^ 8 % 2 == 1) = _
  by_cases h1 : 2 ^ 31 ≤ n
  · rw [decide_eq_true h1]
    rw [show n / 2 ^ 23 / 2 ^ 8 % 2 = 1 by omega]
    rfl
  · rw [decide_eq_false h1]
    rw [show n / 2 ^ 23 / 2 ^ 8 % 2 = 0 by omega]
    rfl
theorem dec32_fin {n : Nat} (hn : n < 2 ^ 32) (h : fE n ≠ 255) : FP.Core.decode FP.Core.b32 n = .fin (fS n) (fC n) (fQ n) := by
  have eE : FP.Core.fieldE FP.Core.b32 n = fE n := rfl
  have eT : FP.Core.fieldT FP.Core.b32 n = fT n := rfl
  have eX : FP.Core.b32.exps - 1 = 255 := rfl
  have eQ : FP.Core.b32.qmin = -149 := by decide
  unfold FP.Core.decode
  rw [dec32_S hn, eE, eT, eX, if_neg h, eQ]
  unfold fC fQ
  by_cases h0 : fE n = 0
  · rw [if_pos h0, if_pos h0, if_pos h0]
  · rw [if_neg h0, if_neg h0, if_neg h0]
    congr 1
    omega
theorem dec32_inf {n : Nat} (hn : n < 2 ^ 32) (h : fE n = 255) (hT : fT n = 0) : FP.Core.decode FP.Core.b32 n = .inf (fS n) := by
  unfold FP.Core.decode
  rw [show FP.Core.fieldE FP.Core.b32 n = fE n from rfl, show FP.Core.b32.exps - 1 = 255 from rfl, if_pos h, show FP.Core.fieldT FP.Core.b32 n = fT n from rfl, if_pos hT, dec32_S hn]
/-- not a NaN -/
def okf (n : Nat) : Prop := n % 2 ^ 31 ≤ 255 * 2 ^ 23
theorem okf_cases {n : Nat} (hn : n < 2 ^ 32) (h : okf n) : (fE n = 255 ∧ fT n = 0) ∨ (fC n = 0 ∧ fE n = 0 ∧ fT n = 0) ∨ (fE n ≠ 255 ∧ fC n ≠ 0 ∧ ¬ (fE n = 0 ∧ fT n = 0)) := by
  unfold okf at h
  unfold fC fE fT
  by_cases h1 : n % 2 ^ 31 = 255 * 2 ^ 23
  · exact Or.inl ⟨by omega, by omega⟩
  · by_cases h2 : n % 2 ^ 31 = 0
    · refine Or.inr (Or.inl ⟨?_, by omega, by omega⟩)
      rw [if_pos (by omega)]
      omega
    · refine Or.inr (Or.inr ⟨by omega, ?_, by omega⟩)
      split <;> omega
theorem not_nan32 {n : Nat} (hn : n < 2 ^ 32) (h : okf n) : FP.Core.decode FP.Core.b32 n ≠ .nan := by
  rcases okf_cases hn h with ⟨h2, h3⟩ | ⟨h1, h2, h3⟩ | ⟨h3, h4, -⟩
  · rw [dec32_inf hn h2 h3]; exact fun h => by cases h
  · rw [dec32_fin hn (by omega)]; exact fun h => by cases h
  · rw [dec32_fin hn h3]; exact fun h => by cases h
theorem neg_iff32 (x : Int32) : x < 0 ↔ fS (ui x) = true := by
  unfold fS
  rw [decide_eq_true_iff, Int32.lt_iff_toInt_lt]
  have h3 : x.toInt = x.toBitVec.toInt := rfl
  have h4 : ui x = x.toBitVec.toNat := rfl
  have h5 := ui_lt x
  rw [h3, BitVec.toInt_eq_toNat_cond, h4]
  rw [h4] at h5
  show (_ : Int) < 0 ↔ _
  split <;> omega
theorem nl_sign {k : Nat} (h : k < 2 ^ 63) (s : Bool) : (if s = true then -9223372036854775808 else 0) ||| nl k = nl (k + if s = true then 2 ^ 63 else 0) := by
  cases s with
  | true =>
    apply un_inj
    simp only [if_true]
    rw [un_or, un_nl' (by omega), show un (-9223372036854775808 : Int64) = 2 ^ 63 from rfl, un_nl' (by omega)]
    have := Nat.two_pow_add_eq_or_of_lt h 1
    rw [Nat.mul_one] at this
    omega
  | false =>
    apply un_inj
    simp only [Bool.false_eq_true, if_false, Nat.add_zero]
    rw [un_or, show un (0 : Int64) = 0 from rfl, Nat.zero_or]
theorem fC_lt (n : Nat) : fC n < 2 ^ 24 := by
  unfold fC fT
  split <;> omega
theorem fQ_bd (n : Nat) : -149 ≤ fQ n ∧ fQ n ≤ 105 := by
  unfold fQ fE
  split <;> omega
/-- a number without a sign that 53 digits take whole -/
theorem rnd53 {c : Nat} {q : Int} (h0 : 0 < c) (h : c < 2 ^ 62) : rndm 53 1023 c q false = FP.Core.encode FP.Core.b64 (FP.Core.roundRatio FP.Core.b64 false c 1 q) := by
  have h1 := rndm_ok (f := FP.Core.b64) f64.1 f64.2.1 (by decide) (by decide) (m := c) (e := q) (more := false) h0 h (fun h => by cases h)
  have h2 : FP.Core.roundRatio FP.Core.b64 false (2 * c + 0) 1 (q - 1) = FP.Core.roundRatio FP.Core.b64 false c 1 q := by
    refine rr_congr (by decide) (by decide) ?_
    rw [show (q - 1 - q).toNat = 0 by omega, show (q - (q - 1)).toNat = 1 by omega]
    omega
  rw [← h2]
  exact h1
theorem X24_wide {x : Int32} (hx : okf (ui x)) : F_X24_wide x = some ((FP.f2d x.toUInt32).toInt64) := by
  have eD : (FP.f2d x.toUInt32).toInt64 = nl (FP.Core.encode FP.Core.b64 (FP.Core.round FP.Core.b64 (FP.Core.decode FP.Core.b32 (ui x)))) := by
    have h1 : x.toUInt32.toNat = ui x := rfl
    have h2 : FP.Core.fIsNaN x.toUInt32 = false := decide_eq_false (by rw [h1]; exact not_nan32 (ui_lt x) hx)
    unfold FP.f2d
    rw [h2]
    rfl
  rw [eD]
  have hlt := ui_lt x
  have hT : fT (ui x) < 2 ^ 23 := Nat.mod_lt _ (by decide)
  have hE : fE (ui x) < 256 := Nat.mod_lt _ (by decide)
  have hm : (x &&& 8388607).toInt64 = nl (fT (ui x)) := by
    have : x &&& 8388607 = ni (fT (ui x)) := by
      apply ui_inj
      rw [ui_and, show ui (8388607 : Int32) = 2 ^ 23 - 1 from rfl, Nat.and_two_pow_sub_one_eq_mod, ui_ni (by omega)]
      rfl
    rw [this]
    exact i64_of (by omega)
  have hf : j_ishr x 23 &&& 255 = ni (fE (ui x)) := exp_field32 x
  have cE : ∀ k : Nat, k < 256 → ((ni (fE (ui x)) = ni k) ↔ fE (ui x) = k) := fun k hk => by
    refine ⟨fun h => ?_, fun h => by rw [h]⟩
    have := congrArg ui h
    rwa [ui_ni (by omega), ui_ni (by omega)] at this
  have tail : F_X24_wide_b11 (if fS (ui x) = true then -9223372036854775808 else 0) x = some (nl (FP.Core.encode FP.Core.b64 (FP.Core.round FP.Core.b64 (FP.Core.decode FP.Core.b32 (ui x))))) := by
    unfold F_X24_wide_b11
    simp only [hm, hf]
    rcases okf_cases hlt hx with ⟨h2, h3⟩ | ⟨h1, h2, h3⟩ | ⟨h3, h4, h5⟩
    · rw [if_pos (by rw [show (255 : Int32) = ni 255 from rfl, cE 255 (by decide)]; exact h2), dec32_inf hlt h2 h3, h3]
      refine congrArg some ?_
      show _ = nl (FP.Core.encode FP.Core.b64 (.inf (fS (ui x))))
      cases fS (ui x) <;> decide
    · rw [if_neg (by rw [show (255 : Int32) = ni 255 from rfl, cE 255 (by decide)]; omega), if_pos (by rw [show (0 : Int32) = ni 0 from rfl, cE 0 (by decide)]; exact h2), h3, if_pos (show nl 0 = 0 from rfl), dec32_fin hlt (by omega), h1]
      refine congrArg some ?_
      show _ = nl (FP.Core.encode FP.Core.b64 (FP.Core.roundRatio FP.Core.b64 (fS (ui x)) 0 1 (fQ (ui x))))
      unfold FP.Core.roundRatio
      rw [if_pos rfl]
      cases fS (ui x) <;> decide
    · rw [if_neg (by rw [show (255 : Int32) = ni 255 from rfl, cE 255 (by decide)]; exact h3)]
      -- the tail of both ways
      have hfin : ∀ (c : Nat) (q : Int), 0 < c → c < 2 ^ 24 → -149 ≤ q → q ≤ 105 → ((F_X24_rounded (nl c) (iw q) 0 53 1023).bind fun z1 => some ((if fS (ui x) = true then (-9223372036854775808 : Int64) else 0) ||| z1)) = some (nl (FP.Core.encode FP.Core.b64 (FP.Core.roundRatio FP.Core.b64 (fS (ui x)) c 1 q))) := by
        intro c q h0 h1 h2 h6
        have hr := X24_rounded (p := 53) (bias := 1023) (m := c) (e := q) (more := false) (by decide) (by decide) h0 (by omega) (by omega) (by omega)
        have hr : F_X24_rounded (nl c) (iw q) 0 53 1023 = some (nl (rndm 53 1023 c q false)) := hr
        rw [hr]
        show some _ = some _
        rw [rnd53 h0 (by omega), nl_sign enc64_lt, ← enc64]
      have hc : fC (ui x) < 2 ^ 24 := fC_lt _
      have hq := fQ_bd (ui x)
      have hgoal := hfin (fC (ui x)) (fQ (ui x)) (by omega) hc hq.1 hq.2
      have go : F_X24_wide_b57 (if fS (ui x) = true then -9223372036854775808 else 0) (ni (fE (ui x))) (nl (fT (ui x))) = some (nl (FP.Core.encode FP.Core.b64 (FP.Core.roundRatio FP.Core.b64 (fS (ui x)) (fC (ui x)) 1 (fQ (ui x))))) := by
        unfold F_X24_wide_b57 F_X24_wide_b72 F_X24_wide_b81
        by_cases h0 : fE (ui x) = 0
        · have e0 : ni (fE (ui x)) = 0 := (cE 0 (by decide)).mpr h0
          rw [if_pos e0, if_pos e0]
          have e1 : fC (ui x) = fT (ui x) := if_pos h0
          have e2 : fQ (ui x) = -149 := if_pos h0
          rw [e1, e2] at hgoal ⊢
          have e3 : (1 : Int32) - 150 = iw (-149) := by decide
          rw [e3]
          exact hgoal
        · have e0 : ¬ ni (fE (ui x)) = 0 := fun h => h0 ((cE 0 (by decide)).mp h)
          rw [if_neg e0, if_neg e0]
          have e1 : fC (ui x) = 2 ^ 23 + fT (ui x) := if_neg h0
          have e2 : fQ (ui x) = (fE (ui x) : Int) - 150 := if_neg h0
          have e3 : ni (fE (ui x)) - 150 = iw (fQ (ui x)) := by
            rw [e2, ← iw_sub, iw_nat]
            rfl
          have e4 : nl (fT (ui x)) ||| 8388608 = nl (fC (ui x)) := by
            apply un_inj
            rw [e1, un_or, un_nl' (by omega), show un (8388608 : Int64) = 2 ^ 23 from rfl, un_nl' (by omega), Nat.or_comm]
            have := Nat.two_pow_add_eq_or_of_lt hT 1
            rw [Nat.mul_one] at this
            exact this.symm
          rw [e3, e4]
          exact hgoal
      rw [dec32_fin hlt h3]
      show _ = some (nl (FP.Core.encode FP.Core.b64 (FP.Core.roundRatio FP.Core.b64 (fS (ui x)) (fC (ui x)) 1 (fQ (ui x)))))
      by_cases h0 : ni (fE (ui x)) = 0
      · rw [if_pos h0]
        rw [if_neg (fun h => h5 ⟨(cE 0 (by decide)).mp h0, by
          have := congrArg un h
          rw [un_nl' (by omega)] at this
          exact this⟩)]
        exact go
      · rw [if_neg h0]
        exact go
  unfold F_X24_wide
  by_cases hn : x < 0
  · rw [if_pos hn]
    rw [(neg_iff32 x).mp hn] at tail
    exact tail
  · rw [if_neg hn]
    have : fS (ui x) = false := by
      cases h : fS (ui x) with
      | false => rfl
      | true => exact absurd ((neg_iff32 x).mpr h) hn
    rw [this] at tail
    exact tail
