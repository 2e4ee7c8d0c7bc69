/-! ===== FLOATS, 4: the fields of a double; Soft's significand and exponent ===== -/
theorem sh_sr : ∀ k : Fin 64, ((Int32.ofNat k.val).toInt64 &&& 63).toBitVec.smod 64 = BitVec.ofNat 64 k.val := by decide +kernel
theorem un_sshr52 (x : Int64) : un (j_lshr x 52) = if un x < 2 ^ 63 then un x / 2 ^ 52 else 2 ^ 64 - 1 - (2 ^ 64 - 1 - un x) / 2 ^ 52 := by
  have e : un (j_lshr x 52) = (x.toBitVec.sshiftRight 52).toNat := by
    unfold j_lshr
    show (x.toBitVec.sshiftRight' (((Int32.ofNat 52).toInt64 &&& 63).toBitVec.smod 64)).toNat = _
    rw [sh_sr ⟨52, by decide⟩]
    rfl
  rw [e]
  have hlt := un_lt x
  by_cases h : un x < 2 ^ 63
  · rw [if_pos h, BitVec.sshiftRight_eq_of_msb_false (by
      rw [BitVec.msb_eq_false_iff_two_mul_lt]
      have : x.toBitVec.toNat < 2 ^ 63 := h
      omega), BitVec.toNat_ushiftRight, Nat.shiftRight_eq_div_pow]
    rfl
  · rw [if_neg h, BitVec.sshiftRight_eq_of_msb_true (by
      rw [BitVec.msb_eq_true_iff_two_mul_ge]
      have : ¬ x.toBitVec.toNat < 2 ^ 63 := h
      omega), BitVec.toNat_not, BitVec.toNat_ushiftRight, BitVec.toNat_not, Nat.shiftRight_eq_div_pow]
    rfl
theorem exp_field (x : Int64) : j_lshr x 52 &&& 2047 = nl (un x / 2 ^ 52 % 2048) := by
  apply un_inj
  have hlt := un_lt x
  rw [un_and, un_sshr52, show un (2047 : Int64) = 2 ^ 11 - 1 from rfl, Nat.and_two_pow_sub_one_eq_mod, un_nl' (by omega)]
  split <;> omega
/-- the significand and the exponent of a finite double, by its bits; its sign -/
def dE (n : Nat) : Nat := n / 2 ^ 52 % 2048
def dT (n : Nat) : Nat := n % 2 ^ 52
def dC (n : Nat) : Nat := if dE n = 0 then dT n else 2 ^ 52 + dT n
def dQ (n : Nat) : Int := if dE n = 0 then -1074 else (dE n : Int) - 1075
def dS (n : Nat) : Bool := decide (2 ^ 63 ≤ n)
theorem dec_fin {n : Nat} (hn : n < 2 ^ 64) (h : dE n ≠ 2047) : FP.Core.decode FP.Core.b64 n = .fin (dS n) (dC n) (dQ n) := by
  have eS : FP.Core.fieldS FP.Core.b64 n = dS n := by
    unfold FP.Core.fieldS dS
    show (n / 2 ^ 52 / 2 ^ 11 % 2 == 1) = _
    by_cases h1 : 2 ^ 63 ≤ n
    · rw [decide_eq_true h1]
      rw [show n / 2 ^ 52 / 2 ^ 11 % 2 = 1 by omega]
      rfl
    · rw [decide_eq_false h1]
      rw [show n / 2 ^ 52 / 2 ^ 11 % 2 = 0 by omega]
      rfl
  have eE : FP.Core.fieldE FP.Core.b64 n = dE n := rfl
  have eT : FP.Core.fieldT FP.Core.b64 n = dT n := rfl
  have eX : FP.Core.b64.exps - 1 = 2047 := rfl
  have eQ : FP.Core.b64.qmin = -1074 := by decide
  unfold FP.Core.decode
  rw [eS, eE, eT, eX, if_neg h, eQ]
  unfold dC dQ
  by_cases h0 : dE n = 0
  · rw [if_pos h0, if_pos h0, if_pos h0]
  · rw [if_neg h0, if_neg h0, if_neg h0]
    congr 1
    omega
theorem dec_inf {n : Nat} (hn : n < 2 ^ 64) (h : dE n = 2047) (hT : dT n = 0) : FP.Core.decode FP.Core.b64 n = .inf (dS n) := by
  have eS : FP.Core.fieldS FP.Core.b64 n = dS n := by
    unfold FP.Core.fieldS dS
    show (n / 2 ^ 52 / 2 ^ 11 % 2 == 1) = _
    by_cases h1 : 2 ^ 63 ≤ n
    · rw [decide_eq_true h1]
      rw [show n / 2 ^ 52 / 2 ^ 11 % 2 = 1 by omega]
      rfl
    · rw [decide_eq_false h1]
      rw [show n / 2 ^ 52 / 2 ^ 11 % 2 = 0 by omega]
      rfl
  unfold FP.Core.decode
  rw [show FP.Core.fieldE FP.Core.b64 n = dE n from rfl, show FP.Core.b64.exps - 1 = 2047 from rfl, if_pos h, show FP.Core.fieldT FP.Core.b64 n = dT n from rfl, if_pos hT, eS]
/-- 53 digits -/
def sgm (c : Nat) : Nat := c * 2 ^ (52 - c.log2)
def sge (c : Nat) (q : Int) : Int := q - (52 - c.log2 : Nat)
theorem log53 {c : Nat} (h0 : 0 < c) (h : c < 2 ^ 53) : c.log2 ≤ 52 ∧ 2 ^ 52 ≤ sgm c ∧ sgm c < 2 ^ 53 := by
  have k1 : 2 ^ c.log2 ≤ c := Nat.log2_self_le (by omega)
  have k2 : c < 2 ^ (c.log2 + 1) := Nat.lt_log2_self
  have h1 : c.log2 ≤ 52 := by
    have : 2 ^ c.log2 < 2 ^ 53 := by omega
    have := (Nat.pow_lt_pow_iff_right (by decide : 1 < 2)).mp this
    omega
  unfold sgm
  refine ⟨h1, ?_, ?_⟩
  · have := Nat.mul_le_mul_right (2 ^ (52 - c.log2)) k1
    rw [← Nat.pow_add, show c.log2 + (52 - c.log2) = 52 by omega] at this
    exact this
  · have := Nat.mul_lt_mul_of_pos_right k2 (Nat.two_pow_pos (52 - c.log2))
    rw [← Nat.pow_add, show c.log2 + 1 + (52 - c.log2) = 53 by omega] at this
    exact this
theorem sig_loop : ∀ (k n x : Nat), k + 1 ≤ n → 2 ^ 52 ≤ x * 2 ^ k → x * 2 ^ k < 2 ^ 53 → F_X24_significand_b25 n (nl x) = some (nl (x * 2 ^ k)) := by
  intro k
  induction k with
  | zero =>
    intro n x hn h1 h2
    obtain ⟨n', rfl⟩ : ∃ n', n = n' + 1 := ⟨n - 1, by omega⟩
    rw [Nat.pow_zero, Nat.mul_one] at h1 h2 ⊢
    show F_X24_significand_b25_st (F_X24_significand_b25 n') _ = _
    unfold F_X24_significand_b25_st
    rw [if_neg (by rw [show (4503599627370496 : Int64) = nl (2 ^ 52) from rfl, nl_lt (by omega) (by decide)]; omega)]
  | succ k ih =>
    intro n x hn h1 h2
    obtain ⟨n', rfl⟩ : ∃ n', n = n' + 1 := ⟨n - 1, by omega⟩
    have e : x * 2 ^ (k + 1) = x * 2 * 2 ^ k := by rw [Nat.pow_succ]; ac_rfl
    have hx : x < 2 ^ 52 := by
      have : 2 ^ 0 ≤ 2 ^ k := Nat.pow_le_pow_right (by decide) (Nat.zero_le k)
      have h6 := Nat.mul_le_mul_left (x * 2) this
      omega
    show F_X24_significand_b25_st (F_X24_significand_b25 n') _ = _
    unfold F_X24_significand_b25_st
    rw [if_pos (by rw [show (4503599627370496 : Int64) = nl (2 ^ 52) from rfl, nl_lt (by omega) (by decide)]; exact hx)]
    have e1 : j_lshl (nl x) 1 = nl (x * 2) := nl_shl (k := 1) (by decide)
    simp only [e1]
    rw [ih n' (x * 2) (by omega) (by rw [← e]; exact h1) (by rw [← e]; exact h2), e]
theorem exp_loop : ∀ (k n x : Nat) (q : Int), k + 1 ≤ n → 2 ^ 52 ≤ x * 2 ^ k → x * 2 ^ k < 2 ^ 53 → F_X24_exponent_b31 n (iw q) (nl x) = some (iw (q - k)) := by
  intro k
  induction k with
  | zero =>
    intro n x q hn h1 h2
    obtain ⟨n', rfl⟩ : ∃ n', n = n' + 1 := ⟨n - 1, by omega⟩
    rw [Nat.pow_zero, Nat.mul_one] at h1 h2
    show F_X24_exponent_b31_st (F_X24_exponent_b31 n') _ _ = _
    unfold F_X24_exponent_b31_st
    rw [if_neg (by rw [show (4503599627370496 : Int64) = nl (2 ^ 52) from rfl, nl_lt (by omega) (by decide)]; omega)]
    congr 2
    omega
  | succ k ih =>
    intro n x q hn h1 h2
    obtain ⟨n', rfl⟩ : ∃ n', n = n' + 1 := ⟨n - 1, by omega⟩
    have e : x * 2 ^ (k + 1) = x * 2 * 2 ^ k := by rw [Nat.pow_succ]; ac_rfl
    have hx : x < 2 ^ 52 := by
      have : 2 ^ 0 ≤ 2 ^ k := Nat.pow_le_pow_right (by decide) (Nat.zero_le k)
      have h6 := Nat.mul_le_mul_left (x * 2) this
      omega
    show F_X24_exponent_b31_st (F_X24_exponent_b31 n') _ _ = _
    unfold F_X24_exponent_b31_st
    rw [if_pos (by rw [show (4503599627370496 : Int64) = nl (2 ^ 52) from rfl, nl_lt (by omega) (by decide)]; exact hx)]
    have e1 : j_lshl (nl x) 1 = nl (x * 2) := nl_shl (k := 1) (by decide)
    have e2 : iw q + -1 = iw (q - 1) := by rw [show (-1 : Int32) = iw (-1) from rfl, iw_add]; rfl
    simp only [e1, e2]
    rw [ih n' (x * 2) (q - 1) (by omega) (by rw [← e]; exact h1) (by rw [← e]; exact h2)]
    congr 2
    omega
theorem dC_lt (n : Nat) : dC n < 2 ^ 53 := by
  unfold dC dT
  split <;> omega
theorem log2_53 {T : Nat} (h : T < 2 ^ 52) : (2 ^ 52 + T).log2 = 52 := by
  have k1 : 2 ^ (2 ^ 52 + T).log2 ≤ 2 ^ 52 + T := Nat.log2_self_le (by omega)
  have k2 : 2 ^ 52 + T < 2 ^ ((2 ^ 52 + T).log2 + 1) := Nat.lt_log2_self
  have a1 : 2 ^ (2 ^ 52 + T).log2 < 2 ^ 53 := by omega
  have a2 : 2 ^ 52 < 2 ^ ((2 ^ 52 + T).log2 + 1) := by omega
  have b1 := (Nat.pow_lt_pow_iff_right (by decide : 1 < 2)).mp a1
  have b2 := (Nat.pow_lt_pow_iff_right (by decide : 1 < 2)).mp a2
  omega
theorem X24_significand {x : Int64} (h0 : dC (un x) ≠ 0) : F_X24_significand x = some (nl (sgm (dC (un x)))) := by
  have hx : x = nl (un x) := (nl_un x).symm
  have hlt := un_lt x
  have hm : x &&& 4503599627370495 = nl (dT (un x)) := by
    conv => lhs; rw [hx]
    exact nl_mask (k := 52) hlt (by decide)
  unfold F_X24_significand
  simp only [hm, exp_field]
  have hT : dT (un x) < 2 ^ 52 := Nat.mod_lt _ (by decide)
  have hc : ((0 : Int64) < nl (un x / 2 ^ 52 % 2048)) ↔ dE (un x) ≠ 0 := by
    rw [show (0 : Int64) = nl 0 from rfl, nl_lt (by decide) (by omega)]
    unfold dE
    omega
  by_cases hE : dE (un x) = 0
  · rw [if_neg (fun h => hc.mp h hE)]
    have e : dC (un x) = dT (un x) := if_pos hE
    rw [e] at h0 ⊢
    obtain ⟨l1, l2, l3⟩ := log53 (c := dT (un x)) (by omega) (by omega)
    exact sig_loop (52 - (dT (un x)).log2) xN _ (by unfold xN; omega) l2 l3
  · rw [if_pos (hc.mpr hE)]
    have e : dC (un x) = 2 ^ 52 + dT (un x) := if_neg hE
    rw [e]
    unfold sgm
    rw [log2_53 hT, Nat.sub_self, Nat.pow_zero, Nat.mul_one]
    congr 1
    apply un_inj
    rw [un_or, show un (4503599627370496 : Int64) = 2 ^ 52 from rfl, un_nl' (by omega), un_nl' (by omega), Nat.or_comm]
    have := Nat.two_pow_add_eq_or_of_lt hT 1
    rw [Nat.mul_one] at this
    exact this.symm
theorem X24_exponent {x : Int64} (h0 : dC (un x) ≠ 0) : F_X24_exponent x = some (iw (sge (dC (un x)) (dQ (un x)))) := by
  have hx : x = nl (un x) := (nl_un x).symm
  have hlt := un_lt x
  have hm : x &&& 4503599627370495 = nl (dT (un x)) := by
    conv => lhs; rw [hx]
    exact nl_mask (k := 52) hlt (by decide)
  have hT : dT (un x) < 2 ^ 52 := Nat.mod_lt _ (by decide)
  have hf : (j_lshr x 52 &&& 2047).toInt32 = iw (dE (un x)) := by
    rw [exp_field]
    have : ∀ k : Fin 2048, (nl k.val).toInt32 = iw (k.val : Int) := by decide +kernel
    exact this ⟨un x / 2 ^ 52 % 2048, Nat.mod_lt _ (by decide)⟩
  have hE2 : dE (un x) < 2048 := Nat.mod_lt _ (by decide)
  unfold F_X24_exponent
  simp only [hm, hf]
  by_cases hE : dE (un x) = 0
  · rw [if_neg (by rw [iw_0lt (by omega) (by omega)]; omega)]
    have e : dC (un x) = dT (un x) := if_pos hE
    have e2 : dQ (un x) = -1074 := if_pos hE
    rw [e] at h0 ⊢
    rw [e2]
    obtain ⟨l1, l2, l3⟩ := log53 (c := dT (un x)) (by omega) (by omega)
    have h9 := exp_loop (52 - (dT (un x)).log2) xN (dT (un x)) (-1074) (by unfold xN; omega) l2 l3
    rw [show (-1074 : Int32) = iw (-1074) from by decide]
    unfold sge
    exact h9
  · rw [if_pos (by rw [iw_0lt (by omega) (by omega)]; omega)]
    have e : dC (un x) = 2 ^ 52 + dT (un x) := if_neg hE
    have e2 : dQ (un x) = (dE (un x) : Int) - 1075 := if_neg hE
    rw [e, e2]
    unfold sge
    rw [log2_53 hT, show (1075 : Int32) = iw 1075 from rfl, iw_sub]
    congr 2
    omega
