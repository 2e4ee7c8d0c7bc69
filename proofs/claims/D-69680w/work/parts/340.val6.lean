/-! ===== VALUES, 6: bits, amounts, signs, built-in functions ===== -/
theorem bit_u (x : Int64) {k : Nat} (hk : k < 64) : j_lushr x (Int32.ofNat k) &&& 1 = nl (un x / 2 ^ k % 2) := by
  refine un_inj ?_
  rw [un_and, show un 1 = 2 ^ 1 - 1 from rfl, Nat.and_two_pow_sub_one_eq_mod, un_ushr x hk, un_nl' (by omega)]
theorem bit_s (x : Int64) {k : Nat} (hk : k < 64) : j_lshr x (Int32.ofNat k) &&& 1 = nl (un x / 2 ^ k % 2) := by
  refine un_inj ?_
  rw [un_and, show un 1 = 2 ^ 1 - 1 from rfl, Nat.and_two_pow_sub_one_eq_mod, un_nl' (by omega)]
  have e : un (j_lshr x (Int32.ofNat k)) = (x.toBitVec.sshiftRight k).toNat := by
    unfold j_lshr
    show (x.toBitVec.sshiftRight' (((Int32.ofNat k).toInt64 &&& 63).toBitVec.smod 64)).toNat = _
    rw [sh_sr ⟨k, hk⟩]
    show (x.toBitVec.sshiftRight (BitVec.ofNat 64 k).toNat).toNat = _
    rw [BitVec.toNat_ofNat, Nat.mod_eq_of_lt (by omega)]
  rw [e]
  have h1 : (x.toBitVec.sshiftRight k).toNat.testBit 0 = (un x).testBit k := by
    show (x.toBitVec.sshiftRight k).getLsbD 0 = x.toBitVec.getLsbD k
    rw [BitVec.getLsbD_sshiftRight]
    simp [hk]
  rw [Nat.testBit_eq_decide_div_mod_eq, Nat.testBit_eq_decide_div_mod_eq, Nat.pow_zero, Nat.div_one] at h1
  have h2 := decide_eq_decide.mp h1
  omega
/-- how many of the first bits are 1 -/
def bcn (x : Nat) : Nat → Nat
  | 0 => 0
  | k + 1 => bcn x k + x / 2 ^ k % 2
/-- the highest of the first bits that is 1 -/
def hbn (x : Nat) : Nat → Int
  | 0 => -1
  | k + 1 => if x / 2 ^ k % 2 = 1 then (k : Int) else hbn x k
theorem bcn_le (x : Nat) : ∀ k, bcn x k ≤ k
  | 0 => Nat.le_refl _
  | k + 1 => by
    have := bcn_le x k
    show bcn x k + x / 2 ^ k % 2 ≤ k + 1
    omega
theorem hbn_bd (x : Nat) : ∀ k, -1 ≤ hbn x k ∧ hbn x k < k
  | 0 => ⟨Int.le_refl _, by show (-1 : Int) < 0; decide⟩
  | k + 1 => by
    have := hbn_bd x k
    show -1 ≤ (if x / 2 ^ k % 2 = 1 then (k : Int) else hbn x k) ∧ (if x / 2 ^ k % 2 = 1 then (k : Int) else hbn x k) < ((k + 1 : Nat) : Int)
    split <;> omega
theorem E_ones_loop (v : Int64) : ∀ (j N k : Nat), k + j = 64 → j + 1 ≤ N → F_X37_ones_b5 N v (nl (bcn (un v) k)) (iw k) = some (nl (bcn (un v) 64)) := by
  intro j
  induction j with
  | zero =>
    intro N k hk hN
    obtain ⟨N, rfl⟩ : ∃ m, N = m + 1 := ⟨N - 1, by omega⟩
    show F_X37_ones_b5_st (F_X37_ones_b5 N) v _ _ = _
    unfold F_X37_ones_b5_st
    rw [show (64 : Int32) = iw 64 from rfl, if_neg (by rw [iw_lt (by omega) (by omega) (by omega) (by omega)]; omega), show k = 64 by omega]
  | succ j ih =>
    intro N k hk hN
    obtain ⟨N, rfl⟩ : ∃ m, N = m + 1 := ⟨N - 1, by omega⟩
    show F_X37_ones_b5_st (F_X37_ones_b5 N) v _ _ = _
    unfold F_X37_ones_b5_st
    rw [if_pos (by rw [show (64 : Int32) = iw 64 from rfl, iw_lt (by omega) (by omega) (by omega) (by omega)]; omega), iw_nat, bit_s v (by omega), nl_add]
    have := ih N (k + 1) (by omega) (by omega)
    rw [← iw_nat, show (1 : Int32) = iw 1 from rfl, iw_add]
    exact this
theorem E_ones (v : Int64) : F_X37_ones v = some (nl (bcn (un v) 64)) := E_ones_loop v 64 xN 0 rfl (by decide)
theorem E_high_loop (v : Int64) : ∀ (k N : Nat), k ≤ 64 → k + 1 ≤ N → F_X37_highest_b3 N v (iw ((k : Int) - 1)) = some (iw (hbn (un v) k)).toInt64 := by
  intro k
  induction k with
  | zero =>
    intro N hk hN
    obtain ⟨N, rfl⟩ : ∃ m, N = m + 1 := ⟨N - 1, by omega⟩
    rfl
  | succ k ih =>
    intro N hk hN
    obtain ⟨N, rfl⟩ : ∃ m, N = m + 1 := ⟨N - 1, by omega⟩
    show F_X37_highest_b3_st (F_X37_highest_b3 N) v _ = _
    unfold F_X37_highest_b3_st F_X37_highest_b23
    have e : ((k + 1 : Nat) : Int) - 1 = (k : Int) := by omega
    rw [e, if_neg (by rw [iw_lt0 (by omega) (by omega)]; omega), iw_nat, bit_s v (by omega)]
    have hz : nl (un v / 2 ^ k % 2) = 0 ↔ un v / 2 ^ k % 2 = 0 := by rw [show (0 : Int64) = nl 0 from rfl, nl_eq (by omega) (by decide)]
    show _ = some (iw (if un v / 2 ^ k % 2 = 1 then (k : Int) else hbn (un v) k)).toInt64
    by_cases hb : un v / 2 ^ k % 2 = 0
    · rw [if_pos (hz.mpr hb), if_neg (by omega), ← iw_nat, show (-1 : Int32) = iw (-1) from rfl, iw_add]
      exact ih N (by omega) (by omega)
    · rw [if_neg (fun hh => hb (hz.mp hh)), if_pos (by omega), iw_nat]
theorem E_high (v : Int64) : F_X37_highest v = some (iw (hbn (un v) 64)).toInt64 := E_high_loop v 64 xN (Nat.le_refl _) (by decide)
theorem M_ones_loop (v : Int64) (fl : Int32) : ∀ (j N k : Nat), k + j = 64 → j + 1 ≤ N → F_X16_ones_b8 N v fl (iw (bcn (un v) k)) (iw (hbn (un v) k)) (iw k) = some (if fl = 0 then iw (bcn (un v) 64) else iw (hbn (un v) 64)) := by
  intro j
  induction j with
  | zero =>
    intro N k hk hN
    obtain ⟨N, rfl⟩ : ∃ m, N = m + 1 := ⟨N - 1, by omega⟩
    show F_X16_ones_b8_st (F_X16_ones_b8 N) v _ _ _ _ = _
    unfold F_X16_ones_b8_st F_X16_ones_b49
    rw [if_neg (by rw [show (64 : Int32) = iw 64 from rfl, iw_lt (by omega) (by omega) (by omega) (by omega)]; omega), show k = 64 by omega]
    split <;> rfl
  | succ j ih =>
    intro N k hk hN
    obtain ⟨N, rfl⟩ : ∃ m, N = m + 1 := ⟨N - 1, by omega⟩
    show F_X16_ones_b8_st (F_X16_ones_b8 N) v _ _ _ _ = _
    unfold F_X16_ones_b8_st F_X16_ones_b33
    have e1 : j_lushr v (iw (k : Int)) &&& 1 = nl (un v / 2 ^ k % 2) := by rw [iw_nat]; exact bit_u v (by omega)
    have h1 : nl (un v / 2 ^ k % 2) = 1 ↔ un v / 2 ^ k % 2 = 1 := by rw [show (1 : Int64) = nl 1 from rfl, nl_eq (by omega) (by decide)]
    have e2 : iw (k : Int) + 1 = iw ((k + 1 : Nat) : Int) := by rw [show (1 : Int32) = iw 1 from rfl, iw_add]; rfl
    rw [if_pos (by rw [show (64 : Int32) = iw 64 from rfl, iw_lt (by omega) (by omega) (by omega) (by omega)]; omega), e1]
    have := ih N (k + 1) (by omega) (by omega)
    by_cases hb : un v / 2 ^ k % 2 = 1
    · have b1 : bcn (un v) (k + 1) = bcn (un v) k + 1 := by show bcn (un v) k + un v / 2 ^ k % 2 = _; rw [hb]
      have b2 : hbn (un v) (k + 1) = (k : Int) := by show (if un v / 2 ^ k % 2 = 1 then (k : Int) else _) = _; rw [if_pos hb]
      rw [b1, b2] at this
      rw [if_pos (h1.mpr hb)]
      simp only [e2]
      rw [show (1 : Int32) = iw 1 from rfl, iw_add]
      exact this
    · have b1 : bcn (un v) (k + 1) = bcn (un v) k := by show bcn (un v) k + un v / 2 ^ k % 2 = _; omega
      have b2 : hbn (un v) (k + 1) = hbn (un v) k := by show (if un v / 2 ^ k % 2 = 1 then (k : Int) else _) = _; rw [if_neg hb]
      rw [b1, b2] at this
      rw [if_neg (fun hh => hb (h1.mp hh))]
      simp only [e2]
      exact this
theorem M_ones (v : Int64) (fl : Int32) : F_X16_ones v fl = some (if fl = 0 then iw (bcn (un v) 64) else iw (hbn (un v) 64)) := M_ones_loop v fl 64 xN 0 rfl (by decide)
theorem bcn_64 (v : Int64) : (iw (bcn (un v) 64 : Nat)).toInt64 = nl (bcn (un v) 64) := by
  rw [iw_nat, i64_of (by have := bcn_le (un v) 64; omega)]
/-! amounts -/
theorem abs_d {n : Nat} (hn : n < 2 ^ 64) (h : okd n) : (UInt64.ofNat (n % 2 ^ 63)).toNat = n % 2 ^ 63 ∧ okd (n % 2 ^ 63) ∧ FP.Core.decode FP.Core.b64 (n % 2 ^ 63) = (match FP.Core.decode FP.Core.b64 n with | .inf _ => .inf false | .fin _ c q => .fin false c q | .nan => .nan) := by
  have hl : n % 2 ^ 63 < 2 ^ 64 := by omega
  refine ⟨UInt64.toNat_ofNat_of_lt' hl, by unfold okd at *; omega, ?_⟩
  have e1 : dE (n % 2 ^ 63) = dE n := by unfold dE; omega
  have e2 : dT (n % 2 ^ 63) = dT n := by unfold dT; omega
  have e5 : dS (n % 2 ^ 63) = false := decide_eq_false (by omega)
  by_cases hE : dE n = 2047
  · have hT : dT n = 0 := by
      rcases okd_cases hn h with ⟨a1, a2, a3⟩ | ⟨a1, a2, a3⟩ | ⟨a1, a2, a3, a4⟩ <;> omega
    rw [dec_inf hn hE hT, dec_inf hl (by omega) (by omega), e5]
  · rw [dec_fin hn hE, dec_fin hl (by omega), e5]
    have e3 : dC (n % 2 ^ 63) = dC n := by unfold dC; rw [e1, e2]
    have e4 : dQ (n % 2 ^ 63) = dQ n := by unfold dQ; rw [e1]
    rw [e3, e4]
theorem abs_f {n : Nat} (hn : n < 2 ^ 32) (h : okf n) : (UInt32.ofNat (n % 2 ^ 31)).toNat = n % 2 ^ 31 ∧ okf (n % 2 ^ 31) ∧ FP.Core.decode FP.Core.b32 (n % 2 ^ 31) = (match FP.Core.decode FP.Core.b32 n with | .inf _ => .inf false | .fin _ c q => .fin false c q | .nan => .nan) := by
  have hl : n % 2 ^ 31 < 2 ^ 32 := by omega
  refine ⟨UInt32.toNat_ofNat_of_lt' hl, by unfold okf at *; omega, ?_⟩
  have e1 : fE (n % 2 ^ 31) = fE n := by unfold fE; omega
  have e2 : fT (n % 2 ^ 31) = fT n := by unfold fT; omega
  have e5 : fS (n % 2 ^ 31) = false := decide_eq_false (by omega)
  by_cases hE : fE n = 255
  · have hT : fT n = 0 := by
      rcases okf_cases hn h with ⟨a2, a3⟩ | ⟨a1, a2, a3⟩ | ⟨a1, a2, a3⟩ <;> omega
    rw [dec32_inf hn hE hT, dec32_inf hl (by omega) (by omega), e5]
  · rw [dec32_fin hn hE, dec32_fin hl (by omega), e5]
    have e3 : fC (n % 2 ^ 31) = fC n := by unfold fC; rw [e1, e2]
    have e4 : fQ (n % 2 ^ 31) = fQ n := by unfold fQ; rw [e1]
    rw [e3, e4]
theorem f2d_abs {y : UInt32} (h : okf y.toNat) : FP.f2d (UInt32.ofNat (y.toNat % 2 ^ 31)) = UInt64.ofNat ((FP.f2d y).toNat % 2 ^ 63) := by
  obtain ⟨a1, a2, a3⟩ := abs_f y.toNat_lt h
  obtain ⟨b1, b2⟩ := f2d_ok h
  obtain ⟨c1, c2, c3⟩ := abs_d (FP.f2d y).toNat_lt b1
  have d1 := f2d_ok (a := UInt32.ofNat (y.toNat % 2 ^ 31)) (by rw [a1]; exact a2)
  rw [a1, a3] at d1
  rw [b2] at c3
  have e : FP.Core.decode FP.Core.b64 (FP.f2d (UInt32.ofNat (y.toNat % 2 ^ 31))).toNat = FP.Core.decode FP.Core.b64 (UInt64.ofNat ((FP.f2d y).toNat % 2 ^ 63)).toNat := by
    rw [d1.2, c1, c3]
    rcases f_dat h with ⟨s, hd⟩ | ⟨s, c, q, hd, -, -, -, -⟩
    · rw [hd]
      rfl
    · rw [hd]
      show FP.Core.round FP.Core.b64 (.fin false c q) = _
      cases s with
      | false =>
        show _ = (match FP.Core.roundRatio FP.Core.b64 false c 1 q with | .inf _ => FP.Core.Datum.inf false | .fin _ c q => .fin false c q | .nan => .nan)
        have hn := rr_nn64 false c 1 q (by decide)
        have hw := f_dat h
        obtain ⟨j, hj⟩ : ∃ j : Nat, FP.Core.round FP.Core.b64 (.fin false c q) = .fin false (c * 2 ^ j) (q - j) := by
          rcases hw with ⟨s', hd'⟩ | ⟨s', c', q', hd', k1, k2, k3, k4⟩
          · rw [hd] at hd'; cases hd'
          · rw [hd] at hd'; cases hd'
            exact wide_fin k1 k2 k3
        have hj' : FP.Core.roundRatio FP.Core.b64 false c 1 q = .fin false (c * 2 ^ j) (q - j) := hj
        rw [hj, hj']
      | true =>
        have hneg := neg_rnd FP.Core.b64 (s := true) (c := c) (q := q)
        rw [show FP.Core.round FP.Core.b64 (.fin false c q) = FP.Core.negate (FP.Core.round FP.Core.b64 (.fin true c q)) from hneg.symm]
        have hw := f_dat h
        obtain ⟨j, hj⟩ : ∃ j : Nat, FP.Core.round FP.Core.b64 (.fin true c q) = .fin true (c * 2 ^ j) (q - j) := by
          rcases hw with ⟨s', hd'⟩ | ⟨s', c', q', hd', k1, k2, k3, k4⟩
          · rw [hd] at hd'; cases hd'
          · rw [hd] at hd'; cases hd'
            exact wide_fin k1 k2 k3
        rw [hj]
        rfl
  have g1 := bd_dec d1.1
  have g2 := bd_dec (a := UInt64.ofNat ((FP.f2d y).toNat % 2 ^ 63)) (by rw [c1]; exact c2)
  rw [← g1, ← g2, e]
