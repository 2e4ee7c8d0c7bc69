/-! ===== FLOATS, 23: the engine's root ===== -/
theorem dv_x (s : Bool) (c : Nat) (q : Int) : x_n64 (dv s c q) = true := xn64 (dv_ok s c q).1
theorem up_loop {c : Nat} (hc : c < 2 ^ 53) : ∀ (D N : Nat) (q n : Int), D + 1 ≤ N → D ≤ 600 → tT ≤ vl c q * 4 ^ D → -1074 ≤ q → q ≤ 971 → -1000 + D ≤ n → n ≤ 1000 → (vl c q < tT → q ≤ 54) →
    ∃ k : Nat, F_X49_root_b21 N (dv false c q) (iw n) = F_X49_root_b41 xN (dv false c (q + 2 * k)) (iw (n - k)) ∧ tT ≤ vl c (q + 2 * k) ∧ k ≤ D ∧ q + 2 * k ≤ 971 ∧ (k = 0 ∨ vl c (q + 2 * k) < 4 * tT) := by
  intro D
  induction D with
  | zero =>
    intro N q n hN hD hT hq1 hq2 hn1 hn2 hlow
    obtain ⟨N', rfl⟩ : ∃ n', N = n' + 1 := ⟨N - 1, by omega⟩
    rw [Nat.pow_zero, Nat.mul_one] at hT
    have hcmp := jd_lt (dv_cmp (ν := -1074) hq1 (Or.inl ⟨hc, by omega⟩) c_54 hq1 (by decide)) .g
    have hcmp1 : j_dcmp (dv false c q) 4850376798678024192 .g < 0 ↔ vl c q < tT := by
      rw [hcmp.1]
      exact Int.ofNat_lt
    refine ⟨0, ?_, by simpa using hT, Nat.le_refl _, by simpa using hq2, Or.inl rfl⟩
    show F_X49_root_b21_st (F_X49_root_b21 N') _ _ = _
    unfold F_X49_root_b21_st
    rw [if_neg (by rw [hcmp1]; omega)]
    congr 2
    · omega
    · omega
  | succ D ih =>
    intro N q n hN hD hT hq1 hq2 hn1 hn2 hlow
    obtain ⟨N', rfl⟩ : ∃ n', N = n' + 1 := ⟨N - 1, by omega⟩
    have hcmp := jd_lt (dv_cmp (ν := -1074) hq1 (Or.inl ⟨hc, by omega⟩) c_54 hq1 (by decide)) .g
    have hcmp1 : j_dcmp (dv false c q) 4850376798678024192 .g < 0 ↔ vl c q < tT := by
      rw [hcmp.1]
      exact Int.ofNat_lt
    by_cases h : vl c q < tT
    · have hq54 := hlow h
      have h4 := vl_4 (c := c) hq1
      have hmul : FP.dmul (dv false c q) 4616189618054758400 = dv false c (q + 2) := dv_mul hq1 (Or.inl ⟨hc, by omega⟩) c_4
      have hn : iw n + (-1 : Int32) = iw (n - 1) := by
        rw [show (-1 : Int32) = iw (-1) from rfl, iw_add]
        congr 1
      obtain ⟨k, k1, k2, k3, k4, k5⟩ := ih N' (q + 2) (n - 1) (by omega) (by omega) (by rw [h4]; rw [Nat.pow_succ] at hT; rw [show 4 * vl c q * 4 ^ D = vl c q * (4 ^ D * 4) by ac_rfl]; exact hT) (by omega) (by omega) (by omega) (by omega) (fun h5 => by
        rcases Int.lt_or_le 54 (q + 2) with h6 | h6
        · exfalso
          -- c is not 0, so c * 2 ^ (q + 2) would not be below 2 ^ 54
          have hc0 : 0 < c := by
            rcases Nat.eq_zero_or_pos c with h7 | h7
            · subst h7
              unfold vl at hT
              rw [Nat.zero_mul, Nat.zero_mul] at hT
              have : 0 < tT := Nat.mul_pos (by decide) (Nat.two_pow_pos _)
              omega
            · exact h7
          have e1 : tT = 2 ^ 1128 := by
            unfold tT
            rw [show ((2 : Int) - -1074).toNat = 1076 from rfl, ← Nat.pow_add]
          have e2 : 2 ^ 1128 ≤ vl c (q + 2) := by
            unfold vl
            have a1 : 2 ^ 1128 ≤ 2 ^ (q + 2 - -1074).toNat := Nat.pow_le_pow_right (by decide) (by omega)
            have a2 := Nat.mul_le_mul_right (2 ^ (q + 2 - -1074).toNat) hc0
            generalize 2 ^ (q + 2 - -1074).toNat = X at *
            generalize 2 ^ 1128 = Y at *
            omega
          rw [← e1] at e2
          omega
        · exact h6)
      refine ⟨k + 1, ?_, ?_, by omega, by omega, ?_⟩
      · show F_X49_root_b21_st (F_X49_root_b21 N') _ _ = _
        unfold F_X49_root_b21_st
        rw [if_pos (hcmp1.mpr h)]
        simp only [hmul, dv_x, if_true, hn]
        rw [k1]
        congr 2
        · omega
        · omega
      · rw [show q + 2 * ((k + 1 : Nat) : Int) = q + 2 + 2 * (k : Int) by omega]
        exact k2
      · right
        rw [show q + 2 * ((k + 1 : Nat) : Int) = q + 2 + 2 * (k : Int) by omega]
        rcases k5 with h7 | h7
        · subst h7
          rw [show q + 2 + 2 * ((0 : Nat) : Int) = q + 2 by omega, h4]
          omega
        · exact h7
    · refine ⟨0, ?_, ?_, Nat.zero_le _, by omega, Or.inl rfl⟩
      · show F_X49_root_b21_st (F_X49_root_b21 N') _ _ = _
        unfold F_X49_root_b21_st
        rw [if_neg (by rw [hcmp1]; exact h)]
        congr 2
        · omega
        · omega
      · rw [show q + 2 * ((0 : Nat) : Int) = q by omega]
        omega
theorem down_loop {c : Nat} (hc : c < 2 ^ 53) : ∀ (D N : Nat) (q n : Int), D + 1 ≤ N → D ≤ 600 → q ≤ 3 + 2 * (D : Int) → -1074 ≤ q → q ≤ 971 → -1000 ≤ n → n ≤ 1000 - D → tT ≤ vl c q →
    ∃ k : Nat, F_X49_root_b41 N (dv false c q) (iw n) = F_X49_root_b75 xN (iw (n + k)) (nl (c * 2 ^ (q - 2 * k).toNat)) 0 0 27 ∧ tT ≤ vl c (q - 2 * k) ∧ vl c (q - 2 * k) < 4 * tT ∧ k ≤ D := by
  have fin : ∀ (N' : Nat) (q n : Int), 2 ≤ q → q ≤ 971 → vl c q < 4 * tT → tT ≤ vl c q → F_X49_root_b41_st (F_X49_root_b41 N') (dv false c q) (iw n) = F_X49_root_b75 xN (iw n) (nl (c * 2 ^ q.toNat)) 0 0 27 := by
    intro N' q n hq hq2 hv1 hv2
    have hcmp := jd_lt (dv_cmp (ν := -1074) (show -1074 ≤ q by omega) (Or.inl ⟨hc, by omega⟩) c_56 (by omega) (by decide)) .l
    have hcmp1 : j_dcmp (dv false c q) 4859383997932765184 .l < 0 ↔ vl c q < 4 * tT := by
      rw [hcmp.1, ← tT4]
      exact Int.ofNat_lt
    unfold F_X49_root_b41_st
    rw [if_pos (hcmp1.mpr hv1)]
    obtain ⟨m1, m2⟩ := vl_m hq hv2 hv1
    have hd2l : FP.d2l (dv false c q) = nl (c * 2 ^ q.toNat) := by
      have e : FP.d2l (dv false c q) = Int64.ofInt (FP.Core.toInt (-2 ^ 63) (2 ^ 63 - 1) (FP.Core.decode FP.Core.b64 (dv false c q).toNat)) := rfl
      obtain ⟨j, hj⟩ := rr_exact (f := FP.Core.b64) (s := false) (by decide) (c := c) (q := q) hc (by
        rcases Nat.eq_zero_or_pos c with h7 | h7
        · subst h7; omega
        · exact h7) (by rw [show FP.Core.b64.qmin = -1074 by decide]; omega) (by rw [show FP.Core.b64.qmax = 971 by decide]; omega)
      rw [e, (dv_ok _ _ _).2, hj, nl_ofInt]
      refine congrArg Int64.ofInt ?_
      show max (-2 ^ 63) (min (2 ^ 63 - 1) (((c * 2 ^ j * 2 ^ (q - (j : Int)).toNat / 2 ^ (-(q - (j : Int))).toNat : Nat) : Int))) = _
      rw [← dW_sg, show (-q).toNat = 0 by omega, Nat.pow_zero, Nat.div_one]
      omega
    rw [hd2l]
  intro D
  induction D with
  | zero =>
    intro N q n hN hD hq0 hq1 hq2 hn1 hn2 hv
    obtain ⟨N', rfl⟩ : ∃ n', N = n' + 1 := ⟨N - 1, by omega⟩
    have hlo := vl_lo hc hv
    have hup : vl c q < 4 * tT := by
      have h1 : 2 ^ (q - -1074).toNat ≤ 2 ^ 1077 := Nat.pow_le_pow_right (by decide) (by omega)
      have h2 : vl c q ≤ (2 ^ 53 - 1) * 2 ^ 1077 := Nat.mul_le_mul (by omega) h1
      have h3 : 4 * tT = 2 ^ 53 * 2 ^ 1077 := by
        rw [← tT4, show ((4 : Int) - -1074).toNat = 1078 from rfl, ← Nat.pow_add, ← Nat.pow_add]
      have h4 := Nat.two_pow_pos 1077
      rw [Nat.sub_mul] at h2
      omega
    have e0 : q - 2 * ((0 : Nat) : Int) = q := by omega
    refine ⟨0, ?_, by rw [e0]; exact hv, by rw [e0]; exact hup, Nat.le_refl _⟩
    rw [e0, show n + ((0 : Nat) : Int) = n by omega]
    exact fin N' q n hlo hq2 hup hv
  | succ D ih =>
    intro N q n hN hD hq0 hq1 hq2 hn1 hn2 hv
    obtain ⟨N', rfl⟩ : ∃ n', N = n' + 1 := ⟨N - 1, by omega⟩
    have hlo := vl_lo hc hv
    by_cases h : vl c q < 4 * tT
    · have e0 : q - 2 * ((0 : Nat) : Int) = q := by omega
      refine ⟨0, ?_, by rw [e0]; exact hv, by rw [e0]; exact h, Nat.zero_le _⟩
      rw [e0, show n + ((0 : Nat) : Int) = n by omega]
      exact fin N' q n hlo hq2 h hv
    · have hcmp := jd_lt (dv_cmp (ν := -1074) hq1 (Or.inl ⟨hc, by omega⟩) c_56 hq1 (by decide)) .l
      have hcmp1 : j_dcmp (dv false c q) 4859383997932765184 .l < 0 ↔ vl c q < 4 * tT := by
        rw [hcmp.1, ← tT4]
        exact Int.ofNat_lt
      have hdiv : FP.ddiv (dv false c q) 4616189618054758400 = dv false c (q - 2) := dv_div hq1 (Or.inl ⟨hc, by omega⟩) c_4
      have hn : iw n + (1 : Int32) = iw (n + 1) := by
        rw [show (1 : Int32) = iw 1 from rfl, iw_add]
      have h4 := vl_4 (c := c) (q := q - 2) (by omega)
      rw [show q - 2 + 2 = q by omega] at h4
      obtain ⟨k, k1, k2, k3, k4⟩ := ih N' (q - 2) (n + 1) (by omega) (by omega) (by omega) (by omega) (by omega) (by omega) (by omega) (by omega)
      have e2 : q - 2 - 2 * (k : Int) = q - 2 * ((k + 1 : Nat) : Int) := by omega
      rw [e2] at k1 k2 k3
      refine ⟨k + 1, ?_, k2, k3, by omega⟩
      show F_X49_root_b41_st (F_X49_root_b41 N') _ _ = _
      unfold F_X49_root_b41_st
      rw [if_neg (by rw [hcmp1]; exact h)]
      simp only [hdiv, dv_x, if_true, hn]
      rw [k1, show n + 1 + (k : Int) = n + ((k + 1 : Nat) : Int) by omega]
theorem half_loop {W : Nat} {e : Int32} (hW : W ≤ 2 ^ 53) : ∀ (k N : Nat) (q : Int), k + 1 ≤ N → k ≤ 1000 → -1074 + k ≤ q → q ≤ 970 →
    F_X49_root_b229 N e (dv false W q) (iw (-(k : Int))) = F_X49_root_b255 xN (dv false W (q - k)) (e - 25) := by
  intro k
  induction k with
  | zero =>
    intro N q hN hk hq hq2
    obtain ⟨N', rfl⟩ : ∃ n', N = n' + 1 := ⟨N - 1, by omega⟩
    show F_X49_root_b229_st (F_X49_root_b229 N') _ _ _ = _
    unfold F_X49_root_b229_st
    rw [if_neg (by decide), show q - ((0 : Nat) : Int) = q by omega]
  | succ k ih =>
    intro N q hN hk hq hq2
    obtain ⟨N', rfl⟩ : ∃ n', N = n' + 1 := ⟨N - 1, by omega⟩
    show F_X49_root_b229_st (F_X49_root_b229 N') _ _ _ = _
    unfold F_X49_root_b229_st
    have hdiv : FP.ddiv (dv false W q) 4611686018427387904 = dv false W (q - 1) := dv_div (by omega) (Or.inr ⟨hW, hq2⟩) c_2
    have hn : iw (-((k + 1 : Nat) : Int)) + (1 : Int32) = iw (-(k : Int)) := by
      rw [show (1 : Int32) = iw 1 from rfl, iw_add]
      congr 1
      omega
    rw [if_pos (by rw [iw_lt0 (by omega) (by omega)]; omega)]
    simp only [hdiv, dv_x, if_true, hn]
    rw [ih N' (q - 1) (by omega) (by omega) (by omega) (by omega), show q - 1 - (k : Int) = q - ((k + 1 : Nat) : Int) by omega]
theorem twice_loop {W : Nat} (hW : W ≤ 2 ^ 53) : ∀ (k N : Nat) (q : Int), k + 1 ≤ N → k ≤ 900 → -1074 ≤ q → q + k ≤ 970 →
    F_X49_root_b255 N (dv false W q) (iw (k : Int)) = some (dv false W (q + k)) := by
  intro k
  induction k with
  | zero =>
    intro N q hN hk hq hq2
    obtain ⟨N', rfl⟩ : ∃ n', N = n' + 1 := ⟨N - 1, by omega⟩
    show F_X49_root_b255_st (F_X49_root_b255 N') _ _ = _
    unfold F_X49_root_b255_st
    rw [if_neg (by decide), show q + ((0 : Nat) : Int) = q by omega]
  | succ k ih =>
    intro N q hN hk hq hq2
    obtain ⟨N', rfl⟩ : ∃ n', N = n' + 1 := ⟨N - 1, by omega⟩
    show F_X49_root_b255_st (F_X49_root_b255 N') _ _ = _
    unfold F_X49_root_b255_st
    have hmul : FP.dmul (dv false W q) 4611686018427387904 = dv false W (q + 1) := dv_mul (by omega) (Or.inr ⟨hW, by omega⟩) c_2
    have hn : iw ((k + 1 : Nat) : Int) + (-1 : Int32) = iw (k : Int) := by
      rw [show (-1 : Int32) = iw (-1) from rfl, iw_add]
      congr 1
      omega
    rw [if_pos (by rw [iw_0lt (by omega) (by omega)]; omega)]
    simp only [hmul, dv_x, if_true, hn]
    rw [ih N' (q + 1) (by omega) (by omega) (by omega) (by omega), show q + 1 + (k : Int) = q + ((k + 1 : Nat) : Int) by omega]
theorem b219 {W : Nat} {n : Int} (hW : W ≤ 2 ^ 53) (h1 : -700 ≤ n) (h2 : n ≤ 700) : F_X49_root_b219 (nl W) (iw n) = some (dv false W (n - 25)) := by
  unfold F_X49_root_b219
  have e1 : FP.l2d (nl W) = dv false W 0 := by
    have hi : (nl W).toInt = W := nl_int (by omega)
    have e : FP.l2d (nl W) = bd (FP.Core.roundRatio FP.Core.b64 (decide ((nl W).toInt < 0)) (nl W).toInt.natAbs 1 0) := rfl
    rw [e, hi, decide_eq_false (by omega)]
    rfl
  have e2 : iw n - (25 : Int32) = iw (n - 25) := by rw [show (25 : Int32) = iw 25 from rfl, iw_sub]
  simp only [e1, e2]
  by_cases h : n < 25
  · obtain ⟨k, hk⟩ : ∃ k : Nat, n - 25 = -(k : Int) := ⟨(25 - n).toNat, by omega⟩
    have hxN : 3000 ≤ xN := by decide
    rw [hk, half_loop hW k xN 0 (by omega) (by omega) (by omega) (by omega), e2, hk, show (0 : Int) - (k : Int) = -(k : Int) by omega]
    obtain ⟨N', hN'⟩ : ∃ n', xN = n' + 1 := ⟨xN - 1, by omega⟩
    rw [hN']
    show F_X49_root_b255_st (F_X49_root_b255 N') _ _ = _
    unfold F_X49_root_b255_st
    rw [if_neg (by rw [iw_0lt (by omega) (by omega)]; omega)]
  · obtain ⟨k, hk⟩ : ∃ k : Nat, n - 25 = (k : Int) := ⟨(n - 25).toNat, by omega⟩
    have hxN : 3000 ≤ xN := by decide
    obtain ⟨N', hN'⟩ : ∃ n', xN = n' + 1 := ⟨xN - 1, by omega⟩
    have st : F_X49_root_b229 xN (iw n) (dv false W 0) (iw (n - 25)) = F_X49_root_b255 xN (dv false W 0) (iw (n - 25)) := by
      rw [hN']
      show F_X49_root_b229_st (F_X49_root_b229 N') _ _ _ = _
      unfold F_X49_root_b229_st
      rw [if_neg (by rw [iw_lt0 (by omega) (by omega)]; omega)]
      simp only [e2]
      rw [hN']
    rw [st, hk, twice_loop hW k xN 0 (by omega) (by omega) (by omega) (by omega), show (0 : Int) + (k : Int) = (k : Int) by omega]
