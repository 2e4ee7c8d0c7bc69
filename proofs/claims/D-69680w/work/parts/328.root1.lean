/-! ===== FLOATS, 20: square roots, digit by digit ===== -/
theorem nl_sshr {n k : Nat} (hn : n < 2 ^ 63) (hk : k < 64) : j_lshr (nl n) (Int32.ofNat k) = nl (n / 2 ^ k) := by
  apply un_inj
  have e : un (j_lshr (nl n) (Int32.ofNat k)) = ((nl n).toBitVec.sshiftRight k).toNat := by
    unfold j_lshr
    show ((nl n).toBitVec.sshiftRight' (((Int32.ofNat k).toInt64 &&& 63).toBitVec.smod 64)).toNat = _
    rw [sh_sr ⟨k, hk⟩]
    show ((nl n).toBitVec.sshiftRight (BitVec.ofNat 64 k).toNat).toNat = _
    rw [BitVec.toNat_ofNat, Nat.mod_eq_of_lt (by omega)]
  have hu : (nl n).toBitVec.toNat = n := un_nl' (by omega)
  have hd := Nat.div_le_self n (2 ^ k)
  rw [e, BitVec.sshiftRight_eq_of_msb_false (by
      rw [BitVec.msb_eq_false_iff_two_mul_lt]
      omega), BitVec.toNat_ushiftRight, Nat.shiftRight_eq_div_pow, hu, un_nl' (by omega)]
theorem nl_or {a b k : Nat} (hb : b < 2 ^ k) (h : a * 2 ^ k + b < 2 ^ 64) : nl (a * 2 ^ k) ||| nl b = nl (a * 2 ^ k + b) := by
  refine un_inj ?_
  rw [un_or, un_nl' (by omega), un_nl' (by omega), un_nl' h]
  have := Nat.two_pow_add_eq_or_of_lt hb a
  rw [Nat.mul_comm a, ← this]
/-- one digit more -/
def sqOk (r t P : Nat) : Prop := r * r + t = P ∧ t ≤ 2 * r
theorem sq_step {r t P d : Nat} (h : sqOk r t P) (hd : d < 4) : (t * 4 + d < r * 4 + 1 → sqOk (r * 2) (t * 4 + d) (4 * P + d)) ∧ (¬ t * 4 + d < r * 4 + 1 → sqOk (r * 2 + 1) (t * 4 + d - (r * 4 + 1)) (4 * P + d)) := by
  obtain ⟨h1, h2⟩ := h
  have e1 : r * 2 * (r * 2) = 4 * (r * r) := by
    rw [show r * 2 * (r * 2) = r * r * (2 * 2) by ac_rfl, Nat.mul_comm]
  have e2 : (r * 2 + 1) * (r * 2 + 1) = 4 * (r * r) + 4 * r + 1 := by
    rw [Nat.add_mul, Nat.mul_add, e1]
    omega
  unfold sqOk
  refine ⟨fun h => ⟨?_, ?_⟩, fun h => ⟨?_, ?_⟩⟩
  · rw [e1]; omega
  · omega
  · rw [e2]; omega
  · omega
theorem sq_lt {r t P b : Nat} (h : sqOk r t P) (hP : P < b * b) : r < b := by
  obtain ⟨h1, h2⟩ := h
  rcases Nat.lt_or_ge r b with h3 | h3
  · exact h3
  · have := Nat.mul_le_mul h3 h3
    omega
theorem sq_ge {r t P b : Nat} (h : sqOk r t P) (hP : b * b ≤ P) : b ≤ r := by
  obtain ⟨h1, h2⟩ := h
  rcases Nat.lt_or_ge r b with h3 | h3
  · have := Nat.mul_le_mul (show r + 1 ≤ b from h3) (show r + 1 ≤ b from h3)
    have e : (r + 1) * (r + 1) = r * r + 2 * r + 1 := by rw [Nat.add_mul, Nat.mul_add]; omega
    omega
  · exact h3
/-- the digits of m * 4 ^ .., from the highest -/
def dgP (A m i : Nat) : Nat := if i ≤ A then m / 4 ^ (A - i) else m * 4 ^ (i - A)
def dgD (A m i : Nat) : Nat := if i < A then m / 4 ^ (A - i - 1) % 4 else 0
theorem dg_step (A m i : Nat) : dgP A m (i + 1) = 4 * dgP A m i + dgD A m i := by
  unfold dgP dgD
  by_cases h : i < A
  · rw [if_pos (by omega), if_pos (by omega), if_pos h]
    have e : m / 4 ^ (A - i) = m / 4 ^ (A - (i + 1)) / 4 := by
      rw [Nat.div_div_eq_div_mul, show A - i = A - (i + 1) + 1 by omega, Nat.pow_succ]
    rw [e, show A - i - 1 = A - (i + 1) by omega]
    omega
  · rw [if_neg (by omega), if_neg h]
    by_cases h2 : i = A
    · subst h2
      rw [if_pos (Nat.le_refl _), Nat.sub_self, show i + 1 - i = 1 by omega]
      omega
    · rw [if_neg (by omega), show i + 1 - A = i - A + 1 by omega, Nat.pow_succ, ← Nat.mul_assoc]
      omega
theorem dg_le (A m i : Nat) (B : Nat) (hi : i ≤ B) (hA : A ≤ B) : dgP A m i ≤ m * 4 ^ (B - A) := by
  unfold dgP
  have hp : 0 < 4 ^ (B - A) := Nat.pow_pos (by decide)
  split
  · have h1 := Nat.div_le_self m (4 ^ (A - i))
    have h2 := Nat.mul_le_mul_left m hp
    omega
  · exact Nat.mul_le_mul_left m (Nat.pow_le_pow_right (by decide) (by omega))
theorem dgD_lt (A m i : Nat) : dgD A m i < 4 := by
  unfold dgD
  split
  · exact Nat.mod_lt _ (by decide)
  · decide
/-- the model's loop: i digits are done, j to go -/
theorem root_loop {m : Nat} {e : Int32} (hm : m < 2 ^ 54) : ∀ (j N i r t : Nat), j + 1 ≤ N → i + j = 54 → sqOk r t (dgP 27 m i) →
    ∃ r' t', sqOk r' t' (dgP 27 m 54) ∧ F_X24_root_b33 N e (nl m) (nl t) (nl r) (iw ((j : Int) - 1)) = F_X24_root_b131 0 (nl r') ((e - 54) / 2) (mr (decide (t' ≠ 0))) := by
  intro j
  induction j with
  | zero =>
    intro N i r t hN hi hs
    obtain ⟨N', rfl⟩ : ∃ n', N = n' + 1 := ⟨N - 1, by omega⟩
    have hi54 : i = 54 := by omega
    subst hi54
    refine ⟨r, t, hs, ?_⟩
    show F_X24_root_b33_st (F_X24_root_b33 N') _ _ _ _ _ = _
    unfold F_X24_root_b33_st
    have hr := sq_lt (b := 2 ^ 54) hs (by
      have := dg_le 27 m 54 54 (Nat.le_refl _) (by decide)
      omega)
    have ht := hs.2
    rw [if_pos (by decide), if_neg (by decide)]
    have z1 : (nl t = 0) ↔ t = 0 := by rw [show (0 : Int64) = nl 0 from rfl, nl_eq (by omega) (by decide)]
    by_cases h0 : t = 0
    · rw [if_pos (z1.mpr h0), decide_eq_false (by omega)]; rfl
    · rw [if_neg (fun h => h0 (z1.mp h)), decide_eq_true h0]; rfl
  | succ j ih =>
    intro N i r t hN hi hs
    obtain ⟨N', rfl⟩ : ∃ n', N = n' + 1 := ⟨N - 1, by omega⟩
    have hr := sq_lt (b := 2 ^ 54) hs (by
      have := dg_le 27 m i 54 (by omega) (by decide)
      omega)
    have hr2 : i ≤ 53 → r < 2 ^ 53 := fun h => sq_lt (b := 2 ^ 53) hs (by
      have := dg_le 27 m i 53 h (by decide)
      omega)
    have hr2 := hr2 (by omega)
    have ht := hs.2
    show ∃ r' t', _ ∧ F_X24_root_b33_st (F_X24_root_b33 N') _ _ _ _ _ = _
    unfold F_X24_root_b33_st
    rw [if_neg (by rw [iw_lt0 (by omega) (by omega)]; omega)]
    have e1 : ∀ x : Nat, j_lshl (nl x) 2 = nl (x * 2 ^ 2) := fun x => nl_shl (k := 2) (by decide)
    have e2 : ∀ x : Nat, j_lshl (nl x) 1 = nl (x * 2) := fun x => nl_shl (k := 1) (by decide)
    have hdl := dgD_lt 27 m i
    -- the digit
    have hdig : (if iw (((j + 1 : Nat) : Int) - 1) < 27 then F_X24_root_b66 (F_X24_root_b33 N') (j_lshl (nl t) 2) 0 e (nl m) (nl r) (iw (((j + 1 : Nat) : Int) - 1)) else F_X24_root_b66 (F_X24_root_b33 N') (j_lshl (nl t) 2) (j_lshr (nl m) (2 * (iw (((j + 1 : Nat) : Int) - 1) - 27)) &&& 3) e (nl m) (nl r) (iw (((j + 1 : Nat) : Int) - 1))) =
        F_X24_root_b66 (F_X24_root_b33 N') (nl (t * 2 ^ 2)) (nl (dgD 27 m i)) e (nl m) (nl r) (iw (((j + 1 : Nat) : Int) - 1)) := by
      rw [e1]
      have c27 : iw (((j + 1 : Nat) : Int) - 1) < (27 : Int32) ↔ j < 27 := by
        rw [show (27 : Int32) = iw 27 from rfl, iw_lt (by omega) (by omega) (by omega) (by omega)]
        omega
      unfold dgD
      by_cases hj : j < 27
      · rw [if_pos (c27.mpr hj), if_neg (by omega)]
        rfl
      · rw [if_neg (fun h => hj (c27.mp h)), if_pos (by omega)]
        have e3 : (2 : Int32) * (iw (((j + 1 : Nat) : Int) - 1) - 27) = Int32.ofNat (2 * (j - 27)) := by
          rw [show (2 : Int32) = iw 2 from rfl, show (27 : Int32) = iw 27 from rfl, iw_sub, iw_mul, ← iw_nat]
          congr 1
          omega
        have e4 : 4 ^ (27 - i - 1) = 2 ^ (2 * (j - 27)) := by
          rw [show (4 : Nat) = 2 ^ 2 from rfl, ← Nat.pow_mul]
          congr 2
          omega
        have hd := Nat.div_le_self m (2 ^ (2 * (j - 27)))
        rw [e3, nl_sshr (by omega) (by omega), show (3 : Int64) = nl (2 ^ 2 - 1) from rfl, nl_mask (k := 2) (by omega) (by decide), e4]
    rw [hdig]
    unfold F_X24_root_b66 F_X24_root_b104
    have e5 : nl (t * 2 ^ 2) ||| nl (dgD 27 m i) = nl (t * 4 + dgD 27 m i) := nl_or (k := 2) (by omega) (by omega)
    have e6 : nl (r * 2 ^ 2) ||| (1 : Int64) = nl (r * 4 + 1) := nl_or (k := 2) (b := 1) (by decide) (by omega)
    have e7 : nl (r * 2) ||| (1 : Int64) = nl (r * 2 + 1) := nl_or (k := 1) (b := 1) (by decide) (by omega)
    have e8 : iw (((j + 1 : Nat) : Int) - 1) + (-1 : Int32) = iw ((j : Int) - 1) := by
      rw [show (-1 : Int32) = iw (-1) from rfl, iw_add]
      congr 1
      omega
    simp only [e1, e2, e5, e6, e7, e8]
    obtain ⟨s1, s2⟩ := sq_step (d := dgD 27 m i) hs hdl
    rw [← dg_step] at s1 s2
    generalize dgD 27 m i = d at *
    by_cases hc : t * 4 + d < r * 4 + 1
    · rw [if_pos (by rw [nl_lt (by omega) (by omega)]; exact hc)]
      exact ih N' (i + 1) (r * 2) (t * 4 + d) (by omega) (by omega) (s1 hc)
    · rw [if_neg (by rw [nl_lt (by omega) (by omega)]; exact hc), nl_sub (by omega) (by omega)]
      exact ih N' (i + 1) (r * 2 + 1) (t * 4 + d - (r * 4 + 1)) (by omega) (by omega) (s2 hc)
/-- the engine's end of the loop -/
noncomputable def rootEnd (e : Int32) (r t : Nat) : Option UInt64 := if r % 4 = 3 ∨ (r % 4 = 2 ∧ (0 < t ∨ r / 4 % 2 = 1)) then F_X49_root_b219 (nl (r / 4 + 1)) e else F_X49_root_b219 (nl (r / 4)) e
theorem root_loop2 {m : Nat} {e : Int32} (hm : m < 2 ^ 56) : ∀ (j N i r t : Nat), j + 1 ≤ N → i + j = 55 → sqOk r t (dgP 28 m i) →
    ∃ r' t', sqOk r' t' (dgP 28 m 55) ∧ F_X49_root_b75 N e (nl m) (nl t) (nl r) (iw ((j : Int) - 28)) = rootEnd e r' t' := by
  intro j
  induction j with
  | zero =>
    intro N i r t hN hi hs
    obtain ⟨N', rfl⟩ : ∃ n', N = n' + 1 := ⟨N - 1, by omega⟩
    have hi54 : i = 55 := by omega
    subst hi54
    refine ⟨r, t, hs, ?_⟩
    show F_X49_root_b75_st (F_X49_root_b75 N') _ _ _ _ _ = _
    unfold F_X49_root_b75_st
    have hr := sq_lt (b := 2 ^ 55) hs (by
      have := dg_le 28 m 55 55 (Nat.le_refl _) (by decide)
      omega)
    have ht := hs.2
    rw [if_neg (by decide)]
    have e1 : j_lshr (nl r) 2 = nl (r / 4) := nl_sshr (k := 2) (by omega) (by decide)
    have e2 : nl r &&& 3 = nl (r % 4) := nl_mask (k := 2) (by omega) (by decide)
    have e3 : nl (r / 4) &&& 1 = nl (r / 4 % 2) := nl_and1 (by omega)
    have c : ∀ a b : Nat, a < 2 ^ 63 → b < 2 ^ 63 → ((nl a = nl b) ↔ a = b) := fun a b h1 h2 => nl_eq (by omega) (by omega)
    have c3 : (nl (r % 4) = 3) ↔ r % 4 = 3 := c _ 3 (by omega) (by decide)
    have c2 : (nl (r % 4) = 2) ↔ r % 4 = 2 := c _ 2 (by omega) (by decide)
    have c1 : (nl (r / 4 % 2) = 1) ↔ r / 4 % 2 = 1 := c _ 1 (by omega) (by decide)
    have c0 : (0 < nl t) ↔ 0 < t := by rw [show (0 : Int64) = nl 0 from rfl, nl_lt (by decide) (by omega)]
    have a1 : nl (r / 4) + 1 = nl (r / 4 + 1) := nl_add _ 1
    simp only [e1, e2, e3, c3, c2, c1, c0]
    unfold F_X49_root_b198 F_X49_root_b202 F_X49_root_b203 rootEnd
    rw [if_neg (show ¬ (1 : Int32) = 0 by decide), if_pos (show (0 : Int32) = 0 from rfl), a1]
    by_cases h3 : r % 4 = 3
    · rw [if_pos h3, if_pos (Or.inl h3)]
    · rw [if_neg h3]
      by_cases h2 : r % 4 = 2
      · rw [if_pos h2]
        by_cases h0 : 0 < t
        · rw [if_pos h0, if_pos (Or.inr ⟨h2, Or.inl h0⟩)]
        · rw [if_neg h0]
          by_cases h1 : r / 4 % 2 = 1
          · rw [if_pos h1, if_pos (Or.inr ⟨h2, Or.inr h1⟩)]
          · rw [if_neg h1, if_neg (by omega)]
      · rw [if_neg h2, if_neg (by omega)]
  | succ j ih =>
    intro N i r t hN hi hs
    obtain ⟨N', rfl⟩ : ∃ n', N = n' + 1 := ⟨N - 1, by omega⟩
    have hr : r < 2 ^ 54 := sq_lt (b := 2 ^ 54) hs (by
      have := dg_le 28 m i 54 (by omega) (by decide)
      omega)
    have ht := hs.2
    show ∃ r' t', _ ∧ F_X49_root_b75_st (F_X49_root_b75 N') _ _ _ _ _ = _
    unfold F_X49_root_b75_st
    rw [if_pos (by rw [show (-28 : Int32) = iw (-28) from rfl, iw_lt (by omega) (by omega) (by omega) (by omega)]; omega)]
    have e1 : ∀ x : Nat, j_lshl (nl x) 2 = nl (x * 2 ^ 2) := fun x => nl_shl (k := 2) (by decide)
    have e2 : ∀ x : Nat, j_lshl (nl x) 1 = nl (x * 2) := fun x => nl_shl (k := 1) (by decide)
    have hdl := dgD_lt 28 m i
    have hdig : (if iw (((j + 1 : Nat) : Int) - 28) < 0 then F_X49_root_b106 (F_X49_root_b75 N') (j_lshl (nl t) 2) 0 e (nl m) (nl r) (iw (((j + 1 : Nat) : Int) - 28)) else F_X49_root_b106 (F_X49_root_b75 N') (j_lshl (nl t) 2) (j_lshr (nl m) (2 * iw (((j + 1 : Nat) : Int) - 28)) &&& 3) e (nl m) (nl r) (iw (((j + 1 : Nat) : Int) - 28))) =
        F_X49_root_b106 (F_X49_root_b75 N') (nl (t * 2 ^ 2)) (nl (dgD 28 m i)) e (nl m) (nl r) (iw (((j + 1 : Nat) : Int) - 28)) := by
      rw [e1]
      have c27 : iw (((j + 1 : Nat) : Int) - 28) < 0 ↔ j < 27 := by
        rw [iw_lt0 (by omega) (by omega)]
        omega
      unfold dgD
      by_cases hj : j < 27
      · rw [if_pos (c27.mpr hj), if_neg (by omega)]
        rfl
      · rw [if_neg (fun h => hj (c27.mp h)), if_pos (by omega)]
        have e3 : (2 : Int32) * (iw (((j + 1 : Nat) : Int) - 28)) = Int32.ofNat (2 * (j - 27)) := by
          rw [show (2 : Int32) = iw 2 from rfl, iw_mul, ← iw_nat]
          congr 1
          omega
        have e4 : 4 ^ (28 - i - 1) = 2 ^ (2 * (j - 27)) := by
          rw [show (4 : Nat) = 2 ^ 2 from rfl, ← Nat.pow_mul]
          congr 2
          omega
        have hd := Nat.div_le_self m (2 ^ (2 * (j - 27)))
        rw [e3, nl_sshr (by omega) (by omega), show (3 : Int64) = nl (2 ^ 2 - 1) from rfl, nl_mask (k := 2) (by omega) (by decide), e4]
    rw [hdig]
    unfold F_X49_root_b106 F_X49_root_b144
    have e5 : nl (t * 2 ^ 2) ||| nl (dgD 28 m i) = nl (t * 4 + dgD 28 m i) := nl_or (k := 2) (by omega) (by omega)
    have e6 : nl (r * 2 ^ 2) ||| (1 : Int64) = nl (r * 4 + 1) := nl_or (k := 2) (b := 1) (by decide) (by omega)
    have e7 : nl (r * 2) ||| (1 : Int64) = nl (r * 2 + 1) := nl_or (k := 1) (b := 1) (by decide) (by omega)
    have e8 : iw (((j + 1 : Nat) : Int) - 28) + (-1 : Int32) = iw ((j : Int) - 28) := by
      rw [show (-1 : Int32) = iw (-1) from rfl, iw_add]
      congr 1
      omega
    simp only [e1, e2, e5, e6, e7, e8]
    obtain ⟨s1, s2⟩ := sq_step (d := dgD 28 m i) hs hdl
    rw [← dg_step] at s1 s2
    generalize dgD 28 m i = d at *
    by_cases hc : t * 4 + d < r * 4 + 1
    · rw [if_pos (by rw [nl_lt (by omega) (by omega)]; exact hc)]
      exact ih N' (i + 1) (r * 2) (t * 4 + d) (by omega) (by omega) (s1 hc)
    · rw [if_neg (by rw [nl_lt (by omega) (by omega)]; exact hc), nl_sub (by omega) (by omega)]
      exact ih N' (i + 1) (r * 2 + 1) (t * 4 + d - (r * 4 + 1)) (by omega) (by omega) (s2 hc)
