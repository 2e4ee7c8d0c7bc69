/-! ===== VALUES, 5: exact results, bits ===== -/
/-- a whole result that must fit: 0 sum, 1 difference, 2 product -/
def exv (how k : Int32) (a b : Int64) : Option Int64 :=
  let r := if how = 0 then a + b else if how = 1 then a - b else a * b
  if k = 4 then (if r = r.toInt32.toInt64 then some r else none)
  else if how = 0 then (if ((a ^^^ r) &&& (b ^^^ r)) < 0 then none else some r)
  else if how = 1 then (if ((a ^^^ b) &&& (a ^^^ r)) < 0 then none else some r)
  else if -9223372036854775808 ≤ a.toInt * b.toInt ∧ a.toInt * b.toInt ≤ 9223372036854775807 then some r else none
theorem exv_0 (k : Int32) (a b : Int64) : exv 0 k a b = if k = 4 then (if a + b = (a + b).toInt32.toInt64 then some (a + b) else none) else (if ((a ^^^ (a + b)) &&& (b ^^^ (a + b))) < 0 then none else some (a + b)) := by
  simp [exv]
theorem exv_1 (k : Int32) (a b : Int64) : exv 1 k a b = if k = 4 then (if a - b = (a - b).toInt32.toInt64 then some (a - b) else none) else (if ((a ^^^ b) &&& (a ^^^ (a - b))) < 0 then none else some (a - b)) := by
  simp [exv]
theorem exv_2 (k : Int32) (a b : Int64) : exv 2 k a b = if k = 4 then (if a * b = (a * b).toInt32.toInt64 then some (a * b) else none) else if -9223372036854775808 ≤ a.toInt * b.toInt ∧ a.toInt * b.toInt ≤ 9223372036854775807 then some (a * b) else none := by
  simp [exv]
theorem i64_min : (-9223372036854775808 : Int64).toInt = -9223372036854775808 := by decide
theorem i64_m1 : (-1 : Int64).toInt = -1 := by decide
theorem i64_eq {a b : Int64} : a = b ↔ a.toInt = b.toInt := Int64.toInt_inj.symm
theorem bm64 (p : Int) : ∃ t : Int, p.bmod (2 ^ 64) = p - 18446744073709551616 * t := by
  rw [Int.bmod_def, show ((2 ^ 64 : Nat) : Int) = 18446744073709551616 by decide]
  split
  · exact ⟨p / 18446744073709551616, by omega⟩
  · exact ⟨p / 18446744073709551616 + 1, by omega⟩
theorem bm_id {p : Int} (h1 : -9223372036854775808 ≤ p) (h2 : p ≤ 9223372036854775807) : p.bmod (2 ^ 64) = p := by
  rw [Int.bmod_def, show ((2 ^ 64 : Nat) : Int) = 18446744073709551616 by decide]
  split <;> omega
theorem pd_int {A B R Q m p t : Int} (hA : A ≠ 0) (a1 : -9223372036854775808 ≤ A) (a2 : A ≤ 9223372036854775807) (r1 : -9223372036854775808 ≤ R) (r2 : R ≤ 9223372036854775807) (hR : R = p - 18446744073709551616 * t) (hm : m.natAbs < A.natAbs) (hp : A * B = p) (hd : A * Q + m = R) (hx : ¬ (A = -1 ∧ B = -9223372036854775808)) (hQ : Q.natAbs ≤ R.natAbs) (h : Q.bmod (2 ^ 64) = B) : -9223372036854775808 ≤ p ∧ p ≤ 9223372036854775807 := by
  by_cases hb : Q = 9223372036854775808
  · exfalso
    have hB : B = -9223372036854775808 := by rw [← h, hb]; decide
    rw [hb] at hd
    have hR2 : R = -9223372036854775808 := by omega
    have : A = -1 := by omega
    exact hx ⟨this, hB⟩
  · have hq : Q.bmod (2 ^ 64) = Q := bm_id (by omega) (by omega)
    rw [hq] at h
    subst h
    rw [hp] at hd
    have : t = 0 := by omega
    omega
/-- a product over a factor -/
theorem prod_div {a b : Int64} (h0 : a ≠ 0) (hm : ¬ (a = -1 ∧ b = -9223372036854775808)) : a * b / a = b ↔ -9223372036854775808 ≤ a.toInt * b.toInt ∧ a.toInt * b.toInt ≤ 9223372036854775807 := by
  have ra := i64_rng a
  have rb := i64_rng b
  have rr := i64_rng (a * b)
  rw [i64_eq, Int64.toInt_div]
  have em : (a * b).toInt = (a.toInt * b.toInt).bmod (2 ^ 64) := Int64.toInt_mul a b
  have a0 : a.toInt ≠ 0 := fun hh => h0 (i64_eq.mpr hh)
  have hm' : ¬ (a.toInt = -1 ∧ b.toInt = -9223372036854775808) := fun hh => hm ⟨i64_eq.mpr hh.1, i64_eq.mpr hh.2⟩
  constructor
  · intro h
    obtain ⟨t, ht⟩ := bm64 (a.toInt * b.toInt)
    have hlt2 : ((a * b).toInt.natAbs % a.toInt.natAbs) < a.toInt.natAbs := Nat.mod_lt _ (by omega)
    exact pd_int (Q := (a * b).toInt.tdiv a.toInt) (m := (a * b).toInt.tmod a.toInt) a0 ra.1 ra.2 rr.1 rr.2 (em.trans ht) (by rw [Int.natAbs_tmod]; exact hlt2) rfl (Int.mul_tdiv_add_tmod _ _) hm' (by rw [Int.natAbs_tdiv]; exact Nat.div_le_self _ _) h
  · intro h
    have e : (a * b).toInt = a.toInt * b.toInt := em.trans (bm_id h.1 h.2)
    rw [e, Int.mul_tdiv_cancel_left _ a0, bm_id rb.1 rb.2]
theorem E_exact {f k : Int32} {a b : Int64} {M : Mem} {st : Nat} (hf : f = 6 ∨ f = 7 ∨ f = 8) : F_X37_exact M f k a b st = eRes (exv (f - 6) k a b) M st := by
  have fin : ∀ (c : Prop) [Decidable c] (r : Int64), (if c then F_X37_exact_b158 M st r 1 else F_X37_exact_b158 M st r 0) = eRes (if c then some r else none) M st := by
    intro c _ r
    by_cases hc : c
    · rw [if_pos hc, if_pos hc]; rfl
    · rw [if_neg hc, if_neg hc]; rfl
  have fin2 : ∀ (c : Prop) [Decidable c] (r : Int64), (if c then F_X37_exact_b158 M st r 0 else F_X37_exact_b158 M st r 1) = eRes (if c then none else some r) M st := by
    intro c _ r
    by_cases hc : c
    · rw [if_pos hc, if_pos hc]; rfl
    · rw [if_neg hc, if_neg hc]; rfl
  unfold F_X37_exact F_X37_exact_b30 F_X37_exact_b52 F_X37_exact_b83 F_X37_exact_b113 F_X37_exact_b141 F_X37_exact_b151 F_X37_exact_b155 F_X37_exact_b156
  rcases hf with rfl | rfl | rfl
  · rw [if_pos rfl, show (6 : Int32) - 6 = 0 by decide, exv_0]
    by_cases h4 : k = 4
    · simp only [h4, if_true, fin]
    · simp only [h4, if_false, if_true, fin2]
  · rw [if_neg (by decide), if_pos rfl, show (7 : Int32) - 6 = 1 by decide, exv_1]
    by_cases h4 : k = 4
    · simp only [h4, if_true, fin]
    · simp only [h4, if_false, if_true, fin2]
      rfl
  · rw [if_neg (by decide), if_neg (by decide), show (8 : Int32) - 6 = 2 by decide, exv_2]
    by_cases h4 : k = 4
    · simp only [h4, if_true, fin]
    · rw [if_neg h4, if_neg (show ¬ (8 : Int32) = 6 by decide), if_neg (show ¬ (8 : Int32) = 7 by decide)]
      rw [if_neg h4]
      by_cases h0 : a = 0
      · subst h0
        rw [if_pos rfl, if_pos (by rw [show Int64.toInt 0 = 0 by decide, Int.zero_mul]; decide)]
        rfl
      · rw [if_neg h0]
        by_cases hm : a = -1 ∧ b = -9223372036854775808
        · rw [if_pos hm.1, if_pos hm.2, if_neg (by rw [hm.1, hm.2]; decide)]
          rfl
        · have pd := prod_div h0 hm
          have e : (if a = -1 then if b = -9223372036854775808 then F_X37_exact_b158 M st (a * b) 0 else if a = 0 then none else if a * b / a = b then F_X37_exact_b158 M st (a * b) 1 else F_X37_exact_b158 M st (a * b) 0 else if a = 0 then none else if a * b / a = b then F_X37_exact_b158 M st (a * b) 1 else F_X37_exact_b158 M st (a * b) 0) = if a * b / a = b then F_X37_exact_b158 M st (a * b) 1 else F_X37_exact_b158 M st (a * b) 0 := by
            rw [if_neg h0]
            by_cases h1 : a = -1
            · rw [if_pos h1, if_neg (fun hh => hm ⟨h1, hh⟩)]
            · rw [if_neg h1]
          rw [e, fin]
          simp only [pd]
theorem M_exact {f k : Int32} {a b : Int64} {M : Mem} {v0 : Nat} (hf : f = 0 ∨ f = 1 ∨ f = 2) : F_X16_exact M v0 f k a b = mRes (exv f k a b) M v0 := by
  have fin : ∀ (c : Prop) [Decidable c] (r : Int64), (if c then F_X16_exact_b186 M v0 r 1 else F_X16_exact_b186 M v0 r 0) = mRes (if c then some r else none) M v0 := by
    intro c _ r
    by_cases hc : c
    · rw [if_pos hc, if_pos hc]; rfl
    · rw [if_neg hc, if_neg hc]; rfl
  have fin2 : ∀ (c : Prop) [Decidable c] (r : Int64), (if c then F_X16_exact_b186 M v0 r 0 else F_X16_exact_b186 M v0 r 1) = mRes (if c then none else some r) M v0 := by
    intro c _ r
    by_cases hc : c
    · rw [if_pos hc, if_pos hc]; rfl
    · rw [if_neg hc, if_neg hc]; rfl
  unfold F_X16_exact F_X16_exact_b27 F_X16_exact_b49 F_X16_exact_b78 F_X16_exact_b107 F_X16_exact_b142 F_X16_exact_b159 F_X16_exact_b179 F_X16_exact_b183 F_X16_exact_b184
  rcases hf with rfl | rfl | rfl
  · rw [if_pos rfl, exv_0]
    by_cases h4 : k = 4
    · simp only [h4, if_true, fin]
    · simp only [h4, if_false, if_true, fin2]
  · rw [if_neg (show ¬ (1 : Int32) = 0 by decide), if_pos rfl, exv_1]
    by_cases h4 : k = 4
    · simp only [h4, if_true, fin]
    · simp only [h4, if_false, if_true, fin2]
      rfl
  · rw [if_neg (show ¬ (2 : Int32) = 0 by decide), if_neg (show ¬ (2 : Int32) = 1 by decide), exv_2]
    by_cases h4 : k = 4
    · simp only [h4, if_true, fin]
    · rw [if_neg h4, if_neg (show ¬ (2 : Int32) = 0 by decide), if_neg (show ¬ (2 : Int32) = 1 by decide)]
      rw [if_neg h4]
      by_cases h0 : a = 0
      · subst h0
        rw [if_pos rfl, if_pos (by rw [show Int64.toInt 0 = 0 by decide, Int.zero_mul]; decide)]
        rfl
      · rw [if_neg h0]
        by_cases hb0 : b = 0
        · subst hb0
          rw [if_pos rfl, if_pos (by rw [show (0 : Int64).toInt = 0 by decide, Int.mul_zero]; decide)]
          rfl
        · rw [if_neg hb0]
          by_cases hm : a = -1 ∧ b = -9223372036854775808
          · rw [if_pos hm.1, if_pos hm.2, if_neg (by rw [hm.1, hm.2]; decide)]
            rfl
          · have e0 : ∀ (X Y : Option ((Int64 × Mem) ⊕ (Nat × Mem))), (if a = -1 then if b = -9223372036854775808 then X else Y else Y) = Y := by
              intro X Y
              by_cases h1 : a = -1
              · rw [if_pos h1, if_neg (fun hh => hm ⟨h1, hh⟩)]
              · rw [if_neg h1]
            rw [e0]
            by_cases hm2 : b = -1 ∧ a = -9223372036854775808
            · rw [if_pos hm2.1, if_pos hm2.2, if_neg (by rw [hm2.1, hm2.2]; decide)]
              rfl
            · have e1 : ∀ (X Y : Option ((Int64 × Mem) ⊕ (Nat × Mem))), (if b = -1 then if a = -9223372036854775808 then X else Y else Y) = Y := by
                intro X Y
                by_cases h1 : b = -1
                · rw [if_pos h1, if_neg (fun hh => hm2 ⟨h1, hh⟩)]
                · rw [if_neg h1]
              rw [e1, if_neg hb0]
              have pd := prod_div hb0 hm2
              rw [Int64.mul_comm, Int.mul_comm] at pd
              by_cases hq : a * b / b = a
              · rw [if_pos hq, if_neg hb0, if_pos (by unfold j_lrem; rw [hq, Int64.sub_self]), if_pos (pd.mp hq)]
                rfl
              · rw [if_neg hq, if_neg (fun hh => hq (pd.mpr hh))]
                rfl
