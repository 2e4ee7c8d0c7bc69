/-! ===== VIEWS, 14: the model's slices ===== -/
theorem sct_iff {st a b : Int} (h0 : st ≠ 0) {i : Nat} : i < sct st a b ↔ (i * st.natAbs : Nat) < (swy st a b).toNat := by
  have h1 : 0 < st.natAbs := Int.natAbs_pos.mpr h0
  unfold sct
  have h2 := Nat.le_div_iff_mul_le (x := i + 1) (y := (swy st a b).toNat + st.natAbs - 1) h1
  rw [Nat.succ_mul] at h2
  omega
theorem AR.ai {M0 M : Mem} {y i : Nat} {g : Nat → Int} (r : AR M0 M y g) (hi : i < 8) : ai M y (iw (i : Int)) = some (iw (g i)) := by
  rw [ai_of r.2.2.1 r.2.2.2.1 hi (by decide), r.2.2.2.2 i hi]
section
variable {k37 : Mem → Nat → Nat → Nat → Int32 → Nat → Nat → Int32 → Int32 → Int32 → Int32 → Option ((Nat × Mem) ⊕ (Nat × Mem))} {M0 M : Mem} {own L v4 v5 y : Nat} {v3 v6 v7 v8 v9 v12 : Int32} {it : Nat → Int}
theorem M_cnt370 {st a b : Int} (h0 : st ≠ 0) (hs : -1000000000 < st ∧ st < 1000000000) (ha : -1 ≤ a ∧ a ≤ 4096) (hb : -1 ≤ b ∧ b ≤ 4096) (hc : sct st a b ≤ 5000) : ∀ (r N m : Nat), m + r = sct st a b → F_X16_viewed_b370 k37 (N + 1 + r) M 1068 own L v3 v4 v5 v6 v7 v8 v9 v12 (iw st) (iw a) (iw b) (iw (m : Int)) (Int64.ofInt (a + (m : Int) * st)) = F_X16_viewed_b410 k37 M 1068 own L v3 v4 v5 v6 v7 v8 v9 v12 (iw st) (iw a) (iw (sct st a b : Nat)) := by
  have q : (0 : Int32) < iw st ↔ 0 < st := by rw [show (0 : Int32) = iw 0 from rfl, iw_lt (by omega) (by omega) (by omega) (by omega)]
  have step : ∀ (m : Nat) (x y' : Option ((Nat × Mem) ⊕ (Nat × Mem))), m ≤ 5000 → (if 0 < iw st then (if Int64.ofInt (a + (m : Int) * st) < (iw b).toInt64 then x else y') else (if (iw b).toInt64 < Int64.ofInt (a + (m : Int) * st) then x else y')) = if m < sct st a b then x else y' := fun m x y' hm => by
    have bm : -5000000000001 < (m : Int) * st ∧ (m : Int) * st < 5000000000001 := by
      have h1 : (m : Int) * st ≤ (m : Int) * 1000000000 := Int.mul_le_mul_of_nonneg_left (by omega) (by omega)
      have h2 : (m : Int) * (-1000000000) ≤ (m : Int) * st := Int.mul_le_mul_of_nonneg_left (by omega) (by omega)
      omega
    rw [iw_64 ⟨by omega, by omega⟩]
    have e1 : (Int64.ofInt (a + (m : Int) * st)).toInt = a + (m : Int) * st := Int64.toInt_ofInt_of_le (by omega) (by omega)
    have e2 : (Int64.ofInt b).toInt = b := Int64.toInt_ofInt_of_le (by omega) (by omega)
    have hi := sct_iff (st := st) (a := a) (b := b) (i := m) h0
    unfold swy at hi
    have hcst : ((m * st.natAbs : Nat) : Int) = (m : Int) * (st.natAbs : Int) := by rw [Int.natCast_mul]
    by_cases c : 0 < st
    · have en : ((st.natAbs : Nat) : Int) = st := Int.natAbs_of_nonneg (by omega)
      rw [en] at hcst
      rw [if_pos c] at hi
      have q2 : Int64.ofInt (a + (m : Int) * st) < Int64.ofInt b ↔ m < sct st a b := by
        rw [Int64.lt_iff_toInt_lt, e1, e2, hi]
        omega
      rw [if_pos (q.mpr c)]
      by_cases d : m < sct st a b
      · rw [if_pos (q2.mpr d), if_pos d]
      · rw [if_neg (fun hh => d (q2.mp hh)), if_neg d]
    · have en : ((st.natAbs : Nat) : Int) = -st := by omega
      rw [en, Int.mul_neg] at hcst
      rw [if_neg c] at hi
      have q2 : Int64.ofInt b < Int64.ofInt (a + (m : Int) * st) ↔ m < sct st a b := by
        rw [Int64.lt_iff_toInt_lt, e1, e2, hi]
        omega
      rw [if_neg (fun hh => c (q.mp hh))]
      by_cases d : m < sct st a b
      · rw [if_pos (q2.mpr d), if_pos d]
      · rw [if_neg (fun hh => d (q2.mp hh)), if_neg d]
  intro r
  induction r with
  | zero =>
    intro N m hm
    show F_X16_viewed_b370_st k37 (F_X16_viewed_b370 k37 N) M 1068 own L v3 v4 v5 v6 v7 v8 v9 v12 (iw st) (iw a) (iw b) (iw (m : Int)) (Int64.ofInt (a + (m : Int) * st)) = _
    unfold F_X16_viewed_b370_st
    rw [step m _ _ (by omega), if_neg (by omega), show m = sct st a b by omega]
  | succ r ih =>
    intro N m hm
    show F_X16_viewed_b370_st k37 (F_X16_viewed_b370 k37 (N + 1 + r)) M 1068 own L v3 v4 v5 v6 v7 v8 v9 v12 (iw st) (iw a) (iw b) (iw (m : Int)) (Int64.ofInt (a + (m : Int) * st)) = _
    unfold F_X16_viewed_b370_st
    rw [step m _ _ (by omega), if_pos (by omega)]
    unfold F_X16_viewed_b396
    rw [iw_64 (x := st) ⟨by omega, by omega⟩]
    simp only [iw_succ, ← Int64.ofInt_add]
    rw [show a + (m : Int) * st + st = a + ((m + 1 : Nat) : Int) * st by rw [Int.natCast_add, Int.add_mul]; omega]
    exact ih N (m + 1) (by omega)
theorem M_sl360 {st a b : Int} (h0 : st ≠ 0) (hs : -1000000000 < st ∧ st < 1000000000) (ha : -1 ≤ a ∧ a ≤ 4096) (hb : -1 ≤ b ∧ b ≤ 4096) (hc : sct st a b ≤ 5000) : F_X16_viewed_b360 k37 M (iw b) 1068 own L v3 v4 v5 v6 v7 v8 v9 v12 (iw st) (iw a) = F_X16_viewed_b410 k37 M 1068 own L v3 v4 v5 v6 v7 v8 v9 v12 (iw st) (iw a) (iw (sct st a b : Nat)) := by
  have hxN : xN = 1099511627776 := rfl
  obtain ⟨N, hN⟩ : ∃ N, N + 1 + sct st a b = xN := ⟨xN - 1 - sct st a b, by omega⟩
  have := M_cnt370 (k37 := k37) (M := M) (own := own) (L := L) (v3 := v3) (v4 := v4) (v5 := v5) (v6 := v6) (v7 := v7) (v8 := v8) (v9 := v9) (v12 := v12) h0 hs ha hb hc (sct st a b) N 0 (by omega)
  rw [hN] at this
  unfold F_X16_viewed_b360
  rw [iw_64 (x := a) ⟨by omega, by omega⟩, ← this, show a + ((0 : Nat) : Int) * st = a by omega]
  rfl
theorem M_sl309 {n st a : Int} (r : AR M0 M y it) (hn : 0 ≤ n ∧ n ≤ 4096) (hs : -1000000000 < st ∧ st < 1000000000) (hto : -1000000000 < it 5 ∧ it 5 < 1000000000) (h01 : it 4 = 0 ∨ it 4 = 1) : F_X16_viewed_b309 k37 M (iw a) 1068 own L v3 v4 v5 v6 v7 v8 v9 y (iw n) v12 (iw st) (iw (slo st)) (iw (shi n st)) = F_X16_viewed_b360 k37 M (iw (slb n st (it 4) (it 5))) 1068 own L v3 v4 v5 v6 v7 v8 v9 v12 (iw st) (iw a) := by
  have q : (0 : Int32) < iw st ↔ 0 < st := by rw [show (0 : Int32) = iw 0 from rfl, iw_lt (by omega) (by omega) (by omega) (by omega)]
  have b1 : -1 ≤ slo st ∧ slo st ≤ 0 := by unfold slo; by_cases c : 0 < st; (· rw [if_pos c]; omega); (· rw [if_neg c]; omega)
  have b2 : -1 ≤ shi n st ∧ shi n st ≤ n := by unfold shi; by_cases c : 0 < st; (· rw [if_pos c]; omega); (· rw [if_neg c]; omega)
  have a4 : ai M y 4 = some (iw (it 4)) := r.ai (i := 4) (by decide)
  have a5 : ai M y 5 = some (iw (it 5)) := r.ai (i := 5) (by decide)
  unfold F_X16_viewed_b309 F_X16_viewed_b353 slb
  simp only [a4, a5, Option.bind_some]
  rcases h01 with h | h
  · rw [h, if_pos (show iw 0 = 0 by decide), if_pos rfl]
    by_cases c : 0 < st
    · rw [if_pos (q.mpr c), if_pos c]
    · rw [if_neg (fun hh => c (q.mp hh)), if_neg c]
      rfl
  · rw [h, if_neg (show ¬ iw 1 = 0 by decide), if_neg (show ¬ (1 : Int) = 0 by decide)]
    have q2 : iw (it 5) < 0 ↔ it 5 < 0 := iw_lt0 (by omega) (by omega)
    by_cases c : it 5 < 0
    · rw [if_pos (q2.mpr c), if_pos c, iw_add, (E_vcut ⟨by omega, by omega⟩ ⟨by omega, by omega⟩ ⟨by omega, by omega⟩).2]
      rfl
    · rw [if_neg (fun hh => c (q2.mp hh)), if_neg c, (E_vcut ⟨by omega, by omega⟩ ⟨by omega, by omega⟩ ⟨by omega, by omega⟩).2]
      rfl
theorem M_sl256 {n st : Int} (r : AR M0 M y it) (hn : 0 ≤ n ∧ n ≤ 4096) (hs : -1000000000 < st ∧ st < 1000000000) (hfr : -1000000000 < it 3 ∧ it 3 < 1000000000) (h01 : it 2 = 0 ∨ it 2 = 1) : F_X16_viewed_b256 k37 M (iw (shi n st)) 1068 own L v3 v4 v5 v6 v7 v8 v9 y (iw n) v12 (iw st) (iw (slo st)) = F_X16_viewed_b309 k37 M (iw (sla n st (it 2) (it 3))) 1068 own L v3 v4 v5 v6 v7 v8 v9 y (iw n) v12 (iw st) (iw (slo st)) (iw (shi n st)) := by
  have q : (0 : Int32) < iw st ↔ 0 < st := by rw [show (0 : Int32) = iw 0 from rfl, iw_lt (by omega) (by omega) (by omega) (by omega)]
  have b1 : -1 ≤ slo st ∧ slo st ≤ 0 := by unfold slo; by_cases c : 0 < st; (· rw [if_pos c]; omega); (· rw [if_neg c]; omega)
  have b2 : -1 ≤ shi n st ∧ shi n st ≤ n := by unfold shi; by_cases c : 0 < st; (· rw [if_pos c]; omega); (· rw [if_neg c]; omega)
  have a2 : ai M y 2 = some (iw (it 2)) := r.ai (i := 2) (by decide)
  have a3 : ai M y 3 = some (iw (it 3)) := r.ai (i := 3) (by decide)
  unfold F_X16_viewed_b256 F_X16_viewed_b302 sla
  simp only [a2, a3, Option.bind_some]
  rcases h01 with h | h
  · rw [h, if_pos (show iw 0 = 0 by decide), if_pos rfl]
    by_cases c : 0 < st
    · rw [if_pos (q.mpr c), if_pos c]
      rfl
    · rw [if_neg (fun hh => c (q.mp hh)), if_neg c, show (1 : Int32) = iw 1 from rfl, iw_sub]
  · rw [h, if_neg (show ¬ iw 1 = 0 by decide), if_neg (show ¬ (1 : Int) = 0 by decide)]
    have q2 : iw (it 3) < 0 ↔ it 3 < 0 := iw_lt0 (by omega) (by omega)
    by_cases c : it 3 < 0
    · rw [if_pos (q2.mpr c), if_pos c, iw_add, (E_vcut ⟨by omega, by omega⟩ ⟨by omega, by omega⟩ ⟨by omega, by omega⟩).2]
      rfl
    · rw [if_neg (fun hh => c (q2.mp hh)), if_neg c, (E_vcut ⟨by omega, by omega⟩ ⟨by omega, by omega⟩ ⟨by omega, by omega⟩).2]
      rfl
theorem M_slice {n st : Int} (r : AR M0 M y it) (h0 : st ≠ 0) (hn : 0 ≤ n ∧ n ≤ 4096) (hs : -1000000000 < st ∧ st < 1000000000) (hi : IT it) : F_X16_viewed_b210 k37 M (iw st) 1068 own L v3 v4 v5 v6 v7 v8 v9 y (iw n) v12 = F_X16_viewed_b410 k37 M 1068 own L v3 v4 v5 v6 v7 v8 v9 v12 (iw st) (iw (sla n st (it 2) (it 3))) (iw (sct st (sla n st (it 2) (it 3)) (slb n st (it 4) (it 5)) : Nat)) := by
  obtain ⟨-, -, i2, i3, i4, i5, -, -⟩ := hi
  have q : (0 : Int32) < iw st ↔ 0 < st := by rw [show (0 : Int32) = iw 0 from rfl, iw_lt (by omega) (by omega) (by omega) (by omega)]
  have q0 : ¬ iw st = 0 := fun hh => h0 ((iw_eq0 (by omega) (by omega)).mp hh)
  have b1 : -1 ≤ slo st ∧ slo st ≤ 0 := by unfold slo; by_cases c : 0 < st; (· rw [if_pos c]; omega); (· rw [if_neg c]; omega)
  have b2 : -1 ≤ shi n st ∧ shi n st ≤ n := by unfold shi; by_cases c : 0 < st; (· rw [if_pos c]; omega); (· rw [if_neg c]; omega)
  have ba := sla_b (n := n) (st := st) (hf := it 2) (fr := it 3) hn.1
  have bb := slb_b (n := n) (st := st) (ht := it 4) (to := it 5) hn.1
  have bc := sct_le (n := n) (st := st) (hf := it 2) (fr := it 3) (ht := it 4) (to := it 5) hn.1 h0
  rw [← M_sl360 h0 hs ⟨by omega, by omega⟩ ⟨by omega, by omega⟩ (by omega), ← M_sl309 r hn hs i5 i4, ← M_sl256 r hn hs i3 i2]
  unfold F_X16_viewed_b210 F_X16_viewed_b240 slo shi
  rw [if_neg q0]
  by_cases c : 0 < st
  · rw [if_pos (q.mpr c), if_pos (q.mpr c), if_pos c, if_pos c]
    rfl
  · rw [if_neg (fun hh => c (q.mp hh)), if_neg (fun hh => c (q.mp hh)), if_neg c, if_neg c, show (1 : Int32) = iw 1 from rfl, iw_sub]
    rfl
end
