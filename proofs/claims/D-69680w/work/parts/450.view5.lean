/-! ===== VIEWS, 5: a slice of an axis ===== -/
def slo (st : Int) : Int := if 0 < st then 0 else -1
def shi (n st : Int) : Int := if 0 < st then n else n - 1
def sla (n st hf fr : Int) : Int := if hf = 0 then (if 0 < st then 0 else n - 1) else max (slo st) (min (if fr < 0 then fr + n else fr) (shi n st))
def slb (n st ht to : Int) : Int := if ht = 0 then (if 0 < st then n else -1) else max (slo st) (min (if to < 0 then to + n else to) (shi n st))
def swy (st a b : Int) : Int := if 0 < st then b - a else a - b
def sct (st a b : Int) : Nat := ((swy st a b).toNat + st.natAbs - 1) / st.natAbs
theorem sla_b {n st hf fr : Int} (hn : 0 ≤ n) : slo st ≤ sla n st hf fr ∧ sla n st hf fr ≤ shi n st := by
  unfold sla slo shi
  by_cases c : 0 < st
  · simp only [if_pos c]
    by_cases d : hf = 0
    · rw [if_pos d]; omega
    · rw [if_neg d]; omega
  · simp only [if_neg c]
    by_cases d : hf = 0
    · rw [if_pos d]; omega
    · rw [if_neg d]; omega
theorem slb_b {n st ht to : Int} (hn : 0 ≤ n) : slo st ≤ slb n st ht to ∧ slb n st ht to ≤ shi n st := by
  unfold slb slo shi
  by_cases c : 0 < st
  · simp only [if_pos c]
    by_cases d : ht = 0
    · rw [if_pos d]; omega
    · rw [if_neg d]; omega
  · simp only [if_neg c]
    by_cases d : ht = 0
    · rw [if_pos d]; omega
    · rw [if_neg d]; omega
/-- below the count, the steps stay inside -/
theorem sct_lt {st a b : Int} (h0 : st ≠ 0) {i : Nat} (hi : i < sct st a b) : (i * st.natAbs : Nat) < (swy st a b).toNat := by
  have h1 : 0 < st.natAbs := Int.natAbs_pos.mpr h0
  unfold sct at hi
  have h2 := (Nat.le_div_iff_mul_le h1).mp (show i + 1 ≤ _ from hi)
  rw [Nat.succ_mul] at h2
  omega
theorem sct_in {n st hf fr ht to : Int} (hn : 0 ≤ n) (h0 : st ≠ 0) {i : Nat} (hi : i < sct st (sla n st hf fr) (slb n st ht to)) : 0 ≤ sla n st hf fr + i * st ∧ sla n st hf fr + i * st < n := by
  have ha := sla_b (n := n) (st := st) (hf := hf) (fr := fr) hn
  have hb := slb_b (n := n) (st := st) (ht := ht) (to := to) hn
  have hl := sct_lt h0 hi
  obtain ⟨a, hA⟩ : ∃ a, a = sla n st hf fr := ⟨_, rfl⟩
  obtain ⟨b, hB⟩ : ∃ b, b = slb n st ht to := ⟨_, rfl⟩
  rw [← hA] at ha hl ⊢
  rw [← hB] at hb hl
  unfold slo shi at ha hb
  unfold swy at hl
  have hc : ((i * st.natAbs : Nat) : Int) = (i : Int) * (st.natAbs : Int) := by rw [Int.natCast_mul]
  by_cases c : 0 < st
  · rw [if_pos c, if_pos c] at ha hb
    rw [if_pos c] at hl
    have e : ((st.natAbs : Nat) : Int) = st := Int.natAbs_of_nonneg (by omega)
    rw [e] at hc
    have : 0 ≤ (i : Int) * st := Int.mul_nonneg (by omega) (by omega)
    omega
  · rw [if_neg c, if_neg c] at ha hb
    rw [if_neg c] at hl
    have e : ((st.natAbs : Nat) : Int) = -st := by omega
    rw [e, Int.mul_neg] at hc
    have : 0 ≤ (i : Int) * (-st) := Int.mul_nonneg (by omega) (by omega)
    rw [Int.mul_neg] at this
    omega
theorem sct_le {n st hf fr ht to : Int} (hn : 0 ≤ n) (h0 : st ≠ 0) : (sct st (sla n st hf fr) (slb n st ht to) : Int) ≤ n := by
  have ha := sla_b (n := n) (st := st) (hf := hf) (fr := fr) hn
  have hb := slb_b (n := n) (st := st) (ht := ht) (to := to) hn
  have h1 : 0 < st.natAbs := Int.natAbs_pos.mpr h0
  have hw : (swy st (sla n st hf fr) (slb n st ht to)).toNat ≤ n.toNat := by
    unfold swy
    unfold slo shi at ha hb
    by_cases c : 0 < st
    · rw [if_pos c, if_pos c] at ha hb
      rw [if_pos c]
      omega
    · rw [if_neg c, if_neg c] at ha hb
      rw [if_neg c]
      omega
  unfold sct
  obtain ⟨W, hW⟩ : ∃ W, W = (swy st (sla n st hf fr) (slb n st ht to)).toNat := ⟨_, rfl⟩
  rw [← hW] at hw ⊢
  have : (W + st.natAbs - 1) / st.natAbs ≤ W := by
    rw [Nat.div_le_iff_le_mul_add_pred h1]
    have : 1 * W ≤ st.natAbs * W := Nat.mul_le_mul_right _ h1
    omega
  omega
theorem sct_st {n st hf fr ht to : Int} (hn : 0 ≤ n) (h0 : st ≠ 0) (h : 1 < sct st (sla n st hf fr) (slb n st ht to)) : (st.natAbs : Int) < n := by
  have h1 := sct_in (hf := hf) (fr := fr) (ht := ht) (to := to) hn h0 (i := 0) (by omega)
  have h2 := sct_in (hf := hf) (fr := fr) (ht := ht) (to := to) hn h0 (i := 1) h
  omega
/-! the engine's slices -/
theorem E_vcut {v l m : Int} (h1 : -2147483648 ≤ v ∧ v < 2147483648) (h2 : -2147483648 ≤ l ∧ l < 2147483648) (h3 : -2147483648 ≤ m ∧ m < 2147483648) : F_X3_cut (iw v) (iw l) (iw m) = some (iw (max l (min v m))) ∧ F_X16_bounded (iw v) (iw l) (iw m) = some (iw (max l (min v m))) := by
  have e1 : F_J7_min_2 (iw v) (iw m) = some (iw (min v m)) := by
    unfold F_J7_min_2 F_J7_min_2_b10
    have q : iw m < iw v ↔ m < v := iw_lt h3.1 h3.2 h1.1 h1.2
    by_cases c : m < v
    · rw [if_pos (q.mpr c), show min v m = m by omega]
    · rw [if_neg (fun hh => c (q.mp hh)), show min v m = v by omega]
  have e2 : F_J7_max (iw l) (iw (min v m)) = some (iw (max l (min v m))) := by
    unfold F_J7_max F_J7_max_b10
    have q : iw l < iw (min v m) ↔ l < min v m := iw_lt h2.1 h2.2 (by omega) (by omega)
    by_cases c : l < min v m
    · rw [if_pos (q.mpr c), show max l (min v m) = min v m by omega]
    · rw [if_neg (fun hh => c (q.mp hh)), show max l (min v m) = l by omega]
  unfold F_X3_cut F_X16_bounded
  rw [e1, Option.bind_some, e2]
  exact ⟨rfl, rfl⟩
theorem E_sl78 {M : Mem} {own : Nat} {n st ht to a : Int} (hn : 0 ≤ n ∧ n ≤ 4096) (hs : -1000000000 < st ∧ st < 1000000000) (hto : -1000000000 < to ∧ to < 1000000000) (h01 : ht = 0 ∨ ht = 1) : F_X3_slice_b78 M (iw a) 1006 own (iw ht) (iw to) (iw st) (iw n) (iw (slo st)) (iw (shi n st)) = F_X3_slice_b121 M (iw (slb n st ht to)) 1006 own (iw st) (iw a) := by
  have q : (0 : Int32) < iw st ↔ 0 < st := by rw [show (0 : Int32) = iw 0 from rfl, iw_lt (by omega) (by omega) (by omega) (by omega)]
  have b1 : -1 ≤ slo st ∧ slo st ≤ 0 := by unfold slo; by_cases c : 0 < st; (· rw [if_pos c]; omega); (· rw [if_neg c]; omega)
  have b2 : -1 ≤ shi n st ∧ shi n st ≤ n := by unfold shi; by_cases c : 0 < st; (· rw [if_pos c]; omega); (· rw [if_neg c]; omega)
  unfold F_X3_slice_b78 F_X3_slice_b100 slb
  rcases h01 with rfl | rfl
  · rw [if_pos (by decide), if_pos rfl]
    by_cases c : 0 < st
    · rw [if_pos (q.mpr c), if_pos c]
    · rw [if_neg (fun hh => c (q.mp hh)), if_neg c]
      rfl
  · rw [if_neg (show ¬ iw 1 = 0 by decide), if_neg (show ¬ (1 : Int) = 0 by decide)]
    have q2 : iw to < 0 ↔ to < 0 := iw_lt0 (by omega) (by omega)
    by_cases c : to < 0
    · rw [if_pos (q2.mpr c), if_pos c, iw_add, (E_vcut ⟨by omega, by omega⟩ ⟨by omega, by omega⟩ ⟨by omega, by omega⟩).1]
      rfl
    · rw [if_neg (fun hh => c (q2.mp hh)), if_neg c, (E_vcut ⟨by omega, by omega⟩ ⟨by omega, by omega⟩ ⟨by omega, by omega⟩).1]
      rfl
theorem E_sl37 {M : Mem} {own : Nat} {n st hf fr ht to : Int} (hn : 0 ≤ n ∧ n ≤ 4096) (hs : -1000000000 < st ∧ st < 1000000000) (hfr : -1000000000 < fr ∧ fr < 1000000000) (hto : -1000000000 < to ∧ to < 1000000000) (h01 : hf = 0 ∨ hf = 1) (h02 : ht = 0 ∨ ht = 1) : F_X3_slice_b37 M (iw (shi n st)) 1006 own (iw hf) (iw fr) (iw ht) (iw to) (iw st) (iw n) (iw (slo st)) = F_X3_slice_b121 M (iw (slb n st ht to)) 1006 own (iw st) (iw (sla n st hf fr)) := by
  have q : (0 : Int32) < iw st ↔ 0 < st := by rw [show (0 : Int32) = iw 0 from rfl, iw_lt (by omega) (by omega) (by omega) (by omega)]
  have b1 : -1 ≤ slo st ∧ slo st ≤ 0 := by unfold slo; by_cases c : 0 < st; (· rw [if_pos c]; omega); (· rw [if_neg c]; omega)
  have b2 : -1 ≤ shi n st ∧ shi n st ≤ n := by unfold shi; by_cases c : 0 < st; (· rw [if_pos c]; omega); (· rw [if_neg c]; omega)
  have e78 := fun a => E_sl78 (M := M) (own := own) (a := a) hn hs hto h02
  unfold F_X3_slice_b37 F_X3_slice_b55 sla
  rcases h01 with rfl | rfl
  · rw [if_pos (by decide), if_pos rfl]
    by_cases c : 0 < st
    · rw [if_pos (q.mpr c), if_pos c]
      exact e78 0
    · rw [if_neg (fun hh => c (q.mp hh)), if_neg c, show (1 : Int32) = iw 1 from rfl, iw_sub]
      exact e78 (n - 1)
  · rw [if_neg (show ¬ iw 1 = 0 by decide), if_neg (show ¬ (1 : Int) = 0 by decide)]
    have q2 : iw fr < 0 ↔ fr < 0 := iw_lt0 (by omega) (by omega)
    by_cases c : fr < 0
    · rw [if_pos (q2.mpr c), if_pos c, iw_add, (E_vcut ⟨by omega, by omega⟩ ⟨by omega, by omega⟩ ⟨by omega, by omega⟩).1]
      exact e78 _
    · rw [if_neg (fun hh => c (q2.mp hh)), if_neg c, (E_vcut ⟨by omega, by omega⟩ ⟨by omega, by omega⟩ ⟨by omega, by omega⟩).1]
      exact e78 _
theorem iw_64 {x : Int} (h : -2147483648 ≤ x ∧ x < 2147483648) : (iw x).toInt64 = Int64.ofInt x := by
  rw [← Int64.toInt_inj, Int32.toInt_toInt64, iw_toInt h.1 h.2, Int64.toInt_ofInt_of_le (by omega) (by omega)]
theorem E_sl121 {M : Mem} {own : Nat} {st a b : Int} (h0 : st ≠ 0) (hs : -1000000000 < st ∧ st < 1000000000) (ha : -1 ≤ a ∧ a ≤ 4096) (hb : -1 ≤ b ∧ b ≤ 4096) : F_X3_slice_b121 M (iw b) 1006 own (iw st) (iw a) = F_X3_slice_b177 M (iw (sct st a b : Nat)) 1006 own (iw st) (iw a) := by
  have q : (0 : Int32) < iw st ↔ 0 < st := by rw [show (0 : Int32) = iw 0 from rfl, iw_lt (by omega) (by omega) (by omega) (by omega)]
  have e1 : F_X3_slice_b121 M (iw b) 1006 own (iw st) (iw a) = F_X3_slice_b145 M (Int64.ofInt (swy st a b)) 1006 own (iw st) (iw a) := by
    unfold F_X3_slice_b121 swy
    rw [iw_64 ⟨by omega, by omega⟩, iw_64 ⟨by omega, by omega⟩]
    by_cases c : 0 < st
    · rw [if_pos (q.mpr c), if_pos c, ← Int64.ofInt_sub]
    · rw [if_neg (fun hh => c (q.mp hh)), if_neg c, ← Int64.ofInt_sub]
  have hw : -5000 ≤ swy st a b ∧ swy st a b ≤ 5000 := by
    unfold swy
    by_cases c : 0 < st
    · rw [if_pos c]; omega
    · rw [if_neg c]; omega
  have eabs : F_J7_abs (iw st).toInt64 = some (nl st.natAbs) := by
    unfold F_J7_abs F_J7_abs_b12
    rw [iw_64 ⟨by omega, by omega⟩, nl_ofInt]
    have q2 : Int64.ofInt st < 0 ↔ st < 0 := by
      rw [Int64.lt_iff_toInt_lt, Int64.toInt_ofInt_of_le (by omega) (by omega)]
      exact Iff.rfl
    by_cases c : st < 0
    · rw [if_pos (q2.mpr c), ← Int64.ofInt_neg, show -st = ((st.natAbs : Nat) : Int) by omega]
    · rw [if_neg (fun hh => c (q2.mp hh)), show ((st.natAbs : Nat) : Int) = st by omega]
  have h1 : 0 < st.natAbs := Int.natAbs_pos.mpr h0
  have h2 : st.natAbs < 1000000000 := by omega
  rw [e1]
  unfold F_X3_slice_b145
  rw [eabs, Option.bind_some]
  have q3 : (0 : Int64) < Int64.ofInt (swy st a b) ↔ 0 < swy st a b := by
    rw [Int64.lt_iff_toInt_lt, Int64.toInt_ofInt_of_le (by omega) (by omega)]
    exact Iff.rfl
  have q4 : ¬ nl st.natAbs = 0 := fun hh => by
    have := (nl_eq (m := st.natAbs) (n := 0) (by omega) (by omega)).mp hh
    omega
  unfold sct
  obtain ⟨W, hW⟩ : ∃ W, W = (swy st a b).toNat := ⟨_, rfl⟩
  by_cases c : 0 < swy st a b
  · rw [if_pos (q3.mpr c), if_neg q4, show Int64.ofInt (swy st a b) = nl W by rw [nl_ofInt, hW]; exact congrArg Int64.ofInt (by omega), nl_add, show (1 : Int64) = nl 1 from rfl, nl_sub (by omega) (by omega), nl_div (by omega) (by omega), nl_i32', ← hW]
  · rw [if_neg (fun hh => c (q3.mp hh)), show (swy st a b).toNat = 0 by omega, Nat.zero_add, Nat.div_eq_of_lt (by omega)]
    rfl
/-- a slice, whole -/
theorem E_slice {M : Mem} {own c0 : Nat} {k : Int32} {n : Nat} {z : Nat → Nat} {s : Nat → Int32} {x0 : Int32} {p : Int32} {d ax : Nat} {B : Int32} {hf fr ht to st : Int} (h : ST M) (g : GE M own k n z s x0 c0 p) (hn : n ≤ 4) (hd : d < n) (hz : z d ≤ 4096) (cd : cI M 1006 264 = iw (d : Int)) (ca : cI M 1006 262 = iw (ax : Int)) (hax : ax ≤ 100000000) (cb : cI M 1006 263 = B) (h0 : st ≠ 0) (hs : -1000000000 < st ∧ st < 1000000000) (hfr : -1000000000 < fr ∧ fr < 1000000000) (hto : -1000000000 < to ∧ to < 1000000000) (h01 : hf = 0 ∨ hf = 1) (h02 : ht = 0 ∨ ht = 1) :
    ∃ M', F_X3_slice M 1006 own (iw hf) (iw fr) (iw ht) (iw to) (iw st) = some M' ∧ ST M' ∧ cI M' 1006 264 = iw ((d + 1 : Nat) : Int) ∧ cI M' 1006 262 = iw ((ax + 1 : Nat) : Int) ∧ cI M' 1006 263 = (if 0 < sct st (sla (z d) st hf fr) (slb (z d) st ht to) then B + iw (sla (z d) st hf fr) * s d else B) ∧
      (∀ j, cI M' 1007 j = if j = ax ∧ ax < 4 then iw (sct st (sla (z d) st hf fr) (slb (z d) st ht to) : Nat) else cI M 1007 j) ∧ (∀ j, cI M' 1008 j = if j = ax ∧ ax < 4 then (if 1 < sct st (sla (z d) st hf fr) (slb (z d) st ht to) then iw st * s d else 0) else cI M 1008 j) ∧
      Df (fun a i => (a = 1006 ∧ (i = 262 ∨ i = 263 ∨ i = 264)) ∨ a = 1007 ∨ a = 1008) n2 n2 M M' ∧ m_nx M' = m_nx M ∧ m_sl M' = m_sl M := by
  obtain ⟨g1, g2, g3, g4, g5, g6, g7, g8, g9, g10⟩ := g
  have q : (0 : Int32) < iw st ↔ 0 < st := by rw [show (0 : Int32) = iw 0 from rfl, iw_lt (by omega) (by omega) (by omega) (by omega)]
  have hzz : (0 : Int) ≤ (z d : Int) ∧ (z d : Int) ≤ 4096 := by omega
  have ba := sla_b (n := (z d : Int)) (st := st) (hf := hf) (fr := fr) hzz.1
  have bb := slb_b (n := (z d : Int)) (st := st) (ht := ht) (to := to) hzz.1
  have bc := sct_le (n := (z d : Int)) (st := st) (hf := hf) (fr := fr) (ht := ht) (to := to) hzz.1 h0
  have b1 : -1 ≤ slo st ∧ slo st ≤ 0 := by unfold slo; by_cases c : 0 < st; (· rw [if_pos c]; omega); (· rw [if_neg c]; omega)
  have b2 : -1 ≤ shi (z d) st ∧ shi (z d) st ≤ z d := by unfold shi; by_cases c : 0 < st; (· rw [if_pos c]; omega); (· rw [if_neg c]; omega)
  have e1 : F_X3_slice M 1006 own (iw hf) (iw fr) (iw ht) (iw to) (iw st) = F_X3_slice_b177 M (iw (sct st (sla (z d) st hf fr) (slb (z d) st ht to) : Nat)) 1006 own (iw st) (iw (sla (z d) st hf fr)) := by
    rw [← E_sl121 h0 hs ⟨by omega, by omega⟩ ⟨by omega, by omega⟩, ← E_sl37 (n := (z d : Int)) hzz hs hfr hto h01 h02]
    unfold F_X3_slice F_X3_slice_b21
    simp only [gr_of g3 (show x_fr 22 1410 = true by decide), g1006_264, h, cd, g6.ai hn hd, Option.bind_some]
    unfold slo shi
    by_cases c : 0 < st
    · rw [if_pos (q.mpr c), if_pos (q.mpr c), if_pos c, if_pos c]
      rfl
    · rw [if_neg (fun hh => c (q.mp hh)), if_neg (fun hh => c (q.mp hh)), if_neg c, if_neg c, show (1 : Int32) = iw 1 from rfl, iw_sub]
      rfl
  rw [e1]
  obtain ⟨cc, hcc⟩ : ∃ cc, cc = sct st (sla (z d) st hf fr) (slb (z d) st ht to) := ⟨_, rfl⟩
  obtain ⟨a, ha⟩ : ∃ a, a = sla (z d) st hf fr := ⟨_, rfl⟩
  rw [← hcc, ← ha]
  rw [← hcc] at bc
  have q0 : (0 : Int32) < iw (cc : Nat) ↔ 0 < cc := by rw [show (0 : Int32) = iw ((0 : Nat) : Int) from rfl, iw_le4 (by omega) (by omega)]
  have q1 : (1 : Int32) < iw (cc : Nat) ↔ 1 < cc := by rw [show (1 : Int32) = iw ((1 : Nat) : Int) from rfl, iw_le4 (by omega) (by omega)]
  obtain ⟨A, hA⟩ : ∃ A, A = if 0 < cc then wI M 1006 263 (B + iw a * s d) else M := ⟨_, rfl⟩
  have sA : ST A := by rw [hA]; by_cases c : 0 < cc; (· rw [if_pos c]; exact h); (· rw [if_neg c]; exact h)
  have eA : ∀ x i, ¬ (x = 1006 ∧ i = 263) → cI A x i = cI M x i := fun x i hh => by
    rw [hA]
    by_cases c : 0 < cc
    · rw [if_pos c, cI_wI, if_neg hh]
    · rw [if_neg c]
  have dA : Df (fun a i => (a = 1006 ∧ (i = 262 ∨ i = 263 ∨ i = 264)) ∨ a = 1007 ∨ a = 1008) n2 n2 M A := by
    rw [hA]
    by_cases c : 0 < cc
    · rw [if_pos c]; exact Df.wI _ (Or.inl ⟨rfl, Or.inr (Or.inl rfl)⟩)
    · rw [if_neg c]; exact Df.refl _ _ _ _
  have nA : m_nx A = m_nx M ∧ m_sl A = m_sl M := by
    rw [hA]
    by_cases c : 0 < cc
    · rw [if_pos c]; exact ⟨rfl, rfl⟩
    · rw [if_neg c]; exact ⟨rfl, rfl⟩
  have tA : m_tg A own = 22 := by rw [(dA.2.2 own g2).1]; exact g3
  have e2 : F_X3_slice_b177 M (iw (cc : Nat)) 1006 own (iw st) (iw a) = F_X3_slice_b205 A 1006 own (iw st) (iw (cc : Nat)) := by
    unfold F_X3_slice_b177
    by_cases c : 0 < cc
    · rw [if_pos (q0.mpr c), hA, if_pos c]
      simp only [g1006_263, g1006_264, p1006_263, h, cb, cd, gr_of g3 (show x_fr 22 1411 = true by decide), g7.ai hn hd, Option.bind_some]
    · rw [if_neg (fun hh => c (q0.mp hh)), hA, if_neg c]
  have r11 : cR A own 1411 = cR M own 1411 := dA.cR g2 (fun q => q)
  have ai11 : ai A (cR M own 1411) (iw (d : Int)) = some (s d) := by
    have g7' := g7
    obtain ⟨y1, y2, y3, y4, y5⟩ := g7'
    have dd := dA.2.2 _ y2
    rw [ai_of (dd.1.trans y3) (dd.2.1.trans y4) hd (by omega), dA.cI y2 (by omega), y5 d hd]
  have e3 : F_X3_slice_b205 A 1006 own (iw st) (iw (cc : Nat)) = F_X3_slice_b230 A 1006 (iw (cc : Nat)) (if 1 < cc then iw st * s d else 0) 1006 := by
    unfold F_X3_slice_b205
    by_cases c : 1 < cc
    · rw [if_pos (q1.mpr c), if_pos c]
      simp only [gr_of tA (show x_fr 22 1411 = true by decide), r11, g1006_264, sA, eA 1006 264 (by decide), cd, ai11, Option.bind_some]
    · rw [if_neg (fun hh => c (q1.mp hh)), if_neg c]
  obtain ⟨C, f1, f2, f3, f4, f5, f6, f7, f8⟩ := E_axis (v := iw (cc : Nat)) (w := if 1 < cc then iw st * s d else 0) sA (by rw [eA 1006 262 (by decide)]; exact ca) hax
  have h0M := h.1
  have c264 : cI C 1006 264 = iw (d : Int) := by rw [f6.cI (by have := sA.1; omega) (by unfold pAx; omega), eA _ _ (by decide)]; exact cd
  refine ⟨wI C 1006 264 (iw ((d + 1 : Nat) : Int)), ?_, f2, by rw [cI_wI, if_pos ⟨rfl, rfl⟩], by rw [cI_wI, if_neg (by decide)]; exact f3, ?_, fun j => ?_, fun j => ?_, ?_, ?_, ?_⟩
  · rw [e2, e3]
    unfold F_X3_slice_b230
    simp only [v1006, sA, f1, g1006_264, p1006_264, f2, c264, iw_succ, Option.bind_some]
  · rw [cI_wI, if_neg (by decide), f6.cI (by have := sA.1; omega) (by unfold pAx; omega), hA]
    by_cases c : 0 < cc
    · rw [if_pos c, if_pos c, cI_wI, if_pos ⟨rfl, rfl⟩]
    · rw [if_neg c, if_neg c]; exact cb
  · rw [cI_wI, if_neg (by omega), f4 j, eA _ _ (by omega)]
  · rw [cI_wI, if_neg (by omega), f5 j, eA _ _ (by omega)]
  · exact (dA.trans (f6.mono (fun a i q => by unfold pAx at q; omega) (fun _ _ q => q) (fun _ _ q => q))).trans (Df.wI _ (Or.inl ⟨rfl, Or.inr (Or.inr rfl)⟩))
  · show m_nx C = _; rw [f7, nA.1]
  · show m_sl C = _; rw [f8, nA.2]
