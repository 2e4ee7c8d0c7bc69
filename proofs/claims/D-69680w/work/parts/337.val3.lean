/-! ===== VALUES, 3: comparing and order ===== -/
/-- a value as a whole number that rises with it -/
def lnV (k : Int32) (v : Int64) : Int := if k < 6 then v.toInt else rk (lnR k v).toNat
/-- the same, minus zero below zero -/
def lnT (k : Int32) (v : Int64) : Int := if k < 6 then v.toInt else if dS (lnR k v).toNat = true then -1 - (((lnR k v).toNat % 2 ^ 63 : Nat) : Int) else (((lnR k v).toNat % 2 ^ 63 : Nat) : Int)
theorem ordi_lt (a b : Int) : ordi (compare a b) < 0 ↔ a < b := by
  rcases Int.lt_trichotomy a b with h | h | h
  · rw [cmp_lt h]
    exact ⟨fun _ => h, fun _ => by decide⟩
  · rw [cmp_eq h]
    exact ⟨fun hh => absurd hh (by decide), fun hh => by omega⟩
  · rw [cmp_gt h]
    exact ⟨fun hh => absurd hh (by decide), fun hh => by omega⟩
theorem ordi_gt (a b : Int) : 0 < ordi (compare a b) ↔ b < a := by
  rcases Int.lt_trichotomy a b with h | h | h
  · rw [cmp_lt h]
    exact ⟨fun hh => absurd hh (by decide), fun hh => by omega⟩
  · rw [cmp_eq h]
    exact ⟨fun hh => absurd hh (by decide), fun hh => by omega⟩
  · rw [cmp_gt h]
    exact ⟨fun _ => h, fun _ => by decide⟩
theorem ordi_eq (a b : Int) : ordi (compare a b) = 0 ↔ a = b := by
  rcases Int.lt_trichotomy a b with h | h | h
  · rw [cmp_lt h]
    exact ⟨fun hh => absurd hh (by decide), fun hh => by omega⟩
  · rw [cmp_eq h]
    exact ⟨fun _ => h, fun _ => rfl⟩
  · rw [cmp_gt h]
    exact ⟨fun hh => absurd hh (by decide), fun hh => by omega⟩
theorem J_compare (a b : Int64) : F_J20_compare a b = some (ordi (compare a.toInt b.toInt)) := by
  unfold F_J20_compare F_J20_compare_b21
  have h1 : a < b ↔ a.toInt < b.toInt := Int64.lt_iff_toInt_lt
  have h2 : a = b ↔ a.toInt = b.toInt := Int64.toInt_inj.symm
  rcases Int.lt_trichotomy a.toInt b.toInt with h | h | h
  · rw [if_pos (h1.mpr h), cmp_lt h]
    rfl
  · rw [if_neg (fun hh => by have := h1.mp hh; omega), if_pos (h2.mpr h), cmp_eq h]
    rfl
  · rw [if_neg (fun hh => by have := h1.mp hh; omega), if_neg (fun hh => by have := h2.mp hh; omega), cmp_gt h]
    rfl
theorem E_compare {k : Int32} {a b : Int64} (ha : vb k a) (hb : vb k b) : F_X23_compare k a b = some (ordi (compare (lnV k a) (lnV k b))) := by
  unfold F_X23_compare F_X23_compare_b51 lnV
  by_cases h6 : k < 6
  · rw [if_pos h6, if_pos h6, if_pos h6, J_compare]
    rfl
  · rw [if_neg h6, if_neg h6, if_neg h6, (E_real ha).1, (E_real hb).1]
    simp only [Option.bind_some]
    have o := ord_rk (E_real ha).2 (E_real hb).2
    have k1 := (jd_lt o .g).1
    have k2 := (jd_lt o .l).2.1
    simp only [k1, k2]
    rcases Int.lt_trichotomy (rk (lnR k a).toNat) (rk (lnR k b).toNat) with h | h | h
    · rw [if_pos h, cmp_lt h]
      rfl
    · rw [if_neg (by omega), if_neg (by omega), cmp_eq h]
      rfl
    · rw [if_neg (by omega), if_pos h, cmp_gt h]
      rfl
theorem M_compare {k : Int32} {a b : Int64} (ha : vb k a) (hb : vb k b) (h : ¬ k < 6) : ((F_X16_real a k).bind fun x => (F_X16_real b k).bind fun y => F_X24_compare x y) = some (ordi (compare (lnV k a) (lnV k b))) := by
  rw [M_real ha, M_real hb]
  simp only [Option.bind_some]
  unfold lnV
  rw [if_neg h, if_neg h, X24_compare]
  rfl
theorem lnR_inj {k : Int32} {a b : Int64} (hk : k = 6 ∨ k = 7) (ha : vb k a) (hb : vb k b) (h : (lnR k a).toNat = (lnR k b).toNat) : a = b := by
  have h' : lnR k a = lnR k b := UInt64.toNat_inj.mp h
  rcases hk with rfl | rfl
  · rw [lnR_6, lnR_6] at h'
    have e := congrArg FP.d2f h'
    rw [d2f_f2d (vb_6.mp ha).2, d2f_f2d (vb_6.mp hb).2] at e
    rw [(vb_6.mp ha).1, (vb_6.mp hb).1, e]
  · rw [lnR_7, lnR_7] at h'
    have := congrArg UInt64.toInt64 h'
    exact this
theorem lnT_inj {k : Int32} {a b : Int64} (hk : Lk k) (ha : vb k a) (hb : vb k b) : lnT k a = lnT k b ↔ a = b := by
  refine ⟨fun h => ?_, fun h => by rw [h]⟩
  unfold lnT at h
  by_cases h6 : k < 6
  · rw [if_pos h6, if_pos h6] at h
    exact Int64.toInt_inj.mp h
  · rw [if_neg h6, if_neg h6] at h
    have hk' : k = 6 ∨ k = 7 := by rcases hk with rfl | rfl | rfl | rfl | rfl | rfl | rfl | rfl <;> first | exact Or.inl rfl | exact Or.inr rfl | exact absurd (by decide) h6
    refine lnR_inj hk' ha hb ?_
    have h1 := (lnR k a).toNat_lt
    have h2 := (lnR k b).toNat_lt
    generalize (lnR k a).toNat = m at *
    generalize (lnR k b).toNat = n at *
    unfold dS at h
    by_cases c1 : 2 ^ 63 ≤ m <;> by_cases c2 : 2 ^ 63 ≤ n <;> simp only [c1, c2, decide_true, decide_false, if_true, Bool.false_eq_true, if_false] at h <;> omega
/-- minus zero -/
theorem neg0 {k : Int32} {a : Int64} (hk : k = 6 ∨ k = 7) (ha : vb k a) (h0 : (lnR k a).toNat % 2 ^ 63 = 0) : (a < 0 ∨ (k = 6 ∧ a = 2147483648)) ↔ dS (lnR k a).toNat = true := by
  rcases hk with rfl | rfl
  · obtain ⟨h1, h2⟩ := vb_6.mp ha
    rw [lnR_6] at h0 ⊢
    have h2' : okf a.toInt32.toUInt32.toNat := h2
    have hnn : ¬ a < 0 := by
      rw [h1, zx_nat, Int64.lt_iff_toInt_lt, nl_int (by have := a.toInt32.toUInt32.toNat_lt; omega)]
      show ¬ ((_ : Int) < 0)
      omega
    -- the float is a zero
    have key : ∀ y : UInt32, okf y.toNat → (FP.f2d y).toNat % 2 ^ 63 = 0 → (y = 2147483648 ∧ dS (FP.f2d y).toNat = true) ∨ (y = 0 ∧ dS (FP.f2d y).toNat = false) := by
      intro y hy hz
      have hd : FP.f2d y = 0 ∨ FP.f2d y = 9223372036854775808 := by
        have := (FP.f2d y).toNat_lt
        have : (FP.f2d y).toNat = 0 ∨ (FP.f2d y).toNat = 2 ^ 63 := by omega
        rcases this with h | h
        · exact Or.inl (UInt64.toNat_inj.mp h)
        · exact Or.inr (UInt64.toNat_inj.mp h)
      have back := d2f_f2d hy
      rcases hd with h | h
      · refine Or.inr ⟨?_, by rw [h]; decide⟩
        rw [h] at back
        rw [← back]
        decide +kernel
      · refine Or.inl ⟨?_, by rw [h]; decide⟩
        rw [h] at back
        rw [← back]
        decide +kernel
    rcases key _ h2' h0 with ⟨e1, e2⟩ | ⟨e1, e2⟩
    · rw [e2, h1, e1]
      exact ⟨fun _ => rfl, fun _ => Or.inr ⟨rfl, by decide⟩⟩
    · rw [e2, h1, e1]
      refine ⟨fun hh => ?_, fun hh => by cases hh⟩
      rcases hh with hh | ⟨-, hh⟩
      · exact absurd hh (by decide)
      · exact absurd hh (by decide)
  · rw [lnR_7]
    have := neg_iff a
    show _ ↔ dS (un a) = true
    rw [← this]
    exact ⟨fun hh => hh.elim id (fun h2 => absurd h2.1 (by decide)), Or.inl⟩
theorem E_order {k : Int32} {a b : Int64} (hk : Lk k) (ha : vb k a) (hb : vb k b) : F_X23_order k a b = some (ordi (compare (lnT k a) (lnT k b))) := by
  unfold F_X23_order F_X23_order_b25 F_X23_order_b48 F_X23_order_b52 F_X23_order_b53
  rw [E_compare ha hb]
  simp only [Option.bind_some]
  by_cases h6 : k < 6
  · have e : ∀ v, lnV k v = lnT k v := fun v => by unfold lnV lnT; rw [if_pos h6, if_pos h6]
    rw [e, e, if_pos h6]
    split <;> rfl
  · have hk' : k = 6 ∨ k = 7 := by rcases hk with rfl | rfl | rfl | rfl | rfl | rfl | rfl | rfl <;> first | exact Or.inl rfl | exact Or.inr rfl | exact absurd (by decide) h6
    have ev : ∀ v, lnV k v = rk (lnR k v).toNat := fun v => by unfold lnV; rw [if_neg h6]
    have et : ∀ v, lnT k v = if dS (lnR k v).toNat = true then -1 - (((lnR k v).toNat % 2 ^ 63 : Nat) : Int) else (((lnR k v).toNat % 2 ^ 63 : Nat) : Int) := fun v => by unfold lnT; rw [if_neg h6]
    have inj := lnT_inj hk ha hb
    have n0 := fun h => neg0 hk' ha h
    rw [if_neg h6]
    by_cases hc : ordi (compare (lnV k a) (lnV k b)) = 0
    · rw [if_pos hc]
      by_cases hab : a = b
      · rw [if_pos hab, hc, (ordi_eq _ _).mpr (inj.mpr hab)]
      · rw [if_neg hab]
        have hv := (ordi_eq _ _).mp hc
        have hne : lnT k a ≠ lnT k b := fun hh => hab (inj.mp hh)
        rw [ev, ev] at hv
        rw [et, et] at hne
        rw [et, et]
        unfold rk at hv
        have z : (lnR k a).toNat % 2 ^ 63 = 0 ∧ (lnR k b).toNat % 2 ^ 63 = 0 ∧ dS (lnR k a).toNat ≠ dS (lnR k b).toNat := by
          cases h1 : dS (lnR k a).toNat <;> cases h2 : dS (lnR k b).toNat <;> rw [h1, h2] at hv hne <;> simp only [Bool.false_eq_true, if_true, if_false] at hv hne <;> refine ⟨by omega, by omega, by first | decide | (exfalso; omega)⟩
        obtain ⟨z1, z2, z3⟩ := z
        have n0 := n0 z1
        rw [z1, z2]
        have fin : (if a < 0 then some (-1 : Int32) else if k = 6 then (if a = 2147483648 then some (-1) else some 1) else some 1) = if a < 0 ∨ (k = 6 ∧ a = 2147483648) then some (-1) else some 1 := by
          by_cases c1 : a < 0
          · simp [c1]
          · by_cases c2 : k = 6 <;> simp [c1, c2]
        rw [fin]
        cases h1 : dS (lnR k a).toNat with
        | true =>
          have h2 : dS (lnR k b).toNat = false := by rw [h1] at z3; cases hb2 : dS (lnR k b).toNat <;> simp_all
          rw [if_pos (n0.mpr h1), h2]
          rfl
        | false =>
          have h2 : dS (lnR k b).toNat = true := by rw [h1] at z3; cases hb2 : dS (lnR k b).toNat <;> simp_all
          rw [if_neg (fun hh => by have := n0.mp hh; rw [h1] at this; cases this), h2]
          rfl
    · rw [if_neg hc]
      refine congrArg (fun z => some (ordi z)) ?_
      have hv : lnV k a ≠ lnV k b := fun hh => hc ((ordi_eq _ _).mpr hh)
      rw [ev, ev] at hv ⊢
      rw [et, et]
      unfold rk at *
      generalize (lnR k a).toNat % 2 ^ 63 = m at *
      generalize (lnR k b).toNat % 2 ^ 63 = n at *
      cases dS (lnR k a).toNat <;> cases dS (lnR k b).toNat <;> simp only [Bool.false_eq_true, if_true, if_false] at hv ⊢ <;> refine cmp_of ?_ ?_ <;> omega
theorem M_ranked {k : Int32} {a : Int64} (ha : vb k a) : ∃ r : Int64, F_X16_ranked a k = some r ∧ r.toInt = lnT k a := by
  unfold F_X16_ranked F_X16_ranked_b29 lnT
  by_cases h6 : k < 6
  · rw [if_pos h6, if_pos h6]
    exact ⟨a, rfl, rfl⟩
  · rw [if_neg h6, if_neg h6, M_real ha]
    simp only [Option.bind_some]
    have hn := neg_iff (lnR k a).toInt64
    have e : un (lnR k a).toInt64 = (lnR k a).toNat := rfl
    rw [e] at hn
    have hi := neg_int (lnR k a).toInt64
    rw [e] at hi
    cases hs : dS (lnR k a).toNat with
    | false =>
      rw [if_neg (fun hh => by have := hn.mp hh; rw [hs] at this; cases this), if_neg (by decide)]
      refine ⟨_, rfl, ?_⟩
      rw [hi, hs, if_neg (by decide)]
    | true =>
      rw [if_pos (hn.mpr hs), if_pos rfl]
      refine ⟨_, rfl, ?_⟩
      rw [un_flip, e, hs, if_pos rfl]
      omega
