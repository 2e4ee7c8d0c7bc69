/-! ===== THE LOG, 7: names; the model keeps a grid, whole ===== -/
def nok (f : Nat → Int32) : Nat → Nat → Bool
  | 0, _ => true
  | e + 1, i => (!decide (f i < 33)) && (!decide (126 < f i)) && nok f e (i + 1)
theorem nok_t {f : Nat → Int32} : ∀ (e i : Nat), nok f e i = true → ∀ j, i ≤ j → j < i + e → ¬ f j < 33 ∧ ¬ 126 < f j
  | 0, i, _, j, h1, h2 => by omega
  | e + 1, i, h, j, h1, h2 => by
    have h' : ((!decide (f i < 33)) && (!decide (126 < f i)) && nok f e (i + 1)) = true := h
    rw [Bool.and_eq_true, Bool.and_eq_true, Bool.not_eq_true', Bool.not_eq_true', decide_eq_false_iff_not, decide_eq_false_iff_not] at h'
    by_cases c : j = i
    · rw [c]; exact h'.1
    · exact nok_t e (i + 1) h'.2 j (by omega) (by omega)
theorem nok_of {f : Nat → Int32} : ∀ (e i : Nat), (∀ j, i ≤ j → j < i + e → ¬ f j < 33 ∧ ¬ 126 < f j) → nok f e i = true
  | 0, i, _ => rfl
  | e + 1, i, h => by
    show ((!decide (f i < 33)) && (!decide (126 < f i)) && nok f e (i + 1)) = true
    rw [decide_eq_false (h i (Nat.le_refl _) (by omega)).1, decide_eq_false (h i (Nat.le_refl _) (by omega)).2, nok_of e (i + 1) (fun j h1 h2 => h j (by omega) (by omega))]
    rfl
theorem M_isn_loop {M : Mem} {nl : Nat} (h : ST M) (hl : nl ≤ 20) : ∀ (e N i : Nat), i + e = nl → F_X16_isName_b15 (N + 1 + e) M 1069 (iw (nl : Int)) (iw (i : Int)) = some (mr (nok (cI M 1069) e i))
  | 0, N, i, hi => by
    show F_X16_isName_b15_st (F_X16_isName_b15 N) M _ _ _ = _
    unfold F_X16_isName_b15_st
    rw [if_neg (by rw [iw_le4 (by omega) (by omega)]; omega)]
    rfl
  | e + 1, N, i, hi => by
    show F_X16_isName_b15_st (F_X16_isName_b15 (N + 1 + e)) M _ _ _ = _
    unfold F_X16_isName_b15_st F_X16_isName_b36
    rw [if_pos (by rw [iw_le4 (by omega) (by omega)]; omega)]
    simp only [ab_of (Or.inr (Or.inl (t1069 h))) (l1069 h) (show i < 16000 by omega) (by decide), Option.bind_some, iw_succ]
    show _ = some (mr ((!decide (cI M 1069 i < 33)) && (!decide (126 < cI M 1069 i)) && nok (cI M 1069) e (i + 1)))
    by_cases c1 : cI M 1069 i < 33
    · rw [if_pos c1, decide_eq_true c1]
      rfl
    · rw [if_neg c1, decide_eq_false c1]
      by_cases c2 : 126 < cI M 1069 i
      · rw [if_pos c2, decide_eq_true c2]
        rfl
      · rw [if_neg c2, decide_eq_false c2, M_isn_loop h hl e N (i + 1) (by omega)]
        rfl
/-- is it a name -/
def isn (f : Nat → Int32) (nl : Nat) : Bool := decide (1 ≤ nl) && decide (nl ≤ 20) && nok f nl 0
theorem isn_t {f : Nat → Int32} {nl : Nat} (h : isn f nl = true) : 1 ≤ nl ∧ nl ≤ 20 ∧ ∀ j, j < nl → ¬ f j < 33 ∧ ¬ 126 < f j := by
  unfold isn at h
  rw [Bool.and_eq_true, Bool.and_eq_true, decide_eq_true_eq, decide_eq_true_eq] at h
  exact ⟨h.1.1, h.1.2, fun j hj => nok_t nl 0 h.2 j (by omega) (by omega)⟩
theorem M_isName {M : Mem} {nl : Nat} (h : ST M) (hl : nl ≤ 16000) : F_X16_isName M 1069 (iw (nl : Int)) = some (mr (isn (cI M 1069) nl)) := by
  have hxN : xN = 1099511627776 := rfl
  have i1 : (1 : Int32) = iw ((1 : Nat) : Int) := rfl
  have i20 : (20 : Int32) = iw ((20 : Nat) : Int) := rfl
  unfold F_X16_isName F_X16_isName_b11 isn
  by_cases c1 : nl < 1
  · rw [if_pos (by rw [i1, iw_le4 (by omega) (by omega)]; exact c1), decide_eq_false (show ¬ 1 ≤ nl by omega)]
    rfl
  · rw [if_neg (by rw [i1, iw_le4 (by omega) (by omega)]; exact c1), decide_eq_true (show 1 ≤ nl by omega)]
    by_cases c2 : 20 < nl
    · rw [if_pos (by rw [i20, iw_le4 (by omega) (by omega)]; exact c2), decide_eq_false (show ¬ nl ≤ 20 by omega)]
      rfl
    · rw [if_neg (by rw [i20, iw_le4 (by omega) (by omega)]; exact c2), decide_eq_true (show nl ≤ 20 by omega)]
      obtain ⟨N, hN⟩ : ∃ N, N + 1 + nl = xN := ⟨xN - 1 - nl, by omega⟩
      rw [← hN]
      exact M_isn_loop h (by omega) nl N 0 (by omega)
theorem E_isn_loop {M : Mem} {nl a : Nat} (h : ST M) (hl : nl ≤ 20) : ∀ (e N i : Nat), i + e = nl → F_X0_keep_b49 (N + 1 + e) M 1000 (iw (nl : Int)) a 1 (iw (i : Int)) = F_X0_keep_b97 M 1000 (iw (nl : Int)) a (mr (nok (cI M 1001) e i))
  | 0, N, i, hi => by
    show F_X0_keep_b49_st (F_X0_keep_b49 N) M _ _ _ _ _ = _
    unfold F_X0_keep_b49_st
    rw [if_neg (by rw [iw_le4 (by omega) (by omega)]; omega)]
    rfl
  | e + 1, N, i, hi => by
    have z : F_X0_keep_b49 (N + 1 + e) M 1000 (iw (nl : Int)) a 0 (iw ((i + 1 : Nat) : Int)) = F_X0_keep_b97 M 1000 (iw (nl : Int)) a (mr false) := by
      show F_X0_keep_b49 (N + 1 + e) M 1000 (iw (nl : Int)) a 0 (iw ((i + 1 : Nat) : Int)) = F_X0_keep_b97 M 1000 (iw (nl : Int)) a 0
      rw [show N + 1 + e = N + e + 1 by omega]
      show F_X0_keep_b49_st (F_X0_keep_b49 (N + e)) M _ _ _ _ _ = _
      unfold F_X0_keep_b49_st
      rw [if_pos rfl]
      split <;> rfl
    have n10 : ¬ (1 : Int32) = 0 := by decide
    show F_X0_keep_b49_st (F_X0_keep_b49 (N + 1 + e)) M _ _ _ _ _ = _
    unfold F_X0_keep_b49_st F_X0_keep_b88 F_X0_keep_b89
    rw [if_pos (by rw [iw_le4 (by omega) (by omega)]; omega), if_neg n10]
    simp only [g1000_64, h, ab_of (Or.inr (Or.inl (t1001 h))) (l1001 h) (show i < 16000 by omega) (by decide), Option.bind_some, iw_succ]
    show _ = F_X0_keep_b97 M 1000 (iw (nl : Int)) a (mr ((!decide (cI M 1001 i < 33)) && (!decide (126 < cI M 1001 i)) && nok (cI M 1001) e (i + 1)))
    by_cases c1 : cI M 1001 i < 33
    · rw [if_pos c1, decide_eq_true c1]
      exact z
    · rw [if_neg c1, decide_eq_false c1]
      by_cases c2 : 126 < cI M 1001 i
      · rw [if_pos c2, decide_eq_true c2]
        exact z
      · rw [if_neg c2, decide_eq_false c2, E_isn_loop h hl e N (i + 1) (by omega)]
        rfl
theorem E_isName {M : Mem} {nl a : Nat} (h : ST M) (hl : nl ≤ 16000) : (if iw (nl : Int) < 1 then F_X0_keep_b43 M 1000 (iw (nl : Int)) a else if 20 < iw (nl : Int) then F_X0_keep_b43 M 1000 (iw (nl : Int)) a else F_X0_keep_b44 M 1 1000 (iw (nl : Int)) a) = F_X0_keep_b97 M 1000 (iw (nl : Int)) a (mr (isn (cI M 1001) nl)) := by
  have hxN : xN = 1099511627776 := rfl
  have i1 : (1 : Int32) = iw ((1 : Nat) : Int) := rfl
  have i20 : (20 : Int32) = iw ((20 : Nat) : Int) := rfl
  have z : F_X0_keep_b43 M 1000 (iw (nl : Int)) a = F_X0_keep_b97 M 1000 (iw (nl : Int)) a 0 := by
    unfold F_X0_keep_b43 F_X0_keep_b44
    obtain ⟨N, hN⟩ : ∃ N, N + 1 = xN := ⟨xN - 1, by omega⟩
    rw [← hN]
    show F_X0_keep_b49_st (F_X0_keep_b49 N) M _ _ _ _ _ = _
    unfold F_X0_keep_b49_st
    rw [if_pos rfl]
    split <;> rfl
  unfold isn
  by_cases c1 : nl < 1
  · rw [if_pos (by rw [i1, iw_le4 (by omega) (by omega)]; exact c1), decide_eq_false (show ¬ 1 ≤ nl by omega)]
    exact z
  · rw [if_neg (by rw [i1, iw_le4 (by omega) (by omega)]; exact c1), decide_eq_true (show 1 ≤ nl by omega)]
    by_cases c2 : 20 < nl
    · rw [if_pos (by rw [i20, iw_le4 (by omega) (by omega)]; exact c2), decide_eq_false (show ¬ nl ≤ 20 by omega)]
      exact z
    · rw [if_neg (by rw [i20, iw_le4 (by omega) (by omega)]; exact c2), decide_eq_true (show nl ≤ 20 by omega)]
      obtain ⟨N, hN⟩ : ∃ N, N + 1 + nl = xN := ⟨xN - 1 - nl, by omega⟩
      unfold F_X0_keep_b44
      rw [← hN]
      exact E_isn_loop h (by omega) nl N 0 (by omega)
