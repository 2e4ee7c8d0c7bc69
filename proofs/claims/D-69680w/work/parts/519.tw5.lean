/-! ===== TABLES, 5: the engine compares two words that it has read ===== -/
theorem enc_all : (List.range 64).all (fun k => decide (iw ((k + 64 : Nat) : Int) &&& 63 = iw (k : Int)) && decide (iw (k : Int) &&& 63 = iw (k : Int)) && decide (j_i2b (iw ((k + 64 : Nat) : Int)) = iw ((k + 64 : Nat) : Int) ∨ 64 ≤ k) && decide (j_i2b (iw (k : Int)) = iw (k : Int))) = true := by decide +kernel
theorem enc_ok {k : Nat} (h : k < 64) : iw ((k + 64 : Nat) : Int) &&& 63 = iw (k : Int) ∧ iw (k : Int) &&& 63 = iw (k : Int) ∧ j_i2b (iw ((k + 64 : Nat) : Int)) = iw ((k + 64 : Nat) : Int) ∧ j_i2b (iw (k : Int)) = iw (k : Int) := by
  have q := List.all_eq_true.mp enc_all k (List.mem_range.mpr h)
  obtain ⟨q1, q4⟩ := (Bool.and_eq_true _ _).mp q
  obtain ⟨q2, q3⟩ := (Bool.and_eq_true _ _).mp q1
  obtain ⟨q5, q6⟩ := (Bool.and_eq_true _ _).mp q2
  have q3 := of_decide_eq_true q3
  exact ⟨of_decide_eq_true q5, of_decide_eq_true q6, by rcases q3 with q | q; exact q; omega, of_decide_eq_true q4⟩
theorem fla_cons (c : List Int32 × Bool) (cs : List (List Int32 × Bool)) : fla (c :: cs) = c.1 ++ fla cs := rfl
theorem fla_at : ∀ (cs : List (List Int32 × Bool)) (k j : Nat), k < cs.length → j < (cs.getD k ([], false)).1.length → (fla (cs.take k)).length + j < (fla cs).length ∧ (fla cs).getD ((fla (cs.take k)).length + j) 0 = (cs.getD k ([], false)).1.getD j 0
  | [], k, j, hk, hj => by cases hk
  | c :: cs, 0, j, hk, hj => by
    have e : (c :: cs).getD 0 ([], false) = c := rfl
    rw [e] at hj ⊢
    rw [fla_cons]
    show 0 + j < _ ∧ (c.1 ++ fla cs).getD (0 + j) 0 = _
    rw [Nat.zero_add, List.length_append, List.getD_eq_getElem?_getD, List.getElem?_append_left hj, ← List.getD_eq_getElem?_getD]
    exact ⟨by omega, rfl⟩
  | c :: cs, k + 1, j, hk, hj => by
    have e : (c :: cs).getD (k + 1) ([], false) = cs.getD k ([], false) := rfl
    rw [e] at hj ⊢
    have ih := fla_at cs k j (by simpa using hk) hj
    rw [List.take_succ_cons, fla_cons, fla_cons, List.length_append, List.length_append, List.getD_eq_getElem?_getD, List.getElem?_append_right (by omega), ← List.getD_eq_getElem?_getD, show c.1.length + (fla (cs.take k)).length + j - c.1.length = (fla (cs.take k)).length + j by omega]
    exact ⟨by omega, ih.2⟩
/-- all cells are kept -/
def TK (M : Mem) (f : Nat → Int32) (n a : Nat) (cs : List (List Int32 × Bool)) : Prop := TT M f n a (fla cs) ∧ cs.length ≤ 8000 ∧ ∀ k, k < cs.length → cI M 1042 k = iw ((fla (cs.take k)).length : Nat) ∧ cI M 1043 k = enc (cs.getD k ([], false))
theorem E_lenT {M : Mem} {f : Nat → Int32} {n a k : Nat} {cs : List (List Int32 × Bool)} (t : TK M f n a cs) (hk : k < cs.length) (hl : (cs.getD k ([], false)).1.length < 64) : F_X11_length M 1037 (iw (k : Int)) = some (iw ((cs.getD k ([], false)).1.length : Nat)) := by
  obtain ⟨T, h8, h9⟩ := t
  have hS := T.1
  obtain ⟨e1, e2, e3, e4⟩ := enc_ok hl
  have ab1 : ab M 1043 (iw (k : Int)) = some (enc (cs.getD k ([], false))) := by rw [ab_of (Or.inr (Or.inl (t1043 hS))) (l1043 hS) (show k < 8000 by omega) (by decide), (h9 k hk).2]
  unfold F_X11_length F_X11_length_b22
  simp only [g1037_778, hS, ab1, Option.bind_some]
  generalize cs.getD k ([], false) = w at *
  unfold enc
  by_cases c : w.2 = true
  · rw [if_pos c, if_neg (by rw [iw_lt0 (by omega) (by omega)]; omega), e1]
  · rw [if_neg c]
    by_cases c2 : w.1.length = 0
    · rw [if_pos c2, c2, if_pos (by decide)]
      rfl
    · rw [if_neg c2, if_neg (by rw [iw_lt0 (by omega) (by omega)]; omega), e2]
theorem E_same_l {M : Mem} {f : Nat → Int32} {n a i j : Nat} {cs : List (List Int32 × Bool)} (t : TK M f n a cs) (hi : i < cs.length) (hj : j < cs.length) (hl : (cs.getD i ([], false)).1.length < 64) (he : (cs.getD i ([], false)).1.length = (cs.getD j ([], false)).1.length) :
    ∀ (m N k : Nat), k + m = (cs.getD i ([], false)).1.length → F_X11_isSame_b17 (N + 1 + m) M 1037 (iw (i : Int)) (iw (j : Int)) (iw (k : Int)) = some (pif (∀ u, k ≤ u → u < (cs.getD i ([], false)).1.length → (cs.getD i ([], false)).1.getD u 0 = (cs.getD j ([], false)).1.getD u 0) 1 0)
  | 0, N, k, hk => by
    have hS := t.1.1
    show F_X11_isSame_b17_st (F_X11_isSame_b17 N) M 1037 _ _ _ = _
    unfold F_X11_isSame_b17_st
    simp only [v1037, hS, E_lenT t hi hl, Option.bind_some]
    rw [if_neg (by rw [iw_le4 (by omega) (by omega)]; omega)]
    unfold pif
    rw [if_pos (fun u h1 h2 => by omega)]
  | m + 1, N, k, hk => by
    have hS := t.1.1
    have hn := t.1.2.2.2.1
    have hl0 := t.1.2.2.2.2.2.2.2.2.1
    have ha := t.1.2.2.2.2.2.1
    have h8 := t.2.1
    have fi := fla_at cs i k hi (by omega)
    have fj := fla_at cs j k hj (by omega)
    have hs : F_X11_isSame_b17 (N + 1 + (m + 1)) M 1037 (iw (i : Int)) (iw (j : Int)) (iw (k : Int)) = F_X11_isSame_b17_st (F_X11_isSame_b17 (N + 1 + m)) M 1037 (iw (i : Int)) (iw (j : Int)) (iw (k : Int)) := rfl
    have ai1 : ai M 1042 (iw (i : Int)) = some (iw ((fla (cs.take i)).length : Nat)) := by rw [ai_of (t1042 hS) (l1042 hS) (show i < 8000 by omega) (by decide), (t.2.2 i hi).1]
    have ai2 : ai M 1042 (iw (j : Int)) = some (iw ((fla (cs.take j)).length : Nat)) := by rw [ai_of (t1042 hS) (l1042 hS) (show j < 8000 by omega) (by decide), (t.2.2 j hj).1]
    have ab1 : ab M 1041 (iw ((fla (cs.take i)).length : Nat) + iw (k : Int)) = some ((cs.getD i ([], false)).1.getD k 0) := by
      rw [iw_nad, ab_of (Or.inr (Or.inl (t1041 hS))) (l1041 hS) (show (fla (cs.take i)).length + k < 16000 by omega) (by decide), t.1.2.2.2.2.2.2.2.2.2 _ fi.1, fi.2]
    have ab2 : ab M 1041 (iw ((fla (cs.take j)).length : Nat) + iw (k : Int)) = some ((cs.getD j ([], false)).1.getD k 0) := by
      rw [iw_nad, ab_of (Or.inr (Or.inl (t1041 hS))) (l1041 hS) (show (fla (cs.take j)).length + k < 16000 by omega) (by decide), t.1.2.2.2.2.2.2.2.2.2 _ fj.1, fj.2]
    rw [hs]
    unfold F_X11_isSame_b17_st
    simp only [v1037, hS, E_lenT t hi hl, Option.bind_some]
    rw [if_pos (by rw [iw_le4 (by omega) (by omega)]; omega)]
    simp only [g1037_775, g1037_777, hS, ai1, ai2, ab1, ab2, Option.bind_some]
    unfold pif
    by_cases c : (cs.getD i ([], false)).1.getD k 0 = (cs.getD j ([], false)).1.getD k 0
    · rw [if_pos c, iw_succ, E_same_l t hi hj hl he m N (k + 1) (by omega)]
      unfold pif
      by_cases c2 : ∀ u, k + 1 ≤ u → u < (cs.getD i ([], false)).1.length → (cs.getD i ([], false)).1.getD u 0 = (cs.getD j ([], false)).1.getD u 0
      · rw [if_pos c2, if_pos (fun u h1 h2 => by
          by_cases h3 : u = k
          · rw [h3]; exact c
          · exact c2 u (by omega) h2)]
      · rw [if_neg c2, if_neg (fun q => c2 (fun u h1 h2 => q u (by omega) h2))]
    · rw [if_neg c, if_neg (fun q => c (q k (Nat.le_refl _) (by omega)))]
theorem E_same {M : Mem} {f : Nat → Int32} {n a i j : Nat} {cs : List (List Int32 × Bool)} (t : TK M f n a cs) (hi : i < cs.length) (hj : j < cs.length) (hl : (cs.getD i ([], false)).1.length < 64) (hl2 : (cs.getD j ([], false)).1.length < 64) : F_X11_isSame M 1037 (iw (i : Int)) (iw (j : Int)) = some (pif ((cs.getD i ([], false)).1 = (cs.getD j ([], false)).1) 1 0) := by
  have hS := t.1.1
  have hxN : xN = 1099511627776 := rfl
  unfold F_X11_isSame
  simp only [v1037, hS, E_lenT t hi hl, E_lenT t hj hl2, Option.bind_some]
  by_cases c : (cs.getD i ([], false)).1.length = (cs.getD j ([], false)).1.length
  · rw [if_pos (by rw [c])]
    obtain ⟨N, hN⟩ : ∃ N, N + 1 + (cs.getD i ([], false)).1.length = xN := ⟨xN - 1 - (cs.getD i ([], false)).1.length, by omega⟩
    have h := E_same_l t hi hj hl c (cs.getD i ([], false)).1.length N 0 (by omega)
    rw [hN] at h
    refine Eq.trans h ?_
    have e := list_ext0 c
    unfold pif
    by_cases c2 : (cs.getD i ([], false)).1 = (cs.getD j ([], false)).1
    · rw [if_pos c2, if_pos (fun u _ h2 => e.mpr c2 u h2)]
    · rw [if_neg c2, if_neg (fun q => c2 (e.mp (fun u h2 => q u (Nat.zero_le _) h2)))]
  · rw [if_neg (by rw [iw_eq (by omega) (by omega) (by omega) (by omega)]; omega)]
    unfold pif
    rw [if_neg (fun q => c (by rw [q]))]
