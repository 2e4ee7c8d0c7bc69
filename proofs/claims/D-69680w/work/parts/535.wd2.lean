/-! ===== TABLES, 21: the engine's lane of a cell ===== -/
/-- a word lies at s in the engine's bytes -/
def WE (M : Mem) (s : Nat) (w : List Int32) : Prop := s + w.length ≤ 65536 ∧ ∀ i, i < w.length → cI M 1039 (s + i) = wf w i
theorem WE.ab {M : Mem} {s i : Nat} {w : List Int32} (h : ST M) (e : WE M s w) (hi : i < w.length) : ab M 1039 (iw ((s + i : Nat) : Int)) = some (wf w i) := by
  rw [ab_of (Or.inr (Or.inl (t1039 h))) (l1039 h) (show s + i < 65536 by have := e.1; omega) (by decide), e.2 i hi]
theorem E_isWord {M : Mem} {s t : Nat} {u x : List Int32} {n : Nat} (h : ST M) (hs : s + n ≤ 65536) (hu : ∀ i, i < n → cI M 1039 (s + i) = wf u i) (sx : SB M t x) (ax : ascs x) : F_X11_isWord M 1037 (iw (s : Int)) (iw (n : Int)) t = some (pif (n = x.length ∧ ∀ i, i < n → wf u i = wf x i) 1 0) := by
  have hx := sx.2.2.2.2.1
  unfold F_X11_isWord
  rw [sx.vg, Option.bind_some, J_len sx, Option.bind_some]
  by_cases c : n = x.length
  · rw [if_pos (show iw (n : Int) = iw (x.length : Nat) by rw [c])]
    have loop : ∀ (m N j : Nat), j + m = n → (∀ i, i < j → wf u i = wf x i) → F_X11_isWord_b13 (N + 1 + m) M 1037 (iw (s : Int)) (iw (n : Int)) t (iw (j : Int)) = some (pif (n = x.length ∧ ∀ i, i < n → wf u i = wf x i) 1 0) := by
      intro m
      induction m with
      | zero =>
        intro N j hj hb
        show F_X11_isWord_b13_st (F_X11_isWord_b13 N) M 1037 (iw (s : Int)) (iw (n : Int)) t (iw (j : Int)) = _
        unfold F_X11_isWord_b13_st
        rw [if_neg (by rw [iw_le4 (by omega) (by omega)]; omega), tpif ⟨c, fun i hi => hb i (by omega)⟩]
      | succ m ih =>
        intro N j hj hb
        show F_X11_isWord_b13_st (F_X11_isWord_b13 (N + 1 + m)) M 1037 (iw (s : Int)) (iw (n : Int)) t (iw (j : Int)) = _
        unfold F_X11_isWord_b13_st
        have a1 : ab M 1039 (iw ((s + j : Nat) : Int)) = some (wf u j) := by
          rw [ab_of (Or.inr (Or.inl (t1039 h))) (l1039 h) (show s + j < 65536 by omega) (by decide), hu j (by omega)]
        have a2 : F_J15_charAt M t (iw (j : Int)) = some (wf x j) := J_charAt sx (by omega) (ax j (by omega))
        rw [if_pos (show iw (j : Int) < iw (n : Int) by rw [iw_le4 (by omega) (by omega)]; omega)]
        simp only [g1037_769, g1038_832, h, iw_nad, a1, sx.vg, a2, Option.bind_some]
        by_cases c2 : wf u j = wf x j
        · rw [if_pos c2, iw_succ]
          exact ih N (j + 1) (by omega) (fun i hi => by
            by_cases q : i = j
            · rw [q]; exact c2
            · exact hb i (by omega))
        · rw [if_neg c2, fpif (fun q => c2 (q.2 j (by omega)))]
    obtain ⟨K, hK⟩ : ∃ K, K + 1 + n = xN := ⟨xN - 1 - n, by have : xN = 1099511627776 := rfl; omega⟩
    have := loop n K 0 (by omega) (fun i hi => by omega)
    rw [hK] at this
    exact this
  · rw [if_neg (show ¬ iw (n : Int) = iw (x.length : Nat) by rw [iw_eq (by omega) (by omega) (by omega) (by omega)]; omega), fpif (fun q => c q.1)]
theorem eq_wf {w x : List Int32} : (w.length = x.length ∧ ∀ i, i < w.length → wf w i = wf x i) ↔ w = x := by
  refine ⟨fun h => ?_, fun h => by rw [h]; exact ⟨rfl, fun _ _ => rfl⟩⟩
  refine List.ext_getElem h.1 (fun i h1 h2 => ?_)
  have := h.2 i h1
  unfold wf at this
  rw [List.getD_eq_getElem?_getD, List.getD_eq_getElem?_getD, List.getElem?_eq_getElem h1, List.getElem?_eq_getElem h2] at this
  exact this
theorem a36 : ascs (cty 36).1 ∧ (cty 36).1.length = 19 ∧ wvl (cty 36).1 0 19 = 9223372036854775808 ∧ ∀ j, j < 19 → 48 ≤ bn (wf (cty 36).1 (0 + j)) ∧ bn (wf (cty 36).1 (0 + j)) ≤ 57 := by
  refine ⟨fun i hi => ?_, by decide +kernel, by decide +kernel, fun j hj => ?_⟩
  · have q : ∀ i : Fin 19, wf (cty 36).1 i.val = iw (bn (wf (cty 36).1 i.val) : Nat) ∧ bn (wf (cty 36).1 i.val) < 128 := by decide +kernel
    have hl : (cty 36).1.length = 19 := by decide +kernel
    have := q ⟨i, by omega⟩
    exact ⟨_, this.2, this.1⟩
  · have q : ∀ i : Fin 19, 48 ≤ bn (wf (cty 36).1 (0 + i.val)) ∧ bn (wf (cty 36).1 (0 + i.val)) ≤ 57 := by decide +kernel
    exact q ⟨j, hj⟩
theorem a61 : ascs (cty 61).1 := by
  intro i hi
  have q : ∀ i : Fin 4, wf (cty 61).1 i.val = iw (bn (wf (cty 61).1 i.val) : Nat) ∧ bn (wf (cty 61).1 i.val) < 128 := by decide +kernel
  have hl : (cty 61).1.length = 4 := by decide +kernel
  have := q ⟨i, by omega⟩
  exact ⟨_, this.2, this.1⟩
theorem a56 : ascs (cty 56).1 := by
  intro i hi
  have q : ∀ i : Fin 5, wf (cty 56).1 i.val = iw (bn (wf (cty 56).1 i.val) : Nat) ∧ bn (wf (cty 56).1 i.val) < 128 := by decide +kernel
  have hl : (cty 56).1.length = 5 := by decide +kernel
  have := q ⟨i, by omega⟩
  exact ⟨_, this.2, this.1⟩
/-- the engine's lane of a whole number -/
theorem E_whole_l {M : Mem} {s a n mi : Nat} {w : List Int32} (h : ST M) (k0 : K0 M) (e : WE M s w) (hw : ascs w) (hn : n ≤ 19) (ha : a + n ≤ w.length) (hm : mi ≤ 1) (hd : ∀ j, j < n → 48 ≤ bn (wf w (a + j)) ∧ bn (wf w (a + j)) ≤ 57) : ∀ (m N j : Nat) (v4 : Int64) (v6 : Int32), j + m = n → ((v6 = 1 ∧ v4 = nl (wvl w a j) ∧ wvl w a j < 9223372036854775808) ∨ (v6 = 0 ∧ 9223372036854775808 ≤ wvl w a j)) → F_X11_wholeLane_b18 (N + 1 + m) M 1037 (iw ((s + a : Nat) : Int)) (iw (n : Int)) (iw (mi : Int)) v4 v6 (iw (j : Int)) = some (pif (n ≤ 10 ∧ wvl w a n ≤ 2147483647 + mi) 4 (pif (wvl w a n ≤ 9223372036854775807 + mi) 5 8))
  | 0, N, j, v4, v6, hj, hv => by
    have hl := e.1
    show F_X11_wholeLane_b18_st (F_X11_wholeLane_b18 N) M 1037 (iw ((s + a : Nat) : Int)) (iw (n : Int)) (iw (mi : Int)) v4 v6 (iw (j : Int)) = _
    have ej : j = n := by omega
    rw [ej] at hv ⊢
    unfold F_X11_wholeLane_b18_st
    rw [if_neg (by rw [iw_le4 (by omega) (by omega)]; omega)]
    have n1 : ¬ (1 : Int32) = 0 := by decide
    have mi0 : iw (mi : Int) = 0 ↔ mi = 0 := by rw [show (0 : Int32) = iw ((0 : Nat) : Int) from rfl, iw_eq (by omega) (by omega) (by omega) (by omega)]; omega
    have b174 : F_X11_wholeLane_b174 M = some 5 := by
      unfold F_X11_wholeLane_b174 F_X11_wholeLane_b175 F_X11_wholeLane_b187
      rw [if_pos rfl]
    rcases hv with ⟨v6e, v4e, hv⟩ | ⟨v6e, hv⟩
    · rw [v6e, v4e, if_neg n1]
      unfold F_X11_wholeLane_b124 F_X11_wholeLane_b125
      rw [if_neg n1]
      unfold F_X11_wholeLane_b140
      rw [if_neg n1]
      have q10 : (10 : Int32) < iw (n : Int) ↔ 10 < n := by rw [show (10 : Int32) = iw ((10 : Nat) : Int) from rfl, iw_le4 (by omega) (by omega)]
      by_cases c10 : 10 < n
      · rw [if_pos (q10.mpr c10), b174, fpif (fun q => by omega), tpif (by omega)]
      · rw [if_neg (fun q => c10 (q10.mp q))]
        have b166 : ∀ z : Nat, z < 9223372036854775808 → F_X11_wholeLane_b166 M (nl (wvl w a n)) (nl z) = some (if wvl w a n ≤ z then 4 else 5) := fun z hz => by
          unfold F_X11_wholeLane_b166
          have q : nl z < nl (wvl w a n) ↔ z < wvl w a n := nl_lt (by omega) (by omega)
          by_cases c : z < wvl w a n
          · rw [if_pos (q.mpr c), b174, if_neg (by omega)]
          · rw [if_neg (fun k => c (q.mp k)), if_pos (by omega)]
            unfold F_X11_wholeLane_b175 F_X11_wholeLane_b187
            rw [if_neg n1]
        have fin : ∀ z : Nat, z = 2147483647 + mi → some (if wvl w a n ≤ z then (4 : Int32) else 5) = some (pif (n ≤ 10 ∧ wvl w a n ≤ 2147483647 + mi) 4 (pif (wvl w a n ≤ 9223372036854775807 + mi) 5 8)) := fun z hz => by
          by_cases c : wvl w a n ≤ z
          · rw [if_pos c, tpif ⟨by omega, by omega⟩]
          · rw [if_neg c, fpif (fun q => by omega), tpif (by omega)]
        by_cases cm : mi = 0
        · rw [if_pos (mi0.mpr cm), show (2147483647 : Int64) = nl 2147483647 from rfl, b166 _ (by omega)]
          exact fin _ (by omega)
        · rw [if_neg (fun q => cm (mi0.mp q)), show (2147483648 : Int64) = nl 2147483648 from rfl, b166 _ (by omega)]
          exact fin _ (by omega)
    · rw [v6e, if_pos rfl]
      have b124 : F_X11_wholeLane_b124 M (iw (n : Int)) (iw (mi : Int)) v4 0 = some 8 := by
        unfold F_X11_wholeLane_b124 F_X11_wholeLane_b125
        rw [if_pos rfl, if_pos rfl]
      by_cases cm : mi = 0
      · rw [if_pos (mi0.mpr cm), b124, fpif (fun q => by omega), fpif (by omega)]
      · rw [if_neg (fun q => cm (mi0.mp q))]
        have q19 : iw (n : Int) = 19 ↔ n = 19 := by rw [show (19 : Int32) = iw ((19 : Nat) : Int) from rfl, iw_eq (by omega) (by omega) (by omega) (by omega)]; omega
        obtain ⟨x1, x2, x3, x4⟩ := a36
        by_cases c19 : n = 19
        · rw [if_pos (q19.mpr c19)]
          have iw19 := E_isWord (M := M) (s := s + a) (t := 36) (u := w.drop a) (x := (cty 36).1) (n := 19) h (by omega) (fun i hi => by
            rw [Nat.add_assoc, e.2 (a + i) (by omega)]
            unfold wf
            rw [List.getD_eq_getElem?_getD, List.getD_eq_getElem?_getD, List.getElem?_drop]) (k0.sb (by decide) (by decide)) x1
          have wd : ∀ i, wf (w.drop a) i = wf w (a + i) := fun i => by
            unfold wf
            rw [List.getD_eq_getElem?_getD, List.getD_eq_getElem?_getD, List.getElem?_drop]
          rw [show ((19 : Nat) : Int) = 19 from rfl, show iw 19 = (19 : Int32) from rfl] at iw19
          simp only [v1037, h, iw19, Option.bind_some]
          by_cases cw : 19 = (cty 36).1.length ∧ ∀ i, i < 19 → wf (w.drop a) i = wf (cty 36).1 i
          · rw [tpif cw, if_neg n1]
            have V : wvl w a n = 9223372036854775808 := by
              rw [c19, ← x3]
              exact wvl_congr 19 (fun j hj => by rw [← wd, Nat.zero_add]; exact cw.2 j hj)
            unfold F_X11_wholeLane_b125
            rw [if_pos rfl, if_neg n1]
            unfold F_X11_wholeLane_b140
            rw [if_pos rfl, b174, fpif (fun q => by omega), tpif (by omega)]
          · rw [fpif cw, if_pos rfl, b124, fpif (fun q => by omega), fpif]
            intro q
            have V : wvl w a 19 = wvl (cty 36).1 0 19 := by rw [x3]; rw [c19] at q hv; omega
            refine cw ⟨x2.symm, fun i hi => ?_⟩
            have q1 := wvl_inj 19 (fun j hj => hd j (by omega)) x4 V i hi
            rw [wd]
            have a1 := (asc_bn (hw (a + i) (by omega))).1
            have a2 := (asc_bn (x1 i (by omega))).1
            rw [Nat.zero_add] at q1
            rw [a1, a2, q1]
        · rw [if_neg (fun q => c19 (q19.mp q)), b124, fpif (fun q => by omega), fpif]
          intro q
          have l1 := wvl_lt (w := w) (a := a) n (fun j hj => (hd j hj).2)
          have l2 : 10 ^ n ≤ 10 ^ 18 := Nat.pow_le_pow_right (by decide) (by omega)
          have l3 : 10 ^ 18 = 1000000000000000000 := by decide
          omega
  | m + 1, N, j, v4, v6, hj, hv => by
    have hl := e.1
    show F_X11_wholeLane_b18_st (F_X11_wholeLane_b18 (N + 1 + m)) M 1037 (iw ((s + a : Nat) : Int)) (iw (n : Int)) (iw (mi : Int)) v4 v6 (iw (j : Int)) = _
    unfold F_X11_wholeLane_b18_st
    rw [if_pos (show iw (j : Int) < iw (n : Int) by rw [iw_le4 (by omega) (by omega)]; omega)]
    have a1 : ab M 1039 (iw ((s + a + j : Nat) : Int)) = some (wf w (a + j)) := by rw [show s + a + j = s + (a + j) by omega]; exact e.ab h (by omega)
    simp only [g1037_769, g1038_832, h, iw_nad, a1, Option.bind_some]
    have n1 : ¬ (1 : Int32) = 0 := by decide
    have n10 : ¬ (10 : Int64) = 0 := by decide
    have hdj := hd j (by omega)
    have ed : wf w (a + j) - (48 : Int32) = iw ((bn (wf w (a + j)) - 48 : Nat) : Int) := by
      have q := (asc_bn (hw (a + j) (by omega))).1
      generalize wf w (a + j) = z at *
      rw [show z - (48 : Int32) = iw (bn z : Nat) - iw ((48 : Nat) : Int) by rw [← q]; rfl, iw_nsub hdj.1]
    rw [ed]
    have es : wvl w a (j + 1) = 10 * wvl w a j + (bn (wf w (a + j)) - 48) := rfl
    have b67 : ∀ v, 9223372036854775808 ≤ wvl w a (j + 1) → F_X11_wholeLane_b67 (F_X11_wholeLane_b18 (N + 1 + m)) M 1037 (iw ((s + a : Nat) : Int)) (iw (n : Int)) (iw (mi : Int)) v (iw (j : Int)) (iw ((bn (wf w (a + j)) - 48 : Nat) : Int)) = some (pif (n ≤ 10 ∧ wvl w a n ≤ 2147483647 + mi) 4 (pif (wvl w a n ≤ 9223372036854775807 + mi) 5 8)) := fun v hb => by
      unfold F_X11_wholeLane_b67 F_X11_wholeLane_b68 F_X11_wholeLane_b87
      rw [if_pos rfl, iw_succ]
      exact E_whole_l h k0 e hw hn ha hm hd m N (j + 1) v 0 (by omega) (Or.inr ⟨rfl, hb⟩)
    rcases hv with ⟨v6e, v4e, hv⟩ | ⟨v6e, hv⟩
    · rw [v6e, v4e, if_neg n1, if_neg n10]
      have q := lim_e (P := wvl w a j) (d := bn (wf w (a + j)) - 48) hv (by omega)
      by_cases c : 9223372036854775808 ≤ 10 * wvl w a j + (bn (wf w (a + j)) - 48)
      · rw [if_pos (q.mpr c)]
        exact b67 _ (by rw [es]; exact c)
      · rw [if_neg (fun k => c (q.mp k))]
        unfold F_X11_wholeLane_b68 F_X11_wholeLane_b87
        rw [if_neg n1, iw_succ]
        have ev : (10 : Int64) * nl (wvl w a j) + (iw ((bn (wf w (a + j)) - 48 : Nat) : Int)).toInt64 = nl (wvl w a (j + 1)) := by
          rw [i64_iw (by omega), show (10 : Int64) = nl 10 from rfl, nl_mul, nl_add, es]
        rw [ev]
        exact E_whole_l h k0 e hw hn ha hm hd m N (j + 1) _ 1 (by omega) (Or.inl ⟨rfl, rfl, by rw [es]; omega⟩)
    · rw [v6e, if_pos rfl]
      exact b67 _ (by rw [es]; omega)
