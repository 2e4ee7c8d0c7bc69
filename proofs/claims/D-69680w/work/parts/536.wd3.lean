/-! ===== TABLES, 22: the engine's lane of a column ===== -/
theorem E_run1 {M : Mem} {s : Nat} {w : List Int32} {v5 : Int32} (h : ST M) (e : WE M s w) (hw : ascs w) : ∀ (m N k : Nat), k + m = w.length → F_X11_laneOfCell_b76 (N + 1 + m) M 1037 (iw (s : Int)) (iw (w.length : Nat)) v5 (iw (k : Int)) = F_X11_laneOfCell_b107 M 1037 (iw (s : Int)) (iw (w.length : Nat)) v5 (iw (Dg w k : Nat))
  | 0, N, k, hk => by
    have hl := e.1
    show F_X11_laneOfCell_b76_st (F_X11_laneOfCell_b76 N) M 1037 (iw (s : Int)) (iw (w.length : Nat)) v5 (iw (k : Int)) = _
    unfold F_X11_laneOfCell_b76_st
    rw [if_neg (by rw [iw_le4 (by omega) (by omega)]; omega), show k = w.length by omega, Dg_end]
  | m + 1, N, k, hk => by
    have hl := e.1
    show F_X11_laneOfCell_b76_st (F_X11_laneOfCell_b76 (N + 1 + m)) M 1037 (iw (s : Int)) (iw (w.length : Nat)) v5 (iw (k : Int)) = _
    unfold F_X11_laneOfCell_b76_st
    rw [if_pos (show iw (k : Int) < iw (w.length : Nat) by rw [iw_le4 (by omega) (by omega)]; omega)]
    have n1 : ¬ (1 : Int32) = 0 := by decide
    simp only [g1037_769, g1038_832, h, iw_nad, e.ab h (show k < w.length by omega), E_isD (hw k (by omega)), Option.bind_some]
    by_cases c : 48 ≤ bn (wf w k) ∧ bn (wf w k) ≤ 57
    · rw [if_pos c, if_neg n1, iw_succ, E_run1 h e hw m N (k + 1) (by omega), Dg_t (isD_t.mpr ⟨by omega, c⟩)]
    · rw [if_neg c, if_pos rfl, Dg_f (by omega) (fun q => c (isD_t.mp q).2)]
theorem E_run2 {M : Mem} {s : Nat} {w : List Int32} {v5 v8 : Int32} (h : ST M) (e : WE M s w) (hw : ascs w) : ∀ (m N k : Nat), k + m = w.length → F_X11_laneOfCell_b178 (N + 1 + m) M 1037 (iw (s : Int)) (iw (w.length : Nat)) v5 (iw (k : Int)) v8 = F_X11_laneOfCell_b209 M (iw (w.length : Nat)) v5 (iw (Dg w k : Nat)) v8
  | 0, N, k, hk => by
    have hl := e.1
    show F_X11_laneOfCell_b178_st (F_X11_laneOfCell_b178 N) M 1037 (iw (s : Int)) (iw (w.length : Nat)) v5 (iw (k : Int)) v8 = _
    unfold F_X11_laneOfCell_b178_st
    rw [if_neg (by rw [iw_le4 (by omega) (by omega)]; omega), show k = w.length by omega, Dg_end]
  | m + 1, N, k, hk => by
    have hl := e.1
    show F_X11_laneOfCell_b178_st (F_X11_laneOfCell_b178 (N + 1 + m)) M 1037 (iw (s : Int)) (iw (w.length : Nat)) v5 (iw (k : Int)) v8 = _
    unfold F_X11_laneOfCell_b178_st
    rw [if_pos (show iw (k : Int) < iw (w.length : Nat) by rw [iw_le4 (by omega) (by omega)]; omega)]
    have n1 : ¬ (1 : Int32) = 0 := by decide
    simp only [g1037_769, g1038_832, h, iw_nad, e.ab h (show k < w.length by omega), E_isD (hw k (by omega)), Option.bind_some]
    by_cases c : 48 ≤ bn (wf w k) ∧ bn (wf w k) ≤ 57
    · rw [if_pos c, if_neg n1, iw_succ, E_run2 h e hw m N (k + 1) (by omega), Dg_t (isD_t.mpr ⟨by omega, c⟩)]
    · rw [if_neg c, if_pos rfl, Dg_f (by omega) (fun q => c (isD_t.mp q).2)]
/-- what behind the words true and false is found -/
theorem E_numW {M : Mem} {s : Nat} {w : List Int32} (h : ST M) (k0 : K0 M) (e : WE M s w) (hw : ascs w) : F_X11_laneOfCell_b70 M (iw (wfr w : Nat)) 1037 (iw (s : Int)) (iw (w.length : Nat)) = some (pif (W1 w) (pif (isIw w) 4 (pif (isLw w) 5 8)) (pif (W2 w ∧ w.length - wfr w - 1 ≤ 15) 7 8)) := by
  have hl := e.1
  have hxN : xN = 1099511627776 := rfl
  have fl := wfr_le w
  unfold F_X11_laneOfCell_b70
  obtain ⟨K, hK⟩ : ∃ K, K + 1 + (w.length - wfr w) = xN := ⟨xN - 1 - (w.length - wfr w), by omega⟩
  have r1 := E_run1 (v5 := iw (wfr w : Nat)) h e hw (w.length - wfr w) K (wfr w) (by omega)
  rw [hK] at r1
  rw [r1]
  have hk1 : Dg w (wfr w) = wk1 w := rfl
  rw [hk1]
  obtain ⟨i1, i2, i3, i4⟩ := Dg_sp fl.1
  rw [hk1] at i1 i2 i3 i4
  unfold F_X11_laneOfCell_b107
  rw [iw_nsub i1]
  by_cases c0 : wfr w < wk1 w
  · simp only []
    rw [if_neg (show ¬ iw ((wk1 w - wfr w : Nat) : Int) = 0 by rw [show (0 : Int32) = iw ((0 : Nat) : Int) from rfl, iw_eq (by omega) (by omega) (by omega) (by omega)]; omega)]
    by_cases c1 : wk1 w = w.length
    · have w1 : W1 w := ⟨c0, c1⟩
      rw [if_pos (show iw (wk1 w : Nat) = iw (w.length : Nat) by rw [c1]), tpif w1, c1]
      have f1 : iw (wfr w : Nat) = 1 ↔ wfr w = 1 := by rw [show (1 : Int32) = iw ((1 : Nat) : Int) from rfl, iw_eq (by omega) (by omega) (by omega) (by omega)]; omega
      have go : ∀ mi : Nat, mi = wfr w → F_X11_laneOfCell_b147 M 1037 (iw (s : Int) + iw (wfr w : Nat)) (iw ((w.length - wfr w : Nat) : Int)) (iw (mi : Int)) = some (pif (isIw w) 4 (pif (isLw w) 5 8)) := fun mi hmi => by
        unfold F_X11_laneOfCell_b147 F_X11_wholeLane
        rw [v1037 h, Option.bind_some, iw_nad]
        by_cases c19 : 19 < w.length - wfr w
        · rw [if_pos (show (19 : Int32) < iw ((w.length - wfr w : Nat) : Int) by rw [show (19 : Int32) = iw ((19 : Nat) : Int) from rfl, iw_le4 (by omega) (by omega)]; exact c19), Option.bind_some, fpif (fun q => by have := q.1; omega), fpif (fun q => by have := q.1; omega)]
        · rw [if_neg (show ¬ (19 : Int32) < iw ((w.length - wfr w : Nat) : Int) by rw [show (19 : Int32) = iw ((19 : Nat) : Int) from rfl, iw_le4 (by omega) (by omega)]; exact c19)]
          obtain ⟨K2, hK2⟩ : ∃ K, K + 1 + (w.length - wfr w) = xN := ⟨xN - 1 - (w.length - wfr w), by omega⟩
          have wl := E_whole_l (s := s) (a := wfr w) (n := w.length - wfr w) (mi := mi) h k0 e hw (by omega) (by omega) (by omega) (fun j hj => w1.dg hj) (w.length - wfr w) K2 0 (nl 0) 1 (by omega) (Or.inl ⟨rfl, rfl, by show 0 < _; omega⟩)
          rw [hK2] at wl
          rw [show F_X11_wholeLane_b18 xN M 1037 (iw ((s + wfr w : Nat) : Int)) (iw ((w.length - wfr w : Nat) : Int)) (iw (mi : Int)) 0 1 0 = _ from wl, Option.bind_some]
          congr 1
          by_cases ci : isIw w
          · rw [tpif ci, tpif ⟨ci.1, by rw [hmi]; exact ci.2⟩]
          · rw [fpif ci, fpif (fun q => ci ⟨q.1, by have := q.2; omega⟩)]
            by_cases cl : isLw w
            · rw [tpif cl, tpif (by rw [hmi]; exact cl.2)]
            · rw [fpif cl, fpif (fun q => cl ⟨by omega, by omega⟩)]
      by_cases cf : wfr w = 1
      · rw [if_pos (f1.mpr cf)]
        exact go 1 cf.symm
      · rw [if_neg (fun q => cf (f1.mp q))]
        exact go 0 (by omega)
    · rw [if_neg (show ¬ iw (wk1 w : Nat) = iw (w.length : Nat) by rw [iw_eq (by omega) (by omega) (by omega) (by omega)]; omega), fpif (fun q => c1 q.2)]
      have hlt : wk1 w < w.length := by omega
      simp only [g1037_769, g1038_832, h, iw_nad, e.ab h hlt, Option.bind_some]
      have q46 : wf w (wk1 w) = 46 ↔ bn (wf w (wk1 w)) = 46 := asc_c (hw _ hlt) (c := 46) (by decide)
      by_cases cp : bn (wf w (wk1 w)) = 46
      · rw [if_pos (q46.mpr cp), iw_succ]
        obtain ⟨K3, hK3⟩ : ∃ K, K + 1 + (w.length - (wk1 w + 1)) = xN := ⟨xN - 1 - (w.length - (wk1 w + 1)), by omega⟩
        have r2 := E_run2 (v5 := iw (wfr w : Nat)) (v8 := iw (wk1 w : Nat)) h e hw (w.length - (wk1 w + 1)) K3 (wk1 w + 1) (by omega)
        rw [hK3] at r2
        rw [r2]
        obtain ⟨k1, k2, k3, k4⟩ := Dg_sp (w := w) (k := wk1 w + 1) (by omega)
        unfold F_X11_laneOfCell_b209 F_X11_laneOfCell_b242 F_X11_laneOfCell_b244
        by_cases c2 : Dg w (wk1 w + 1) = w.length
        · rw [if_pos (show iw (Dg w (wk1 w + 1) : Nat) = iw (w.length : Nat) by rw [c2]), iw_succ]
          by_cases c3 : wk1 w + 1 < Dg w (wk1 w + 1)
          · rw [if_pos (show iw ((wk1 w + 1 : Nat) : Int) < iw (Dg w (wk1 w + 1) : Nat) by rw [iw_le4 (by omega) (by omega)]; exact c3)]
            rw [iw_nsub fl.1, show (1 : Int32) = iw ((1 : Nat) : Int) from rfl, iw_nsub (show 1 ≤ w.length - wfr w by omega)]
            have w2 : W2 w := ⟨c0, isC_t.mpr ⟨hlt, cp⟩, c2, by omega⟩
            by_cases c15 : 15 < w.length - wfr w - 1
            · rw [if_pos (show (15 : Int32) < iw ((w.length - wfr w - 1 : Nat) : Int) by rw [show (15 : Int32) = iw ((15 : Nat) : Int) from rfl, iw_le4 (by omega) (by omega)]; exact c15), fpif (fun q => by have := q.2; omega)]
            · rw [if_neg (show ¬ (15 : Int32) < iw ((w.length - wfr w - 1 : Nat) : Int) by rw [show (15 : Int32) = iw ((15 : Nat) : Int) from rfl, iw_le4 (by omega) (by omega)]; exact c15), tpif ⟨w2, by omega⟩]
          · rw [if_neg (show ¬ iw ((wk1 w + 1 : Nat) : Int) < iw (Dg w (wk1 w + 1) : Nat) by rw [iw_le4 (by omega) (by omega)]; exact c3), fpif (fun q => by have := q.1.2.2.2; omega)]
        · rw [if_neg (show ¬ iw (Dg w (wk1 w + 1) : Nat) = iw (w.length : Nat) by rw [iw_eq (by omega) (by omega) (by omega) (by omega)]; omega), fpif (fun q => c2 q.1.2.2.1)]
      · rw [if_neg (fun q => cp (q46.mp q)), fpif (fun q => cp (isC_t.mp q.1.2.1).2)]
  · simp only []
    have hz : wk1 w - wfr w = 0 := by omega
    rw [if_pos (show iw ((wk1 w - wfr w : Nat) : Int) = 0 by rw [hz]; rfl), fpif (fun q => c0 q.1), fpif (fun q => c0 q.1.1)]
/-- the cell k of a table -/
def cl (cs : List (List Int32 × Bool)) (k : Nat) : List Int32 × Bool := cs.getD k ([], false)
/-- the engine's cells of a table -/
def TEc (M : Mem) (t C R : Nat) (cs : List (List Int32 × Bool)) : Prop := ST M ∧ K0 M ∧ m_tg M t = 53 ∧ cI M t 3392 = iw (C : Int) ∧ cI M t 3393 = iw (R : Int) ∧ C ≤ 16 ∧ R < 500 ∧ m_tg M (cR M t 3396) = 1005 ∧ m_ln M (cR M t 3396) = C * R ∧ m_tg M (cR M t 3397) = 1002 ∧ m_ln M (cR M t 3397) = C * R ∧
  ∀ k, k < C * R → cI M (cR M t 3397) k = enc (cl cs k) ∧ ascs (cl cs k).1 ∧ (cl cs k).1.length ≤ 40 ∧ ∃ s : Nat, cI M (cR M t 3396) k = iw (s : Int) ∧ WE M s (cl cs k).1
theorem TEc.b {M : Mem} {t C R : Nat} {cs : List (List Int32 × Bool)} (h : TEc M t C R cs) : C * R < 8000 := by
  obtain ⟨-, -, -, -, -, h1, h2, -⟩ := h
  have : C * R ≤ 16 * 499 := Nat.mul_le_mul h1 (by omega)
  omega
theorem TEc.x {M : Mem} {t C R k : Nat} {cs : List (List Int32 × Bool)} (h : TEc M t C R cs) (hk : k < C * R) : gr M t 3397 = some (cR M t 3397) ∧ ab M (cR M t 3397) (iw (k : Int)) = some (enc (cl cs k)) ∧ gr M t 3396 = some (cR M t 3396) ∧ ai M (cR M t 3396) (iw (k : Int)) = some (cI M (cR M t 3396) k) ∧ vg M t 53 = some () := by
  have hb := h.b
  obtain ⟨h1, h2, h3, h4, h5, h6, h7, h8, h9, h10, h11, h12⟩ := h
  exact ⟨gr_of h3 (by decide), by rw [ab_of (Or.inr (Or.inl h10)) h11 hk (by omega), (h12 k hk).1], gr_of h3 (by decide), ai_of h8 h9 hk (by omega), vg_of h3 (by decide)⟩
theorem encW_neg {c : List Int32 × Bool} (h : c.1.length ≤ 40) : enc c < 0 ↔ msg c := by
  unfold enc msg
  cases hc : c.2 with
  | true =>
    rw [if_pos rfl, iw_lt0 (by omega) (by omega)]
    exact ⟨fun q => by omega, fun q => by cases q.2⟩
  | false =>
    rw [if_neg (by decide)]
    by_cases c0 : c.1.length = 0
    · rw [if_pos c0]
      exact ⟨fun _ => ⟨c0, rfl⟩, fun _ => by decide⟩
    · rw [if_neg c0, iw_lt0 (by omega) (by omega)]
      exact ⟨fun q => by omega, fun q => absurd q.1 c0⟩
theorem E_miss {M : Mem} {t C R k : Nat} {cs : List (List Int32 × Bool)} (h : TEc M t C R cs) (hk : k < C * R) : F_X52_isMissing M t (iw (k : Int)) = some (pif (msg (cl cs k)) 1 0) := by
  obtain ⟨x1, x2, x3, x4, x5⟩ := h.x hk
  have hq := h.2.2.2.2.2.2.2.2.2.2.2 k hk
  unfold F_X52_isMissing F_X52_isMissing_b14
  simp only [x1, x2, Option.bind_some]
  by_cases c : msg (cl cs k)
  · rw [if_pos ((encW_neg hq.2.2.1).mpr c), tpif c]; rfl
  · rw [if_neg (fun q => c ((encW_neg hq.2.2.1).mp q)), fpif c]; rfl
theorem E_clen {M : Mem} {t C R k : Nat} {cs : List (List Int32 × Bool)} (h : TEc M t C R cs) (hk : k < C * R) : F_X52_length M t (iw (k : Int)) = some (iw ((cl cs k).1.length : Nat)) := by
  obtain ⟨x1, x2, x3, x4, x5⟩ := h.x hk
  have hq := h.2.2.2.2.2.2.2.2.2.2.2 k hk
  have hl := hq.2.2.1
  unfold F_X52_length F_X52_length_b22
  simp only [x1, x2, Option.bind_some]
  obtain ⟨e1, e2, e3, e4⟩ := enc_ok (show (cl cs k).1.length < 64 by omega)
  by_cases c : msg (cl cs k)
  · rw [if_pos ((encW_neg hq.2.2.1).mpr c), c.1]; rfl
  · rw [if_neg (fun q => c ((encW_neg hq.2.2.1).mp q))]
    unfold enc
    cases hc : (cl cs k).2 with
    | true => rw [if_pos rfl, e1]
    | false => rw [if_neg (by decide), if_neg (fun q => c ⟨q, hc⟩), e2]
theorem E_quo {M : Mem} {t C R k : Nat} {cs : List (List Int32 × Bool)} (h : TEc M t C R cs) (hk : k < C * R) : F_X52_isQuoted M t (iw (k : Int)) = some (mr (cl cs k).2) := by
  obtain ⟨x1, x2, x3, x4, x5⟩ := h.x hk
  have hq := h.2.2.2.2.2.2.2.2.2.2.2 k hk
  have hl := hq.2.2.1
  unfold F_X52_isQuoted F_X52_isQuoted_b16
  simp only [x1, x2, Option.bind_some]
  unfold enc
  cases hc : (cl cs k).2 with
  | true =>
    rw [if_pos rfl, if_neg (show ¬ iw (((cl cs k).1.length + 64 : Nat) : Int) < 64 by rw [show (64 : Int32) = iw ((64 : Nat) : Int) from rfl, iw_le4 (by omega) (by omega)]; omega)]
    rfl
  | false =>
    rw [if_neg (show ¬ false = true by decide)]
    by_cases c0 : (cl cs k).1.length = 0
    · rw [if_pos c0]; rfl
    · rw [if_neg c0, if_pos (show iw ((cl cs k).1.length : Nat) < 64 by rw [show (64 : Int32) = iw ((64 : Nat) : Int) from rfl, iw_le4 (by omega) (by omega)]; omega)]
      rfl
/-- the sign ahead, as the engine looks for it -/
theorem wfr_w {w : List Int32} (hw : ascs w) (h : 0 < w.length) : (wf w 0 = 45 ↔ wfr w = 1) ∧ (¬ wf w 0 = 45 ↔ wfr w = 0) := by
  have q : wf w 0 = 45 ↔ bn (wf w 0) = 45 := asc_c (hw 0 h) (c := 45) (by decide)
  unfold wfr
  by_cases c : bn (wf w 0) = 45
  · rw [if_pos (isC_t.mpr ⟨h, c⟩)]
    exact ⟨⟨fun _ => rfl, fun _ => q.mpr c⟩, ⟨fun k => absurd (q.mpr c) k, fun k => by cases k⟩⟩
  · rw [if_neg (fun k => c (isC_t.mp k).2)]
    exact ⟨⟨fun k => absurd (q.mp k) c, fun k => by cases k⟩, ⟨fun _ => rfl, fun _ k => c (q.mp k)⟩⟩
theorem E_own {M : Mem} {t C R k : Nat} {cs : List (List Int32 × Bool)} (h : TEc M t C R cs) (hk : k < C * R) (hm : ¬ msg (cl cs k)) : F_X11_laneOfCell M 1037 t (iw (k : Int)) = some (own (cl cs k)) := by
  obtain ⟨x1, x2, x3, x4, x5⟩ := h.x hk
  obtain ⟨q1, q2, q3, s, q4, q5⟩ := h.2.2.2.2.2.2.2.2.2.2.2 k hk
  have hS := h.1
  have k0 := h.2.1
  have n1 : ¬ (1 : Int32) = 0 := by decide
  unfold F_X11_laneOfCell
  simp only [x3, x4, x5, E_clen h hk, E_quo h hk, q4, Option.bind_some]
  unfold own
  cases hc : (cl cs k).2 with
  | true => rw [if_neg (show ¬ mr true = 0 by decide), if_pos rfl]
  | false =>
    rw [if_pos (show mr false = 0 from rfl), if_neg (show ¬ false = true by decide)]
    have i1 := E_isWord (M := M) (s := s) (t := 61) (u := (cl cs k).1) (x := (cty 61).1) (n := (cl cs k).1.length) hS q5.1 q5.2 (k0.sb (by decide) (by decide)) a61
    have i2 := E_isWord (M := M) (s := s) (t := 56) (u := (cl cs k).1) (x := (cty 56).1) (n := (cl cs k).1.length) hS q5.1 q5.2 (k0.sb (by decide) (by decide)) a56
    simp only [v1037, hS, i1, i2, Option.bind_some]
    by_cases c1 : (cl cs k).1.length = (cty 61).1.length ∧ ∀ i, i < (cl cs k).1.length → wf (cl cs k).1 i = wf (cty 61).1 i
    · rw [tpif c1, if_neg n1, tpif (Or.inl (eq_wf.mp c1))]
      rfl
    · rw [fpif c1, if_pos rfl]
      by_cases c2 : (cl cs k).1.length = (cty 56).1.length ∧ ∀ i, i < (cl cs k).1.length → wf (cl cs k).1 i = wf (cty 56).1 i
      · rw [tpif c2, if_neg n1, tpif (Or.inr (eq_wf.mp c2))]
        rfl
      · rw [fpif c2, if_pos rfl, fpif (fun q => q.elim (fun q => c1 (eq_wf.mpr q)) (fun q => c2 (eq_wf.mpr q)))]
        have hlen : 0 < (cl cs k).1.length := Nat.pos_of_ne_zero (fun q => hm ⟨q, hc⟩)
        have a0 := q5.ab hS hlen
        rw [Nat.add_zero] at a0
        simp only [g1037_769, g1038_832, hS, a0, Option.bind_some]
        obtain ⟨f1, f2⟩ := wfr_w q2 hlen
        have en := E_numW hS k0 q5 q2
        by_cases c45 : wf (cl cs k).1 0 = 45
        · rw [if_pos c45]
          rw [f1.mp c45] at en
          refine Eq.trans en ?_
          rw [f1.mp c45]
        · rw [if_neg c45]
          rw [f2.mp c45] at en
          refine Eq.trans en ?_
          rw [f2.mp c45]
