/-! ===== TABLES, 6: the engine reads a cell, whole ===== -/
/-- a word and what must stand behind it -/
def tcel (f : Nat → Int32) (n a : Nat) : Nat ⊕ (List Int32 × Bool × Nat) := match wrd f n a with
  | .inl p => .inl p
  | .inr q => if (isC f n q.2.2 44 || isC f n q.2.2 10) = true then .inr q else .inl q.2.2
/-- what a cell must not be -/
def tbad (first : Bool) (cs : List (List Int32 × Bool)) (w : List Int32) : Prop := (first = false ∧ 40 < w.length) ∨ (first = true ∧ (20 < w.length ∨ w.length = 0 ∨ ∃ k, k < cs.length ∧ (cs.getD k ([], false)).1 = w))
theorem gd_l {α : Type} {xs : List α} {c d : α} {k : Nat} (h : k < xs.length) : (xs ++ [c]).getD k d = xs.getD k d := by
  rw [List.getD_eq_getElem?_getD, List.getElem?_append_left h, ← List.getD_eq_getElem?_getD]
theorem gd_r {α : Type} {xs : List α} {c d : α} : (xs ++ [c]).getD xs.length d = c := by
  rw [List.getD_eq_getElem?_getD, List.getElem?_append_right (Nat.le_refl _), Nat.sub_self]
  rfl
theorem tk_l {α : Type} {xs : List α} {c : α} {k : Nat} (h : k ≤ xs.length) : (xs ++ [c]).take k = xs.take k := List.take_append_of_le_length h
theorem tpif {α : Type} {p : Prop} {a b : α} (h : p) : pif p a b = a := by unfold pif; rw [if_pos h]
theorem fpif {α : Type} {p : Prop} {a b : α} (h : ¬ p) : pif p a b = b := by unfold pif; rw [if_neg h]
theorem E_dup {M : Mem} {f : Nat → Int32} {n p : Nat} {cs : List (List Int32 × Bool)} {w : List Int32} {b : Bool} {v2 : Int32} (t : TK M f n p (cs ++ [(w, b)])) (hc : cI M 1037 779 = iw (cs.length : Nat)) (hl : ∀ k, k < cs.length → (cs.getD k ([], false)).1.length < 64) (hw : w.length < 64) :
    ∀ (m N k : Nat), k + m = cs.length → F_X11_cell_b208 (N + 1 + m) M 1037 1 v2 (iw (k : Int)) = pif (∃ u, k ≤ u ∧ u < cs.length ∧ (cs.getD u ([], false)).1 = w) (some (.inr (1003, eT M 20 v2))) (F_X11_cell_b246 M 1037)
  | 0, N, k, hk => by
    have hS := t.1.1
    have h8 := t.2.1
    rw [List.length_append, List.length_singleton] at h8
    show F_X11_cell_b208_st (F_X11_cell_b208 N) M 1037 _ _ _ = _
    unfold F_X11_cell_b208_st
    rw [g1037_779 hS, hc, Option.bind_some, if_neg (by rw [iw_le4 (by omega) (by omega)]; omega)]
    refine (fpif ?_).symm
    rintro ⟨u, h1, h2, h3⟩
    omega
  | m + 1, N, k, hk => by
    have hS := t.1.1
    have h8 := t.2.1
    rw [List.length_append, List.length_singleton] at h8
    have n1 : ¬ (1 : Int32) = 0 := by decide
    have hs : F_X11_cell_b208 (N + 1 + (m + 1)) M 1037 1 v2 (iw (k : Int)) = F_X11_cell_b208_st (F_X11_cell_b208 (N + 1 + m)) M 1037 1 v2 (iw (k : Int)) := rfl
    have sm := E_same t (i := k) (j := cs.length) (by rw [List.length_append, List.length_singleton]; omega) (by rw [List.length_append, List.length_singleton]; omega) (by rw [gd_l (by omega)]; exact hl k (by omega)) (by rw [gd_r]; exact hw)
    rw [gd_l (by omega), gd_r] at sm
    rw [hs]
    unfold F_X11_cell_b208_st
    rw [g1037_779 hS, hc, Option.bind_some, if_pos (by rw [iw_le4 (by omega) (by omega)]; omega), if_neg n1]
    simp only [v1037, hS, sm, Option.bind_some]
    by_cases c : (cs.getD k ([], false)).1 = w
    · have e : pif ((cs.getD k ([], false)).1 = w) (1 : Int32) 0 = 1 := by unfold pif; rw [if_pos c]
      rw [e, if_neg n1]
      have hd : (∃ u, k ≤ u ∧ u < cs.length ∧ (cs.getD u ([], false)).1 = w) := ⟨k, Nat.le_refl _, by omega, c⟩
      rw [tpif hd]
      have := E_wrongT (α := Mem) hS v2
      rw [v1037 hS, Option.bind_some] at this
      exact this
    · have e : pif ((cs.getD k ([], false)).1 = w) (1 : Int32) 0 = 0 := by unfold pif; rw [if_neg c]
      rw [e, if_pos rfl, iw_succ, E_dup t hc hl hw m N (k + 1) (by omega)]
      by_cases c2 : ∃ u, k + 1 ≤ u ∧ u < cs.length ∧ (cs.getD u ([], false)).1 = w
      · rw [tpif c2, tpif (by obtain ⟨u, h1, h2⟩ := c2; exact ⟨u, by omega, h2⟩)]
      · rw [fpif c2]
        refine (fpif ?_).symm
        rintro ⟨u, h1, h2, h3⟩
        by_cases h4 : u = k
        · rw [h4] at h3; exact c h3
        · exact c2 ⟨u, by omega, h2, h3⟩
/-- a cell -/
theorem E_cell {M : Mem} {f : Nat → Int32} {n a : Nat} {cs : List (List Int32 × Bool)} {first : Bool} (t : TC M f n a cs) (hc : cs.length < 8000) (hf : first = true → ∀ k, k < cs.length → (cs.getD k ([], false)).1.length < 64) : match tcel f n a with
    | .inl p => ∃ M1, F_X11_cell M 1037 (mr first) (iw (a : Int)) = some (.inr (1003, eT M1 20 (iw (p : Int)))) ∧ SE M M1
    | .inr q => (tbad first cs q.1 → ∃ M1, F_X11_cell M 1037 (mr first) (iw (a : Int)) = some (.inr (1003, eT M1 20 (iw (a : Int)))) ∧ SE M M1) ∧
      (¬ tbad first cs q.1 → ∃ M1, F_X11_cell M 1037 (mr first) (iw (a : Int)) = some (.inl M1) ∧ TC M1 f n q.2.2 (cs ++ [(q.1, q.2.1)]) ∧ SE M M1) := by
  have ht := t
  have hna := t.1.2.2.2.2.2.1
  have hn := t.1.2.2.2.1
  have hxN : xN = 1099511627776 := rfl
  have w0 := E_cellw t hc (mr first) (iw (a : Int))
  unfold tcel
  cases hw : wrd f n a with
  | inl p =>
    rw [hw] at w0
    exact w0
  | inr q =>
    rw [hw] at w0
    obtain ⟨w, b, p⟩ := q
    obtain ⟨M1, f1, T, s1, c79, c42, k42, k43⟩ := w0
    have hwl := wrd_len hna hw
    have hS := T.1
    have hle : (fla cs ++ w).length = (fla cs).length + w.length := List.length_append
    have hlt := T.2.2.2.2.2.2.2.2.1
    simp only [] at f1 hlt hle ⊢
    -- up to what must stand behind
    have h82 : F_X11_cell M 1037 (mr first) (iw (a : Int)) = F_X11_cell_b121 M1 (if (isC f n p 44 || isC f n p 10) = true then 1 else 0) 1037 (mr first) (iw (a : Int)) (mr b) (iw (w.length : Nat)) := by
      rw [f1]
      unfold F_X11_cell_b82 F_X11_cell_b116
      simp only [g1037_776, g1037_777, g1037_779, hS, c79, T.2.2.2.2.2.2.2.1, ai_of (t1042 hS) (l1042 hS) hc (by decide), c42, v1037, E_lookT T, Option.bind_some]
      rw [hle, iw_nsub (by omega), show (fla cs).length + w.length - (fla cs).length = w.length by omega]
      by_cases c1 : isC f n p 44 = true
      · rw [if_pos (lk44.mpr c1), c1]
        rfl
      · rw [if_neg (fun q => c1 (lk44.mp q)), Bool.eq_false_iff.mpr c1]
        by_cases c2 : isC f n p 10 = true
        · rw [if_pos (lk10.mpr c2), c2]
          rfl
        · rw [if_neg (fun q => c2 (lk10.mp q)), Bool.eq_false_iff.mpr c2]
          rfl
    by_cases ce : (isC f n p 44 || isC f n p 10) = true
    · rw [if_pos ce] at h82 ⊢
      unfold F_X11_cell_b121 at h82
      rw [if_neg (by decide)] at h82
      have f162 : F_X11_cell_b162 M1 1037 (iw (a : Int)) = some (.inr (1003, eT M1 20 (iw (a : Int)))) := E_wrongT hS _
      -- the length's kept, then looked for twins
      obtain ⟨A, hA⟩ : ∃ A, A = wI M1 1043 cs.length (enc (w, b)) := ⟨_, rfl⟩
      have sA : SE M A := s1.trans (by rw [hA]; exact SE.w hS (Or.inr (Or.inr (Or.inr rfl))))
      have TA : TT A f n p (fla (cs ++ [(w, b)])) := by rw [fla_app, hA]; exact T.w (by decide) (by decide) (fun q => by omega)
      have tA : TK A f n p (cs ++ [(w, b)]) := by
        refine ⟨TA, by rw [List.length_append, List.length_singleton]; omega, fun k hk => ?_⟩
        rw [List.length_append, List.length_singleton] at hk
        by_cases e : k = cs.length
        · subst e
          rw [gd_r, tk_l (Nat.le_refl _), List.take_length]
          exact ⟨by rw [hA, cI_wI, if_neg (by omega)]; exact c42, by rw [hA, cI_wI, if_pos ⟨rfl, rfl⟩]⟩
        · rw [gd_l (by omega), tk_l (by omega)]
          exact ⟨by rw [hA, cI_wI, if_neg (by omega), k42 k e]; exact (ht.2.2 k (by omega)).1, by rw [hA, cI_wI, if_neg (by omega), k43 k]; exact (ht.2.2 k (by omega)).2⟩
      have cA79 : cI A 1037 779 = iw (cs.length : Nat) := by rw [hA, cI_wI, if_neg (by omega)]; exact c79
      have h168 : w.length < 64 → F_X11_cell_b168 M1 1037 (mr first) (iw (a : Int)) (mr b) (iw (w.length : Nat)) = F_X11_cell_b208 xN A 1037 (mr first) (iw (a : Int)) 0 := fun hw64 => by
        obtain ⟨e1, e2, e3, e4⟩ := enc_ok hw64
        have put : ∀ x : Int32, j_i2b x = enc (w, b) → F_X11_cell_b203 M1 1043 (iw (cs.length : Nat)) x 1037 (mr first) (iw (a : Int)) = F_X11_cell_b208 xN A 1037 (mr first) (iw (a : Int)) 0 := fun x hx => by
          unfold F_X11_cell_b203
          rw [sb_of _ (t1043 hS) (l1043 hS) hc (by decide), i2b_i2b, hx, ← hA]
          rfl
        unfold F_X11_cell_b168 F_X11_cell_b189
        simp only [g1037_778, g1037_779, hS, c79, Option.bind_some]
        cases b with
        | true =>
          have m1 : ¬ mr true = 0 := by decide
          have en : enc (w, true) = iw ((w.length + 64 : Nat) : Int) := by unfold enc; rw [if_pos rfl]
          have pp := put (iw (w.length : Nat) + 64) (by rw [en, show (64 : Int32) = iw ((64 : Nat) : Int) from rfl, iw_nad]; exact e3)
          by_cases c0 : iw (w.length : Nat) = 0
          · rw [if_pos c0, if_neg m1, if_neg m1, pp]
          · rw [if_neg c0, if_neg m1, pp]
        | false =>
          have m0 : mr false = 0 := rfl
          by_cases c0 : w.length = 0
          · have en : enc (w, false) = -1 := by unfold enc; rw [if_neg Bool.false_ne_true, if_pos c0]
            rw [if_pos (by rw [c0]; rfl), if_pos m0, put (-1) (by rw [en]; decide)]
          · have en : enc (w, false) = iw (w.length : Nat) := by unfold enc; rw [if_neg Bool.false_ne_true, if_neg c0]
            rw [if_neg (by rw [show (0 : Int32) = iw ((0 : Nat) : Int) from rfl, iw_eq (by omega) (by omega) (by omega) (by omega)]; omega), if_pos m0, put (iw (w.length : Nat)) (by rw [en]; exact e4)]
      have h246 : F_X11_cell_b246 A 1037 = some (.inl (wI A 1037 779 (iw ((cs.length + 1 : Nat) : Int)))) := by
        unfold F_X11_cell_b246
        simp only [g1037_779, tA.1.1, cA79, iw_succ, p1037_779, Option.bind_some]
      have fin : ∃ M1, F_X11_cell_b246 A 1037 = some (.inl M1) ∧ TC M1 f n p (cs ++ [(w, b)]) ∧ SE M M1 := by
        refine ⟨_, h246, ⟨TA.w (by decide) (by decide) (fun _ => by decide), ?_, fun k hk => ?_⟩, sA.trans (SE.w tA.1.1 (Or.inl ⟨rfl, Or.inr (Or.inr rfl)⟩))⟩
        · rw [cI_wI, if_pos ⟨rfl, rfl⟩, List.length_append, List.length_singleton]
        · rw [cI_wI, if_neg (by omega), cI_wI, if_neg (by omega)]
          exact tA.2.2 k hk
      cases first with
      | false =>
        have m0 : mr false = 0 := rfl
        rw [if_pos m0] at h82
        unfold F_X11_cell_b150 at h82
        by_cases c40 : 40 < w.length
        · rw [if_pos (by rw [show (40 : Int32) = iw ((40 : Nat) : Int) from rfl, iw_le4 (by omega) (by omega)]; exact c40)] at h82
          exact ⟨fun _ => ⟨M1, h82.trans f162, s1⟩, fun h => absurd (Or.inl ⟨rfl, c40⟩) h⟩
        · rw [if_neg (by rw [show (40 : Int32) = iw ((40 : Nat) : Int) from rfl, iw_le4 (by omega) (by omega)]; exact c40), if_pos m0, h168 (by omega)] at h82
          refine ⟨fun h => ?_, fun _ => ?_⟩
          · rcases h with h | h
            · exact absurd h.2 c40
            · cases h.1
          · obtain ⟨M2, g1, g2⟩ := fin
            refine ⟨M2, ?_, g2⟩
            rw [h82, ← g1, hxN]
            show F_X11_cell_b208_st (F_X11_cell_b208 1099511627775) A 1037 (mr false) _ 0 = _
            unfold F_X11_cell_b208_st
            rw [g1037_779 tA.1.1, Option.bind_some]
            by_cases z : (0 : Int32) < cI A 1037 779
            · rw [if_pos z, if_pos m0]
            · rw [if_neg z]
      | true =>
        have m1 : ¬ mr true = 0 := by decide
        rw [if_neg m1] at h82
        unfold F_X11_cell_b150 at h82
        by_cases c20 : 20 < w.length
        · rw [if_pos (by rw [show (20 : Int32) = iw ((20 : Nat) : Int) from rfl, iw_le4 (by omega) (by omega)]; exact c20)] at h82
          exact ⟨fun _ => ⟨M1, h82.trans f162, s1⟩, fun h => absurd (Or.inr ⟨rfl, Or.inl c20⟩) h⟩
        · rw [if_neg (by rw [show (20 : Int32) = iw ((20 : Nat) : Int) from rfl, iw_le4 (by omega) (by omega)]; exact c20), if_neg m1] at h82
          by_cases c0 : w.length = 0
          · rw [if_pos (by rw [c0]; rfl)] at h82
            exact ⟨fun _ => ⟨M1, h82.trans f162, s1⟩, fun h => absurd (Or.inr ⟨rfl, Or.inr (Or.inl c0)⟩) h⟩
          · rw [if_neg (by rw [show (0 : Int32) = iw ((0 : Nat) : Int) from rfl, iw_eq (by omega) (by omega) (by omega) (by omega)]; omega), h168 (by omega)] at h82
            obtain ⟨N, hN⟩ : ∃ N, N + 1 + cs.length = xN := ⟨xN - 1 - cs.length, by omega⟩
            have dd := E_dup (v2 := iw (a : Int)) tA cA79 (hf rfl) (by omega) cs.length N 0 (by omega)
            rw [hN] at dd
            rw [show F_X11_cell_b208 xN A 1037 (mr true) (iw (a : Int)) 0 = _ from dd] at h82
            by_cases c2 : ∃ u, 0 ≤ u ∧ u < cs.length ∧ (cs.getD u ([], false)).1 = w
            · rw [tpif c2] at h82
              refine ⟨fun _ => ⟨A, h82, sA⟩, fun h => absurd (Or.inr ⟨rfl, Or.inr (Or.inr ?_)⟩) h⟩
              obtain ⟨u, -, h2, h3⟩ := c2
              exact ⟨u, h2, h3⟩
            · rw [fpif c2] at h82
              refine ⟨fun h => ?_, fun _ => ?_⟩
              · rcases h with h | h
                · cases h.1
                · rcases h.2 with h | h | ⟨u, h2, h3⟩
                  · exact absurd h c20
                  · exact absurd h c0
                  · exact absurd ⟨u, Nat.zero_le _, h2, h3⟩ c2
              · obtain ⟨M2, g1, g2⟩ := fin
                exact ⟨M2, h82.trans g1, g2⟩
    · rw [if_neg ce] at h82 ⊢
      unfold F_X11_cell_b121 at h82
      rw [if_pos rfl, g1037_774 hS, T.2.2.2.2.1, Option.bind_some, E_wrongT hS] at h82
      exact ⟨M1, h82, s1⟩
