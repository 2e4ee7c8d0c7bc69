/-! ===== TABLES, 7: the engine reads a line ===== -/
/-- a line: where it is wrong, or the cells with its own behind them, and its end -/
noncomputable def tln (first : Bool) (C : Nat) (f : Nat → Int32) (n : Nat) : Nat → Nat → Nat → List (List Int32 × Bool) → Nat ⊕ (List (List Int32 × Bool) × Nat)
  | 0, a, _, _ => .inl a
  | e + 1, a, k, cs => if k = C then .inl a else match tcel f n a with
    | .inl p => .inl p
    | .inr q => pif (tbad first cs q.1) (.inl a) (if isC f n q.2.2 44 = true then tln first C f n e (q.2.2 + 1) (k + 1) (cs ++ [(q.1, q.2.1)]) else if first = false ∧ k + 1 < C then .inl q.2.2 else .inr (cs ++ [(q.1, q.2.1)], q.2.2 + 1))
theorem tcel_ok {f : Nat → Int32} {n a : Nat} {q : List Int32 × Bool × Nat} (ha : a ≤ n) (h : tcel f n a = .inr q) : q.1.length + a ≤ q.2.2 ∧ q.2.2 < n ∧ (isC f n q.2.2 44 = true ∨ isC f n q.2.2 10 = true) := by
  unfold tcel at h
  cases hw : wrd f n a with
  | inl p => rw [hw] at h; cases h
  | inr u =>
    rw [hw] at h
    simp only [] at h
    by_cases c : (isC f n u.2.2 44 || isC f n u.2.2 10) = true
    · rw [if_pos c] at h
      cases h
      have k := wrd_len (x := q.1) (b := q.2.1) (p := q.2.2) ha hw
      have c' := (Bool.or_eq_true _ _).mp c
      refine ⟨k.1, ?_, c'⟩
      rcases c' with c | c
      · exact (isC_t.mp c).1
      · exact (isC_t.mp c).1
    · rw [if_neg c] at h
      cases h
theorem TC.go {M : Mem} {f : Nat → Int32} {n a : Nat} {cs : List (List Int32 × Bool)} (t : TC M f n a cs) (c : a < n) : ∃ M', pi M 1037 774 (iw (a : Int) + 1) = some M' ∧ TC M' f n (a + 1) cs ∧ SE M M' := by
  obtain ⟨g1, g2, g3⟩ := E_goT t.1 c
  refine ⟨_, g1, ⟨g2, ?_, fun k hk => ?_⟩, g3.se g2.1⟩
  · rw [cI_wI, if_neg (by omega)]; exact t.2.1
  · rw [cI_wI, if_neg (by omega), cI_wI, if_neg (by omega)]; exact t.2.2 k hk
theorem SE.c80 {M N : Mem} (h : ST M) (s : SE M N) : cI N 1037 780 = cI M 1037 780 := s.2.1.cI (by have := h.1; omega) (by unfold pTC; omega)
theorem E_line_l {f : Nat → Int32} {n C B : Nat} {first : Bool} (hC : C ≤ 16) (hB : B + C ≤ 8000) : ∀ (e N a k : Nat) (cs : List (List Int32 × Bool)) (M : Mem), n + 1 ≤ a + e → TC M f n a cs → cI M 1037 780 = iw (C : Int) → cs.length = B + k → k ≤ C → (first = true → ∀ k, k < cs.length → (cs.getD k ([], false)).1.length < 64) → match tln first C f n e a k cs with
    | .inl p => ∃ M1, F_X11_line_b7 (N + 1 + e) M 1037 (mr first) (iw (B : Int)) 1 = some (.inr (1003, eT M1 20 (iw (p : Int)))) ∧ SE M M1
    | .inr q => ∃ M1, F_X11_line_b7 (N + 1 + e) M 1037 (mr first) (iw (B : Int)) 1 = some (.inl M1) ∧ TC M1 f n q.2 q.1 ∧ SE M M1
  | 0, N, a, k, cs, M, he, t, _, _, _, _ => by have := t.1.2.2.2.2.2.1; omega
  | e + 1, N, a, k, cs, M, he, t, h80, hk, hkC, hf => by
    have hS := t.1.1
    have hna := t.1.2.2.2.2.2.1
    have n1 : ¬ (1 : Int32) = 0 := by decide
    have hs : F_X11_line_b7 (N + 1 + (e + 1)) M 1037 (mr first) (iw (B : Int)) 1 = F_X11_line_b7_st (F_X11_line_b7 (N + 1 + e)) M 1037 (mr first) (iw (B : Int)) 1 := rfl
    unfold tln
    rw [hs]
    unfold F_X11_line_b7_st F_X11_line_b58 F_X11_line_b73
    rw [if_neg n1]
    simp only [g1037_774, g1037_779, g1037_780, hS, t.1.2.2.2.2.1, t.2.1, h80, Option.bind_some]
    rw [hk, iw_nsub (by omega), show B + k - B = k by omega]
    by_cases c : k = C
    · rw [if_pos c, if_pos (show iw (k : Int) = iw (C : Int) by rw [c])]
      exact ⟨M, E_wrongT hS _, ⟨hS, Df.refl _ _ _ _, rfl, rfl⟩⟩
    · rw [if_neg c, if_neg (show ¬ iw (k : Int) = iw (C : Int) by rw [iw_eq (by omega) (by omega) (by omega) (by omega)]; omega)]
      have ec := E_cell (first := first) t (by omega) hf
      simp only [v1037, hS, Option.bind_some]
      cases ht : tcel f n a with
      | inl p =>
        rw [ht] at ec
        obtain ⟨M1, f1, f2⟩ := ec
        refine ⟨M1, ?_, f2⟩
        rw [f1]
        rfl
      | inr q =>
        rw [ht] at ec
        obtain ⟨e1, e2⟩ := ec
        have tk := tcel_ok hna ht
        by_cases cb : tbad first cs q.1
        · obtain ⟨M1, f1, f2⟩ := e1 cb
          simp only [tpif cb]
          refine ⟨M1, ?_, f2⟩
          rw [f1]
          rfl
        · obtain ⟨M1, f1, f2, f3⟩ := e2 cb
          simp only [fpif cb]
          rw [f1, tb_l]
          have hS1 := f2.1.1
          have hl' : (cs ++ [(q.1, q.2.1)]).length = B + (k + 1) := by rw [List.length_append, List.length_singleton]; omega
          have h80' : cI M1 1037 780 = iw (C : Int) := (f3.c80 hS).trans h80
          simp only [v1037, hS1, E_lookT f2.1, Option.bind_some]
          by_cases c4 : isC f n q.2.2 44 = true
          · rw [if_pos c4, if_pos (lk44.mpr c4), if_neg n1]
            obtain ⟨M2, g1, g2, g3⟩ := f2.go tk.2.1
            simp only [g1037_774, hS1, f2.1.2.2.2.2.1, g1, Option.bind_some]
            have ih := E_line_l (f := f) (n := n) (C := C) (B := B) (first := first) hC hB e N (q.2.2 + 1) (k + 1) (cs ++ [(q.1, q.2.1)]) M2 (by omega) g2 ((g3.c80 hS1).trans h80') hl' (by omega) (fun h u hu => by
              by_cases hu2 : u < cs.length
              · rw [gd_l hu2]; exact hf h u hu2
              · have : u = cs.length := by omega
                rw [this, gd_r]
                refine Nat.lt_of_le_of_lt (Nat.le_of_not_lt (fun q' => cb (Or.inr ⟨h, Or.inl q'⟩))) (by decide))
            generalize tln first C f n e (q.2.2 + 1) (k + 1) (cs ++ [(q.1, q.2.1)]) = u at ih ⊢
            rcases u with p | u
            · obtain ⟨M3, i1, i2⟩ := ih
              exact ⟨M3, i1, f3.trans (g3.trans i2)⟩
            · obtain ⟨M3, i1, i2, i3⟩ := ih
              exact ⟨M3, i1, i2, f3.trans (g3.trans i3)⟩
          · have c10 : isC f n q.2.2 10 = true := tk.2.2.resolve_left c4
            have z0 : (0 : Int32) = 0 := rfl
            rw [if_neg c4, if_neg (fun h => c4 (lk44.mp h)), if_pos trivial, show N + 1 + e = N + e + 1 by omega]
            have hs2 : F_X11_line_b7 (N + e + 1) M1 1037 (mr first) (iw (B : Int)) 0 = F_X11_line_b7_st (F_X11_line_b7 (N + e)) M1 1037 (mr first) (iw (B : Int)) 0 := rfl
            have hx : F_X11_line_b7 (N + e + 1) M1 1037 (mr first) (iw (B : Int)) 0 = if first = false ∧ k + 1 < C then F_X11_line_b102 M1 1037 else F_X11_line_b111 M1 1037 := by
              rw [hs2]
              unfold F_X11_line_b7_st
              rw [if_pos z0]
              simp only [v1037, hS1, E_lookT f2.1, g1037_779, g1037_780, f2.2.1, h80', Option.bind_some]
              rw [if_pos (lk10.mpr c10), hl', iw_nsub (by omega), show B + (k + 1) - B = k + 1 by omega]
              by_cases cc : k + 1 < C
              · rw [if_pos (by rw [iw_le4 (by omega) (by omega)]; exact cc)]
                cases first with
                | true => rw [if_neg (by decide), if_neg (fun h => by cases h.1)]
                | false => rw [if_pos (by decide), if_pos ⟨rfl, cc⟩]
              · rw [if_neg (by rw [iw_le4 (by omega) (by omega)]; exact cc), if_neg (fun h => cc h.2)]
            by_cases cc : first = false ∧ k + 1 < C
            · rw [if_pos cc] at hx ⊢
              refine ⟨M1, ?_, f3⟩
              refine Eq.trans hx ?_
              unfold F_X11_line_b102
              rw [g1037_774 hS1, f2.1.2.2.2.2.1, Option.bind_some, E_wrongT hS1]
            · rw [if_neg cc] at hx ⊢
              obtain ⟨M2, g1, g2, g3⟩ := f2.go tk.2.1
              refine ⟨M2, ?_, g2, f3.trans g3⟩
              refine Eq.trans hx ?_
              unfold F_X11_line_b111
              rw [g1037_774 hS1, f2.1.2.2.2.2.1, Option.bind_some, g1]
              rfl
