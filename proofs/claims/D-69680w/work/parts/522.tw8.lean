/-! ===== TABLES, 8: the engine reads all lines ===== -/
theorem tln_len {first : Bool} {C : Nat} {f : Nat → Int32} {n : Nat} : ∀ (e a k : Nat) (cs : List (List Int32 × Bool)) (q : List (List Int32 × Bool) × Nat), a ≤ n → k ≤ C → tln first C f n e a k cs = .inr q → a < q.2 ∧ q.2 ≤ n ∧ cs.length < q.1.length ∧ q.1.length + k ≤ cs.length + C ∧ (first = false → q.1.length + k = cs.length + C)
  | 0, a, k, cs, q, _, _, h => by cases h
  | e + 1, a, k, cs, q, ha, hk, h => by
    unfold tln at h
    by_cases c : k = C
    · rw [if_pos c] at h; cases h
    · rw [if_neg c] at h
      cases ht : tcel f n a with
      | inl p => rw [ht] at h; cases h
      | inr u =>
        rw [ht] at h
        have tk := tcel_ok ha ht
        simp only [] at h
        by_cases cb : tbad first cs u.1
        · rw [tpif cb] at h; cases h
        · rw [fpif cb] at h
          by_cases c4 : isC f n u.2.2 44 = true
          · rw [if_pos c4] at h
            have ih := tln_len e (u.2.2 + 1) (k + 1) _ q (by omega) (by omega) h
            rw [List.length_append, List.length_singleton] at ih
            obtain ⟨i1, i2, i3, i4, i5⟩ := ih
            exact ⟨by omega, i2, by omega, by omega, fun hh => by have := i5 hh; omega⟩
          · rw [if_neg c4] at h
            by_cases cc : first = false ∧ k + 1 < C
            · rw [if_pos cc] at h; cases h
            · rw [if_neg cc] at h
              cases h
              refine ⟨by show a < u.2.2 + 1; omega, by show u.2.2 + 1 ≤ n; omega, ?_, ?_, fun hh => ?_⟩
              · show cs.length < (cs ++ [_]).length
                rw [List.length_append, List.length_singleton]; omega
              · show (cs ++ [_]).length + k ≤ _
                rw [List.length_append, List.length_singleton]; omega
              · show (cs ++ [_]).length + k = _
                rw [List.length_append, List.length_singleton]
                have : ¬ k + 1 < C := fun q' => cc ⟨hh, q'⟩
                omega
/-- the lines behind the first -/
noncomputable def tls (C : Nat) (f : Nat → Int32) (n : Nat) : Nat → Nat → Nat → List (List Int32 × Bool) → Nat ⊕ (List (List Int32 × Bool) × Nat)
  | 0, a, _, _ => .inl a
  | e + 1, a, L, cs => if a < n then (if L = 500 then .inl a else match tln false C f n (n + 1 - a) a 0 cs with
    | .inl p => .inl p
    | .inr q => tls C f n e q.2 (L + 1) q.1) else .inr (cs, L)
/-- a table's text: where it is wrong, or how many columns, how many rows, the cells -/
noncomputable def ttx (f : Nat → Int32) (n : Nat) : Nat ⊕ (Nat × Nat × List (List Int32 × Bool)) := match tln true 16 f n (n + 1) 0 0 [] with
  | .inl p => .inl p
  | .inr q => match tls q.1.length f n (n + 1) q.2 1 q.1 with
    | .inl p => .inl p
    | .inr r => .inr (q.1.length, r.2 - 1, r.1)
theorem E_lines {f : Nat → Int32} {n C : Nat} (hC : C ≤ 16) : ∀ (e N a L : Nat) (cs : List (List Int32 × Bool)) (M : Mem), n + 1 ≤ a + e → TC M f n a cs → cI M 1037 780 = iw (C : Int) → cs.length = C * L → 1 ≤ L → L ≤ 500 → match tls C f n e a L cs with
    | .inl p => ∃ M1, F_X11_read_b46 (N + 1 + e) M 1037 (iw (L : Int)) = some (.inr (1003, eT M1 20 (iw (p : Int)))) ∧ SE M M1
    | .inr r => ∃ M1, F_X11_read_b46 (N + 1 + e) M 1037 (iw (L : Int)) = (tb (F_X11_make M1 1037 (iw ((r.2 - 1 : Nat) : Int))) fun z => some (.inl (z.1, z.2))) ∧ TC M1 f n n r.1 ∧ SE M M1 ∧ r.1.length = C * r.2 ∧ 1 ≤ r.2 ∧ r.2 ≤ 500
  | 0, N, a, L, cs, M, he, t, _, _, _, _ => by have := t.1.2.2.2.2.2.1; omega
  | e + 1, N, a, L, cs, M, he, t, h80, hl, hL, hL5 => by
    have hS := t.1.1
    have hna := t.1.2.2.2.2.2.1
    have hn := t.1.2.2.2.1
    have hs : F_X11_read_b46 (N + 1 + (e + 1)) M 1037 (iw (L : Int)) = F_X11_read_b46_st (F_X11_read_b46 (N + 1 + e)) M 1037 (iw (L : Int)) := rfl
    have hxN : xN = 1099511627776 := rfl
    unfold tls
    rw [hs]
    unfold F_X11_read_b46_st
    simp only [g1037_774, g1037_773, hS, t.1.2.2.2.2.1, t.1.2.2.1, Option.bind_some]
    by_cases c : a < n
    · rw [if_pos c, if_pos (show iw (a : Int) < iw (n : Int) by rw [iw_le4 (by omega) (by omega)]; exact c)]
      by_cases c5 : L = 500
      · rw [if_pos c5, if_pos (show iw (L : Int) = 500 by rw [c5]; rfl)]
        exact ⟨M, E_wrongT hS _, ⟨hS, Df.refl _ _ _ _, rfl, rfl⟩⟩
      · rw [if_neg c5, if_neg (show ¬ iw (L : Int) = 500 by rw [show (500 : Int32) = iw ((500 : Nat) : Int) from rfl, iw_eq (by omega) (by omega) (by omega) (by omega)]; omega)]
        have hCL : C * L + C ≤ 8000 := by
          have h1 : C * (L + 1) ≤ 16 * 500 := Nat.mul_le_mul hC (by omega)
          rw [Nat.mul_add, Nat.mul_one] at h1
          exact h1
        obtain ⟨K, hK⟩ : ∃ K, K + 1 + (n + 1 - a) = xN := ⟨xN - 1 - (n + 1 - a), by omega⟩
        have el := E_line_l (f := f) (n := n) (C := C) (B := C * L) (first := false) hC hCL (n + 1 - a) K a 0 cs M (by omega) t h80 (by omega) (by omega) (fun h => by cases h)
        rw [hK] at el
        have hline : F_X11_line M 1037 0 = F_X11_line_b7 xN M 1037 (mr false) (iw ((C * L : Nat) : Int)) 1 := by
          unfold F_X11_line
          rw [g1037_779 hS, t.2.1, hl, Option.bind_some]
          rfl
        rw [← hline] at el
        simp only [v1037, hS, Option.bind_some]
        cases ht : tln false C f n (n + 1 - a) a 0 cs with
        | inl p =>
          rw [ht] at el
          obtain ⟨M1, f1, f2⟩ := el
          refine ⟨M1, ?_, f2⟩
          rw [f1]
          rfl
        | inr q =>
          rw [ht] at el
          obtain ⟨M1, f1, f2, f3⟩ := el
          obtain ⟨l1, l2, l3, l4, l5⟩ := tln_len _ _ _ _ _ hna (Nat.zero_le _) ht
          have l6 := l5 rfl
          have ih := E_lines (f := f) (n := n) (C := C) hC e N q.2 (L + 1) q.1 M1 (by omega) f2 ((f3.c80 hS).trans h80) (by rw [Nat.mul_add, Nat.mul_one]; omega) (by omega) (by omega)
          simp only []
          rw [f1, tb_l, iw_succ]
          generalize tls C f n e q.2 (L + 1) q.1 = u at ih ⊢
          rcases u with p | u
          · obtain ⟨M2, i1, i2⟩ := ih
            exact ⟨M2, i1, f3.trans i2⟩
          · obtain ⟨M2, i1, i2, i3, i4⟩ := ih
            exact ⟨M2, i1, i2, f3.trans i3, i4⟩
    · rw [if_neg c, if_neg (show ¬ iw (a : Int) < iw (n : Int) by rw [iw_le4 (by omega) (by omega)]; exact c)]
      have e1 : iw (L : Int) - 1 = iw ((L - 1 : Nat) : Int) := by rw [show (1 : Int32) = iw ((1 : Nat) : Int) from rfl, iw_nsub hL]
      have e2 : a = n := by omega
      refine ⟨M, ?_, by rw [← e2]; rw [← e2] at t; exact t, ⟨hS, Df.refl _ _ _ _, rfl, rfl⟩, hl, hL, hL5⟩
      simp only [v1037, hS, Option.bind_some]
      rw [e1]
