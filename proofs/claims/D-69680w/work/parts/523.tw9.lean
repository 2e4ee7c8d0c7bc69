/-! ===== TABLES, 9: the engine reads a text ===== -/
def pTd : Nat → Nat → Prop := fun x i => pTC x i ∨ (x = 1037 ∧ (i = 773 ∨ i = 780))
def rTd : Nat → Nat → Prop := fun x i => x = 1037 ∧ i = 772
def SF (M M' : Mem) : Prop := ST M' ∧ Df pTd n2 rTd M M' ∧ m_nx M' = m_nx M ∧ m_sl M' = m_sl M
theorem SE.sf {M N : Mem} (s : SE M N) : SF M N := ⟨s.1, s.2.1.mono (fun _ _ q => Or.inl q) (fun _ _ q => q) (fun _ _ q => q.elim), s.2.2⟩
theorem SF.trans {M N O : Mem} (s : SF M N) (t : SF N O) : SF M O := ⟨t.1, s.2.1.trans t.2.1, t.2.2.1.trans s.2.2.1, t.2.2.2.trans s.2.2.2⟩
theorem rTd_st : ∀ p ∈ stR, ¬ rTd p.1 p.2.1 := by
  have h : stR.all (fun p => !(p.1 == 1037 && p.2.1 == 772)) = true := by decide +kernel
  intro p hp q
  have k := List.all_eq_true.mp h p hp
  rw [q.1, q.2] at k
  cases k
theorem E_readT {M : Mem} {f : Nat → Int32} {n : Nat} (h : ST M) (hn : n ≤ 16000) (hf : ∀ i, i < n → cI M 1001 i = f i ∧ bt (f i)) : match ttx f n with
    | .inl p => ∃ M1, F_X11_read M 1037 1001 (iw (n : Int)) = some (.inr (1003, eT M1 20 (iw (p : Int)))) ∧ SF M M1
    | .inr r => ∃ M1, F_X11_read M 1037 1001 (iw (n : Int)) = (tb (F_X11_make M1 1037 (iw (r.2.1 : Int))) fun z => some (.inl (z.1, z.2))) ∧ TC M1 f n n r.2.2 ∧ cI M1 1037 780 = iw (r.1 : Int) ∧ SF M M1 ∧ r.2.2.length = r.1 * (r.2.1 + 1) ∧ 1 ≤ r.1 ∧ r.1 ≤ 16 ∧ r.2.1 < 500 := by
  have hxN : xN = 1099511627776 := rfl
  obtain ⟨A1, hA1⟩ : ∃ A, A = wR M 1037 772 1001 := ⟨_, rfl⟩
  have d1 : Df pTd n2 rTd M A1 := by rw [hA1]; exact Df.wR _ ⟨rfl, rfl⟩
  have s1 : ST A1 := h.df d1 rTd_st
  obtain ⟨A2, hA2⟩ : ∃ A, A = wI A1 1037 773 (iw (n : Int)) := ⟨_, rfl⟩
  obtain ⟨A3, hA3⟩ : ∃ A, A = wI A2 1037 774 0 := ⟨_, rfl⟩
  obtain ⟨A4, hA4⟩ : ∃ A, A = wI A3 1037 776 0 := ⟨_, rfl⟩
  obtain ⟨A5, hA5⟩ : ∃ A, A = wI A4 1037 779 0 := ⟨_, rfl⟩
  obtain ⟨A, hA⟩ : ∃ A, A = wI A5 1037 780 16 := ⟨_, rfl⟩
  have s2 : ST A2 := by rw [hA2]; exact s1
  have s3 : ST A3 := by rw [hA3]; exact s2
  have s4 : ST A4 := by rw [hA4]; exact s3
  have s5 : ST A5 := by rw [hA5]; exact s4
  have sA : ST A := by rw [hA]; exact s5
  have dA : Df pTd n2 rTd M A := by
    rw [hA, hA5, hA4, hA3, hA2]
    exact ((((d1.trans (Df.wI _ (Or.inr ⟨rfl, Or.inl rfl⟩))).trans (Df.wI _ (Or.inl (Or.inl ⟨rfl, Or.inl rfl⟩)))).trans (Df.wI _ (Or.inl (Or.inl ⟨rfl, Or.inr (Or.inl rfl)⟩)))).trans (Df.wI _ (Or.inl (Or.inl ⟨rfl, Or.inr (Or.inr rfl)⟩)))).trans (Df.wI _ (Or.inr ⟨rfl, Or.inr rfl⟩))
  have fA : SF M A := ⟨sA, dA, by rw [hA, hA5, hA4, hA3, hA2, hA1]; rfl, by rw [hA, hA5, hA4, hA3, hA2, hA1]; rfl⟩
  have c780 : cI A 1037 780 = iw ((16 : Nat) : Int) := by rw [hA, cI_wI, if_pos ⟨rfl, rfl⟩]; rfl
  have c779 : cI A 1037 779 = iw ((0 : Nat) : Int) := by rw [hA, cI_wI, if_neg (by omega), hA5, cI_wI, if_pos ⟨rfl, rfl⟩]; rfl
  have c776 : cI A 1037 776 = iw ((0 : Nat) : Int) := by rw [hA, cI_wI, if_neg (by omega), hA5, cI_wI, if_neg (by omega), hA4, cI_wI, if_pos ⟨rfl, rfl⟩]; rfl
  have c774 : cI A 1037 774 = iw ((0 : Nat) : Int) := by rw [hA, cI_wI, if_neg (by omega), hA5, cI_wI, if_neg (by omega), hA4, cI_wI, if_neg (by omega), hA3, cI_wI, if_pos ⟨rfl, rfl⟩]; rfl
  have c773 : cI A 1037 773 = iw (n : Int) := by rw [hA, cI_wI, if_neg (by omega), hA5, cI_wI, if_neg (by omega), hA4, cI_wI, if_neg (by omega), hA3, cI_wI, if_neg (by omega), hA2, cI_wI, if_pos ⟨rfl, rfl⟩]
  have c772 : cR A 1037 772 = 1001 := by
    rw [hA, hA5, hA4, hA3, hA2]
    show cR A1 1037 772 = 1001
    rw [hA1, cR_wR, if_pos ⟨rfl, rfl⟩]
  have h0 := h.1
  have tA : TC A f n 0 [] := ⟨⟨sA, c772, c773, hn, c774, Nat.zero_le _, fun i hi => by rw [dA.cI (by omega) (by unfold pTd pTC; omega)]; exact hf i hi, c776, Nat.zero_le _, fun i hi => by cases hi⟩, c779, fun k hk => by cases hk⟩
  obtain ⟨K, hK⟩ : ∃ K, K + 1 + (n + 1) = xN := ⟨xN - 1 - (n + 1), by omega⟩
  have el := E_line_l (f := f) (n := n) (C := 16) (B := 0) (first := true) (by decide) (by decide) (n + 1) K 0 0 [] A (by omega) tA c780 rfl (by decide) (fun _ k hk => by cases hk)
  rw [hK] at el
  have hline : F_X11_line A 1037 1 = F_X11_line_b7 xN A 1037 (mr true) (iw ((0 : Nat) : Int)) 1 := by
    unfold F_X11_line
    rw [g1037_779 sA, c779, Option.bind_some]
    rfl
  rw [← hline] at el
  have hd : F_X11_read M 1037 1001 (iw (n : Int)) = tb (F_X11_line A 1037 1) fun z18 => (gi z18 1037 779).bind fun t19 => (pi z18 1037 780 t19).bind fun M20 => F_X11_read_b46 xN M20 1037 1 := by
    unfold F_X11_read
    simp only [p1037_772, p1037_773, p1037_774, p1037_776, p1037_779, p1037_780, v1037, h, s1, s2, s3, s4, s5, sA, ← hA1, ← hA2, ← hA3, ← hA4, ← hA5, ← hA, Option.bind_some]
  rw [hd]
  unfold ttx
  cases ht : tln true 16 f n (n + 1) 0 0 [] with
  | inl p =>
    rw [ht] at el
    obtain ⟨M1, f1, f2⟩ := el
    refine ⟨M1, ?_, fA.trans f2.sf⟩
    rw [f1]
    rfl
  | inr q =>
    rw [ht] at el
    obtain ⟨M1, f1, f2, f3⟩ := el
    obtain ⟨l1, l2, l3, l4, l5⟩ := tln_len _ _ _ _ _ (Nat.zero_le _) (Nat.zero_le _) ht
    simp only [List.length_nil] at l3 l4
    have hS1 := f2.1.1
    obtain ⟨B, hB⟩ : ∃ B, B = wI M1 1037 780 (iw (q.1.length : Nat)) := ⟨_, rfl⟩
    have fB : SF M1 B := by rw [hB]; exact ⟨hS1, Df.wI _ (Or.inr ⟨rfl, Or.inr rfl⟩), rfl, rfl⟩
    have tB : TC B f n q.2 q.1 := by
      rw [hB]
      refine ⟨f2.1.w (by decide) (by decide) (fun _ => by decide), by rw [cI_wI, if_neg (by omega)]; exact f2.2.1, fun k hk => ?_⟩
      rw [cI_wI, if_neg (by omega), cI_wI, if_neg (by omega)]
      exact f2.2.2 k hk
    have b80 : cI B 1037 780 = iw (q.1.length : Nat) := by rw [hB, cI_wI, if_pos ⟨rfl, rfl⟩]
    have ih := E_lines (f := f) (n := n) (C := q.1.length) (by omega) (n + 1) K q.2 1 q.1 B (by omega) tB b80 (by omega) (by decide) (by decide)
    rw [hK] at ih
    rw [f1, tb_l]
    simp only [g1037_779, p1037_780, hS1, f2.2.1, ← hB, Option.bind_some]
    cases hl : tls q.1.length f n (n + 1) q.2 1 q.1 with
    | inl p =>
      rw [hl] at ih
      obtain ⟨M2, i1, i2⟩ := ih
      exact ⟨M2, i1, fA.trans (f3.sf.trans (fB.trans i2.sf))⟩
    | inr r =>
      rw [hl] at ih
      obtain ⟨M2, i1, i2, i3, i4, i5, i6⟩ := ih
      exact ⟨M2, i1, i2, (i3.c80 tB.1.1).trans b80, fA.trans (f3.sf.trans (fB.trans i3.sf)), by show r.1.length = q.1.length * (r.2 - 1 + 1); rw [show r.2 - 1 + 1 = r.2 by omega]; exact i4, by show 1 ≤ q.1.length; omega, by show q.1.length ≤ 16; omega, by show r.2 - 1 < 500; omega⟩
