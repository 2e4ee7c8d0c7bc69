/-! ===== TABLES, 10: the model reads a cell ===== -/
theorem SB.df {P Q R : Nat → Nat → Prop} {M N : Mem} {a : Nat} {x : List Int32} (s : SB M a x) (d : Df P Q R M N) (h1 : a < m_nx M) (h2 : cR M a 4864 < m_nx M) (hR : ¬ R a 4864) (hP : ¬ P a 4865) (hP2 : ∀ i, ¬ P (cR M a 4864) i) : SB N a x ∧ cR N a 4864 = cR M a 4864 := by
  obtain ⟨s1, s2, s3, s4, s5, s6⟩ := s
  have e := d.cR h1 hR
  have u := d.2.2 a h1
  have v := d.2.2 _ h2
  refine ⟨⟨by rw [u.1]; exact s1, by rw [d.cI h1 hP]; exact s2, by rw [e, v.1]; exact s3, by rw [e, v.2.1]; exact s4, s5, fun i hi => by rw [e, d.cI h2 (hP2 i)]; exact s6 i hi⟩, e⟩
theorem M_wrongT {α : Type} {M : Mem} {o n a : Nat} {f : Nat → Int32} (t : TR M o f n a) (x : Int32) : ((vg M o 54).bind fun _ => (F_X53_wrong M o x).bind fun z => (ie z.2 z.1).bind fun _ => (some (.inr (z.1, z.2)) : Option (α ⊕ (Nat × Mem)))) = some (.inr (m_nx M, mT M 1 x)) := by
  have hS := t.2.2.2.2.2.2.2.2.1
  have tm : m_tg (mT M 1 x) (m_nx M) = 64 := by
    show m_tg (m_new (wI (wI M 1075 1152 1) 1075 1153 x) 64 (x_cn 64)) (m_nx M) = 64
    exact tg_new.trans (if_pos rfl)
  unfold F_X53_wrong
  rw [t.vg, gr_of t.2.1 (show x_fr 54 3456 = true by decide), t.2.2.1]
  simp only [Option.bind_some, v1075, hS, M_at hS]
  unfold ie
  rw [if_pos tm]
  rfl
theorem M_mustEnd {M : Mem} {o n p : Nat} {f : Nat → Int32} (t : TR M o f n p) : F_X53_mustEnd M o = if (isC f n p 44 || isC f n p 10) = true then some (.inl M) else some (.inr (m_nx M, mT M 1 (iw (p : Int)))) := by
  have i44 : F_X53_is M o (44 : Int32) = some (mr (isC f n p 44)) := M_tis t (c := 44) (by decide)
  have i10 : F_X53_is M o (10 : Int32) = some (mr (isC f n p 10)) := M_tis t (c := 10) (by decide)
  have m0 : mr false = 0 := rfl
  have m1 : ¬ mr true = 0 := by decide
  unfold F_X53_mustEnd F_X53_mustEnd_b27
  rw [t.vg, Option.bind_some, i44, Option.bind_some]
  cases h4 : isC f n p 44 with
  | true => rw [if_neg m1]; rfl
  | false =>
    rw [if_pos m0, Option.bind_some, i10, Option.bind_some]
    cases h1 : isC f n p 10 with
    | true => rw [if_neg m1]; rfl
    | false =>
      have w := M_wrongT (α := Mem) t (iw (p : Int))
      rw [t.vg, Option.bind_some] at w
      rw [if_pos m0, t.gn, Option.bind_some, Option.bind_some, w]
      rfl
/-- a word and what must stand behind it -/
theorem M_tcel {α : Type} {M : Mem} {o n a : Nat} {f : Nat → Int32} (t : TR M o f n a) (h0 : 1334 ≤ m_nx M) (k : Mem → Nat → Option (α ⊕ (Nat × Mem))) : match tcel f n a with
    | .inl p => ∃ M1, (tb (F_X53_word M o) fun z => (vg z.2 o 54).bind fun _ => tb (F_X53_mustEnd z.2 o) fun y => k y z.1) = some (.inr (m_nx M1, mT M1 1 (iw (p : Int)))) ∧ ST M1 ∧ Df (pO o) n2 n2 M M1 ∧ m_nx M1 ≤ m_nx M + 4 + 2 * n ∧ m_sl M1 ≤ m_sl M + 5 * n + 60
    | .inr q => ∃ M1 r, (tb (F_X53_word M o) fun z => (vg z.2 o 54).bind fun _ => tb (F_X53_mustEnd z.2 o) fun y => k y z.1) = k M1 r ∧ WDr M M1 o r f n q.1 q.2.1 q.2.2 := by
  have w := M_tword t h0
  have hna := t.2.2.2.2.2.2.2.1
  unfold tcel
  cases hw : wrd f n a with
  | inl p =>
    rw [hw] at w
    obtain ⟨M1, f1, f2, f3, f4, f5⟩ := w
    refine ⟨M1, ?_, f2.2.2.2.2.2.2.2.2.1, f3, by omega, by omega⟩
    rw [f1]
    unfold F_X53_word_b180
    rw [f2.gn, Option.bind_some, M_wrongT f2]
    rfl
  | inr q =>
    rw [hw] at w
    obtain ⟨M1, r, f1, f2⟩ := w
    have wl := wrd_len (x := q.1) (b := q.2.1) (p := q.2.2) hna hw
    have T := f2.2.2.2.2.2.2.1
    simp only [] at f1 ⊢
    by_cases ce : (isC f n q.2.2 44 || isC f n q.2.2 10) = true
    · rw [if_pos ce]
      refine ⟨M1, r, ?_, f2⟩
      rw [f1, tb_l, T.vg, Option.bind_some, M_mustEnd T, if_pos ce]
      rfl
    · rw [if_neg ce]
      have r1 := f2.2.2.2.2.2.2.2.2.2.1
      have r2 := f2.2.2.2.2.2.2.2.2.2.2
      refine ⟨M1, ?_, T.2.2.2.2.2.2.2.2.1, f2.2.2.2.2.2.2.2.2.1, by omega, by omega⟩
      rw [f1, tb_l, T.vg, Option.bind_some, M_mustEnd T, if_neg ce]
      rfl
