/-! ===== TABLES, 3: the model reads a word, whole ===== -/
theorem qtd_len {f : Nat → Int32} {n : Nat} : ∀ (e a : Nat) (x : List Int32) (q : List Int32 × Nat), qtd f n e a x = .inr q → q.1.length + a + 1 ≤ q.2 + x.length ∧ a < q.2 ∧ q.2 ≤ n
  | 0, a, x, q, h => by cases h
  | e + 1, a, x, q, h => by
    unfold qtd at h
    by_cases c : tch f n a = true
    · have k := tch_t.mp c
      rw [if_pos c] at h
      by_cases c2 : isC f n a 34 = true
      · rw [if_pos c2] at h
        by_cases c3 : isC f n (a + 1) 34 = true
        · rw [if_pos c3] at h
          have ih := qtd_len e (a + 2) _ q h
          rw [List.length_append, List.length_singleton] at ih
          omega
        · rw [if_neg c3] at h
          cases h
          exact ⟨by show x.length + a + 1 ≤ a + 1 + x.length; omega, by show a < a + 1; omega, by show a + 1 ≤ n; omega⟩
      · rw [if_neg c2] at h
        have ih := qtd_len e (a + 1) _ q h
        rw [List.length_append, List.length_singleton] at ih
        omega
    · rw [if_neg c] at h
      cases h
theorem sgs_len (f : Nat → Int32) (a k : Nat) : (sgs f a k).length = k := by unfold sgs; rw [List.length_map, List.length_range]
/-- a word's length and end -/
theorem wrd_len {f : Nat → Int32} {n a : Nat} {x : List Int32} {b : Bool} {p : Nat} (ha : a ≤ n) (h : wrd f n a = .inr (x, b, p)) : x.length + a ≤ p ∧ p ≤ n := by
  unfold wrd at h
  by_cases c : isC f n a 34 = true
  · rw [if_pos c] at h
    cases hq : qtd f n (n - a) (a + 1) [] with
    | inl q => rw [hq] at h; cases h
    | inr q =>
      rw [hq] at h
      have k := qtd_len _ _ _ _ hq
      cases h
      exact ⟨by have := k.1; show q.1.length + a ≤ q.2; simp only [List.length_nil] at this; omega, k.2.2⟩
  · rw [if_neg c] at h
    cases h
    have k := unq_le (f := f) (n := n) (n - a) a
    rw [sgs_len]
    exact ⟨by omega, k.2 ha⟩
/-- a word in marks -/
theorem M_qtd {M0 : Mem} {f : Nat → Int32} {n o s : Nat} : ∀ (e N a : Nat) (x : List Int32) (M : Mem), n + 1 ≤ a + e → x.length ≤ a → WI M0 M o s f n a x → match qtd f n e a x with
    | .inl p => ∃ M' y, F_X53_word_b137 (N + 1 + e) M o s 1 = F_X53_word_b180 M' o ∧ WI M0 M' o s f n p y ∧ y.length ≤ p ∧ cI M' o 3460 = cI M o 3460
    | .inr q => ∃ M', F_X53_word_b137 (N + 1 + e) M o s 1 = F_X53_word_b120 M' s ∧ WI M0 M' o s f n q.2 q.1 ∧ cI M' o 3460 = cI M o 3460
  | 0, N, a, x, M, he, hx, w => by have := w.1.2.2.2.2.2.2.2.1; omega
  | e + 1, N, a, x, M, he, hx, w => by
    have t := w.1
    have h1 := t.2.2.2.2.2.1
    have h2 := t.2.2.2.2.2.2.2.1
    have hs : F_X53_word_b137 (N + 1 + (e + 1)) M o s 1 = F_X53_word_b137_st (F_X53_word_b137 (N + 1 + e)) M o s 1 := rfl
    have n1 : ¬ (1 : Int32) = 0 := by decide
    have hlx : ∀ v : Int32, (x ++ [v]).length = x.length + 1 := fun v => by rw [List.length_append, List.length_singleton]
    unfold qtd
    rw [hs]
    unfold F_X53_word_b137_st F_X53_word_b256
    rw [if_neg n1]
    simp only [t.gn, t.gs, t.gt, t.vg, Option.bind_some]
    by_cases c0 : a < n
    · have tb := t.bt c0
      rw [if_neg (show ¬ iw (a : Int) = iw (n : Int) by rw [iw_eq (by omega) (by omega) (by omega) (by omega)]; omega)]
      simp only [t.ab c0, Option.bind_some]
      by_cases c : tch f n a = true
      · obtain ⟨k1, k2, k3⟩ := tch_t.mp c
        have c1 : ¬ f a < 32 := fun q => (bt_lo tb).mp q ⟨k2, by omega⟩
        have i34 : f a = 34 ↔ isC f n a 34 = true := (bt_ch tb (c := 34) (by decide)).trans ⟨fun q => isC_t.mpr ⟨c0, q⟩, fun q => (isC_t.mp q).2⟩
        rw [if_pos c, if_neg c1, if_neg (fun q => (bt_hi tb c1).mp q k3)]
        obtain ⟨M1, p1, p2, p3⟩ := w.go c0
        simp only [p1, Option.bind_some]
        by_cases c2 : isC f n a 34 = true
        · rw [if_pos c2, if_pos (i34.mpr c2)]
          have hi : F_X53_is M1 o (34 : Int32) = some (mr (isC f n (a + 1) 34)) := M_tis p2.1 (c := 34) (by decide)
          simp only [p2.1.vg, hi, Option.bind_some]
          by_cases c3 : isC f n (a + 1) 34 = true
          · have k4 := (isC_t.mp c3).1
            have hm : ¬ mr (isC f n (a + 1) 34) = 0 := by rw [c3]; decide
            have fa : f (a + 1) = 34 := (bt_ch (p2.1.bt k4) (c := 34) (by decide)).mpr (isC_t.mp c3).2
            rw [if_pos c3, if_neg hm]
            have asc34 : asc (34 : Int32) := ⟨34, by decide, rfl⟩
            obtain ⟨M2, m1, m2, m3, m4⟩ := p2.app asc34 (by omega)
            obtain ⟨M3, q1, q2, q3⟩ := m2.go k4
            simp only [m4, m1, m2.1.gn, q1, Option.bind_some]
            rw [fa]
            have ih := M_qtd (M0 := M0) (f := f) (n := n) (o := o) (s := s) e N (a + 2) (x ++ [34]) M3 (by omega) (by rw [hlx]; omega) q2
            generalize qtd f n e (a + 2) (x ++ [34]) = u at ih ⊢
            rcases u with p | q
            · obtain ⟨M', y, f1, f2, f3, f4⟩ := ih
              exact ⟨M', y, f1, f2, f3, f4.trans (q3.trans (m3.trans p3))⟩
            · obtain ⟨M', f1, f2, f3⟩ := ih
              exact ⟨M', f1, f2, f3.trans (q3.trans (m3.trans p3))⟩
          · have hm : mr (isC f n (a + 1) 34) = 0 := by rw [Bool.eq_false_iff.mpr c3]; rfl
            rw [if_neg c3, if_pos hm]
            refine ⟨M1, ?_, p2, p3⟩
            rw [show N + 1 + e = N + e + 1 by omega]
            show F_X53_word_b137_st (F_X53_word_b137 (N + e)) M1 o s 0 = _
            unfold F_X53_word_b137_st
            rw [if_pos rfl]
            rfl
        · rw [if_neg c2, if_neg (fun q => c2 (i34.mp q))]
          have ha := bt_asc tb k3
          obtain ⟨M2, m1, m2, m3, m4⟩ := p2.app ha (by omega)
          simp only [m4, ha.ok.2.1, m1, Option.bind_some]
          have ih := M_qtd (M0 := M0) (f := f) (n := n) (o := o) (s := s) e N (a + 1) (x ++ [f a]) M2 (by omega) (by rw [hlx]; omega) m2
          generalize qtd f n e (a + 1) (x ++ [f a]) = u at ih ⊢
          rcases u with p | q
          · obtain ⟨M', y, f1, f2, f3, f4⟩ := ih
            exact ⟨M', y, f1, f2, f3, f4.trans (m3.trans p3)⟩
          · obtain ⟨M', f1, f2, f3⟩ := ih
            exact ⟨M', f1, f2, f3.trans (m3.trans p3)⟩
      · rw [if_neg c]
        refine ⟨M, x, ?_, w, hx, rfl⟩
        by_cases c1 : f a < 32
        · rw [if_pos c1]
        · have c1' : 32 ≤ bn (f a) ∧ bn (f a) ≤ 127 := Classical.byContradiction (fun q => c1 ((bt_lo tb).mpr q))
          rw [if_neg c1, if_pos ((bt_hi tb c1).mpr (fun q => c (tch_t.mpr ⟨c0, c1'.1, q⟩)))]
    · rw [if_neg (fun q => c0 (tch_t.mp q).1)]
      refine ⟨M, x, ?_, w, hx, rfl⟩
      rw [if_pos (by rw [show a = n by omega])]
theorem fit_3460 (b : Bool) : x_fit (x_ft 3460) (mr b) = true := by cases b <;> decide
/-- what reading a word leaves -/
def WDr (M M' : Mem) (o r : Nat) (f : Nat → Int32) (n : Nat) (x : List Int32) (b : Bool) (p : Nat) : Prop := SB M' r x ∧ m_tg M' r = 76 ∧ m_nx M ≤ r ∧ r < m_nx M' ∧ m_nx M ≤ cR M' r 4864 ∧ cR M' r 4864 < m_nx M' ∧ TR M' o f n p ∧ cI M' o 3460 = mr b ∧ Df (pO o) n2 n2 M M' ∧ m_nx M' ≤ m_nx M + 4 + 2 * x.length ∧ m_sl M' ≤ m_sl M + 5 * x.length + 60
theorem WI.end {M0 M : Mem} {o s n p : Nat} {f : Nat → Int32} {x : List Int32} {b : Bool} (w : WI M0 M o s f n p x) (hx : x.length ≤ 60000) (hb : cI M o 3460 = mr b) : ∃ M' r, F_X53_word_b120 M s = some (.inl (r, M')) ∧ WDr M0 M' o r f n x b p := by
  obtain ⟨t, hS, h1, h2, h3, d, ds, c, B, b1, b2, b3, b4⟩ := w
  have nn := d.1
  obtain ⟨M', f1, f2, f3, f4, f5, f6, f7⟩ := B.str (by omega) (by omega)
  have d' : Df (pO o) n2 n2 M0 M' := d.trans (f5.mono (fun _ _ q => q.elim) (fun _ _ q => q) (fun _ _ q => q))
  have x75 : x_cn 75 ≤ 20 := by decide
  have x76 : x_cn 76 ≤ 20 := by decide
  refine ⟨M', m_nx M, ?_, f2, f3, by omega, by omega, by rw [f4]; omega, by rw [f4]; omega, t.df f5 (hS.n d') (fun _ q => q) (fun _ q => q) (fun _ q => q), by rw [f5.cI t.1 (fun q => q)]; exact hb, d', by omega, by omega⟩
  unfold F_X53_word_b120
  rw [vg_of B.2.1 (by decide), Option.bind_some, f1]
  rfl
theorem M_tword {M : Mem} {o n a : Nat} {f : Nat → Int32} (t : TR M o f n a) (h0 : 1334 ≤ m_nx M) : match wrd f n a with
    | .inl p => ∃ M', F_X53_word M o = F_X53_word_b180 M' o ∧ TR M' o f n p ∧ Df (pO o) n2 n2 M M' ∧ m_nx M' ≤ m_nx M + 2 + 2 * n ∧ m_sl M' ≤ m_sl M + 4 * n + 40
    | .inr q => ∃ M' r, F_X53_word M o = some (.inl (r, M')) ∧ WDr M M' o r f n q.1 q.2.1 q.2.2 := by
  have hS := t.2.2.2.2.2.2.2.2.1
  have hn := t.2.2.2.2.2.1
  have hna := t.2.2.2.2.2.2.2.1
  have ho := t.1
  have x75 : x_cn 75 ≤ 20 := by decide
  obtain ⟨A, hA⟩ : ∃ A, A = mo M 75 := ⟨_, rfl⟩
  have dA : Df n2 n2 n2 M A := by rw [hA]; exact Df.new _ _
  have nA : m_nx A = m_nx M + 1 := by rw [hA]; rfl
  have sA : m_sl A = m_sl M + x_cn 75 := by rw [hA]; rfl
  have tA : m_tg A (m_nx M) = 75 := by rw [hA]; show m_tg (m_new M 75 _) _ = _; rw [tg_new, if_pos rfl]
  have cA : cI A (m_nx M) 4739 = 0 := by rw [hA]; show cI (m_new M 75 _) _ _ = _; rw [cI_new, if_pos rfl]
  obtain ⟨B, f1, f2, f3, f4, f5⟩ := BD.init2 (M := A) (a := m_nx M) (by omega) tA cA (by omega)
  have dB : Df n2 n2 n2 M B := dA.then f3 (fun y _ hy q => by unfold at1 at q; omega) (fun _ _ _ q => q) (fun y _ hy q => by unfold at1 at q; omega)
  have tB : TR B o f n a := t.df dB (hS.n dB) (fun _ q => q) (fun _ q => q) (fun _ q => q)
  have hi : F_X53_is B o (34 : Int32) = some (mr (isC f n a 34)) := M_tis tB (c := 34) (by decide)
  obtain ⟨C, hC⟩ : ∃ C, C = wI B o 3460 (mr (isC f n a 34)) := ⟨_, rfl⟩
  have cC : ∀ y i, ¬ (y = o ∧ i = 3460) → cI C y i = cI B y i := fun y i h => by rw [hC, cI_wI, if_neg (by omega)]
  have dC : Df (pO o) n2 n2 B C := by rw [hC]; exact Df.wI _ ⟨rfl, Or.inr rfl⟩
  have dMC : Df (pO o) n2 n2 M C := (dB.mono (fun _ _ q => q.elim) (fun _ _ q => q) (fun _ _ q => q)).trans dC
  have tC : TR C o f n a := by
    obtain ⟨t1, t2, t3, t4, t5, t6, t7, t8, t9, t10, t11⟩ := tB
    exact ⟨by rw [hC]; exact t1, by rw [hC]; exact t2, by rw [hC]; exact t3, by rw [hC]; exact t4, by rw [cC _ _ (by omega)]; exact t5, t6, by rw [cC _ _ (by omega)]; exact t7, t8, by rw [hC]; exact t9, fun i hi => by rw [cC _ _ (by omega)]; exact t10 i hi, t11⟩
  have nC : m_nx C = m_nx B := by rw [hC]; rfl
  have sC : m_sl C = m_sl B := by rw [hC]; rfl
  have w : WI M C o (m_nx M) f n a [] := ⟨tC, hS, Nat.le_refl _, ho, h0, dMC, m_nx A, 16, f2.df dC (fun i q => by have := q.1; omega) (fun i q => by have := q.1; omega) (fun q => q), by omega, by show 16 ≤ 16 + 2 * 0; omega, by omega, by omega⟩
  have c60 : cI C o 3460 = mr (isC f n a 34) := by rw [hC, cI_wI, if_pos ⟨rfl, rfl⟩]
  have g60 : gi C o 3460 = some (mr (isC f n a 34)) := by rw [gi_of tC.2.1 (show x_fi 54 3460 = true by decide), c60]
  have hxN : xN = 1099511627776 := rfl
  have hd : F_X53_word M o = if mr (isC f n a 34) = 0 then F_X53_word_b25 xN C o (m_nx M) else (gi C o 3459).bind fun t58 => (pi C o 3459 (t58 + (1 : Int32))).bind fun M59 => F_X53_word_b137 xN M59 o (m_nx M) (1 : Int32) := by
    unfold F_X53_word
    simp only [← hA, ng_of tA (by decide), f1, tB.vg, hi, pi_of _ tB.2.1 (show x_wi 54 3460 = true by decide) (fit_3460 _), ← hC, g60, Option.bind_some]
  rw [hd]
  unfold wrd
  by_cases c : isC f n a 34 = true
  · have ca := (isC_t.mp c).1
    have hm : ¬ mr (isC f n a 34) = 0 := by rw [c]; decide
    rw [if_pos c, if_neg hm]
    obtain ⟨D, p1, p2, p3⟩ := w.go ca
    simp only [tC.gn, p1, Option.bind_some]
    obtain ⟨N, hN⟩ : ∃ N, N + 1 + (n - a) = xN := ⟨xN - 1 - (n - a), by omega⟩
    rw [← hN]
    have ih := M_qtd (M0 := M) (f := f) (n := n) (o := o) (s := m_nx M) (n - a) N (a + 1) [] D (by omega) (Nat.zero_le _) p2
    cases hq : qtd f n (n - a) (a + 1) [] with
    | inl p =>
      rw [hq] at ih
      obtain ⟨M', y, g1, g2, g3, g4⟩ := ih
      obtain ⟨u1, u2, u3, u4, u5, u6, ds, cc, u7, u8, u9, u10, u11⟩ := g2
      have := u1.2.2.2.2.2.2.2.1
      exact ⟨M', g1, u1, u6, by omega, by omega⟩
    | inr q =>
      rw [hq] at ih
      obtain ⟨M', g1, g2, g3⟩ := ih
      have k := qtd_len _ _ _ _ hq
      have k1 := k.1
      simp only [List.length_nil] at k1
      obtain ⟨M2, r, e1, e2⟩ := g2.end (b := true) (by omega) (by rw [g3, p3, c60, c])
      exact ⟨M2, r, g1.trans e1, e2⟩
  · have hm : mr (isC f n a 34) = 0 := by rw [Bool.eq_false_iff.mpr c]; rfl
    rw [if_neg c, if_pos hm]
    obtain ⟨N, hN⟩ : ∃ N, N + 1 + (n - a) = xN := ⟨xN - 1 - (n - a), by omega⟩
    rw [← hN]
    obtain ⟨M', g1, g2, g3⟩ := M_unq (M0 := M) (f := f) (n := n) (o := o) (s := m_nx M) (n - a) N a [] C (by omega) (Nat.zero_le _) w
    have k := unq_le (f := f) (n := n) (n - a) a
    have k2 := k.2 hna
    rw [List.nil_append] at g2
    obtain ⟨M2, r, e1, e2⟩ := g2.end (b := false) (by rw [sgs_len]; omega) (by rw [g3, c60, Bool.eq_false_iff.mpr c])
    exact ⟨M2, r, g1.trans e1, e2⟩
