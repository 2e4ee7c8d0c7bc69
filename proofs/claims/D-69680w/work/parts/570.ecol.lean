/-! ===== TABLES, 66: the engine's column ===== -/
/-- the values of a column -/
noncomputable def colv (d : TD) (c r : Nat) : Int64 := if lan d.1 d.2.1 d.2.2.2 c = 8 then cwv d c r else cvl (lan d.1 d.2.1 d.2.2.2 c) (ccl d c r)
theorem lan_l {d : TD} {c : Nat} (h : ¬ lan d.1 d.2.1 d.2.2.2 c = 8) : Lq (lan d.1 d.2.1 d.2.2.2 c) ∧ ∀ r, r < d.2.1 → ¬ msg (ccl d c r) → okl (lan d.1 d.2.1 d.2.2.2 c) (ccl d c r) := by
  obtain ⟨l, hl⟩ : ∃ l, l = lan d.1 d.2.1 d.2.2.2 c := ⟨_, rfl⟩
  rw [← hl] at h ⊢
  unfold lan at hl
  by_cases c0 : ∃ r, r < d.2.1 ∧ ¬ msg (cl d.2.2.2 (d.1 * r + c))
  · rw [tpif c0] at hl
    by_cases c1 : ckl 0 d.1 d.2.1 d.2.2.2 c
    · rw [tpif c1] at hl
      rw [hl]; exact ⟨Or.inl rfl, c1⟩
    · rw [fpif c1] at hl
      by_cases c2 : ckl 4 d.1 d.2.1 d.2.2.2 c
      · rw [tpif c2] at hl
        rw [hl]; exact ⟨Or.inr (Or.inl rfl), c2⟩
      · rw [fpif c2] at hl
        by_cases c3 : ckl 5 d.1 d.2.1 d.2.2.2 c
        · rw [tpif c3] at hl
          rw [hl]; exact ⟨Or.inr (Or.inr (Or.inl rfl)), c3⟩
        · rw [fpif c3] at hl
          by_cases c4 : ckl 7 d.1 d.2.1 d.2.2.2 c
          · rw [tpif c4] at hl
            rw [hl]; exact ⟨Or.inr (Or.inr (Or.inr rfl)), c4⟩
          · rw [fpif c4] at hl
            exact absurd hl h
  · rw [fpif c0] at hl
    exact absurd hl h
section
variable {M : Mem} {Z : Nat → Prop} {W t c : Nat} {d : TD}
theorem TE.col (te : TE M Z W t d) (hd : d.1 ≤ 16) (hc : c < d.1) : gr M t 3398 = some (cR M t 3398) ∧ ai M (cR M t 3398) (iw (c : Int)) = some (lan d.1 d.2.1 d.2.2.2 c) := by
  obtain ⟨⟨-, a1⟩, -, -, -, -, ⟨a2, a3, a4⟩, a5⟩ := te
  refine ⟨?_, ?_⟩
  · unfold gr
    rw [a1]
    rfl
  · rw [ai_of a3 a4 hc (by omega), a5 c hc]
/-- lanes of numbers -/
theorem E_colN (h : ST M) (k0 : K0 M) (hW : W ≤ 65536) (g : GT d) (te : TE M Z W t d) (hZ : ∀ x, Z x → 1334 ≤ x ∧ x < m_nx M) (hc : c < d.1) (hl : ¬ lan d.1 d.2.1 d.2.2.2 c = 8) : ∃ A, F_X11_column_b14 xN M 1037 t (iw (c : Int)) 1057 0 = some A ∧ Df n2 (fun a _ => a = 1057) n2 M A ∧ (∀ r, r < d.2.1 → cJ A 1057 r = colv d c r) ∧ m_nx A = m_nx M ∧ m_sl A = m_sl M := by
  have h0 := h.1
  have hR := g.2.2.1
  obtain ⟨lq, lo1⟩ := lan_l hl
  have lo := upl0 (β := Option Mem) (σ := Unit) (fun N M _ i => F_X11_column_b14 N M 1037 t (iw (c : Int)) 1057 i) (n := d.2.1) (by omega) (fun j N _ => Df n2 (fun a _ => a = 1057) n2 M N ∧ (∀ r, r < j → cJ N 1057 r = colv d c r) ∧ m_nx N = m_nx M ∧ m_sl N = m_sl M) (fun K N _ i hi hJ => by
    obtain ⟨j1, j2, j3, j4⟩ := hJ
    have sN : ST N := h.df j1 n2_st
    have kN : K0 N := k0.df h j1 (fun _ _ _ q => q) (fun _ _ _ q => q)
    have teN : TE N Z W t d := te.df j1 (fun x hx => (hZ x hx).2) (fun _ _ _ q => q) (fun _ _ _ q => q) h0 (fun _ _ q => q)
    have tn := teN.c g sN kN hW
    have hk : d.1 * i + c < d.1 * d.2.1 := cr_lt hc hi
    obtain ⟨x1, x2⟩ := teN.col g.2.1 hc
    have ev := E_value tn hk lq (fun q => lo1 i hi q)
    obtain ⟨N1, hN1⟩ : ∃ N1, N1 = wJ N 1057 i (colv d c i) := ⟨_, rfl⟩
    have s1 : sj N 1057 (iw (i : Int)) (colv d c i) = some N1 := by rw [sj_of _ (t1057 sN) (l1057 sN) (show i < 100000 by omega) (by decide), ← hN1]
    have ec : cvl (lan d.1 d.2.1 d.2.2.2 c) (cl d.2.2.2 (d.1 * i + c)) = colv d c i := by unfold colv; rw [if_neg hl]; rfl
    refine ⟨N1, (), ?_, j1.trans (by rw [hN1]; exact Df.wJ _ rfl), fun r hr => ?_, by rw [hN1]; exact j3, by rw [hN1]; exact j4⟩
    · show F_X11_column_b14_st (F_X11_column_b14 K) N 1037 t (iw (c : Int)) 1057 (iw (i : Int)) = _
      unfold F_X11_column_b14_st
      rw [tn.g.1, Option.bind_some, if_pos (show iw (i : Int) < iw (d.2.1 : Int) by rw [iw_le4 (by omega) (by omega)]; exact hi)]
      simp only [v1037, sN, tn.g.2.1, x1, x2, iw_nml, iw_nad, ev, ec, s1, iw_succ, Option.bind_some]
    · rw [hN1, cJ_wJ]
      by_cases e : r = i
      · rw [if_pos ⟨rfl, e⟩, e]
      · rw [if_neg (by omega)]; exact j2 r (by omega)) (M := M) (s := ()) ⟨Df.refl _ _ _ _, fun i hi => by omega, rfl, rfl⟩
  obtain ⟨K, N, -, e1, j1, j2, j3, j4⟩ := lo
  have tn := (te.df j1 (fun x hx => (hZ x hx).2) (fun _ _ _ q => q) (fun _ _ _ q => q) h0 (fun _ _ q => q)).c g (h.df j1 n2_st) (k0.df h j1 (fun _ _ _ q => q) (fun _ _ _ q => q)) hW
  refine ⟨N, ?_, j1, j2, j3, j4⟩
  refine Eq.trans e1 ?_
  show F_X11_column_b14_st (F_X11_column_b14 K) N 1037 t (iw (c : Int)) 1057 (iw (d.2.1 : Int)) = _
  unfold F_X11_column_b14_st
  rw [tn.g.1, Option.bind_some, if_neg (show ¬ iw (d.2.1 : Int) < iw (d.2.1 : Int) by rw [iw_le4 (by omega) (by omega)]; omega)]
/-- the ranks -/
theorem E_colR (h : ST M) (k0 : K0 M) (hW : W ≤ 65536) (g : GT d) (te : TE M Z W t d) (hZ : ∀ x, Z x → 1334 ≤ x ∧ x < m_nx M) (hc : c < d.1) : ∃ A, F_X11_column_b57 xN M 1037 t (iw (c : Int)) 1057 0 = ((F_X7_sort A 1044 1047 (iw (d.2.1 : Int)) 5 0).bind fun z29 => F_X11_column_b112 xN z29 1037 t (iw (c : Int)) 1057 (-1) 0) ∧ Df n2 (fun a _ => a = 1047) n2 M A ∧ (∀ r, r < d.2.1 → cJ A 1047 r = rkv d c r) ∧ m_nx A = m_nx M ∧ m_sl A = m_sl M := by
  have h0 := h.1
  have hR := g.2.2.1
  have lo := upl0 (β := Option Mem) (σ := Unit) (fun N M _ i => F_X11_column_b57 N M 1037 t (iw (c : Int)) 1057 i) (n := d.2.1) (by omega) (fun j N _ => Df n2 (fun a _ => a = 1047) n2 M N ∧ (∀ r, r < j → cJ N 1047 r = rkv d c r) ∧ m_nx N = m_nx M ∧ m_sl N = m_sl M) (fun K N _ i hi hJ => by
    obtain ⟨j1, j2, j3, j4⟩ := hJ
    have sN : ST N := h.df j1 n2_st
    have kN : K0 N := k0.df h j1 (fun _ _ _ q => q) (fun _ _ _ q => q)
    have teN : TE N Z W t d := te.df j1 (fun x hx => (hZ x hx).2) (fun _ _ _ q => q) (fun _ _ _ q => q) h0 (fun _ _ q => q)
    have tn := teN.c g sN kN hW
    have ev := E_bef sN kN g hW teN hc hi
    obtain ⟨N1, hN1⟩ : ∃ N1, N1 = wJ N 1047 i (rkv d c i) := ⟨_, rfl⟩
    have s1 : sj N 1047 (iw (i : Int)) (rkv d c i) = some N1 := by rw [sj_of _ (t1047 sN) (l1047 sN) (show i < 500 by omega) (by decide), ← hN1]
    refine ⟨N1, (), ?_, j1.trans (by rw [hN1]; exact Df.wJ _ rfl), fun r hr => ?_, by rw [hN1]; exact j3, by rw [hN1]; exact j4⟩
    · show F_X11_column_b57_st (F_X11_column_b57 K) N 1037 t (iw (c : Int)) 1057 (iw (i : Int)) = _
      unfold F_X11_column_b57_st
      rw [tn.g.1, Option.bind_some, if_pos (show iw (i : Int) < iw (d.2.1 : Int) by rw [iw_le4 (by omega) (by omega)]; exact hi)]
      simp only [v1037, g1037_782, sN, ev, s1, iw_succ, Option.bind_some]
    · rw [hN1, cJ_wJ]
      by_cases e : r = i
      · rw [if_pos ⟨rfl, e⟩, e]
      · rw [if_neg (by omega)]; exact j2 r (by omega)) (M := M) (s := ()) ⟨Df.refl _ _ _ _, fun i hi => by omega, rfl, rfl⟩
  obtain ⟨K, N, -, e1, j1, j2, j3, j4⟩ := lo
  have sN := h.df j1 n2_st
  have tn := (te.df j1 (fun x hx => (hZ x hx).2) (fun _ _ _ q => q) (fun _ _ _ q => q) h0 (fun _ _ q => q)).c g sN (k0.df h j1 (fun _ _ _ q => q) (fun _ _ _ q => q)) hW
  refine ⟨N, ?_, j1, j2, j3, j4⟩
  refine Eq.trans e1 ?_
  show F_X11_column_b57_st (F_X11_column_b57 K) N 1037 t (iw (c : Int)) 1057 (iw (d.2.1 : Int)) = _
  unfold F_X11_column_b57_st
  rw [tn.g.1, Option.bind_some, if_neg (show ¬ iw (d.2.1 : Int) < iw (d.2.1 : Int) by rw [iw_le4 (by omega) (by omega)]; omega)]
  simp only [g1037_781, g1037_782, v1044, sN, Option.bind_some]
/-- the numbers -/
theorem E_colW {P : Nat → Nat} (h : ST M) (k0 : K0 M) (hW : W ≤ 65536) (g : GT d) (te : TE M Z W t d) (hZ : ∀ x, Z x → 1334 ≤ x ∧ x < m_nx M) (hc : c < d.1) (sr : SRk d c P) (hP : ∀ q, q < d.2.1 → cI M 1045 q = iw (P q : Nat)) (hK : ∀ r, r < d.2.1 → cJ M 1047 r = rkv d c r) : ∃ A, F_X11_column_b112 xN M 1037 t (iw (c : Int)) 1057 (-1) 0 = some A ∧ Df n2 (fun a _ => a = 1057) n2 M A ∧ (∀ r, r < d.2.1 → cJ A 1057 r = cwv d c r) ∧ m_nx A = m_nx M ∧ m_sl A = m_sl M := by
  have h0 := h.1
  have hR := g.2.2.1
  have n1 : ¬ (1 : Int32) = 0 := by decide
  have lo := upl0 (β := Option Mem) (σ := Int64) (fun N M x i => F_X11_column_b112 N M 1037 t (iw (c : Int)) 1057 x i) (n := d.2.1) (by omega) (fun j N x => x = nbv d c P j ∧ Df n2 (fun a _ => a = 1057) n2 M N ∧ (∀ q, q < j → cJ N 1057 (P q) = cwv d c (P q)) ∧ m_nx N = m_nx M ∧ m_sl N = m_sl M) (fun K N x i hi hJ => by
    obtain ⟨jx, j1, j2, j3, j4⟩ := hJ
    have sN : ST N := h.df j1 n2_st
    have kN : K0 N := k0.df h j1 (fun _ _ _ q => q) (fun _ _ _ q => q)
    have teN : TE N Z W t d := te.df j1 (fun x hx => (hZ x hx).2) (fun _ _ _ q => q) (fun _ _ _ q => q) h0 (fun _ _ q => q)
    have tn := teN.c g sN kN hW
    have hp := sr.1 i hi
    have at1 : ∀ q, q < d.2.1 → F_X7_at N 1044 (iw (q : Int)) = some (iw (P q : Nat)) := fun q hq => by
      unfold F_X7_at
      simp only [g1044_512, sN, ai_of (t1045 sN) (l1045 sN) (show q < 4096 by omega) (by decide), Option.bind_some, j1.cI (show 1045 < m_nx M by omega) (fun q => q), hP q hq]
    have al1 : ∀ q, q < d.2.1 → al N 1047 (iw (q : Int)) = some (rkv d c q) := fun q hq => by
      rw [al_of (t1047 sN) (l1047 sN) (show q < 500 by omega) (by decide), j1.cJ (by omega) (fun q => absurd q (by decide)), hK q hq]
    have hk : d.1 * P i + c < d.1 * d.2.1 := cr_lt hc hp
    obtain ⟨N1, hN1⟩ : ∃ N1, N1 = wJ N 1057 (P i) (cwv d c (P i)) := ⟨_, rfl⟩
    have s1 : sj N 1057 (iw (P i : Nat)) (cwv d c (P i)) = some N1 := by rw [sj_of _ (t1057 sN) (l1057 sN) (show P i < 100000 by omega) (by decide), ← hN1]
    refine ⟨N1, nbv d c P (i + 1), ?_, rfl, j1.trans (by rw [hN1]; exact Df.wJ _ rfl), fun q hq => ?_, by rw [hN1]; exact j3, by rw [hN1]; exact j4⟩
    · have en : nbv d c P (i + 1) = cwv d c (P i) := rfl
      rw [en, jx]
      show F_X11_column_b112_st (F_X11_column_b112 K) N 1037 t (iw (c : Int)) 1057 (nbv d c P i) (iw (i : Int)) = _
      unfold F_X11_column_b112_st F_X11_column_b190 F_X11_column_b196 F_X11_column_b202
      rw [tn.g.1, Option.bind_some, if_pos (show iw (i : Int) < iw (d.2.1 : Int) by rw [iw_le4 (by omega) (by omega)]; exact hi)]
      simp only [v1044, g1037_781, g1037_782, sN, at1 i hi, tn.g.2.1, tn.g.2.2, iw_nml, iw_nad, E_miss tn hk, iw_succ, Option.bind_some]
      by_cases cm : msg (cl d.2.2.2 (d.1 * P i + c))
      · have e0 := nbv_0 sr hi cm
        have e1 : cwv d c (P i) = -1 := by unfold cwv; rw [tpif (show msg (ccl d c (P i)) from cm)]
        rw [e1] at s1 ⊢
        rw [tpif cm, if_neg n1, s1, Option.bind_some, e0]
      · rw [fpif cm, if_pos rfl]
        cases i with
        | zero =>
          rw [if_pos (show iw ((0 : Nat) : Int) = 0 from rfl), ← nbv_f sr hi cm, s1, Option.bind_some]
        | succ i =>
          rw [if_neg (show ¬ iw ((i + 1 : Nat) : Int) = 0 by rw [show (0 : Int32) = iw ((0 : Nat) : Int) from rfl, iw_eq (by omega) (by omega) (by omega) (by omega)]; omega)]
          rw [show iw ((i + 1 : Nat) : Int) - (1 : Int32) = iw (i : Int) by rw [← iw_succ, Int32.add_sub_cancel]]
          simp only [at1 i (by omega), al1 _ (sr.1 i (by omega)), al1 _ (sr.1 (i + 1) hi), Option.bind_some]
          by_cases ce : rkv d c (P i) = rkv d c (P (i + 1))
          · rw [if_pos ce, ← nbv_e sr hi cm (by rw [← rkv_i hR, ← rkv_i hR, ce]), s1, Option.bind_some]
          · rw [if_neg ce, ← nbv_n sr hi cm (by rw [← rkv_i hR, ← rkv_i hR]; exact fun q => ce (Int64.toInt_inj.mp q)), s1, Option.bind_some]
    · rw [hN1, cJ_wJ]
      by_cases e : P q = P i
      · rw [if_pos ⟨rfl, e⟩, e]
      · rw [if_neg (fun k => e k.2)]
        exact j2 q (by
          have : q ≠ i := fun k => e (by rw [k])
          omega)) (M := M) (s := (-1 : Int64)) ⟨rfl, Df.refl _ _ _ _, fun i hi => by omega, rfl, rfl⟩
  obtain ⟨K, N, x, e1, jx, j1, j2, j3, j4⟩ := lo
  have sN := h.df j1 n2_st
  have tn := (te.df j1 (fun x hx => (hZ x hx).2) (fun _ _ _ q => q) (fun _ _ _ q => q) h0 (fun _ _ q => q)).c g sN (k0.df h j1 (fun _ _ _ q => q) (fun _ _ _ q => q)) hW
  refine ⟨N, ?_, j1, fun r hr => ?_, j3, j4⟩
  · refine Eq.trans e1 ?_
    show F_X11_column_b112_st (F_X11_column_b112 K) N 1037 t (iw (c : Int)) 1057 x (iw (d.2.1 : Int)) = _
    unfold F_X11_column_b112_st
    rw [tn.g.1, Option.bind_some, if_neg (show ¬ iw (d.2.1 : Int) < iw (d.2.1 : Int) by rw [iw_le4 (by omega) (by omega)]; omega)]
  · obtain ⟨q, q1, q2⟩ := sr.2.2 r hr
    rw [← q2]
    exact j2 q q1
theorem pOr_z {x i : Nat} (h : 1334 ≤ x) : ¬ pOr 1044 1045 1046 x i := fun q => by unfold pOr at q; omega
theorem E_column (h : ST M) (k0 : K0 M) (hW : W ≤ 65536) (g : GT d) (te : TE M Z W t d) (hZ : ∀ x, Z x → 1334 ≤ x ∧ x < m_nx M) (hc : c < d.1) : ∃ A, F_X11_column M 1037 t (iw (c : Int)) 1057 = some A ∧ Df (pp n2) qsc rsc M A ∧ (∀ r, r < d.2.1 → cJ A 1057 r = colv d c r) ∧ m_nx A = m_nx M ∧ m_sl A = m_sl M ∧ TE A Z W t d ∧ K0 A := by
  have h0 := h.1
  have hR := g.2.2.1
  obtain ⟨x1, x2⟩ := te.col g.2.1 hc
  unfold F_X11_column
  rw [x1, Option.bind_some, x2, Option.bind_some]
  have k45 : ∀ (P Q R : Nat → Nat → Prop) (X Y : Mem), ST X → K0 X → m_nx X = m_nx M → TE X Z W t d → Df P Q R X Y → (∀ a i, P a i → pOr 1044 1045 1046 a i) → (∀ a i, R a i → rOr 1044 a i) → TE Y Z W t d ∧ K0 Y := fun P Q R X Y sX kX nX tX dX hP hR => ⟨tX.df dX (fun x hx => by have := hZ x hx; omega) (fun x i q k => pOr_z (hZ x q).1 (hP x i k)) (fun x i q k => by have := hZ x q; have := hR x i k; unfold rOr at this; omega) sX.1 (fun i _ k => by have := hP _ i k; unfold pOr at this; omega), kX.df sX dX (fun a i q k => by have := hP a i k; unfold pOr at this; omega) (fun a i q k => by have := hR a i k; unfold rOr at this; omega)⟩
  by_cases hl : lan d.1 d.2.1 d.2.2.2 c = 8
  · rw [if_pos hl]
    obtain ⟨A, a1, a2, a3, a4, a5⟩ := E_colR h k0 hW g te hZ hc
    have sA : ST A := h.df a2 n2_st
    obtain ⟨tA, kA⟩ := k45 _ _ _ M A h k0 rfl te a2 (fun _ _ q => q.elim) (fun _ _ q => q.elim)
    have hx := E_sort (o := 1044) (pl := 1045) (ot := 1046) (row := 1047) (n := d.2.1) (kd := 5) (fl := 0) (v := rkv d c) sA (Or.inr ⟨rfl, rfl, rfl⟩) (by unfold Lk; simp) (Or.inl rfl) (by omega) ⟨t1047 sA, by rw [l1047 sA]; omega, by rw [l1047 sA]; decide⟩ (fun i hi => ⟨a3 i hi, vb5 _⟩)
    obtain ⟨B, b1, b2, b3, b4, b5, b6⟩ := hx
    obtain ⟨o1, o2, o3, o4, o5, o6, o7, o8, o9⟩ := b5
    obtain ⟨tB, kB⟩ := k45 _ _ _ A B sA kA a4 tA b4 (fun _ _ q => q) (fun _ _ q => q)
    obtain ⟨C, c1, c2, c3, c4, c5⟩ := E_colW (P := srt 0 5 (rkv d c) d.2.1) o1 kB hW g tB (fun x hx => by have := hZ x hx; omega) hc (srk_ok hR) o9 o8
    obtain ⟨tC, kC⟩ := k45 _ _ _ B C o1 kB (by omega) tB c2 (fun _ _ q => q.elim) (fun _ _ q => q.elim)
    refine ⟨C, by rw [a1, b1, Option.bind_some, c1], ?_, fun r hr => ?_, by omega, by omega, tC, kC⟩
    · have d1 : Df (pp n2) qsc rsc M A := a2.mono (fun _ _ q => q.elim) (fun a i q => by show a < 1334; omega) (fun _ _ q => q.elim)
      have d2 : Df (pp n2) qsc rsc A B := b4.mono (fun a i q => Or.inl (pOr_sc (Or.inr ⟨rfl, rfl, rfl⟩) a i q)) (fun _ _ q => q.elim) (rOr_st (pl := 1045) (ot := 1046) (Or.inr ⟨rfl, rfl, rfl⟩))
      have d3 : Df (pp n2) qsc rsc B C := c2.mono (fun _ _ q => q.elim) (fun a i q => by show a < 1334; omega) (fun _ _ q => q.elim)
      exact (d1.trans d2).trans d3
    · rw [c3 r hr]
      unfold colv
      rw [if_pos hl]
  · rw [if_neg hl]
    obtain ⟨A, a1, a2, a3, a4, a5⟩ := E_colN h k0 hW g te hZ hc hl
    obtain ⟨tA, kA⟩ := k45 _ _ _ M A h k0 rfl te a2 (fun _ _ q => q.elim) (fun _ _ q => q.elim)
    exact ⟨A, a1, a2.mono (fun _ _ q => q.elim) (fun a i q => by show a < 1334; omega) (fun _ _ q => q.elim), a3, a4, a5, tA, kA⟩
end
