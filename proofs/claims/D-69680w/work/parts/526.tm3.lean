/-! ===== TABLES, 12: the model takes a name ===== -/
theorem fit_3462 (v : Int32) : x_fit (x_ft 3462) v = true := rfl
theorem M_addn {M : Mem} {B o tb ln dn n p r b : Nat} {en : List Nat} {f : Nat → Int32} {ns : List (List Int32)} {w : List Int32} {k2 : Mem → Nat → Int32 → Option (Mem ⊕ (Nat × Mem))} {v2 : Int32} (h : MRn M B o tb ln dn en f n p ns) (hb : cI M o 3462 = iw (b : Int)) (hp : p < n) (hl : ns.length ≤ 15) (k4 : m_tg M 4 = 1091 ∧ m_ln M 4 = 0) (h0 : 1334 ≤ m_nx M)
    (w1 : SB M r w) (w2 : m_tg M r = 76) (w3 : B ≤ r) (w4 : r < m_nx M) (w5 : B ≤ cR M r 4864) (w6 : cR M r 4864 < m_nx M) :
    ∃ M' dn', F_X53_names_b114 k2 M o v2 r 0 = k2 M' o (mr (isC f n p 44)) ∧ MRn M' B o tb ln dn' (en ++ [r]) f n (p + 1) (ns ++ [w]) ∧ cI M' o 3462 = iw ((b + w.length : Nat) : Int) ∧ Df (fun x _ => x = o ∨ x = ln) n2 (fun x _ => x = ln ∨ (x = dn ∧ 1334 ≤ dn)) M M' ∧ m_nx M' ≤ m_nx M + 1 ∧ m_sl M' ≤ m_sl M + 50 ∧ (dn' = dn ∨ m_nx M ≤ dn') := by
  obtain ⟨g1, g2, g3, g4⟩ := h.gt
  obtain ⟨t, h1, h2, h3, h4, h5, h6, h7, h8, h9, h10⟩ := h
  have hto := t.2.1
  have ho := t.1
  have hS := t.2.2.2.2.2.2.2.2.1
  have tln := h5.2.1
  have hln := h5.1
  have hlen : en.length ≤ 15 := by have := h6.1; omega
  have tdn : 1334 ≤ dn → dn < m_nx M ∧ m_tg M dn = 1010 := fun q => by
    rcases h5.2.2.2.2 with e | e
    · have := e.2; omega
    · exact ⟨e.2.1, e.2.2.2.1⟩
  obtain ⟨A, dn', f1, f2, f3, f4, f5, f6⟩ := h5.add (v := r) h0 k4 (by omega) (Or.inr ⟨w4, by rw [w2]; decide⟩)
  have hPA : ∀ x i, x < m_nx M → at1 ln x i → m_tg M x ≠ 76 ∧ m_tg M x ≠ 1002 ∧ m_tg M x ≠ 1008 := fun x i hx q => by unfold at1 at q; rw [q, tln]; decide
  have hRA : ∀ x i, x < m_nx M → ((x = ln ∧ i = 4288) ∨ (x = dn ∧ 1334 ≤ dn)) → m_tg M x ≠ 76 := fun x i hx q => by
    rcases q with q | q
    · rw [q.1, tln]; decide
    · rw [q.1, (tdn q.2).2]; decide
  have oln : o ≠ ln := fun q => by rw [q, tln] at hto; cases hto
  have odn : 1334 ≤ dn → o ≠ dn := fun q e => by rw [e, (tdn q).2] at hto; cases hto
  have tln' : tb ≠ ln := fun q => by rw [q, tln] at h3; cases h3
  have tdn' : 1334 ≤ dn → tb ≠ dn := fun q e => by rw [e, (tdn q).2] at h3; cases h3
  have SA : ST A := hS.df f4 (fun q hq hr => by
    have hq2 := stR_lt q hq
    rcases hr with hr | hr
    · omega
    · omega)
  have tA : TR A o f n p := t.df f4 SA (fun i q => by rcases q with q | q; exact oln q.1; exact odn q.2 q.1) (fun i q => oln q) (fun i q => by unfold at1 at q; omega)
  have nA := f4.1
  have cA : cI A o 3462 = iw (b : Int) := by rw [f4.cI ho (fun q => oln q)]; exact hb
  obtain ⟨wA, wA2⟩ := w1.df f4 w4 w6 (fun q => hRA _ _ w4 q w2) (fun q => (hPA _ _ w4 q).1 w2) (fun i q => by
    have := hPA _ _ w6 q
    rcases w1.2.2.1 with e | e
    · exact this.2.2 e
    · exact this.2.1 e)
  obtain ⟨C, hC⟩ : ∃ C, C = wI A o 3462 (iw ((b + w.length : Nat) : Int)) := ⟨_, rfl⟩
  obtain ⟨E, hE⟩ : ∃ E, E = wI C o 3459 (iw ((p + 1 : Nat) : Int)) := ⟨_, rfl⟩
  have cC : ∀ y i, ¬ (y = o ∧ i = 3462) → cI C y i = cI A y i := fun y i q => by rw [hC, cI_wI, if_neg (by omega)]
  have cE : ∀ y i, ¬ (y = o ∧ (i = 3462 ∨ i = 3459)) → cI E y i = cI A y i := fun y i q => by rw [hE, cI_wI, if_neg (by omega), cC _ _ (by omega)]
  have tC : TR C o f n p := by
    obtain ⟨t1, t2, t3, t4, t5, t6, t7, t8, t9, t10, t11⟩ := tA
    exact ⟨by rw [hC]; exact t1, by rw [hC]; exact t2, by rw [hC]; exact t3, by rw [hC]; exact t4, by rw [cC _ _ (by omega)]; exact t5, t6, by rw [cC _ _ (by omega)]; exact t7, t8, by rw [hC]; exact t9, fun i hi => by rw [cC _ _ (by omega)]; exact t10 i hi, t11⟩
  have tE : TR E o f n (p + 1) := by
    obtain ⟨t1, t2, t3, t4, t5, t6, t7, t8, t9, t10, t11⟩ := tA
    exact ⟨by rw [hE, hC]; exact t1, by rw [hE, hC]; exact t2, by rw [hE, hC]; exact t3, by rw [hE, hC]; exact t4, by rw [cE _ _ (by omega)]; exact t5, t6, by rw [hE, cI_wI, if_pos ⟨rfl, rfl⟩], by omega, by rw [hE, hC]; exact t9, fun i hi => by rw [cE _ _ (by omega)]; exact t10 i hi, t11⟩
  have dAE : Df (fun x _ => x = o) n2 n2 A E := by rw [hE, hC]; exact (Df.wI (P := fun x _ => x = o) (Q := n2) (R := n2) _ rfl).trans (Df.wI _ rfl)
  have nE : m_nx E = m_nx A := by rw [hE, hC]; rfl
  have sE : m_sl E = m_sl A := by rw [hE, hC]; rfl
  have hi : F_X53_is C o (44 : Int32) = some (mr (isC f n p 44)) := M_tis tC (c := 44) (by decide)
  have uo := f4.2.2 o ho
  have ut := f4.2.2 tb h2
  have d : Df (fun x _ => x = o ∨ x = ln) n2 (fun x _ => x = ln ∨ (x = dn ∧ 1334 ≤ dn)) M E := (f4.mono (fun x i q => Or.inr q) (fun _ _ q => q) (fun x i q => q.elim (fun q => Or.inl q.1) Or.inr)).trans (dAE.mono (fun _ _ q => Or.inl q) (fun _ _ q => q) (fun _ _ q => q.elim))
  have NA : NMS A B en ns := h6.df f4 hPA hRA
  have uw := f4.2.2 r w4
  have NB : NMS A B (en ++ [r]) (ns ++ [w]) := NA.add wA (uw.1.trans w2) w3 (by omega) (by rw [wA2]; exact w5) (by rw [wA2]; omega)
  have NE : NMS E B (en ++ [r]) (ns ++ [w]) := NB.df dAE (fun x i hx q => by rw [q, tA.2.1]; decide) (fun x i hx q => q.elim)
  refine ⟨E, dn', ?_, ⟨tE, by rw [d.cR ho (by rintro (q | q); exact oln q; exact odn q.2 q.1)]; exact h1, by omega, by rw [hE, hC]; exact ut.1.trans h3, by rw [d.cR h2 (by rintro (q | q); exact tln' q; exact tdn' q.2 q.1)]; exact h4, f2.df dAE (fun q => oln q.symm) (fun q => q) (fun _ _ q => q), NE, h7, h8, h9, h10⟩, by rw [hE, cI_wI, if_neg (by omega), hC, cI_wI, if_pos ⟨rfl, rfl⟩], d, by omega, by omega, f3⟩
  unfold F_X53_names_b114
  rw [if_pos rfl]
  simp only [g1, g2, g3, f1, gi_of tA.2.1 (show x_fi 54 3462 = true by decide), cA, wA.vg, J_len wA, iw_nad, pi_of _ tA.2.1 (show x_wi 54 3462 = true by decide) (fit_3462 _), ← hC, tC.vg, hi, tC.gn, iw_succ, pi_of _ tC.2.1 (show x_wi 54 3459 = true by decide) (fit_3459 _), ← hE, Option.bind_some]
