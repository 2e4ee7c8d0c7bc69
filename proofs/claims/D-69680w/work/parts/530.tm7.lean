/-! ===== TABLES, 16: the model keeps a cell in its list ===== -/
theorem M_addc {M : Mem} {B o tb ln dn lc dc n p r bb : Nat} {en ec : List Nat} {f : Nat → Int32} {ns : List (List Int32)} {cs : List (List Int32 × Bool)} {w : List Int32} {b : Bool} (h : MRl M B o tb ln dn en lc dc ec f n p ns cs) (hb : cI M o 3462 = iw (bb : Int)) (hq : cI M o 3460 = mr b) (hl : ec.length ≤ 60000) (k4 : m_tg M 4 = 1091 ∧ m_ln M 4 = 0) (h0 : 1334 ≤ m_nx M) (hB : B ≤ m_nx M)
    (w1 : SB M r w) (w2 : m_tg M r = 76) (w3 : B ≤ r) (w4 : r < m_nx M) (w5 : B ≤ cR M r 4864) (w6 : cR M r 4864 < m_nx M) :
    ∃ A1 A2 A3 dc', F_X55_init (mo M 56) (m_nx M) r (mr b) = some A1 ∧ gi (mo M 56) o 3460 = some (mr b) ∧ ng (mo M 56) (m_nx M) = some () ∧ vg A1 lc 67 = some () ∧ F_J6_add A1 lc (m_nx M) = some (1, A2) ∧ gi A2 o 3462 = some (iw (bb : Int)) ∧ vg A2 r 76 = some () ∧ F_J15_length A2 r = some (iw (w.length : Nat)) ∧ pi A2 o 3462 (iw (bb : Int) + iw (w.length : Nat)) = some A3 ∧
      MRl A3 B o tb ln dn en lc dc' (ec ++ [m_nx M]) f n p ns (cs ++ [(w, b)]) ∧ cI A3 o 3462 = iw ((bb + w.length : Nat) : Int) ∧ Df (pTb B) n2 (pTb B) M A3 ∧ m_nx A3 ≤ m_nx M + 2 ∧ m_sl A3 ≤ m_sl M + (2 * ec.length + 10 + x_cn 56) := by
  obtain ⟨hn, h5, h6, h7, h8, h9, h10, h11⟩ := h
  have t := hn.1
  have ho := t.1
  have hto := t.2.1
  have hS := t.2.2.2.2.2.2.2.2.1
  have htb := hn.2.2.1
  have htt := hn.2.2.2.1
  have hAn := hn.2.2.2.2.2.1
  have hBo := hn.2.2.2.2.2.2.2.2.1
  have hB0 := hn.2.2.2.2.2.2.2.1
  have tlc := h6.2.1
  have hlc := h6.1
  obtain ⟨A1, f1, d1, n1, s1, t1, c1, r1, g1⟩ := M_mkcell (M := M) (r := r) (b := b)
  have S1 : ST A1 := hS.n d1
  have hn1 : MRn A1 B o tb ln dn en f n p ns := hn.df d1 S1 (fun _ _ _ q => q.elim) (fun _ _ _ q => q.elim) (fun _ q => q) (fun _ q => q) (fun q => q) (fun q => q) (fun _ _ q => q)
  have h61 : AL A1 lc dc ec := h6.df d1 (fun q => q) (fun q => q) (fun _ _ q => q)
  have h71 : CLS A1 B ec cs := h7.df d1 (fun _ _ _ q => q.elim) (fun _ _ _ q => q.elim)
  obtain ⟨w11, w12⟩ := w1.df d1 w4 w6 (fun q => q) (fun q => q) (fun _ q => q)
  have k41 : m_tg A1 4 = 1091 ∧ m_ln A1 4 = 0 := ⟨(d1.2.2 4 (by omega)).1.trans k4.1, (d1.2.2 4 (by omega)).2.1.trans k4.2⟩
  have tdc : 1334 ≤ dc → dc < m_nx A1 ∧ m_tg A1 dc = 1010 := fun q => by
    rcases h61.2.2.2.2 with e | e
    · have := e.2; omega
    · exact ⟨e.2.1, e.2.2.2.1⟩
  have tlc1 := h61.2.1
  obtain ⟨A2, dc', a1, a2, a3, a4, a5, a6⟩ := h61.add (v := m_nx M) (by omega) k41 hl (Or.inr ⟨by omega, by rw [t1]; decide⟩)
  have hPA : ∀ x i, x < m_nx A1 → at1 lc x i → m_tg A1 x ≠ 76 ∧ m_tg A1 x ≠ 1002 ∧ m_tg A1 x ≠ 1008 ∧ m_tg A1 x ≠ 56 ∧ m_tg A1 x ≠ 54 ∧ m_tg A1 x ≠ 55 := fun x i hx q => by unfold at1 at q; rw [q, tlc1]; decide
  have hRA : ∀ x i, x < m_nx A1 → ((x = lc ∧ i = 4288) ∨ (x = dc ∧ 1334 ≤ dc)) → m_tg A1 x ≠ 76 ∧ m_tg A1 x ≠ 54 ∧ m_tg A1 x ≠ 55 ∧ m_tg A1 x ≠ 56 := fun x i hx q => by
    rcases q with q | q
    · rw [q.1, tlc1]; decide
    · rw [q.1, (tdc q.2).2]; decide
  have ho1 : o < m_nx A1 := by omega
  have to1 := hn1.1.2.1
  have olc : o ≠ lc := fun q => by rw [q, tlc] at hto; cases hto
  have S2 : ST A2 := S1.df a4 (fun q hq hr => by
    have hq2 := stR_lt q hq
    rcases hr with hr | hr
    · omega
    · omega)
  have lndc : 1334 ≤ dc → ln ≠ dc := fun q e => by
    have := hn1.2.2.2.2.2.1.2.1
    rw [e, (tdc q).2] at this
    cases this
  have dnlc : 1334 ≤ dn → dn ≠ lc := fun q e => by
    rcases hn1.2.2.2.2.2.1.2.2.2.2 with u | u
    · have := u.2; omega
    · have := u.2.2.2.1
      rw [e, tlc1] at this
      cases this
  have hn2 : MRn A2 B o tb ln dn en f n p ns := hn1.df a4 S2 (fun x i hx q => ⟨(hPA x i hx q).1, (hPA x i hx q).2.1, (hPA x i hx q).2.2.1⟩) (fun x i hx q => ⟨(hRA x i hx q).1, (hRA x i hx q).2.1, (hRA x i hx q).2.2.1⟩) (fun i q => olc q) (fun i q => by unfold at1 at q; omega) (fun q => h10 q) (fun q => by rcases q with q | q; exact h10 q.1; exact lndc q.2 q.1) (fun i hd q => by rcases q with q | q; exact dnlc hd q.1; exact h11 q.2 q.1)
  have h72 : CLS A2 B (ec ++ [m_nx M]) (cs ++ [(w, b)]) := (h71.add (c := m_nx M) (r := r) t1 hB (by omega) c1 r1 w11 ((d1.2.2 r w4).1.trans w2) w3 (by omega) (by rw [w12]; exact w5) (by rw [w12]; omega)).df a4 (fun x i hx q => ⟨(hPA x i hx q).1, (hPA x i hx q).2.1, (hPA x i hx q).2.2.1, (hPA x i hx q).2.2.2.1⟩) (fun x i hx q => ⟨(hRA x i hx q).1, (hRA x i hx q).2.2.2⟩)
  have tr1 : m_tg A1 r = 76 := (d1.2.2 r w4).1.trans w2
  obtain ⟨w21, w22⟩ := w11.df a4 (by omega) (by rw [w12]; omega) (fun q => (hRA _ _ (by omega) q).1 tr1) (fun q => (hPA _ _ (by omega) q).1 tr1) (fun i q => by
    have := hPA _ _ (by rw [w12]; omega) q
    rcases w11.2.2.1 with e | e
    · exact this.2.2.1 e
    · exact this.2.1 e)
  have cb2 : cI A2 o 3462 = iw (bb : Int) := by rw [a4.cI ho1 (fun q => olc q), d1.cI ho (fun q => q)]; exact hb
  have to2 := hn2.1.2.1
  obtain ⟨A3, hA3⟩ : ∃ A3, A3 = wI A2 o 3462 (iw ((bb + w.length : Nat) : Int)) := ⟨_, rfl⟩
  have d3 : Df (fun x i => x = o ∧ i = 3462) n2 n2 A2 A3 := by rw [hA3]; exact Df.wI _ ⟨rfl, rfl⟩
  have S3 : ST A3 := S2.n d3
  have nn2 := a4.1
  have q60 : cI (mo M 56) o 3460 = mr b := by show cI (m_new M 56 _) o 3460 = _; rw [cI_new, if_neg (by omega)]; exact hq
  have to0 : m_tg (mo M 56) o = 54 := by show m_tg (m_new M 56 _) o = _; rw [tg_new, if_neg (by omega)]; exact hto
  have hn3 : MRn A3 B o tb ln dn en f n p ns := by
    obtain ⟨u, u1, u2, u3, u4, u5, u6, u7⟩ := hn2
    obtain ⟨v1, v2, v3, v4, v5, v6, v7, v8, v9, v10, v11⟩ := u
    have cA : ∀ y i, ¬ (y = o ∧ i = 3462) → cI A3 y i = cI A2 y i := fun y i q => by rw [hA3, cI_wI, if_neg (by omega)]
    exact ⟨⟨by rw [hA3]; exact v1, by rw [hA3]; exact v2, by rw [hA3]; exact v3, by rw [hA3]; exact v4, by rw [cA _ _ (by omega)]; exact v5, v6, by rw [cA _ _ (by omega)]; exact v7, v8, S3, fun i hi => by rw [cA _ _ (by omega)]; exact v10 i hi, v11⟩, by rw [hA3]; exact u1, by rw [hA3]; exact u2, by rw [hA3]; exact u3, by rw [hA3]; exact u4, u5.df d3 (fun q => by have := q.2; omega) (fun q => q) (fun _ _ q => q), u6.df d3 (fun x i hx q => by rw [q.1, to2]; decide) (fun _ _ _ q => q.elim), u7⟩
  refine ⟨A1, A2, A3, dc', f1, by rw [gi_of to0 (show x_fi 54 3460 = true by decide), q60], g1, vg_of tlc1 (by decide), a1, by rw [gi_of to2 (show x_fi 54 3462 = true by decide), cb2], w21.vg, J_len w21, by rw [iw_nad, pi_of _ to2 (show x_wi 54 3462 = true by decide) (fit_3462 _), ← hA3], ⟨hn3, ?_, a2.df d3 (fun q => by have := q.2; omega) (fun q => q) (fun _ _ q => q), h72.df d3 (fun x i hx q => by rw [q.1, to2]; decide) (fun _ _ _ q => q.elim), h8, by omega, h10, fun q => ?_⟩, by rw [hA3, cI_wI, if_pos ⟨rfl, rfl⟩], ?_, by rw [hA3]; show m_nx A2 ≤ _; omega, by rw [hA3]; show m_sl A2 ≤ _; omega⟩
  · rw [d3.cR (by omega) (fun q => q), a4.cR (by omega) (fun q => (hRA _ _ (by omega) q).2.2.1 ((d1.2.2 tb htb).1.trans htt)), d1.cR htb (fun q => q)]
    exact h5
  · rcases a3 with e | e
    · rw [e]; exact h11 (by omega)
    · have := hAn.2.2.2.2
      rcases this with u | u
      · have := u.2; omega
      · have := u.2.1; omega
  · refine ((d1.mono (fun _ _ q => q.elim) (fun _ _ q => q) (fun _ _ q => q.elim)).trans (a4.mono (fun x i q => ?_) (fun _ _ q => q) (fun x i q => ?_))).trans (d3.mono (fun x i q => ?_) (fun _ _ q => q) (fun _ _ q => q.elim))
    · unfold at1 at q; unfold pTb; omega
    · unfold pTb; omega
    · unfold pTb; have := q.1; omega
