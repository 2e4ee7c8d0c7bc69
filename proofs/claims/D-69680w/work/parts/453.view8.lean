/-! ===== VIEWS, 8: the engine reads a view, whole ===== -/
theorem E_rest {own c0 nn : Nat} {k x0 p0 : Int32} {z : Nat → Nat} {s : Nat → Int32} (hnn : nn ≤ 4) : ∀ (r N : Nat) (σ : VS) (M : Mem), σ.2.1 + r = nn → ST M → GE M own k nn z s x0 c0 p0 → VE M σ → σ.1 + r ≤ 100000000 → ∃ M', F_X3_read_b38 (N + 1 + r) M 1006 own = F_X3_read_b38 (N + 1) M' 1006 own ∧ ST M' ∧ VE M' (vrs z s r σ) ∧ (vrs z s r σ).1 = σ.1 + r ∧ (vrs z s r σ).2.1 = nn ∧ Df pVi n2 n2 M M' ∧ m_nx M' = m_nx M ∧ m_sl M' = m_sl M
  | 0, N, σ, M, hr, h, g, e, hb => ⟨M, rfl, h, e, rfl, hr, Df.refl _ _ _ _, rfl, rfl⟩
  | r + 1, N, σ, M, hr, h, g, e, hb => by
    have h0 := h.1
    obtain ⟨g1, g2, g3, g4, g5, g6, g7, g8, g9, g10⟩ := id g
    obtain ⟨e1, e2, e3, e4⟩ := id e
    have hd : σ.2.1 < nn := by omega
    obtain ⟨A, f1, f2, f3, f4, f5, f6, f7, f8⟩ := E_axis (v := iw (z σ.2.1 : Nat)) (w := s σ.2.1) h e1 (by omega)
    have vA := e.ax (v := z σ.2.1) (w := s σ.2.1) h f3 f4 f5 (f6.cI (by omega) (by unfold pAx; omega)) (f6.cI (by omega) (by unfold pAx; omega))
    obtain ⟨B, hB⟩ : ∃ B, B = wI A 1006 264 (iw ((σ.2.1 + 1 : Nat) : Int)) := ⟨_, rfl⟩
    have sB : ST B := hB ▸ f2
    have dB : Df pVi n2 n2 M B := (f6.mono (fun a i q => by unfold pAx at q; unfold pVi; omega) (fun _ _ q => q) (fun _ _ q => q)).trans (hB ▸ Df.wI _ (Or.inl ⟨rfl, Or.inr (Or.inr rfl)⟩))
    have vB : VE B (σ.1 + 1, σ.2.1 + 1, σ.2.2.1, putn σ.2.2.2.1 σ.1 (z σ.2.1), putn σ.2.2.2.2 σ.1 (s σ.2.1)) := by
      obtain ⟨a1, a2, a3, a4⟩ := vA
      refine ⟨by rw [hB, cI_wI, if_neg (by decide)]; exact a1, by rw [hB, cI_wI, if_pos ⟨rfl, rfl⟩], by rw [hB, cI_wI, if_neg (by decide)]; exact a3, fun j hj h4 => ?_⟩
      rw [hB, cI_wI, if_neg (by omega), cI_wI, if_neg (by omega)]
      exact a4 j hj h4
    have c264 : cI A 1006 264 = iw (σ.2.1 : Nat) := vA.2.1
    have hd2 : F_X3_read_b38 (N + 1 + (r + 1)) M 1006 own = F_X3_read_b38 (N + 1 + r) B 1006 own := by
      show F_X3_read_b38_st (F_X3_read_b38 (N + 1 + r)) M 1006 own = _
      unfold F_X3_read_b38_st
      simp only [g1006_264, h, e2, gi_of g3 (show x_fi 22 1409 = true by decide), g5, Option.bind_some]
      rw [if_pos (by rw [iw_le4 (by omega) (by omega)]; exact hd)]
      simp only [gr_of g3 (show x_fr 22 1410 = true by decide), gr_of g3 (show x_fr 22 1411 = true by decide), g6.ai hnn hd, g7.ai hnn hd, v1006, h, f1, g1006_264, p1006_264, f2, c264, iw_succ, Option.bind_some, ← hB]
    obtain ⟨M', y1, y2, y3, y4, y5, y6, y7, y8⟩ := E_rest hnn r N (σ.1 + 1, σ.2.1 + 1, σ.2.2.1, putn σ.2.2.2.1 σ.1 (z σ.2.1), putn σ.2.2.2.2 σ.1 (s σ.2.1)) B (by show σ.2.1 + 1 + r = nn; omega) sB (g.df dB qt_pVi qt_n2) vB (by show σ.1 + 1 + r ≤ _; omega)
    have nB : m_nx B = m_nx M ∧ m_sl B = m_sl M := by rw [hB]; exact ⟨f7, f8⟩
    exact ⟨M', by rw [hd2, y1], y2, y3, by rw [show vrs z s (r + 1) σ = vrs z s r (σ.1 + 1, σ.2.1 + 1, σ.2.2.1, putn σ.2.2.2.1 σ.1 (z σ.2.1), putn σ.2.2.2.2 σ.1 (s σ.2.1)) from rfl, y4]; show σ.1 + 1 + r = _; omega, y5, dB.trans y6, by rw [y7]; exact nB.1, by rw [y8]; exact nB.2⟩
/-- the new rows of sizes and strides -/
theorem E_vcp {M0 : Mem} {own sa ta : Nat} {σ : VS} (h4 : σ.1 ≤ 4) (hs : m_nx M0 ≤ sa) (ht : m_nx M0 ≤ ta) (hst : sa ≠ ta) (hb : 1334 ≤ m_nx M0) : ∀ (e N i : Nat) (M : Mem), i + e = σ.1 → ST M → VE M σ → m_tg M sa = 1005 → m_ln M sa = σ.1 → m_tg M ta = 1005 → m_ln M ta = σ.1 → (∀ j, j < i → cI M sa j = iw (σ.2.2.2.1 j : Nat) ∧ cI M ta j = σ.2.2.2.2 j) →
    ∃ M', F_X3_read_b120 (N + 1 + e) M 1006 own sa ta (iw (i : Int)) = F_X3_read_b120 (N + 1) M' 1006 own sa ta (iw (σ.1 : Nat)) ∧ ST M' ∧ VE M' σ ∧ (∀ j, j < σ.1 → cI M' sa j = iw (σ.2.2.2.1 j : Nat) ∧ cI M' ta j = σ.2.2.2.2 j) ∧ Df (fun a _ => a = sa ∨ a = ta) n2 n2 M M' ∧ m_nx M' = m_nx M ∧ m_sl M' = m_sl M
  | 0, N, i, M, hi, h, e, t1, l1, t2, l2, hj => by
    have : i = σ.1 := by omega
    subst this
    exact ⟨M, rfl, h, e, hj, Df.refl _ _ _ _, rfl, rfl⟩
  | e + 1, N, i, M, hi, h, ve, t1, l1, t2, l2, hj => by
    have h0 := h.1
    obtain ⟨e1, e2, e3, e4⟩ := id ve
    obtain ⟨q1, q2⟩ := e4 i (by omega) (by omega)
    obtain ⟨A, hA⟩ : ∃ A, A = wI M sa i (iw (σ.2.2.2.1 i : Nat)) := ⟨_, rfl⟩
    obtain ⟨B, hB⟩ : ∃ B, B = wI A ta i (σ.2.2.2.2 i) := ⟨_, rfl⟩
    have sA : ST A := hA ▸ h
    have sB : ST B := hB ▸ sA
    have eB : ∀ x j, x ≠ sa → x ≠ ta → cI B x j = cI M x j := fun x j a b => by rw [hB, cI_wI, if_neg (by omega), hA, cI_wI, if_neg (by omega)]
    have vB : VE B σ := ⟨by rw [eB _ _ (by omega) (by omega)]; exact e1, by rw [eB _ _ (by omega) (by omega)]; exact e2, by rw [eB _ _ (by omega) (by omega)]; exact e3, fun j a b => by rw [eB _ _ (by omega) (by omega), eB _ _ (by omega) (by omega)]; exact e4 j a b⟩
    have a8 : cI A 1008 i = σ.2.2.2.2 i := by rw [hA, cI_wI, if_neg (by omega)]; exact q2
    have tgA : m_tg A ta = 1005 := by rw [hA]; exact t2
    have lnA : m_ln A ta = σ.1 := by rw [hA]; exact l2
    have hd : F_X3_read_b120 (N + 1 + (e + 1)) M 1006 own sa ta (iw (i : Int)) = F_X3_read_b120 (N + 1 + e) B 1006 own sa ta (iw ((i + 1 : Nat) : Int)) := by
      show F_X3_read_b120_st (F_X3_read_b120 (N + 1 + e)) M 1006 own sa ta _ = _
      unfold F_X3_read_b120_st
      simp only [g1006_262, h, e1, Option.bind_some]
      rw [if_pos (by rw [iw_le4 (by omega) (by omega)]; omega)]
      simp only [g1006_260, h, ai_of (t1007 h) (l1007 h) (show i < 4 by omega) (show (4 : Nat) < 2147483648 by decide), q1, si_of _ t1 l1 (show i < σ.1 by omega) (show σ.1 < 2147483648 by omega), ← hA, Option.bind_some]
      simp only [g1006_261, sA, ai_of (t1008 sA) (l1008 sA) (show i < 4 by omega) (show (4 : Nat) < 2147483648 by decide), a8, si_of _ tgA lnA (show i < σ.1 by omega) (show σ.1 < 2147483648 by omega), ← hB, iw_succ, Option.bind_some]
    obtain ⟨M', y1, y2, y3, y4, y5, y6, y7⟩ := E_vcp h4 hs ht hst hb e N (i + 1) B (by omega) sB vB (by rw [hB, hA]; exact t1) (by rw [hB, hA]; exact l1) (by rw [hB, hA]; exact t2) (by rw [hB, hA]; exact l2) (fun j hj' => by
      by_cases c : j = i
      · subst c
        refine ⟨by rw [hB, cI_wI, if_neg (by omega), hA, cI_wI, if_pos ⟨rfl, rfl⟩], by rw [hB, cI_wI, if_pos ⟨rfl, rfl⟩]⟩
      · rw [hB, cI_wI, if_neg (by omega), hA, cI_wI, if_neg (by omega), cI_wI, if_neg (by omega), cI_wI, if_neg (by omega)]
        exact hj j (by omega))
    have dB : Df (fun a _ => a = sa ∨ a = ta) n2 n2 M B := by
      rw [hB, hA]
      exact (Df.wI (P := fun a _ => a = sa ∨ a = ta) (Q := n2) (R := n2) (M := M) (a := sa) (i := i) _ (Or.inl rfl)).trans (Df.wI (P := fun a _ => a = sa ∨ a = ta) (Q := n2) (R := n2) (a := ta) (i := i) _ (Or.inr rfl))
    exact ⟨M', by rw [hd, y1], y2, y3, y4, dB.trans y5, by rw [y6, hB, hA]; rfl, by rw [y7, hB, hA]; rfl⟩
/-- a view's grid is made -/
theorem E_vmk {M : Mem} {own c0 nn : Nat} {k x0 p0 : Int32} {z : Nat → Nat} {s : Nat → Int32} {σ : VS} {N : Nat} (hN : 10 ≤ N) (h : ST M) (g : GE M own k nn z s x0 c0 p0) (hnn : nn ≤ 4) (e : VE M σ) (hd : σ.2.1 = nn) (h4 : σ.1 ≤ 4) (hp : p0 = 0 ∨ p0 = 1) :
    ∃ M', F_X3_read_b38 (N + 1) M 1006 own = some (.inl (m_nx M + 2, M')) ∧ ST M' ∧ GE M' (m_nx M + 2) k σ.1 σ.2.2.2.1 σ.2.2.2.2 σ.2.2.1 c0 p0 ∧ Df n2 n2 n2 M M' ∧ m_nx M' = m_nx M + 3 ∧ m_sl M' ≤ m_sl M + 40 := by
  have hxN : xN = 1099511627776 := rfl
  have h0 := h.1
  obtain ⟨g1, g2, g3, g4, g5, g6, g7, g8, g9, g10⟩ := id g
  obtain ⟨e1, e2, e3, e4⟩ := id e
  obtain ⟨ax, hax⟩ : ∃ ax, ax = σ.1 := ⟨_, rfl⟩
  obtain ⟨A, hA⟩ : ∃ A, A = m_new M 1005 ax := ⟨_, rfl⟩
  obtain ⟨B, hB⟩ : ∃ B, B = m_new A 1005 ax := ⟨_, rfl⟩
  have dA : Df n2 n2 n2 M A := hA ▸ Df.new _ _
  have dB : Df n2 n2 n2 M B := dA.trans (hB ▸ Df.new _ _)
  have sA : ST A := h.df dA n2_st
  have sB : ST B := h.df dB n2_st
  have nA : m_nx A = m_nx M + 1 := by rw [hA]; rfl
  have nB : m_nx B = m_nx M + 2 := by rw [hB]; show m_nx A + 1 = _; omega
  have lB : m_sl B = m_sl M + ax + ax := by rw [hB]; show m_sl A + ax = _; rw [hA]; rfl
  have vB : VE B σ := ⟨by rw [dB.cI (by omega) (fun q => q)]; exact e1, by rw [dB.cI (by omega) (fun q => q)]; exact e2, by rw [dB.cI (by omega) (fun q => q)]; exact e3, fun j a b => by rw [dB.cI (by omega) (fun q => q), dB.cI (by omega) (fun q => q)]; exact e4 j a b⟩
  have mA : mk M 1005 (iw (ax : Int)) = some A := by rw [mk_of (by omega), hA]
  have mB : mk A 1005 (iw (ax : Int)) = some B := by rw [mk_of (by omega), hB]
  have c262 : cI A 1006 262 = iw (ax : Int) := by rw [dA.cI (by omega) (fun q => q), hax]; exact e1
  have hd1 : F_X3_read_b38 (N + 1) M 1006 own = F_X3_read_b120 xN B 1006 own (m_nx M) (m_nx M + 1) 0 := by
    show F_X3_read_b38_st (F_X3_read_b38 N) M 1006 own = _
    unfold F_X3_read_b38_st
    simp only [g1006_264, h, e2, gi_of g3 (show x_fi 22 1409 = true by decide), g5, hd, Option.bind_some]
    rw [if_neg (by rw [iw_le4 (by omega) (by omega)]; omega)]
    simp only [g1006_262, h, e1, ← hax, Option.bind_some]
    rw [if_neg (by rw [show (4 : Int32) = iw ((4 : Nat) : Int) from rfl, iw_le4 (by omega) (by omega)]; omega), mA, Option.bind_some, g1006_262 sA, c262, Option.bind_some, mB, Option.bind_some, nA]
  have tgS : m_tg B (m_nx M) = 1005 := by rw [hB, tg_new, if_neg (by omega), hA, tg_new, if_pos rfl]
  have lnS : m_ln B (m_nx M) = σ.1 := by rw [hB, ln_new, if_neg (by omega), hA, ln_new, if_pos rfl, hax]
  have tgT : m_tg B (m_nx M + 1) = 1005 := by rw [hB, tg_new, if_pos (by omega)]
  have lnT : m_ln B (m_nx M + 1) = σ.1 := by rw [hB, ln_new, if_pos (by omega), hax]
  obtain ⟨NN, hNN⟩ : ∃ NN, NN + 1 + σ.1 = xN := ⟨xN - 1 - σ.1, by omega⟩
  obtain ⟨C, y1, y2, y3, y4, y5, y6, y7⟩ := E_vcp (M0 := M) (own := own) (sa := m_nx M) (ta := m_nx M + 1) h4 (Nat.le_refl _) (by omega) (by omega) h0 σ.1 NN 0 B (by omega) sB vB tgS lnS tgT lnT (fun j hj => by omega)
  rw [hNN] at y1
  have dC : Df n2 n2 n2 M C := Df.then dB y5 (fun x i hx q => by omega) (fun _ _ _ q => q) (fun _ _ _ q => q)
  obtain ⟨O, hO⟩ : ∃ O, O = mo C 22 := ⟨_, rfl⟩
  have dO : Df n2 n2 n2 M O := dC.trans (hO ▸ Df.new _ _)
  have dCO : Df n2 n2 n2 C O := hO ▸ Df.new _ _
  have sO : ST O := h.df dO n2_st
  have nO : m_nx O = m_nx M + 3 := by rw [hO]; show m_nx C + 1 = _; omega
  have tO : m_tg O (m_nx C) = 22 := by
    rw [hO]
    show m_tg (m_new C 22 (x_cn 22)) (m_nx C) = 22
    exact tg_new.trans (if_pos rfl)
  have gO := g.df dO qt_n2 qt_n2
  obtain ⟨o1, o2, o3, o4, o5, o6, o7, o8, o9, o10⟩ := gO
  have w5 : ∀ x, x < m_nx B → m_tg C x = m_tg B x ∧ m_ln C x = m_ln B x := fun x hx => ⟨(y5.2.2 x hx).1, (y5.2.2 x hx).2.1⟩
  have rS : IRw O (m_nx M) σ.1 (fun i => iw (σ.2.2.2.1 i : Nat)) := ⟨h0, by omega, by rw [(dCO.2.2 _ (by omega)).1, (w5 _ (by omega)).1]; exact tgS, by rw [(dCO.2.2 _ (by omega)).2.1, (w5 _ (by omega)).2]; exact lnS, fun i hi => by rw [dCO.cI (by omega) (fun q => q)]; exact (y4 i hi).1⟩
  have rT : IRw O (m_nx M + 1) σ.1 σ.2.2.2.2 := ⟨by omega, by omega, by rw [(dCO.2.2 _ (by omega)).1, (w5 _ (by omega)).1]; exact tgT, by rw [(dCO.2.2 _ (by omega)).2.1, (w5 _ (by omega)).2]; exact lnT, fun i hi => by rw [dCO.cI (by omega) (fun q => q)]; exact (y4 i hi).2⟩
  have nC : m_nx C = m_nx M + 2 := by omega
  rw [nC] at tO
  obtain ⟨Q, u1, u2, u3, u4, u5⟩ := E_obj (k := k) (b := σ.2.2.1) (c := c0) (p := p0) (show 1334 ≤ m_nx M + 2 by omega) (by omega) tO hp rS rT
  have c262' : cI O 1006 262 = iw (σ.1 : Nat) := by rw [dCO.cI (by omega) (fun q => q)]; exact y3.1
  have c263' : cI O 1006 263 = σ.2.2.1 := by rw [dCO.cI (by omega) (fun q => q)]; exact y3.2.2.1
  have dQ : Df n2 n2 n2 M Q := Df.then dO u4 (fun x i hx q => by unfold at1 at q; omega) (fun _ _ _ q => q) (fun x i hx q => by unfold at1 at q; omega)
  have x22 : x_cn 22 ≤ 20 := by decide
  refine ⟨Q, ?_, h.df dQ n2_st, u5, dQ, by omega, ?_⟩
  · have e0 : F_X3_read_b120 xN B 1006 own (m_nx M) (m_nx M + 1) 0 = F_X3_read_b120 xN B 1006 own (m_nx M) (m_nx M + 1) (iw ((0 : Nat) : Int)) := by rw [show iw ((0 : Nat) : Int) = 0 from rfl]
    rw [hd1, e0, y1]
    show F_X3_read_b120_st (F_X3_read_b120 NN) C 1006 own _ _ _ = _
    unfold F_X3_read_b120_st
    simp only [g1006_262, y2, y3.1, Option.bind_some]
    rw [if_neg (by rw [iw_le4 (by omega) (by omega)]; omega), nC]
    simp only [← hO, gi_of o3 (show x_fi 22 1408 = true by decide), o4, g1006_262, g1006_263, sO, c262', c263', gr_of o3 (show x_fr 22 1413 = true by decide), o9, gi_of o3 (show x_fi 22 1414 = true by decide), o10, ng_of tO (by decide), u1, Option.bind_some]
  · rw [u3, hO]
    show m_sl C + x_cn 22 ≤ _
    omega
