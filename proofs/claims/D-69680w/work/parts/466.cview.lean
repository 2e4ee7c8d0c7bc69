/-! ===== CALLS: view ===== -/
def I1w (M : Mem) (t f : Nat) : Prop := t ≤ 16000 ∧ t ≤ f ∧ f ≤ 65536 ∧ cI M 1000 65 = iw t ∧ cI M 1068 1089 = iw t ∧ cI M 1000 66 = iw f ∧ cI M 1068 1090 = iw f ∧ ∀ i, i < t → cI M 1001 i = cI M 1069 i ∧ bt (cI M 1001 i)
theorem I1w.i1 {M : Mem} {t f : Nat} (h : I1w M t f) : I1 M := ⟨t, f, h⟩
/-- what view leaves -/
def VCn (M : Mem) (g : Int32) (t x : Nat) : Prop := ∃ (r : Int32) (M1 M2 : Mem), F_X0_view M 1000 g = some (r, M1) ∧ F_X16_view M1 1068 g = some (r, M2) ∧ I1 M2 ∧ I4 M2 ∧ I5 M2 ∧ (∃ x' : Nat, x' ≤ x + 20000 ∧ cI M2 1006 262 = iw (x' : Int)) ∧ Df (pg pRc) qsc (rG M) M M2 ∧ m_nx M2 ≤ m_nx M + 2 * t + 40 ∧ bud M2 ≤ bud M + (((t + 1) * (2 * t + 92) + 2 * t + 400 : Nat) : Int)
theorem view_no {M M2 : Mem} (h : ST M) (h5 : I5 M) (d : Df (pp pRc) qsc rsc M M2) : I5 M2 ∧ Df (pg pRc) qsc (rG M) M M2 ∧ bud M2 + m_sl M = bud M + m_sl M2 := by
  refine ⟨h5.df h d (qt_pp qt_pRc) qt_qsc qt_rsc (noGr_pp noGr_pRc) rsc_5, d.mono pp_pg (fun _ _ q => q) (fun _ _ q => Or.inr q), ?_⟩
  have h0 := h.1
  unfold bud
  rw [d.cI (by omega) (noGr_pp noGr_pRc _ _ (Or.inl ⟨rfl, Or.inr rfl⟩))]
  omega
theorem pVw_sc : ∀ a i, pVw a i → psc a i := fun a i q => by unfold pVw at q; unfold psc; omega
theorem c_view {M : Mem} {g : Int32} {t f x : Nat} (h : ST M) (k4 : m_tg M 4 = 1091 ∧ m_ln M 4 = 0) (h1 : I1w M t f) (h4 : I4 M) (h5 : I5 M) (hx : cI M 1006 262 = iw (x : Int)) (hxb : x ≤ 90000000) : VCn M g t x := by
  have h0 := h.1
  have h5x := h5
  have h4x := h4
  have h1x := h1.i1
  obtain ⟨m, w, K, n, Z, S, T, X, Y, C, D, L, P, h5⟩ := h5
  obtain ⟨t1, t2, t3, t4, t5, t6, t7, t8⟩ := h1
  have n10 : ¬ (1 : Int32) = 0 := by decide
  obtain ⟨A, hA⟩ : ∃ A, A = wI M 1000 95 (-1) := ⟨_, rfl⟩
  have sA : ST A := hA ▸ h
  have dA : Df (pp pRc) qsc rsc M A := hA ▸ Df.wI _ (Or.inr (Or.inl ⟨rfl, Or.inl rfl⟩))
  have cA : cI A 1000 97 = cI M 1000 97 := by rw [hA, cI_wI, if_neg (by decide)]
  have lk := look h h4 h5 g
  by_cases c97 : cI M 1000 97 = 1
  · have c95 : cI M 1068 1095 = 1 := by
      rcases lk with ⟨b1, b2, -⟩ | ⟨b1, b2, -⟩ | ⟨b1, b2, -⟩
      · exact b2
      · rw [b1] at c97; exact absurd c97 (by decide)
      · rw [b1] at c97; exact absurd c97 (by decide)
    obtain ⟨B, hB⟩ : ∃ B, B = wI A 1068 1091 (-1) := ⟨_, rfl⟩
    have dB : Df (pp pRc) qsc rsc M B := dA.trans (hB ▸ Df.wI _ (Or.inr (Or.inr ⟨rfl, Or.inl rfl⟩)))
    have sB : ST B := hB ▸ sA
    have e : ∀ a i, ¬ (a = 1000 ∧ i = 95) → ¬ (a = 1068 ∧ i = 1091) → cI B a i = cI M a i := fun a i k1 k2 => by rw [hB, cI_wI, if_neg k2, hA, cI_wI, if_neg k1]
    have cB : cI B 1068 1095 = 1 := by rw [e _ _ (by decide) (by decide)]; exact c95
    obtain ⟨y1, y2, y3⟩ := view_no h h5x dB
    have nB : m_nx B = m_nx M ∧ m_sl B = m_sl M := by rw [hB, hA]; exact ⟨rfl, rfl⟩
    refine ⟨-13, A, B, ?_, ?_, ?_, ?_, y1, ⟨x, by omega, by rw [e _ _ (by decide) (by decide)]; exact hx⟩, y2, by omega, by omega⟩
    · simp only [F_X0_view, p1000_95, h, ← hA, g1000_97, sA, cA, c97, n10, Option.bind_some, if_false]
    · simp only [F_X16_view, p1068_1091, sA, ← hB, g1068_1095, sB, cB, n10, Option.bind_some, if_false]
    · exact ⟨t, f, t1, t2, t3, by rw [e _ _ (by decide) (by decide)]; exact t4, by rw [e _ _ (by decide) (by decide)]; exact t5, by rw [e _ _ (by decide) (by decide)]; exact t6, by rw [e _ _ (by decide) (by decide)]; exact t7, fun i hi => by rw [e _ _ (by omega) (by omega), e _ _ (by omega) (by omega)]; exact t8 i hi⟩
    · exact I4.pl h dB h4x (by rw [hB, cI_wI, if_neg (by decide), hA, cI_wI, if_pos ⟨rfl, rfl⟩, cI_wI, if_pos ⟨rfl, rfl⟩]) (fun a i q hh => pg_pRc a i q (pp_pg a i hh))
  have q97 := h4.2.2.2.1
  have z97 : cI M 1000 97 = 0 := q97.resolve_right c97
  have z95 : cI M 1068 1095 = 0 := by rw [← h4.2.2.2.2.1]; exact z97
  obtain ⟨A1, hA1⟩ : ∃ A1, A1 = wI A 1000 65 0 := ⟨_, rfl⟩
  have sA1 : ST A1 := hA1 ▸ sA
  have dA1 : Df (pp pRc) qsc rsc M A1 := dA.trans (hA1 ▸ Df.wI _ (Or.inr (Or.inl ⟨rfl, Or.inr rfl⟩)))
  have dA1n : Df pRc n2 n2 M A1 := by
    rw [hA1, hA]
    exact (Df.wI (P := pRc) (Q := n2) (R := n2) (M := M) (a := 1000) (i := 95) _ (Or.inl ⟨rfl, Or.inl rfl⟩)).trans (Df.wI (P := pRc) (Q := n2) (R := n2) (a := 1000) (i := 65) _ (Or.inl ⟨rfl, Or.inr rfl⟩))
  have eA1 : ∀ a i, ¬ (a = 1000 ∧ (i = 95 ∨ i = 65)) → cI A1 a i = cI M a i := fun a i k1 => by rw [hA1, cI_wI, if_neg (by omega), hA, cI_wI, if_neg (by omega)]
  have nA1 : m_nx A1 = m_nx M ∧ m_sl A1 = m_sl M := by rw [hA1, hA]; exact ⟨rfl, rfl⟩
  have a65 : cI A1 1000 65 = 0 := by rw [hA1, cI_wI, if_pos ⟨rfl, rfl⟩]
  have a95 : cI A1 1000 95 = -1 := by rw [hA1, cI_wI, if_neg (by decide), hA, cI_wI, if_pos ⟨rfl, rfl⟩]
  have us : F_X0_used A 1000 = some (iw (t : Int), A1) := by
    have : cI A 1000 65 = iw (t : Int) := by rw [hA, cI_wI, if_neg (by decide)]; exact t4
    simp only [F_X0_used, g1000_65, p1000_65, sA, this, ← hA1, Option.bind_some]
  have seeE := (E_see h dA1n sA1 (by unfold pRc; omega) (by unfold pRc; omega) (fun i q => q) g).1
  rcases lk with ⟨b1, -⟩ | ⟨-, -, e1, -, -, e8⟩ | ⟨-, -, j, j1, j2, hg, e1, e4, e5, e3, e7, e6, gp⟩
  · rw [b1] at z97; exact absurd z97 (by decide)
  · -- no such grid
    obtain ⟨B, hB⟩ : ∃ B, B = wI A1 1068 1091 (-1) := ⟨_, rfl⟩
    obtain ⟨B1, hB1⟩ : ∃ B1, B1 = wI B 1068 1089 0 := ⟨_, rfl⟩
    have sB : ST B := hB ▸ sA1
    have sB1 : ST B1 := hB1 ▸ sB
    have dB1n : Df pRc n2 n2 M B1 := by
      rw [hB1, hB]
      exact (dA1n.trans (Df.wI (P := pRc) (Q := n2) (R := n2) (a := 1068) (i := 1091) _ (Or.inr ⟨rfl, Or.inl rfl⟩))).trans (Df.wI (P := pRc) (Q := n2) (R := n2) (a := 1068) (i := 1089) _ (Or.inr ⟨rfl, Or.inr (Or.inl rfl)⟩))
    have dB1 : Df (pp pRc) qsc rsc M B1 := dB1n.mono (fun _ _ q => Or.inr q) (fun _ _ q => q.elim) (fun _ _ q => q.elim)
    have seeM := (M_see h dB1n sB1 (by unfold pRc; omega) (by unfold pRc; omega) (fun i q => q) g).2.1
    have b95 : cI B 1068 1095 = 0 := by rw [hB, cI_wI, if_neg (by decide), eA1 _ _ (by decide)]; exact z95
    have usM : F_X16_used B 1068 = some (iw (t : Int), B1) := by
      have : cI B 1068 1089 = iw (t : Int) := by rw [hB, cI_wI, if_neg (by decide), eA1 _ _ (by decide)]; exact t5
      simp only [F_X16_used, g1068_1089, p1068_1089, sB, this, ← hB1, Option.bind_some]
    obtain ⟨y1, y2, y3⟩ := view_no h h5x dB1
    have nB : m_nx B1 = m_nx M ∧ m_sl B1 = m_sl M := by rw [hB1, hB]; exact nA1
    refine ⟨-14, A1, B1, ?_, ?_, ?_, ?_, y1, ⟨x, by omega, by rw [hB1, cI_wI, if_neg (by decide), hB, cI_wI, if_neg (by decide), eA1 _ _ (by decide)]; exact hx⟩, y2, by omega, by omega⟩
    · simp only [F_X0_view, p1000_95, h, ← hA, g1000_97, sA, cA, z97, v1000, us, sA1, seeE, e1, show ¬ (0 : Nat) = 6 by decide, Option.bind_some, if_true, if_false]
    · simp only [F_X16_view, p1068_1091, sA1, ← hB, g1068_1095, sB, b95, v1068, usM, sB1, seeM, e8, Option.bind_some, if_true]
    · exact I1.emp h dB1 h1x (by rw [hB1, cI_wI, if_neg (by decide), hB, cI_wI, if_neg (by decide)]; exact a65) (by rw [hB1, cI_wI, if_pos ⟨rfl, rfl⟩]) (by unfold pp psc pRc; omega) (by unfold pp psc pRc; omega)
    · exact I4.pl h dB1 h4x (by rw [hB1, cI_wI, if_neg (by decide), hB, cI_wI, if_neg (by decide), a95, cI_wI, if_neg (by decide), cI_wI, if_pos ⟨rfl, rfl⟩]) (fun a i q hh => pg_pRc a i q (pp_pg a i hh))
  -- a grid
  obtain ⟨gE, gM, hk, hnn, hz, hprd, hp0, hC, hv⟩ := id gp
  obtain ⟨ff, hff⟩ : ∃ ff, ff = cI M 1001 := ⟨_, rfl⟩
  have er := E_vread (M := A1) (f := ff) (n := t) (x := x) sA1 (fun i => by rw [eA1 _ _ (by omega), hff]) t1 (gE.df dA1n qt_pRc qt_n2) hnn hz hp0 (by rw [eA1 _ _ (by decide)]; exact hx) hxb
  have hdE : F_X0_view M 1000 g = tc (F_X3_read A1 1006 (cR M 1005 j) 1001 (iw (t : Int))) (fun z13 =>
      (vg z13.2 1000 1).bind fun _ => (F_X0_added z13.2 1000 z13.1).bind fun z16 => some (z16.1, z16.2)) (fun z14 => F_X0_view_b51 z14.2 z14.1 1000) := by
    simp only [F_X0_view, p1000_95, h, ← hA, g1000_97, sA, cA, z97, v1000, us, sA1, seeE, e1, e4, e5, g1000_69, g1000_64, v1006, Option.bind_some, if_true, if_false]
  have relate : (∃ p, vw ff t (n j) (Z j) (S j) (X j) = .inl p ∧ vw ff t (n j) (Z j) (T j) (Y j) = .inl p) ∨ (∃ σ τ, vw ff t (n j) (Z j) (S j) (X j) = .inr σ ∧ vw ff t (n j) (Z j) (T j) (Y j) = .inr τ ∧ σ.1 = τ.1 ∧ σ.2.2.2.1 = τ.2.2.2.1 ∧ σ.1 ≤ 4 ∧ (∀ i, i < σ.1 → σ.2.2.2.1 i ≤ 4096) ∧ prd σ.2.2.2.1 σ.1 ≤ prd (Z j) (n j) ∧ (prd (Z j) (n j) = 0 → prd σ.2.2.2.1 σ.1 = 0) ∧ ((∀ i, i < n j → 0 < Z j i) → σ.2.2.1 = τ.2.2.1 ∧ (∀ i, i < σ.1 → 1 < σ.2.2.2.1 i → σ.2.2.2.2 i = τ.2.2.2.2 i) ∧ VL σ.1 σ.2.2.2.1 σ.2.2.2.2 σ.2.2.1 (L j))) := by
    unfold vw
    cases hvt : vtx ff t with
    | inl p => exact Or.inl ⟨p, rfl, rfl⟩
    | inr l => exact vfin_rel hz hC.2.2.2.2.2.2.2.2.1 (vtx_ok t1 hvt) (fun hp => hv ((prd_pos _).mpr hp))
  rcases relate with ⟨p, w1, w2⟩ | ⟨σ, τ, w1, w2, r1, r2, r3, r4, r5, r6, r7⟩
  · -- a fault
    obtain ⟨E1, u1, u2, u3, u4, u5, u6, x', u7, u8⟩ := er.1 p w1
    obtain ⟨E2, hE2⟩ : ∃ E2, E2 = wI E1 1000 95 (iw (p : Int)) := ⟨_, rfl⟩
    have sE2 : ST E2 := hE2 ▸ u2
    have dE2 : Df (pp pRc) qsc rsc M E2 := (dA1.trans (u3.mono (fun a i q => Or.inl (pVw_sc a i q)) (fun _ _ q => q.elim) rVw_sc)).trans (hE2 ▸ Df.wI _ (Or.inr (Or.inl ⟨rfl, Or.inl rfl⟩)))
    have hE : F_X0_view M 1000 g = some (-20, E2) := by
      rw [hdE, u1, tc_inr]
      simp only [F_X0_view_b51, g1000_67, g1002_130, u2, u6, p1000_95, ← hE2, Option.bind_some]
    have cE2 : ∀ a i, a < 1334 → ¬ pVw a i → ¬ (a = 1000 ∧ i = 95) → cI E2 a i = cI A1 a i := fun a i k0 k1 k2 => by rw [hE2, cI_wI, if_neg k2, u3.cI (by omega) k1]
    obtain ⟨B1, hB1⟩ : ∃ B1, B1 = wI (wI E2 1068 1091 (-1)) 1068 1089 0 := ⟨_, rfl⟩
    have dEB : Df (pp pRc) qsc rsc E2 B1 := by
      rw [hB1]
      exact (Df.wI (P := pp pRc) (Q := qsc) (R := rsc) (M := E2) (a := 1068) (i := 1091) (-1) (Or.inr (Or.inr ⟨rfl, Or.inl rfl⟩))).trans (Df.wI (P := pp pRc) (Q := qsc) (R := rsc) (a := 1068) (i := 1089) 0 (Or.inr (Or.inr ⟨rfl, Or.inr (Or.inl rfl)⟩)))
    have dB1 := dE2.trans dEB
    have sB1 : ST B1 := hB1 ▸ sE2
    have see := M_see h dB1 sB1 (by unfold pp psc pRc; omega) (by unfold pp psc pRc; omega) (fun i => (rsc_5 i).2) g
    have tg4 := dE2.2.2 4 (by omega)
    obtain ⟨mc, -⟩ := M_vcall (g := g) hB1 sE2 ⟨tg4.1.trans k4.1, tg4.2.1.trans k4.2⟩ t1 (f := ff) (fun i hi => ⟨by rw [cE2 _ _ (by decide) (by unfold pVw; omega) (by omega), eA1 _ _ (by omega), hff]; exact (t8 i hi).1.symm, by rw [hff]; exact (t8 i hi).2⟩) (by rw [cE2 _ _ (by decide) (by unfold pVw; omega) (by decide), eA1 _ _ (by decide)]; exact z95) (by rw [cE2 _ _ (by decide) (by unfold pVw; omega) (by decide), eA1 _ _ (by decide)]; exact t5) (by rw [see.2.1]; exact e7) (by rw [see.2.2]; exact e6) (gM.df dE2 (qt_pp qt_pRc) qt_rsc) hnn hz hp0
    obtain ⟨M3, v1, v2, v3, v4, v5⟩ := mc p w2
    obtain ⟨M2, hM2⟩ : ∃ M2, M2 = wI M3 1068 1091 (iw (p : Int)) := ⟨_, rfl⟩
    rw [← hM2] at v1
    have dM2 : Df (pp pRc) qsc rsc M M2 := (dB1.trans (v3.mono (fun a i q => by unfold at1 at q; rw [q]; exact Or.inl (psc_1075 i)) (fun _ _ q => q.elim) (fun _ _ q => q.elim))).trans (hM2 ▸ Df.wI _ (Or.inr (Or.inr ⟨rfl, Or.inl rfl⟩)))
    have hB0 := sB1.1
    have cM2 : ∀ a i, a < 1334 → a ≠ 1075 → ¬ (a = 1068 ∧ i = 1091) → cI M2 a i = cI B1 a i := fun a i k0 k1 k2 => by rw [hM2, cI_wI, if_neg k2, v3.cI (by omega) (by unfold at1; exact k1)]
    have nE2 : m_nx E2 = m_nx M ∧ m_sl E2 = m_sl M := by rw [hE2]; exact ⟨u4.trans nA1.1, u5.trans nA1.2⟩
    obtain ⟨y1, y2, y3⟩ := view_no h h5x dM2
    have nM2 : m_nx M2 = m_nx M3 ∧ m_sl M2 = m_sl M3 := by rw [hM2]; exact ⟨rfl, rfl⟩
    refine ⟨-20, E2, M2, hE, v1, ?_, ?_, y1, ⟨x', u7, ?_⟩, y2, by omega, by omega⟩
    · exact I1.emp h dM2 h1x (by rw [cM2 _ _ (by decide) (by decide) (by decide), hB1, cI_wI, if_neg (by decide), cI_wI, if_neg (by decide), cE2 _ _ (by decide) (by unfold pVw; omega) (by decide)]; exact a65) (by rw [cM2 _ _ (by decide) (by decide) (by decide), hB1, cI_wI, if_pos ⟨rfl, rfl⟩]) (by unfold pp psc pRc; omega) (by unfold pp psc pRc; omega)
    · exact I4.pl h dM2 h4x (by rw [cM2 _ _ (by decide) (by decide) (by decide), hB1, cI_wI, if_neg (by decide), cI_wI, if_neg (by decide), hE2, cI_wI, if_pos ⟨rfl, rfl⟩, hM2, cI_wI, if_pos ⟨rfl, rfl⟩]) (fun a i q hh => pg_pRc a i q (pp_pg a i hh))
    · rw [cM2 _ _ (by decide) (by decide) (by decide), hB1, cI_wI, if_neg (by decide), cI_wI, if_neg (by decide), hE2, cI_wI, if_neg (by decide)]
      exact u8
  · -- a view
    obtain ⟨E1, a, u1, u2, u3, u4, u5, u6, u7, u8, u9⟩ := er.2 σ w1
    have dE1 : Df (pp pRc) qsc rsc M E1 := dA1.trans (u6.mono (fun a i q => Or.inl (pVw_sc a i q)) (fun _ _ q => q.elim) rVw_sc)
    have q1 := h5.1
    have q2 := h5.2.1
    have c193 : cI E1 1004 193 = iw m := by rw [dE1.cI (by omega) (noGr_pp noGr_pRc _ _ (Or.inl ⟨rfl, Or.inl rfl⟩))]; exact h5.2.2.1
    have c194 : cI E1 1004 194 = iw w := by rw [dE1.cI (by omega) (noGr_pp noGr_pRc _ _ (Or.inl ⟨rfl, Or.inr rfl⟩))]; exact h5.2.2.2.2.1
    have d193 : cI M 1068 1093 = iw m := h5.2.2.2.1
    have hroom := E_room0 u2 q1 q2 c193 c194
    obtain ⟨o1, o2, o3, o4, o5, o6, o7, o8, o9, o10⟩ := id u4
    have hcnt := E_cnt (M := E1) (a := cR E1 a 1410) (n := σ.1) (z := σ.2.2.2.1) o6.2.2.1 o6.2.2.2.1 r3 (Nat.le_refl _) (fun i hi => ⟨o6.2.2.2.2 i hi, r4 i hi⟩)
    have hcn : cnt σ.2.2.2.1 σ.1 = iw (prd σ.2.2.2.1 σ.1 : Nat) := by unfold cnt; rw [if_neg (by omega)]
    rw [hcn] at hcnt
    have hneg : ¬ iw (prd σ.2.2.2.1 σ.1 : Nat) < 0 := by rw [iw_lt0 (by omega) (by omega)]; omega
    have had : F_X0_added E1 1000 a = if m < 400 then (F_X2_add E1 1004 a).bind (fun z => some (z.1, z.2)) else some (-12, E1) := by
      simp only [F_X0_added, F_X0_added_b26, gr_of o3 (show x_fr 22 1410 = true by decide), gi_of o3 (show x_fi 22 1409 = true by decide), o5, hcnt, hneg, g1000_68, v1004, u2, hroom, Option.bind_some, if_false]
      by_cases c : m < 400
      · rw [if_pos c, decide_eq_true c, if_neg (by decide)]
      · rw [if_neg c, decide_eq_false c, if_pos (by decide)]
    have cE1 : ∀ b i, b < 1334 → ¬ pVw b i → cI E1 b i = cI A1 b i := fun b i k0 k1 => u6.cI (by omega) k1
    have tg4 := dE1.2.2 4 (by omega)
    by_cases c : m < 400
    · obtain ⟨N, hN⟩ : ∃ N, N = wR (wI E1 1004 193 (iw ((m + 1 : Nat) : Int))) 1005 (m + 1) a := ⟨_, rfl⟩
      have hE : F_X0_view M 1000 g = some (iw ((m + 1 : Nat) : Int), N) := by
        rw [hdE, u1, tc_inl]
        simp only [v1000, u2, had, c, if_true, E_num u2 c c193 o3, ← hN, Option.bind_some]
      have dEN : Df (fun a i => a = 1004 ∧ i = 193) n2 rGr E1 N := by rw [hN]; exact (Df.wI _ ⟨rfl, rfl⟩).trans (Df.wR _ (Or.inl rfl))
      have sN : ST N := u2.gr dEN
      have nN : m_nx N = m_nx E1 ∧ m_sl N = m_sl E1 := by rw [hN]; exact ⟨rfl, rfl⟩
      have cN : ∀ b i, b < 1334 → ¬ (b = 1004 ∧ i = 193) → cI N b i = cI E1 b i := fun b i k0 k1 => dEN.cI (by have := u2.1; omega) k1
      have dN : Df (fun a i => pp pRc a i ∨ (a = 1004 ∧ i = 193)) qsc (fun a i => rsc a i ∨ a = 1005) M N := (dE1.mono (fun _ _ q => Or.inl q) (fun _ _ q => q) (fun _ _ q => Or.inl q)).trans (by
        rw [hN]
        exact (Df.wI _ (Or.inr ⟨rfl, rfl⟩)).trans (Df.wR _ (Or.inr rfl)))
      obtain ⟨B1, hB1⟩ : ∃ B1, B1 = wI (wI N 1068 1091 (-1)) 1068 1089 0 := ⟨_, rfl⟩
      have dNB : Df (pp pRc) qsc rsc N B1 := by
        rw [hB1]
        exact (Df.wI (P := pp pRc) (Q := qsc) (R := rsc) (M := N) (a := 1068) (i := 1091) (-1) (Or.inr (Or.inr ⟨rfl, Or.inl rfl⟩))).trans (Df.wI (P := pp pRc) (Q := qsc) (R := rsc) (a := 1068) (i := 1089) 0 (Or.inr (Or.inr ⟨rfl, Or.inr (Or.inl rfl)⟩)))
      have sB1 : ST B1 := hB1 ▸ sN
      have dMB := dN.trans (dNB.mono (fun _ _ q => Or.inl q) (fun _ _ q => q) (fun _ _ q => Or.inl q))
      have see := M_see h dMB sB1 (by unfold pp psc pRc; omega) (by unfold pp psc pRc; omega) (fun i q => q.elim (rsc_5 i).2 (fun e => by omega)) g
      have tg4N := dEN.2.2 4 (by have := u2.1; omega)
      obtain ⟨-, mc⟩ := M_vcall (g := g) hB1 sN ⟨tg4N.1.trans (tg4.1.trans k4.1), tg4N.2.1.trans (tg4.2.1.trans k4.2)⟩ t1 (f := ff) (fun i hi => ⟨by rw [cN _ _ (by decide) (by omega), cE1 _ _ (by decide) (by unfold pVw; omega), eA1 _ _ (by omega), hff]; exact (t8 i hi).1.symm, by rw [hff]; exact (t8 i hi).2⟩) (by rw [cN _ _ (by decide) (by decide), cE1 _ _ (by decide) (by unfold pVw; omega), eA1 _ _ (by decide)]; exact z95) (by rw [cN _ _ (by decide) (by decide), cE1 _ _ (by decide) (by unfold pVw; omega), eA1 _ _ (by decide)]; exact t5) (by rw [see.2.1]; exact e7) (by rw [see.2.2]; exact e6) ((gM.df dE1 (qt_pp qt_pRc) qt_rsc).df dEN (fun a i k1 k2 => by omega) qt_rGr) hnn hz hp0
      obtain ⟨M3, b, v1, v2, v3, v4, v5, v6, v7⟩ := mc τ w2
      have hB0 := sB1.1
      have cM3 : ∀ b i, b < 1334 → b ≠ 1075 → cI M3 b i = cI B1 b i := fun b i k0 k1 => v5.cI (by omega) (by unfold at1; exact k1)
      have m193 : cI M3 1068 1093 = iw m := by rw [cM3 _ _ (by decide) (by decide), hB1, cI_wI, if_neg (by decide), cI_wI, if_neg (by decide), cN _ _ (by decide) (by decide), cE1 _ _ (by decide) (by unfold pVw; omega), eA1 _ _ (by decide)]; exact d193
      rw [if_neg (by rw [m193, show (400 : Int32) = iw ((400 : Nat) : Int) from rfl, iw_eq (by omega) (by omega) (by omega) (by omega)]; omega), M_num v2 c m193 v4.2.2.1, Option.bind_some] at v1
      obtain ⟨M2, hM2⟩ : ∃ M2, M2 = wR (wI M3 1068 1093 (iw ((m + 1 : Nat) : Int))) 1070 (m + 1) b := ⟨_, rfl⟩
      have dB : Df (pp pRc) qsc rsc N M3 := dNB.trans (v5.mono (fun a i q => by unfold at1 at q; rw [q]; exact Or.inl (psc_1075 i)) (fun _ _ q => q.elim) (fun _ _ q => q.elim))
      have v4' : GM M3 b (K j) σ.1 σ.2.2.2.1 τ.2.2.2.2 τ.2.2.1 (D j) (P j) := by rw [r1, r2]; exact v4
      obtain ⟨y1, y2, y3, y4, y5⟩ := vw2s h h5 c j1 j2 e4 dE1 qt_pRc noGr_pRc u4 (by omega) hN dB v4' (by omega) hM2 r3 r4 (by omega) hp0 (fun hne => r7 ((prd_pos _).mp (fun e => hne (r6 e))))
      have h30 := v2.1
      have cM2 : ∀ b i, b < 1334 → ¬ (b = 1068 ∧ i = 1093) → cI M2 b i = cI M3 b i := fun b i k0 k1 => y3.cI (by omega) k1
      have nB1 : m_nx B1 = m_nx N ∧ m_sl B1 = m_sl N := by rw [hB1]; exact ⟨rfl, rfl⟩
      refine ⟨iw ((m + 1 : Nat) : Int), N, M2, hE, by rw [v1, hM2], ?_, ?_, y1, ⟨σ.1, by omega, ?_⟩, y2, by omega, by omega⟩
      · exact I1.emp h y2 h1x (by rw [cM2 _ _ (by decide) (by decide), cM3 _ _ (by decide) (by decide), hB1, cI_wI, if_neg (by decide), cI_wI, if_neg (by decide), cN _ _ (by decide) (by decide), cE1 _ _ (by decide) (by unfold pVw; omega)]; exact a65) (by rw [cM2 _ _ (by decide) (by decide), cM3 _ _ (by decide) (by decide), hB1, cI_wI, if_pos ⟨rfl, rfl⟩]) (by unfold pg psc pRc pGr; omega) (by unfold pg psc pRc pGr; omega)
      · exact I4.pl h y2 h4x (by rw [cM2 _ _ (by decide) (by decide), cM3 _ _ (by decide) (by decide), hB1, cI_wI, if_neg (by decide), cI_wI, if_neg (by decide), cN _ _ (by decide) (by decide), cE1 _ _ (by decide) (by unfold pVw; omega), a95, cM2 _ _ (by decide) (by decide), cM3 _ _ (by decide) (by decide), hB1, cI_wI, if_neg (by decide), cI_wI, if_pos ⟨rfl, rfl⟩]) pg_pRc
      · rw [cM2 _ _ (by decide) (by decide), cM3 _ _ (by decide) (by decide), hB1, cI_wI, if_neg (by decide), cI_wI, if_neg (by decide), cN _ _ (by decide) (by decide)]
        exact u9
    · have hE : F_X0_view M 1000 g = some (-12, E1) := by
        rw [hdE, u1, tc_inl]
        simp only [v1000, u2, had, c, if_false, Option.bind_some]
      obtain ⟨B1, hB1⟩ : ∃ B1, B1 = wI (wI E1 1068 1091 (-1)) 1068 1089 0 := ⟨_, rfl⟩
      have dEB : Df (pp pRc) qsc rsc E1 B1 := by
        rw [hB1]
        exact (Df.wI (P := pp pRc) (Q := qsc) (R := rsc) (M := E1) (a := 1068) (i := 1091) (-1) (Or.inr (Or.inr ⟨rfl, Or.inl rfl⟩))).trans (Df.wI (P := pp pRc) (Q := qsc) (R := rsc) (a := 1068) (i := 1089) 0 (Or.inr (Or.inr ⟨rfl, Or.inr (Or.inl rfl)⟩)))
      have dB1 := dE1.trans dEB
      have sB1 : ST B1 := hB1 ▸ u2
      have see := M_see h dB1 sB1 (by unfold pp psc pRc; omega) (by unfold pp psc pRc; omega) (fun i => (rsc_5 i).2) g
      obtain ⟨-, mc⟩ := M_vcall (g := g) hB1 u2 ⟨tg4.1.trans k4.1, tg4.2.1.trans k4.2⟩ t1 (f := ff) (fun i hi => ⟨by rw [cE1 _ _ (by decide) (by unfold pVw; omega), eA1 _ _ (by omega), hff]; exact (t8 i hi).1.symm, by rw [hff]; exact (t8 i hi).2⟩) (by rw [cE1 _ _ (by decide) (by unfold pVw; omega), eA1 _ _ (by decide)]; exact z95) (by rw [cE1 _ _ (by decide) (by unfold pVw; omega), eA1 _ _ (by decide)]; exact t5) (by rw [see.2.1]; exact e7) (by rw [see.2.2]; exact e6) (gM.df dE1 (qt_pp qt_pRc) qt_rsc) hnn hz hp0
      obtain ⟨M3, b, v1, v2, v3, v4, v5, v6, v7⟩ := mc τ w2
      have hB0 := sB1.1
      have cM3 : ∀ b i, b < 1334 → b ≠ 1075 → cI M3 b i = cI B1 b i := fun b i k0 k1 => v5.cI (by omega) (by unfold at1; exact k1)
      have m193 : cI M3 1068 1093 = iw m := by rw [cM3 _ _ (by decide) (by decide), hB1, cI_wI, if_neg (by decide), cI_wI, if_neg (by decide), cE1 _ _ (by decide) (by unfold pVw; omega), eA1 _ _ (by decide)]; exact d193
      rw [if_pos (by rw [m193, show m = 400 by omega]; rfl)] at v1
      have dM3 : Df (pp pRc) qsc rsc M M3 := dB1.trans (v5.mono (fun a i q => by unfold at1 at q; rw [q]; exact Or.inl (psc_1075 i)) (fun _ _ q => q.elim) (fun _ _ q => q.elim))
      obtain ⟨y1, y2, y3⟩ := view_no h h5x dM3
      refine ⟨-12, E1, M3, hE, v1, ?_, ?_, y1, ⟨σ.1, by omega, ?_⟩, y2, by omega, by omega⟩
      · exact I1.emp h dM3 h1x (by rw [cM3 _ _ (by decide) (by decide), hB1, cI_wI, if_neg (by decide), cI_wI, if_neg (by decide), cE1 _ _ (by decide) (by unfold pVw; omega)]; exact a65) (by rw [cM3 _ _ (by decide) (by decide), hB1, cI_wI, if_pos ⟨rfl, rfl⟩]) (by unfold pp psc pRc; omega) (by unfold pp psc pRc; omega)
      · exact I4.pl h dM3 h4x (by rw [cM3 _ _ (by decide) (by decide), hB1, cI_wI, if_neg (by decide), cI_wI, if_neg (by decide), cE1 _ _ (by decide) (by unfold pVw; omega), a95, cM3 _ _ (by decide) (by decide), hB1, cI_wI, if_neg (by decide), cI_wI, if_pos ⟨rfl, rfl⟩]) (fun a i q hh => pg_pRc a i q (pp_pg a i hh))
      · rw [cM3 _ _ (by decide) (by decide), hB1, cI_wI, if_neg (by decide), cI_wI, if_neg (by decide)]
        exact u9
