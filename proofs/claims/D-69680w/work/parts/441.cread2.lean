/-! ===== CALLS: read, alike ===== -/
theorem c_read {M : Mem} (h : ST M) (h1 : I1 M) (h4 : I4 M) (h5 : I5 M) : CR (pg pRc) (rG M) (fun N => I1 N ∧ I4 N) M (fun M => F_X0_read M 1000) (fun M => F_X16_read M 1068) := by
  have h0 := h.1
  have h5x := h5
  have h4x := h4
  have h1x := h1
  obtain ⟨m, w, K, n, Z, S, T, X, Y, C, D, L, P, h5⟩ := h5
  obtain ⟨t, f, t1, t2, t3, t4, t5, t6, t7, t8⟩ := h1
  obtain ⟨-, -, -, q97, q1095, -⟩ := h4
  have n10 : ¬ (1 : Int32) = 0 := by decide
  obtain ⟨A, hA⟩ : ∃ A, A = wI M 1000 95 (-1) := ⟨_, rfl⟩
  have sA : ST A := hA ▸ h
  have dA : Df (pp pRc) qsc rsc M A := hA ▸ Df.wI _ (Or.inr (Or.inl ⟨rfl, Or.inl rfl⟩))
  have cA : cI A 1000 97 = cI M 1000 97 := by rw [hA, cI_wI, if_neg (by decide)]
  by_cases c97 : cI M 1000 97 = 1
  · obtain ⟨B, hB⟩ : ∃ B, B = wI A 1068 1091 (-1) := ⟨_, rfl⟩
    have dB : Df (pp pRc) qsc rsc M B := dA.trans (hB ▸ Df.wI _ (Or.inr (Or.inr ⟨rfl, Or.inl rfl⟩)))
    have sB : ST B := hB ▸ sA
    have cB : cI B 1068 1095 = 1 := by rw [hB, cI_wI, if_neg (by decide), hA, cI_wI, if_neg (by decide), ← q1095, c97]
    have np : ∀ a i, pp pRc a i → pg pRc a i := pp_pg
    refine CR.nos h h5x (-13) A B ?_ ?_ ⟨?_, ?_⟩ dB pp_pg (qt_pp qt_pRc) (noGr_pp noGr_pRc) ?_ ?_
    · simp only [F_X0_read, p1000_95, h, ← hA, g1000_97, sA, cA, c97, n10, Option.bind_some, if_false]
    · simp only [F_X16_read, p1068_1091, sA, ← hB, g1068_1095, sB, cB, n10, Option.bind_some, if_false]
    · have e : ∀ a i, ¬ (a = 1000 ∧ i = 95) → ¬ (a = 1068 ∧ i = 1091) → cI B a i = cI M a i := fun a i k1 k2 => by rw [hB, cI_wI, if_neg k2, hA, cI_wI, if_neg k1]
      exact ⟨t, f, t1, t2, t3, by rw [e _ _ (by decide) (by decide)]; exact t4, by rw [e _ _ (by decide) (by decide)]; exact t5, by rw [e _ _ (by decide) (by decide)]; exact t6, by rw [e _ _ (by decide) (by decide)]; exact t7, fun i hi => by rw [e _ _ (by omega) (by omega), e _ _ (by omega) (by omega)]; exact t8 i hi⟩
    · exact I4.pl h dB h4x (by rw [hB, cI_wI, if_neg (by decide), hA, cI_wI, if_pos ⟨rfl, rfl⟩, cI_wI, if_pos ⟨rfl, rfl⟩]) (fun a i q hh => pg_pRc a i q (pp_pg a i hh))
    · rw [hB, hA]; show m_nx M ≤ _; omega
    · rw [hB, hA]; show m_sl M ≤ _; omega
  have z97 : cI M 1000 97 = 0 := q97.resolve_right c97
  rw [z97] at q1095
  obtain ⟨A1, hA1⟩ : ∃ A1, A1 = wI A 1000 65 0 := ⟨_, rfl⟩
  have sA1 : ST A1 := hA1 ▸ sA
  have dA1 : Df (pp pRc) qsc rsc M A1 := dA.trans (hA1 ▸ Df.wI _ (Or.inr (Or.inl ⟨rfl, Or.inr rfl⟩)))
  have eA1 : ∀ a i, ¬ (a = 1000 ∧ (i = 95 ∨ i = 65)) → cI A1 a i = cI M a i := fun a i k1 => by rw [hA1, cI_wI, if_neg (by omega), hA, cI_wI, if_neg (by omega)]
  have nA1 : m_nx A1 = m_nx M ∧ m_sl A1 = m_sl M := by rw [hA1, hA]; exact ⟨rfl, rfl⟩
  have a65 : cI A1 1000 65 = 0 := by rw [hA1, cI_wI, if_pos ⟨rfl, rfl⟩]
  have a95 : cI A1 1000 95 = -1 := by rw [hA1, cI_wI, if_neg (by decide), hA, cI_wI, if_pos ⟨rfl, rfl⟩]
  have us : F_X0_used A 1000 = some (iw (t : Int), A1) := by
    have : cI A 1000 65 = iw (t : Int) := by rw [hA, cI_wI, if_neg (by decide)]; exact t4
    simp only [F_X0_used, g1000_65, p1000_65, sA, this, ← hA1, Option.bind_some]
  have hd : F_X0_read M 1000 = tc (F_X13_read A1 1048 1001 0 (iw (t : Int))) (fun z13 =>
      if z13.1 < 0 then F_X0_read_b45 z13.2 (-12 : Int32) else (vg z13.2 1000 1).bind fun _ => (F_X0_readGrid z13.2 1000).bind fun z16 => F_X0_read_b45 z16.2 z16.1)
      (fun z14 => F_X0_read_b46 z14.2 z14.1 1000) := by
    simp only [F_X0_read, p1000_95, h, ← hA, g1000_97, v1000, sA, cA, z97, us, g1000_78, g1000_64, sA1, v1048, Option.bind_some, if_true]
  obtain ⟨g, hg⟩ : ∃ g : Nat → Int32, g = fun p => cI A1 1001 (0 + p) := ⟨_, rfl⟩
  have gM : ∀ i, g i = cI M 1001 i := fun i => by rw [hg, ← eA1 1001 i (by omega)]; show cI A1 1001 (0 + i) = _; rw [Nat.zero_add]
  have er := E_read13 (M0 := A1) (r := 1001) (cap := 16000) (fr := 0) (n := t) hg sA1 ⟨by omega, by unfold pRd; omega, t1001 sA1, l1001 sA1, by decide⟩ (by omega) (by omega)
  rw [Nat.zero_add] at er
  have hd0 : F_X13_read A1 1048 1001 0 (iw (t : Int)) = F_X13_read A1 1048 1001 (iw ((0 : Nat) : Int)) (iw (t : Int)) := by rw [show iw ((0 : Nat) : Int) = 0 from rfl]
  rw [hd0] at hd
  -- the model, from the engine's end on
  have model : ∀ N : Mem, ST N → cI N 1068 1095 = 0 → cI N 1068 1089 = iw (t : Int) → (∀ i, i < t → cI N 1069 i = g i) → ∃ B1, B1 = wI (wI N 1068 1091 (-1)) 1068 1089 0 ∧ ST B1 ∧
      (∀ p, rdE g t = some p → ∃ M', F_X16_read N 1068 = some (-20, wI M' 1068 1091 (iw (p : Int))) ∧ MdF B1 M' p) ∧
      (rdE g t = none → ∃ M', F_X16_read N 1068 = F_X16_madeIfRoom M' 1068 (iw (bn (g 2) : Nat)) (m_nx B1) 1073 ∧ Mdr B1 M' (bn (g 3)) (iw (bn (g 2) : Nat)) ∧ (∀ i, i < bn (g 3) → cI M' (m_nx B1) i = iw (zRd g i : Nat)) ∧ ∀ q, q < prd (zRd g) (bn (g 3)) → cJ M' 1073 q = cRd g (iw (bn (g 2) : Nat)) (4 + 2 * bn (g 3) + q * wdt (iw (bn (g 2) : Nat)))) := fun N sN k1 k2 k3 => by
    obtain ⟨B, hB⟩ : ∃ B, B = wI N 1068 1091 (-1) := ⟨_, rfl⟩
    obtain ⟨B1, hB1⟩ : ∃ B1, B1 = wI B 1068 1089 0 := ⟨_, rfl⟩
    have sB : ST B := hB ▸ sN
    have sB1 : ST B1 := hB1 ▸ sB
    have b95 : cI B 1068 1095 = 0 := by rw [hB, cI_wI, if_neg (by decide)]; exact k1
    have us : F_X16_used B 1068 = some (iw (t : Int), B1) := by
      have : cI B 1068 1089 = iw (t : Int) := by rw [hB, cI_wI, if_neg (by decide)]; exact k2
      simp only [F_X16_used, g1068_1089, p1068_1089, sB, this, ← hB1, Option.bind_some]
    have mr := M_readA (M0 := B1) (r := 1069) (cap := 16000) (n := t) (g := g) (fun i hi => by rw [hB1, cI_wI, if_neg (by omega), hB, cI_wI, if_neg (by omega)]; exact k3 i hi) sB1 ⟨by have := sB1.1; omega, by decide, by decide, t1069 sB1, l1069 sB1, by decide⟩ t1 (by omega) (fun i hi => by rw [gM]; exact (t8 i hi).2)
    have hh : F_X16_read N 1068 = tc (F_X16_headOf B1 1068 1069 (iw (t : Int))) (fun z10 =>
      (gr z10.2 1068 1088).bind fun t12 =>
      (vg z10.2 1068 17).bind fun _ =>
      tc (F_X16_cellsOf z10.2 1068 t12 z10.1 (iw (t : Int) - (4 : Int32))) (fun z14 =>
        (gi z14 1068 1127).bind fun t16 =>
        (gr z14 1068 1128).bind fun t17 =>
        (gr z14 1068 1100).bind fun t18 =>
        (vg z14 1068 17).bind fun _ =>
        (F_X16_madeIfRoom z14 1068 t16 t17 t18).bind fun z20 =>
        some (z20.1, z20.2))
        (fun z15 => F_X16_read_b45 z15.2 z15.1 1068))
      (fun z11 => F_X16_read_b45 z11.2 z11.1 1068) := by
      simp only [F_X16_read, p1068_1091, sN, ← hB, g1068_1095, v1068, sB, b95, us, g1068_1088, sB1, Option.bind_some, if_true]
    have b45 : ∀ M' x p, MdF B1 M' p → F_X16_read_b45 M' x 1068 = some (-20, wI M' 1068 1091 (iw (p : Int))) := fun M' x p k => by
      obtain ⟨k1, k2, k3, k4, k5⟩ := k
      simp only [F_X16_read_b45, g1068_1103, g1075_1153, p1068_1091, k1, k5, Option.bind_some]
    refine ⟨B1, by rw [hB1, hB], sB1, fun p hp => ?_, fun hp => ?_⟩
    · rcases mr.1 p hp with ⟨x, M', f1, f2⟩ | ⟨s, Q, x, M', f1, f2, f3, f4⟩
      · refine ⟨M', ?_, f2⟩
        rw [hh, f1, tc_inr]
        exact b45 M' x p f2
      · refine ⟨M', ?_, f3⟩
        rw [hh, f1, tc_inl]
        simp only [g1068_1088, v1068, f4, f2, tc_inr, Option.bind_some]
        exact b45 M' x p f3
    · obtain ⟨s, Q, M', f1, f2, f3, f4, f5, f6⟩ := mr.2 hp
      obtain ⟨k1, k2, k3, k4, k5, k6, k7, k8, k9⟩ := id f4
      refine ⟨M', ?_, f4, f5, f6⟩
      rw [hh, f1, tc_inl]
      simp only [g1068_1088, v1068, f3, f2, tc_inl, Option.bind_some]
      simp only [g1068_1127, g1068_1128, g1068_1100, v1068, k1, k5, k6, Option.bind_some]
      cases F_X16_madeIfRoom M' 1068 (iw (bn (g 2) : Nat)) (m_nx B1) 1073 <;> rfl
  cases hr : rdE g t with
  | some p =>
    obtain ⟨E1, e1, e2, e3, e4, e5, e6, e7⟩ := er.1 p hr
    obtain ⟨E2, hE2⟩ : ∃ E2, E2 = wI E1 1000 95 (iw (p : Int)) := ⟨_, rfl⟩
    have sE2 : ST E2 := hE2 ▸ e2
    have dE2 : Df (pp pRc) qsc rsc M E2 := (dA1.trans (e3.mono (fun a i q => Or.inl (pRd_sc a i q)) qRd_sc rRd_sc)).trans (hE2 ▸ Df.wI _ (Or.inr (Or.inl ⟨rfl, Or.inl rfl⟩)))
    have cE2 : ∀ a i, a < 1334 → ¬ pRd a i → ¬ (a = 1000 ∧ i = 95) → cI E2 a i = cI A1 a i := fun a i k0 k1 k2 => by rw [hE2, cI_wI, if_neg k2, e3.cI (by omega) k1]
    have hE : F_X0_read M 1000 = some (-20, E2) := by
      have c129 : cI E2 1002 129 = 20 := by rw [hE2, cI_wI, if_neg (by decide)]; exact e6
      rw [hd, e1, tc_inr]
      simp only [F_X0_read_b46, g1000_67, g1002_130, e2, e7, p1000_95, ← hE2, sE2, g1002_129, c129, Option.bind_some]
    obtain ⟨B1, hB1, sB1, m1, -⟩ := model E2 sE2 (by rw [cE2 _ _ (by decide) (by unfold pRd; omega) (by decide), eA1 _ _ (by decide)]; exact q1095.symm) (by rw [cE2 _ _ (by decide) (by unfold pRd; omega) (by decide), eA1 _ _ (by decide)]; exact t5) (fun i hi => by rw [cE2 _ _ (by decide) (by unfold pRd; omega) (by omega), eA1 _ _ (by omega), gM]; exact (t8 i hi).1.symm)
    obtain ⟨M', f1, f2, f3, f4, f5, f6⟩ := m1 p hr
    obtain ⟨M2, hM2⟩ : ∃ M2, M2 = wI M' 1068 1091 (iw (p : Int)) := ⟨_, rfl⟩
    rw [← hM2] at f1
    have dB1 : Df (pp pRc) qsc rsc M B1 := (dE2.trans (Df.wI (P := pp pRc) (Q := qsc) (R := rsc) (a := 1068) (i := 1091) (-1) (Or.inr (Or.inr ⟨rfl, Or.inl rfl⟩)))).trans (hB1 ▸ Df.wI (P := pp pRc) (Q := qsc) (R := rsc) (a := 1068) (i := 1089) 0 (Or.inr (Or.inr ⟨rfl, Or.inr (Or.inl rfl)⟩)))
    have dM2 : Df (pp pRc) qsc rsc M M2 := (dB1.trans (f3.mono (pMd_sc (Or.inr ⟨rfl, Or.inr (Or.inr rfl)⟩)) qMd_sc rMd_sc)).trans (hM2 ▸ Df.wI _ (Or.inr (Or.inr ⟨rfl, Or.inl rfl⟩)))
    have nB1 : m_nx B1 = m_nx M ∧ m_sl B1 = m_sl M := by
      rw [hB1, hE2]
      exact ⟨e4.trans nA1.1, e5.trans nA1.2⟩
    have cM2 : ∀ a i, a < 1334 → ¬ pMd a i → ¬ (a = 1068 ∧ i = 1091) → cI M2 a i = cI B1 a i := fun a i k0 k1 k2 => by rw [hM2, cI_wI, if_neg k2, f3.cI (by have := sB1.1; omega) k1]
    refine CR.nos h h5x (-20) E2 M2 hE f1 ⟨?_, ?_⟩ dM2 pp_pg (qt_pp qt_pRc) (noGr_pp noGr_pRc) ?_ ?_
    · refine I1.emp h dM2 h1x ?_ ?_ (by unfold pp psc pRc; omega) (by unfold pp psc pRc; omega)
      · rw [cM2 _ _ (by decide) (by unfold pMd; omega) (by decide), hB1, cI_wI, if_neg (by decide), cI_wI, if_neg (by decide), cE2 _ _ (by decide) (by unfold pRd; omega) (by decide)]; exact a65
      · rw [cM2 _ _ (by decide) (by unfold pMd; omega) (by decide), hB1, cI_wI, if_pos ⟨rfl, rfl⟩]
    · refine I4.pl h dM2 h4x ?_ (fun a i q hh => pg_pRc a i q (pp_pg a i hh))
      rw [cM2 _ _ (by decide) (by unfold pMd; omega) (by decide), hB1, cI_wI, if_neg (by decide), cI_wI, if_neg (by decide), hE2, cI_wI, if_pos ⟨rfl, rfl⟩, hM2, cI_wI, if_pos ⟨rfl, rfl⟩]
    · rw [hM2]; show m_nx M' ≤ _; omega
    · rw [hM2]; show m_sl M' ≤ _; omega
  | none =>
    obtain ⟨c, E, e1, e2, G⟩ := er.2 hr
    obtain ⟨ρ, M1, k1, k2, k3, k4, k5⟩ := rdMake h h5 dA1 qt_pRc noGr_pRc (Or.inr ⟨rfl, Or.inr (Or.inr rfl)⟩) G
    obtain ⟨G1, G2, G3, G4, -⟩ := G
    have hE : F_X0_read M 1000 = some (ρ, M1) := by
      rw [hd, e1, tc_inl]
      simp only [e2, if_false, v1000, G1, k1, F_X0_read_b45, Option.bind_some]
    have cM1 : ∀ a i, a < 1334 → ¬ pRd a i → ¬ (pShape a i ∨ pNE a i) → cI M1 a i = cI A1 a i := fun a i x0 x1 x2 => by rw [k3.cI (by have := G1.1; omega) x2, G2.cI (by omega) x1]
    obtain ⟨B1, hB1, sB1, -, m2⟩ := model M1 k2 (by rw [cM1 _ _ (by decide) (by unfold pRd; omega) (by unfold pShape pNE; omega), eA1 _ _ (by decide)]; exact q1095.symm) (by rw [cM1 _ _ (by decide) (by unfold pRd; omega) (by unfold pShape pNE; omega), eA1 _ _ (by decide)]; exact t5) (fun i hi => by rw [cM1 _ _ (by decide) (by unfold pRd; omega) (by unfold pShape pNE; omega), eA1 _ _ (by omega), gM]; exact (t8 i hi).1.symm)
    obtain ⟨M', f1, f2, f3, f4⟩ := m2 hr
    have dB1 : Df (pp pRc) qsc rsc M1 B1 := (Df.wI (P := pp pRc) (Q := qsc) (R := rsc) (M := M1) (a := 1068) (i := 1091) (-1) (Or.inr (Or.inr ⟨rfl, Or.inl rfl⟩))).trans (hB1 ▸ Df.wI (P := pp pRc) (Q := qsc) (R := rsc) (a := 1068) (i := 1089) 0 (Or.inr (Or.inr ⟨rfl, Or.inr (Or.inl rfl)⟩)))
    obtain ⟨M2, j1, j2, j3, j4, j5, j6⟩ := k5 B1 M' dB1 f2 f3 f4
    obtain ⟨s1, s2, s3, s4, s5, s6, s7, s8, s9⟩ := f2
    have nB1 : m_nx B1 = m_nx M1 ∧ m_sl B1 = m_sl M1 := by
      rw [hB1]
      exact ⟨rfl, rfl⟩
    have cM2 : ∀ a i, a < 1334 → ¬ pMd a i → ¬ pNM a i → cI M2 a i = cI B1 a i := fun a i x0 x1 x2 => by rw [j5.cI (by have := s1.1; omega) x2, s2.cI (by have := sB1.1; omega) x1]
    refine ⟨ρ, M1, M2, hE, by show F_X16_read M1 1068 = _; rw [f1, j1], ⟨?_, ?_⟩, j2, j3, by omega, by omega⟩
    · refine I1.emp h j3 h1x ?_ ?_ (by unfold pg psc pRc pGr; omega) (by unfold pg psc pRc pGr; omega)
      · rw [cM2 _ _ (by decide) (by unfold pMd; omega) (by unfold pNM; omega), hB1, cI_wI, if_neg (by decide), cI_wI, if_neg (by decide), cM1 _ _ (by decide) (by unfold pRd; omega) (by unfold pShape pNE; omega)]; exact a65
      · rw [cM2 _ _ (by decide) (by unfold pMd; omega) (by unfold pNM; omega), hB1, cI_wI, if_pos ⟨rfl, rfl⟩]
    · refine I4.pl h j3 h4x ?_ pg_pRc
      rw [cM2 _ _ (by decide) (by unfold pMd; omega) (by unfold pNM; omega), hB1, cI_wI, if_neg (by decide), cI_wI, if_neg (by decide), cM1 _ _ (by decide) (by unfold pRd; omega) (by unfold pShape pNE; omega), a95, cM2 _ _ (by decide) (by unfold pMd; omega) (by unfold pNM; omega), hB1, cI_wI, if_neg (by decide), cI_wI, if_pos ⟨rfl, rfl⟩]
