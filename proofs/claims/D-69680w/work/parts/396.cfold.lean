/-! ===== CALLS, 24: fold ===== -/
theorem fold_end {B2 B3 B4 : Mem} {v : Int64} {l zz zy : Int32} (e1 : sj B2 1073 zy v = some B3) (e2 : mk B3 1005 zz = some B4) (s4 : ST B4) : ((sj B2 1073 zy v).bind fun M60 => (mk M60 1005 zz).bind fun M61 => (gr M61 1068 1100).bind fun t62 => (vg M61 1068 17).bind fun _ => (F_X16_madeIfRoom M61 1068 l (m_nx M60) t62).bind fun z64 => some (z64.1, z64.2)) = F_X16_madeIfRoom B4 1068 l (m_nx B3) 1073 := by
  simp only [e1, e2, g1068_1100, v1068, s4, Option.bind_some, bse]
theorem c_fold {M : Mem} {g w a : Int32} (h : ST M) (k0 : K0 M) (h4 : I4 M) (h5 : I5 M) : CR (pg pFl) (rG M) I4 M (fun M => F_X0_fold M 1000 g w a) (fun M => F_X16_fold M 1068 g w a) := by
  have h0 := h.1
  have h5x := h5
  obtain ⟨m, ww, K, n, Z, S, T, X, Y, C, D, L, P, h5⟩ := h5
  have n10 : ¬ (1 : Int32) = 0 := by decide
  have hxN : xN = 1099511627776 := rfl
  obtain ⟨A, hA, fi, sA, dA, nA, lA, c91, x1, x2⟩ := E_seeW h g
  obtain ⟨B, hB, pB, sB, dB, dAB, c17, cB, yc, yg, ya⟩ := M_seeW h (dA.mono (fun _ _ q => Or.inl q) (fun _ _ q => q) (fun _ _ q => q.elim)) g
  have nB : m_nx B = m_nx M := by rw [hB]; exact nA
  have lB : m_sl B = m_sl M := by rw [hB]; exact lA
  have no : ∀ r : Int32, F_X0_fold M 1000 g w a = some (r, A) → F_X16_fold A 1068 g w a = some (r, B) → CR (pg pFl) (rG M) I4 M (fun M => F_X0_fold M 1000 g w a) (fun M => F_X16_fold M 1068 g w a) := fun r e1 e2 =>
    CR.fine h h4 h5x r e1 e2 dA c91 dAB c17 (by omega) (by omega)
  have z13 : (0 : Int32) < 13 := by decide
  have z14 : (0 : Int32) < 14 := by decide
  have z6 : ¬ (0 : Nat) = 6 := by decide
  rcases look h h4 h5 g with ⟨b1, b2, e1, e2, e3⟩ | ⟨b1, b2, e1, e2, e3, e8⟩ | ⟨b1, b2, j, j1, j2, hg, e1, e4, e5, e3, e7, e6, gp⟩
  · refine no (-13) ?_ ?_
    · simp only [F_X0_fold, F_X0_foldRefusal, v1000, h, fi, sA, x1, x2, e1, e2, z13, z6, Option.bind_some, if_false, if_true]
    · simp only [F_X16_fold, F_X16_codeOfFold, pB, v1068, g1068_1095, sB, cB, b2, n10, z13, Option.bind_some, if_false, if_true]
  · refine no (-14) ?_ ?_
    · simp only [F_X0_fold, F_X0_foldRefusal, v1000, h, fi, sA, x1, x2, e1, e2, z14, z6, Option.bind_some, if_false, if_true]
    · simp only [F_X16_fold, F_X16_codeOfFold, F_X16_codeOfFold_b49, pB, v1068, g1068_1095, sB, cB, b2, yg, e8, z14, Option.bind_some, if_true]
  · have hk := gp.2.2.1
    have hn := gp.2.2.2.1
    have hz2 := gp.2.2.2.2.1
    have hprd := gp.2.2.2.2.2.1
    have cp := gp.2.2.2.2.2.2.2.1
    have gpA := gp.df dA (qt_pp qt_pFl) qt_qsc qt_n2
    have rE : F_X0_foldRefusal A 1000 (cR M 1005 j) w a 0 = some (rfc w a 0 (K j) (n j)) := E_refuse gpA.1 hk e5 e4
    -- the model's head
    have headM : ∀ M1, Df pWk qsc rWk M M1 → ∃ B1, B1 = wI M1 1068 1117 (-1) ∧ pi M1 1068 1117 (-1) = some B1 ∧ ST B1 ∧ Df pWk qsc rWk M B1 ∧ Df (pp pFm) qsc n2 M1 B1 ∧ cI B1 1068 1117 = -1 ∧ GP B1 (cR M 1005 j) (cR M 1070 j) (K j) (n j) (Z j) (S j) (T j) (X j) (Y j) (C j) (D j) (L j) (P j) ∧ K0 B1 ∧ F_X16_codeOfFold B1 1068 g w a 0 = some (rfc w a 0 (K j) (n j)) ∧ ar B1 1070 g = some (cR M 1070 j) ∧ (∀ q, cJ B1 (C j) q = cJ M (C j) q) := by
      intro M1 d1
      obtain ⟨B1, a1, a2, a3, a4, a5, a6, a7, a8, a9, a10⟩ := M_seeW h d1 g
      have gB := gp.df a4 qt_pWk qt_qsc qt_rWk
      have aB : ar B1 1070 g = some (cR M 1070 j) := by rw [a10, e6]
      exact ⟨B1, a1, a2, a3, a4, a5, a6, gB, k0.wk h a4, M_refuse a3 gB.2.1 hk (by rw [a7]; exact b2) (by rw [a9]; exact e7) aB, aB, fun q => a4.cJ cp.2.1 (qt_qsc _ _ cp.1)⟩
    obtain ⟨B', hB', pB', sB', dB', dAB', c17', gB', kB', rM, aM, -⟩ := headM A (dA.mono (fun _ _ q => Or.inl q) (fun _ _ q => q) (fun _ _ q => q.elim))
    have hBB : B' = B := hB'.trans hB.symm
    subst hBB
    by_cases cr : 0 < rfc w a 0 (K j) (n j)
    · refine no (-(rfc w a 0 (K j) (n j))) ?_ ?_
      · simp only [F_X0_fold, v1000, h, fi, sA, x1, e1, rE, cr, Option.bind_some, if_true]
      · simp only [F_X16_fold, pB, v1068, sB, rM, cr, Option.bind_some, if_true]
    obtain ⟨hw, ht, ha1, ha2, -⟩ := rfc_0 cr
    have hL : Lk (foL w (K j)) := foL_Lk hw hk
    have x64 : x_cn 64 ≤ 20 := by decide
    obtain ⟨val, hval⟩ : ∃ val : Nat → Int64, val = fun i => cJ M (C j) (gpos (n j) (Z j) (S j) (X j) i) := ⟨_, rfl⟩
    have hvv : ∀ i, i < prd (Z j) (n j) → vb (K j) (val i) := fun i hi => by rw [hval]; exact (gp.get hi).1
    rcases ax_of hn ha1 ha2 with rfl | ⟨ja, hja, rfl⟩
    · -- all cells
      obtain ⟨A1, hA1⟩ : ∃ A1, A1 = wI A 1000 89 0 := ⟨_, rfl⟩
      have dA1 : Df (pp n2) qsc n2 A A1 := by rw [hA1]; exact Df.wI _ (Or.inl (by unfold psc; omega))
      have sA1 : ST A1 := sA.n dA1
      have gA1 := gpA.df dA1 (qt_pp qt_n2) qt_qsc qt_n2
      have nA1 : m_nx A1 = m_nx A := by rw [hA1]; rfl
      have lA1 : m_sl A1 = m_sl A := by rw [hA1]; rfl
      have cA1 : cI A1 1000 89 = 0 := by rw [hA1, cI_wI, if_pos ⟨rfl, rfl⟩]
      have fA1 : cI A1 1000 91 = 0 := by rw [hA1, cI_wI, if_neg (by decide)]; exact c91
      have sw : F_X0_shapeWithout A 1000 (cR M 1005 j) (-1) = some A1 := by rw [hA1]; exact E_without0 sA gpA.1 (by decide)
      have ec0 := E_cnt (n := 0) (z := fun _ => 0) (t1062 sA1) (l1062 sA1) (by decide) (by decide) (fun i hi => absurd hi (by omega))
      have i00 : iw ((0 : Nat) : Int) = 0 := rfl
      have cn1 : cnt (fun _ => 0) 0 = 1 := by unfold cnt; rw [if_neg (by decide)]; rfl
      have ec : F_X2_count A1 1062 0 = some 1 := by rw [i00, cn1] at ec0; exact ec0
      have n1 : ((-1 : Int32) < 0) := by decide
      have runE : F_X0_fold M 1000 g w (-1) = F_X0_fold_b70 A1 (iw (prd (Z j) (n j) : Nat)) 1000 w (-1) (cR M 1005 j) 1 := by
        simp only [F_X0_fold, v1000, h, fi, sA, x1, e1, rE, cr, sw, g1000_88, g1000_89, sA1, cA1, ec, vg_of gA1.1.2.2.1 (show x_isa 22 22 = true by decide), E_count gA1.1 hn, n1, Option.bind_some, if_false, if_true]
      have dMA1 : Df (pp pFl) qsc n2 M A1 := dA.trans (dA1.mono (fun _ _ q => q.imp id (fun q => q.elim)) (fun _ _ q => q) (fun _ _ q => q))
      have m2 : ∀ a i, at1 1002 a i → pp pFl a i := fun a i q => Or.inl (by unfold at1 at q; unfold psc; omega)
      have vA1 : (fun i => cJ A1 (C j) (gpos (n j) (Z j) (S j) (X j) i)) = val := by
        rw [hval]
        funext i
        exact dMA1.cJ cp.2.1 (qt_qsc _ _ cp.1)
      obtain ⟨mt, hmt⟩ : ∃ mt : Prop, mt = (prd (Z j) (n j) = 0 ∧ (w = 3 ∨ w = 4)) := ⟨_, rfl⟩
      have hdec : mt ∨ ¬ mt := Classical.em _
      have c02 : ∀ N, Df (at1 1002) qsc n2 A1 N → cI N 1000 89 = 0 ∧ cI N 1000 91 = 0 := fun N d => ⟨by rw [d.cI (by omega) (by unfold at1; decide)]; exact cA1, by rw [d.cI (by omega) (by unfold at1; decide)]; exact fA1⟩
      -- the model's first steps
      have stepM : ∀ M1, Df pWk qsc rWk M M1 → ∃ B2, Df (pp pFm) qsc n2 M1 B2 ∧ m_nx B2 = m_nx M1 ∧ m_sl B2 = m_sl M1 ∧ ST B2 ∧ K0 B2 ∧ cI B2 1068 1117 = -1 ∧ (∀ i, i < prd (Z j) (n j) → cJ B2 1073 i = val i) ∧ F_X16_fold M1 1068 g w (-1) = tc (F_X16_foldRow B2 1068 w (K j) (foL w (K j)) 1073 0 (iw (prd (Z j) (n j) : Nat))) (fun z58 => (sj z58.2 1073 0 z58.1).bind fun M60 => (mk M60 1005 0).bind fun M61 => (gr M61 1068 1100).bind fun t62 => (vg M61 1068 17).bind fun _ => (F_X16_madeIfRoom M61 1068 (foL w (K j)) (m_nx M60) t62).bind fun z64 => some (z64.1, z64.2)) (fun z59 => F_X16_fold_b87 z59.2 z59.1 1068) := by
        intro M1 d1
        obtain ⟨B1, a1, a2, a3, a4, a5, a6, gB, kB, rB, aB, vB⟩ := headM M1 d1
        obtain ⟨B2, f1, f2, f3, f4, f5⟩ := M_listed (arr := 1073) (W := 100000) gB (by decide) hprd (by decide) (t1073 a3) (l1073 a3)
        have d2 : Df (pp pFm) qsc n2 B1 B2 := f4.mono (fun _ _ q => q.elim) (fun a i q => by have q : a = 1073 := q; unfold qsc; omega) (fun _ _ q => q)
        have s2 : ST B2 := a3.n d2
        have g2 := gB.df d2 (qt_pp qt_pFm) qt_qsc qt_n2
        have nB1 := a4.1
        refine ⟨B2, a5.trans d2, by rw [f2, a1]; rfl, by rw [f3, a1]; rfl, s2, kB.ppd a3 d2 (fun a i q1 q2 => by unfold pFm at q2; omega), by rw [f4.cI (by omega) (fun q => q)]; exact a6, fun i hi => by rw [f5 i hi, vB, hval], ?_⟩
        simp only [F_X16_fold, a2, v1068, a3, rB, cr, g1068_1092, g1068_1100, aB, gi_of gB.2.1.2.2.1 (show x_fi 23 1472 = true by decide), gB.2.1.2.2.2.1, M_foldLane hw hk, ht, n1, f1, s2, gi_of g2.2.1.2.2.1 (show x_fi 23 1472 = true by decide), g2.2.1.2.2.2.1, vg_of g2.2.1.2.2.1 (show x_isa 23 23 = true by decide), M_count g2.2.1 hn hz2, Option.bind_some, if_true, if_false]
      rcases hdec with hm | hm
      · -- nothing to choose from
        rw [hmt] at hm
        refine CR.work h h4 h5 (l := foL w (K j)) (n' := 0) (z := fun _ => 0) (r := fun _ => none) (cd := fun _ => 4) hL (by omega) (fun i hi => by omega) (fun i v _ q => by cases q) ?_ ?_
        · refine ⟨wI A1 1002 129 4, dMA1.sc.trans (Df.wI _ (Or.inl (by unfold psc; omega))), by show m_nx A1 ≤ _; omega, by show m_sl A1 ≤ _; omega, fun i hi => by omega, by rw [cI_wI, if_neg (by decide)]; exact cA1, by rw [cI_wI, if_neg (by decide)]; exact fA1, Or.inr ⟨0, rfl, by decide, by decide, ?_, by rw [cI_wI, if_pos ⟨rfl, rfl⟩]⟩⟩
          show F_X0_fold M 1000 g w (-1) = _
          rw [runE, hm.1]
          have s3 : ST (wI A1 1002 129 4) := sA1
          have e9 : F_X0_fold_b92 A1 1000 = F_X0_failedAt (wI A1 1002 129 4) 1000 0 := by
            simp only [F_X0_fold_b92, g1000_67, p1002_129, sA1, v1000, s3, Option.bind_some, bse]
          rw [i00]
          unfold F_X0_fold_b70
          rw [if_pos rfl, if_neg n10]
          rcases hm.2 with q | q
          · rw [if_pos q, e9]
          · rw [if_neg (by rw [q]; decide), if_pos q, e9]
        · intro M1 sM1 d1
          obtain ⟨B2, t1, t2, t3, s2, k2, t4, t5, t6⟩ := stepM M1 d1
          have nM1 := d1.1
          have s3 : ST (mT B2 4 (-1)) := s2.n (mT_df B2 4 (-1))
          have s4 : ST (wI (mT B2 4 (-1)) 1068 1115 0) := s3
          have d3 : Df (pp pFm) qsc n2 B2 (mT B2 4 (-1)) := (mT_df B2 4 (-1)).mono (fun _ _ q => Or.inl q) (fun _ _ q => q.elim) (fun _ _ q => q)
          refine ⟨wI (mT B2 4 (-1)) 1068 1115 0, ((t1.trans d3).trans (Df.wI _ (Or.inr (by unfold pFm; omega)))).sc, by show m_nx B2 + 1 ≤ _; omega, by show m_sl B2 + x_cn 64 ≤ _; omega, Or.inr ⟨0, rfl, ?_, by rw [cI_wI, if_pos ⟨rfl, rfl⟩, i00], fun i hi => by omega⟩⟩
          show F_X16_fold M1 1068 g w (-1) = _
          rw [t6, hm.1, i00, M_foldEmpty hm.2, mTh_of s2, tc_inr]
          have c4 : cI (wI (mT B2 4 (-1)) 1068 1115 0) 1075 1152 = 4 := by rw [cI_wI, if_neg (by decide)]; exact (mT_c 4 (-1) (by omega)).1
          simp only [F_X16_fold_b87, p1068_1115, s3, g1068_1103, g1075_1152, v1068, s4, c4, Option.bind_some, bse]
      · have hm' : ¬ (prd (Z j) (n j) = 0 ∧ (w = 3 ∨ w = 4)) := by rw [← hmt]; exact hm
        obtain ⟨A2, u1, u2, u3, u4⟩ := E_fold0 sA1 gA1 hw ht
        rw [vA1] at u4
        have e106 : F_X0_fold_b70 A1 (iw (prd (Z j) (n j) : Nat)) 1000 w (-1) (cR M 1005 j) 1 = F_X0_fold_b117 xN A1 1000 w (-1) (cR M 1005 j) 1 0 := by
          unfold F_X0_fold_b70
          have e9 : F_X0_fold_b106 A1 1000 w (-1) (cR M 1005 j) 1 = F_X0_fold_b117 xN A1 1000 w (-1) (cR M 1005 j) 1 0 := by
            unfold F_X0_fold_b106
            rw [if_neg (by decide)]
          by_cases c : prd (Z j) (n j) = 0
          · rw [c, i00, if_pos rfl, if_neg n10, if_neg (fun q => hm' ⟨c, Or.inl q⟩), if_neg (fun q => hm' ⟨c, Or.inr q⟩), e9]
          · rw [if_neg (by rw [iw_eq0 (by omega) (by omega)]; omega), e9]
        obtain ⟨ro, hro⟩ : ∃ ro, ro = foAll w (K j) val (prd (Z j) (n j)) := ⟨_, rfl⟩
        refine CR.work h h4 h5 (l := foL w (K j)) (n' := 0) (z := fun _ => 0) (r := fun _ => ro) (cd := fun _ => 8) hL (by omega) (fun i hi => by omega) (fun i v _ q => by rw [hro] at q; exact foAll_vb hw hk ht (by omega) hvv q) ?_ ?_
        · obtain ⟨v89, v91⟩ := c02 A2 u1
          refine ⟨A2, (dMA1.trans (u1.mono m2 (fun _ _ q => q) (fun _ _ q => q))).sc, by omega, by omega, fun i hi => by omega, v89, v91, ?_⟩
          rcases u4 with ⟨v, v1, v2, v3⟩ | ⟨v1, v2, v3⟩
          · left
            rw [hro, v1]
            refine ⟨rfl, ?_, fun x hx => ?_⟩
            · show F_X0_fold M 1000 g w (-1) = _
              rw [runE, e106, v2]
            · have : x = 0 := by have hx : x < 1 := hx; omega
              rw [this, v3]
              rfl
          · right
            rw [hro, v1]
            refine ⟨0, rfl, by decide, by decide, ?_, v3⟩
            show F_X0_fold M 1000 g w (-1) = _
            rw [runE, e106, v2, i00]
        · intro M1 sM1 d1
          obtain ⟨B2, t1, t2, t3, s2, k2, t4, t5, t6⟩ := stepM M1 d1
          have nM1 := d1.1
          have row := M_foldRow (v := val) (n := prd (Z j) (n j)) k2 s2 hw hk ht (t1073 s2) (l1073 s2) (Nat.le_refl _) hprd (fun i hi => ⟨t5 i hi, hvv i hi⟩) hm'
          rw [← hro] at row
          rw [row] at t6
          cases hr : ro with
          | some v =>
            rw [hr] at t6
            obtain ⟨B3, hB3⟩ : ∃ B3, B3 = wJ B2 1073 0 v := ⟨_, rfl⟩
            have d3 : Df (pp pFm) qsc n2 B2 B3 := by rw [hB3]; exact Df.wJ _ (by unfold qsc; omega)
            have s3 : ST B3 := s2.n d3
            have n3 : m_nx B3 = m_nx B2 := by rw [hB3]; rfl
            have l3 : m_sl B3 = m_sl B2 := by rw [hB3]; rfl
            have d4 : Df (pp pFm) qsc n2 B3 (m_new B3 1005 0) := Df.new _ _
            have s4 : ST (m_new B3 1005 0) := s3.n d4
            have tg4 : m_tg (m_new B3 1005 0) (m_nx B3) = 1005 := by rw [tg_new, if_pos rfl]
            have ln4 : m_ln (m_new B3 1005 0) (m_nx B3) = 0 := by rw [ln_new, if_pos rfl]
            refine ⟨m_new B3 1005 0, ((t1.trans d3).trans d4).sc, by show m_nx B3 + 1 ≤ _; omega, by show m_sl B3 + 0 ≤ _; omega, Or.inl ⟨m_nx B3, rfl, ⟨by omega, by show m_nx B3 < m_nx B3 + 1; omega, tg4, ln4, fun i hi => by omega⟩, ?_, ?_, fun x hx => ?_⟩⟩
            · show F_X16_fold M1 1068 g w (-1) = _
              rw [t6]
              show tc (some (Sum.inl (v, B2))) _ _ = _
              have sj0 : sj B2 1073 0 v = some B3 := by
                have q := sj_of (j := 0) v (t1073 s2) (l1073 s2) (by decide) (by decide)
                rw [i00, ← hB3] at q
                exact q
              have mk0 : mk B3 1005 0 = some (m_new B3 1005 0) := by
                have q := mk_of (M := B3) (t := 1005) (n := 0) (Nat.zero_le _)
                rw [i00] at q
                exact q
              rw [tc_inl]
              exact fold_end sj0 mk0 s4
            · have e1 : cI (m_new B3 1005 0) 1068 1117 = cI B3 1068 1117 := by rw [cI_new, if_neg (by omega)]
              rw [e1, hB3]
              exact t4
            · have : x = 0 := by have hx : x < 1 := hx; omega
              have e1 : cJ (m_new B3 1005 0) 1073 0 = cJ B3 1073 0 := (Df.new (P := n2) (Q := n2) (R := n2) 1005 0).cJ (by omega) (fun q => q)
              rw [this, e1, hB3, cJ_wJ, if_pos ⟨rfl, rfl⟩]
              rfl
          | none =>
            rw [hr] at t6
            have s3 : ST (mT B2 8 (-1)) := s2.n (mT_df B2 8 (-1))
            have s4 : ST (wI (mT B2 8 (-1)) 1068 1115 0) := s3
            have d3 : Df (pp pFm) qsc n2 B2 (mT B2 8 (-1)) := (mT_df B2 8 (-1)).mono (fun _ _ q => Or.inl q) (fun _ _ q => q.elim) (fun _ _ q => q)
            refine ⟨wI (mT B2 8 (-1)) 1068 1115 0, ((t1.trans d3).trans (Df.wI _ (Or.inr (by unfold pFm; omega)))).sc, by show m_nx B2 + 1 ≤ _; omega, by show m_sl B2 + x_cn 64 ≤ _; omega, Or.inr ⟨0, rfl, ?_, by rw [cI_wI, if_pos ⟨rfl, rfl⟩, i00], fun i hi => by omega⟩⟩
            show F_X16_fold M1 1068 g w (-1) = _
            rw [t6]
            show tc (mTh B2 1068 8) _ _ = _
            rw [mTh_of s2, tc_inr]
            have c4 : cI (wI (mT B2 8 (-1)) 1068 1115 0) 1075 1152 = 8 := by rw [cI_wI, if_neg (by decide)]; exact (mT_c 8 (-1) (by omega)).1
            simp only [F_X16_fold_b87, p1068_1115, s3, g1068_1103, g1075_1152, v1068, s4, c4, Option.bind_some, bse]
    · -- along an axis
      obtain ⟨A1, w1, w2, w3, w4, w5, w6⟩ := E_without sA gpA.1 hn hja
      have dA1 : Df (pp n2) qsc n2 A A1 := w4.mono (fun a i q => Or.inl (by unfold pShape at q; unfold psc; omega)) (fun _ _ q => q.elim) (fun _ _ q => q)
      have sA1 : ST A1 := sA.n dA1
      have gA1 := gpA.df dA1 (qt_pp qt_n2) qt_qsc qt_n2
      have fA1 : cI A1 1000 91 = 0 := by rw [w4.cI (by omega) (by unfold pShape; omega)]; exact c91
      have dMA1 : Df (pp pFl) qsc n2 M A1 := dA.trans (dA1.mono (fun _ _ q => q.imp id (fun q => q.elim)) (fun _ _ q => q) (fun _ _ q => q))
      have m2 : ∀ a i, at1 1002 a i → pp pFl a i := fun a i q => Or.inl (by unfold at1 at q; unfold psc; omega)
      have hz3 : ∀ i, i < n j - 1 → Z j (sk ja i) ≤ 4096 := fun i hi => hz2 _ (by unfold sk; split <;> omega)
      obtain ⟨zq, hzq⟩ : ∃ zq : Nat → Nat, zq = fun i => Z j (sk ja i) := ⟨_, rfl⟩
      have hz4 : ∀ i, i < n j - 1 → zq i ≤ 4096 := fun i hi => by rw [hzq]; exact hz3 i hi
      have w6' : ∀ i, i < n j - 1 → cI A1 1062 i = iw (zq i) := fun i hi => by rw [hzq]; exact w6 i hi
      have ec := E_cnt (n := n j - 1) (z := zq) (t1062 sA1) (l1062 sA1) (by decide) (by omega) (fun i hi => ⟨w6' i hi, hz4 i hi⟩)
      have nneg : ¬ iw (ja : Int) < 0 := by rw [iw_lt0 (by omega) (by omega)]; omega
      have runE : F_X0_fold M 1000 g w (iw (ja : Int)) = F_X0_fold_b70 A1 (iw (Z j ja : Nat)) 1000 w (iw (ja : Int)) (cR M 1005 j) (cnt zq (n j - 1)) := by
        simp only [F_X0_fold, v1000, h, fi, sA, x1, e1, rE, cr, w1, g1000_88, g1000_89, sA1, w5, ec, gr_of gA1.1.2.2.1 (show x_fr 22 1410 = true by decide), gA1.1.2.2.2.2.2.1.ai hn hja, nneg, Option.bind_some, if_false]
      have hza := hz2 ja hja
      obtain ⟨Q, hQ⟩ : ∃ Q, Q = prd zq (n j - 1) := ⟨_, rfl⟩
      have hQ63 : Q < 2 ^ 63 := by
        have q1 := prd_le (z := zq) (n j - 1) hz4
        have q2 : 4096 ^ (n j - 1) ≤ 4096 ^ 4 := Nat.pow_le_pow_right (by decide) (by omega)
        rw [← hQ] at q1
        have q3 : (4096 : Nat) ^ 4 < 2 ^ 63 := by decide
        omega
      have lnA : ∀ N, (∀ q, cJ N (C j) q = cJ M (C j) q) → lnv N (C j) (n j) (Z j) (S j) (X j) ja = lnv M (C j) (n j) (Z j) (S j) (X j) ja := fun N hN => by
        funext lk i
        exact hN _
      -- the model's first steps
      have stepM : ∀ M1, Df pWk qsc rWk M M1 → ∃ B2 sa, Df (pp pFm) qsc n2 M1 B2 ∧ m_nx B2 = m_nx M1 + 1 ∧ m_sl B2 = m_sl M1 + (n j - 1) ∧ ST B2 ∧ K0 B2 ∧ cI B2 1068 1117 = -1 ∧ GP B2 (cR M 1005 j) (cR M 1070 j) (K j) (n j) (Z j) (S j) (T j) (X j) (Y j) (C j) (D j) (L j) (P j) ∧ (∀ q, cJ B2 (C j) q = cJ M (C j) q) ∧ IRw B2 sa (n j - 1) (fun i => iw (zq i)) ∧
          F_X16_fold M1 1068 g w (iw (ja : Int)) = (if iw (Z j ja : Nat) = 0 then (if (0 : Int64) < nl Q then (if w = 3 then F_X16_fold_b215 B2 1068 sa else if w = 4 then F_X16_fold_b215 B2 1068 sa else F_X16_fold_b228 B2 1068 w (iw (ja : Int)) (cR M 1070 j) (foL w (K j)) sa (nl Q) (iw (Z j ja : Nat))) else F_X16_fold_b228 B2 1068 w (iw (ja : Int)) (cR M 1070 j) (foL w (K j)) sa (nl Q) (iw (Z j ja : Nat))) else F_X16_fold_b228 B2 1068 w (iw (ja : Int)) (cR M 1070 j) (foL w (K j)) sa (nl Q) (iw (Z j ja : Nat))) := by
        intro M1 d1
        obtain ⟨B1, a1, a2, a3, a4, a5, a6, gB, kB, rB, aB, vB⟩ := headM M1 d1
        have nB1 := a4.1
        have nB1' : m_nx B1 = m_nx M1 := by rw [a1]; rfl
        have lB1' : m_sl B1 = m_sl M1 := by rw [a1]; rfl
        obtain ⟨U, hU⟩ : ∃ U, U = m_new B1 1005 (n j - 1) := ⟨_, rfl⟩
        have dU : Df n2 n2 n2 B1 U := by rw [hU]; exact Df.new _ _
        have nU : m_nx U = m_nx B1 + 1 := by rw [hU]; rfl
        have lU : m_sl U = m_sl B1 + (n j - 1) := by rw [hU]; rfl
        obtain ⟨N1, hN1⟩ : ∃ N1, N1 + 1 + (n j - 1) = xN := ⟨xN - 1 - (n j - 1), by omega⟩
        obtain ⟨B2, f1, f2, f3, f4, f5, f6, f7⟩ := M_sizes_loop (a := ja) (l := foL w (K j)) (w := w) gB.2.1 hn hja (sa := m_nx B1) (Nat.le_refl _) (n j - 1) (N1 + 1) 0 U (by omega) dU (by rw [hU, tg_new, if_pos rfl]) (by rw [hU, ln_new, if_pos rfl]) (by omega) (fun i hi => by omega)
        rw [hN1] at f1
        have s2 : ST B2 := a3.n f2
        have d2 : Df (pp pFm) qsc n2 B1 B2 := f2.mono (fun _ _ q => q.elim) (fun _ _ q => q.elim) (fun _ _ q => q)
        have g2 := gB.df f2 qt_n2 qt_n2 qt_n2
        have cB2 := M_count16 (z := zq) (n := n j - 1) f5 f6 (Nat.le_refl _) (by omega) (fun i hi => ⟨by rw [f7 i hi, hzq], hz4 i hi⟩)
        refine ⟨B2, m_nx B1, a5.trans d2, by omega, by omega, s2, kB.df a3 f2 (fun _ _ _ q => q) (fun _ _ _ q => q), by rw [f2.cI (by omega) (fun q => q)]; exact a6, g2, fun q => by rw [f2.cJ (by have := cp.2.1; omega) (fun q => q)]; exact vB q, ⟨by omega, by omega, f5, f6, fun i hi => by rw [f7 i hi, hzq]⟩, ?_⟩
        have emk : mk B1 1005 (iw (n j : Int) - 1) = some U := by
          rw [show (1 : Int32) = iw ((1 : Nat) : Int) from rfl, iw_nsub (by omega), hU]
          exact mk_of (by omega)
        have tail : F_X16_fold_b134 (N1 + 1) B2 1068 w (iw (ja : Int)) (cR M 1070 j) (foL w (K j)) (m_nx B1) (iw ((n j - 1 : Nat) : Int)) = (if iw (Z j ja : Nat) = 0 then (if (0 : Int64) < nl Q then (if w = 3 then F_X16_fold_b215 B2 1068 (m_nx B1) else if w = 4 then F_X16_fold_b215 B2 1068 (m_nx B1) else F_X16_fold_b228 B2 1068 w (iw (ja : Int)) (cR M 1070 j) (foL w (K j)) (m_nx B1) (nl Q) (iw (Z j ja : Nat))) else F_X16_fold_b228 B2 1068 w (iw (ja : Int)) (cR M 1070 j) (foL w (K j)) (m_nx B1) (nl Q) (iw (Z j ja : Nat))) else F_X16_fold_b228 B2 1068 w (iw (ja : Int)) (cR M 1070 j) (foL w (K j)) (m_nx B1) (nl Q) (iw (Z j ja : Nat))) := by
          show F_X16_fold_b134_st (F_X16_fold_b134 N1) B2 _ _ _ _ _ _ _ = _
          unfold F_X16_fold_b134_st
          rw [an_of f5 (by decide) f6]
          simp only [Option.bind_some]
          rw [if_neg (by rw [iw_le4 (by omega) (by omega)]; omega), cB2, ← hQ]
          simp only [gr_of g2.2.1.2.2.1 (show x_fr 23 1473 = true by decide), g2.2.1.2.2.2.2.1.ai hn hja, Option.bind_some]
        rw [← tail, ← f1]
        simp only [F_X16_fold, a2, v1068, a3, rB, cr, g1068_1092, aB, gi_of gB.2.1.2.2.1 (show x_fi 23 1472 = true by decide), gB.2.1.2.2.2.1, M_foldLane hw hk, ht, nneg, vg_of gB.2.1.2.2.1 (show x_isa 23 23 = true by decide), M_axes gB.2.1, emk, Option.bind_some, if_true, if_false]
        rfl
      have i00 : iw ((0 : Nat) : Int) = 0 := rfl
      have nl0 : (0 : Int64) = nl 0 := rfl
      by_cases cα : Z j ja = 0 ∧ (w = 3 ∨ w = 4) ∧ Q ≠ 0
      · obtain ⟨α1, α2, α3⟩ := cα
        obtain ⟨Q', hQ'⟩ : ∃ Q', Q = Q' + 1 := ⟨Q - 1, by omega⟩
        have hpz := (prd_pos (z := zq) (n j - 1)).mp (by rw [← hQ]; exact α3)
        refine CR.work h h4 h5 (l := foL w (K j)) (n' := n j - 1) (z := zq) (r := fun _ => none) (cd := fun _ => 4) hL (by omega) hz4 (fun i v _ q => by cases q) ?_ ?_
        · refine ⟨wI A1 1002 129 4, dMA1.sc.trans (Df.wI _ (Or.inl (by unfold psc; omega))), by show m_nx A1 ≤ _; omega, by show m_sl A1 ≤ _; omega, fun i hi => by rw [cI_wI, if_neg (fun q => absurd q.1 (by decide))]; exact w6' i hi, by rw [cI_wI, if_neg (by decide)]; exact w5, by rw [cI_wI, if_neg (by decide)]; exact fA1, Or.inr ⟨0, by rw [← hQ, hQ']; exact ff_none rfl, by rw [← hQ]; omega, by decide, ?_, by rw [cI_wI, if_pos ⟨rfl, rfl⟩]⟩⟩
          show F_X0_fold M 1000 g w (iw (ja : Int)) = _
          have s3 : ST (wI A1 1002 129 4) := sA1
          have e9 : F_X0_fold_b92 A1 1000 = F_X0_failedAt (wI A1 1002 129 4) 1000 0 := by
            simp only [F_X0_fold_b92, g1000_67, p1002_129, sA1, v1000, s3, Option.bind_some, bse]
          have hc0 : ¬ cnt zq (n j - 1) = 0 := by
            unfold cnt
            rw [← hQ]
            by_cases c : 100000 < Q
            · rw [if_pos c]; decide
            · rw [if_neg c, iw_eq0 (by omega) (by omega)]; omega
          rw [runE, α1, i00]
          unfold F_X0_fold_b70
          rw [if_pos rfl, if_neg hc0]
          rcases α2 with q | q
          · rw [if_pos q, e9]
          · rw [if_neg (by rw [q]; decide), if_pos q, e9]
        · intro M1 sM1 d1
          obtain ⟨B2, sa, t1, t2, t3, s2, k2, t4, g2, v2, ir, t6⟩ := stepM M1 d1
          obtain ⟨U, u1, u2, u3, u4, u5, u6⟩ := M_goTo (x := 0) s2 (show n j - 1 ≤ 4 by omega) (fun i hi => ⟨hpz i hi, hz4 i hi⟩) ir (by omega)
          have sU : ST U := s2.n u4
          have dU : Df (pp pFm) qsc n2 B2 U := u4.mono (fun a i q => q.elim (fun q => Or.inl (by unfold psc; omega)) (fun q => Or.inr (by unfold pFm; omega))) (fun _ _ q => q.elim) (fun _ _ q => q)
          refine ⟨U, (t1.trans dU).sc, by omega, by omega, Or.inr ⟨0, by rw [← hQ, hQ']; exact ff_none rfl, ?_, u5, u6⟩⟩
          show F_X16_fold M1 1068 g w (iw (ja : Int)) = _
          rw [i00] at u1
          have e9 : F_X16_fold_b215 B2 1068 sa = F_X16_failsAt U 1068 4 := by
            simp only [F_X16_fold_b215, v1068, s2, u1, sU, Option.bind_some, bse]
          rw [t6, α1, i00, if_pos rfl, if_pos (by rw [nl0, nl_lt (by omega) hQ63]; omega)]
          rcases α2 with q | q
          · rw [if_pos q, e9]
          · rw [if_neg (by rw [q]; decide), if_pos q, e9]
      · have eE : F_X0_fold_b70 A1 (iw (Z j ja : Nat)) 1000 w (iw (ja : Int)) (cR M 1005 j) (cnt zq (n j - 1)) = F_X0_fold_b106 A1 1000 w (iw (ja : Int)) (cR M 1005 j) (cnt zq (n j - 1)) := by
          unfold F_X0_fold_b70
          by_cases c : Z j ja = 0
          · rw [c, i00, if_pos rfl]
            by_cases c' : cnt zq (n j - 1) = 0
            · rw [if_pos c']
            · have hq : Q ≠ 0 := by
                intro hh
                apply c'
                unfold cnt
                rw [← hQ, hh, if_neg (by decide)]
                rfl
              rw [if_neg c', if_neg (fun q => cα ⟨c, Or.inl q, hq⟩), if_neg (fun q => cα ⟨c, Or.inr q, hq⟩)]
          · rw [if_neg (by rw [iw_eq0 (by omega) (by omega)]; omega)]
        have eM : ∀ B2 sa, (if iw (Z j ja : Nat) = 0 then (if (0 : Int64) < nl Q then (if w = 3 then F_X16_fold_b215 B2 1068 sa else if w = 4 then F_X16_fold_b215 B2 1068 sa else F_X16_fold_b228 B2 1068 w (iw (ja : Int)) (cR M 1070 j) (foL w (K j)) sa (nl Q) (iw (Z j ja : Nat))) else F_X16_fold_b228 B2 1068 w (iw (ja : Int)) (cR M 1070 j) (foL w (K j)) sa (nl Q) (iw (Z j ja : Nat))) else F_X16_fold_b228 B2 1068 w (iw (ja : Int)) (cR M 1070 j) (foL w (K j)) sa (nl Q) (iw (Z j ja : Nat))) = F_X16_fold_b228 B2 1068 w (iw (ja : Int)) (cR M 1070 j) (foL w (K j)) sa (nl Q) (iw (Z j ja : Nat)) := by
          intro B2 sa
          by_cases c : Z j ja = 0
          · rw [if_pos (by rw [c, i00])]
            by_cases c' : Q = 0
            · rw [if_neg (by rw [nl0, nl_lt (by omega) hQ63]; omega)]
            · rw [if_pos (by rw [nl0, nl_lt (by omega) hQ63]; omega), if_neg (fun q => cα ⟨c, Or.inl q, c'⟩), if_neg (fun q => cα ⟨c, Or.inr q, c'⟩)]
          · rw [if_neg (by rw [iw_eq0 (by omega) (by omega)]; omega)]
        have nl5 : (100000 : Int64) = nl 100000 := rfl
        by_cases cβ : 100000 < Q
        · -- too many
          obtain ⟨B2, sa, t1, t2, t3, s2, k2, t4, g2, v2, ir, t6⟩ := stepM A1 (dMA1.mono (fun _ _ q => Or.inl q) (fun _ _ q => q) (fun _ _ q => q.elim))
          refine CR.fine h h4 h5x (A := A1) (B := B2) (-12) ?_ ?_ dMA1 fA1 t1 t4 (by omega) (by omega)
          · show F_X0_fold M 1000 g w (iw (ja : Int)) = _
            rw [runE, eE]
            have : cnt zq (n j - 1) = -1 := by unfold cnt; rw [← hQ, if_pos cβ]
            unfold F_X0_fold_b106
            rw [this, if_pos (by decide)]
          · show F_X16_fold A1 1068 g w (iw (ja : Int)) = _
            rw [t6, eM]
            unfold F_X16_fold_b228
            rw [if_pos (by rw [nl5, nl_lt (by decide) hQ63]; exact cβ)]
        · have hc : cnt zq (n j - 1) = iw (Q : Nat) := by unfold cnt; rw [← hQ, if_neg cβ]
          have hcz : prd (fun i => Z j (sk ja i)) (n j - 1) = Q := by rw [hQ, hzq]
          have hz0 : ¬ iw (Q : Nat) < 0 := by rw [iw_lt0 (by omega) (by omega)]; omega
          have e1E : F_X0_fold M 1000 g w (iw (ja : Int)) = F_X0_fold_b117 xN A1 1000 w (iw (ja : Int)) (cR M 1005 j) (iw (Q : Nat)) 0 := by
            rw [runE, eE, hc]
            unfold F_X0_fold_b106
            rw [if_neg hz0]
          obtain ⟨A2, u1, u2, u3, u4⟩ := E_fold1 (w := w) sA1 gA1 hja hw ht (by rw [hcz]; omega)
          rw [lnA A1 (fun q => dMA1.cJ cp.2.1 (qt_qsc _ _ cp.1)), hcz, ← e1E] at u4
          obtain ⟨r, hr⟩ : ∃ r : Nat → Option Int64, r = fun i => foAll w (K j) (lnv M (C j) (n j) (Z j) (S j) (X j) ja i) (Z j ja) := ⟨_, rfl⟩
          rw [← hr] at u4
          have hr' : ∀ i, foAll w (K j) (lnv M (C j) (n j) (Z j) (S j) (X j) ja i) (Z j ja) = r i := fun i => by rw [hr]
          simp only [hr'] at u4
          have c89 : cI A2 1000 89 = iw ((n j - 1 : Nat) : Int) := by rw [u1.cI (by omega) (by unfold at1; decide)]; exact w5
          have c91' : cI A2 1000 91 = 0 := by rw [u1.cI (by omega) (by unfold at1; decide)]; exact fA1
          have c62 : ∀ i, i < n j - 1 → cI A2 1062 i = iw (zq i) := fun i hi => by rw [u1.cI (by omega) (by unfold at1; omega)]; exact w6' i hi
          refine CR.work h h4 h5 (l := foL w (K j)) (n' := n j - 1) (z := zq) (r := r) (cd := fun _ => 8) hL (by omega) hz4 (fun i v hi q => ?_) ?_ ?_
          · rw [← hQ] at hi
            rw [hr] at q
            refine foAll_vb hw hk ht (by omega) (fun i' hi' => ?_) q
            have hp1 := sk_pos (z := Z j) hja (by rw [hcz]; omega)
            have hzz : ∀ y, y < n j → 0 < Z j y := fun y hy => by
              by_cases c : y = ja
              · rw [c]; omega
              · exact hp1 y hy c
            exact (gp.get (cn_lt hi' (n j) i hzz (by rw [pw_n hja, hcz]; exact hi))).1
          · refine ⟨A2, (dMA1.trans (u1.mono m2 (fun _ _ q => q) (fun _ _ q => q))).sc, by omega, by omega, c62, c89, c91', ?_⟩
            rw [← hQ]
            rcases u4 with ⟨v1, v2, v3⟩ | ⟨q, v1, v2, v3, v4⟩
            · exact Or.inl ⟨v1, v2, v3⟩
            · exact Or.inr ⟨q, v1, v2, by omega, v3, v4⟩
          · intro M1 sM1 d1
            obtain ⟨B2, sa, t1, t2, t3, s2, k2, t4, g2, v2, ir, t6⟩ := stepM M1 d1
            obtain ⟨B3, y1, y2, y3, y4⟩ := M_fold1 (w := w) (sa := sa) s2 k2 g2 hja hw ht (by rw [hcz]; omega) (by rw [hcz]; exact fun q1 q2 => cα ⟨q2.1, q2.2, q1⟩) (by rw [hzq] at ir; exact ir) t4
            have e1M : F_X16_fold M1 1068 g w (iw (ja : Int)) = F_X16_fold_b243 xN B2 1068 w (iw (ja : Int)) (cR M 1070 j) (foL w (K j)) sa (nl Q) (iw (Z j ja : Nat)) 0 := by
              rw [t6, eM]
              unfold F_X16_fold_b228
              rw [if_neg (by rw [nl5, nl_lt (by decide) hQ63]; exact cβ)]
            rw [lnA B2 v2, hcz, ← e1M, ← hr] at y4
            simp only [hr'] at y4
            refine ⟨B3, (t1.trans (y1.mono pF5_m (fun _ _ q => q) (fun _ _ q => q))).sc, by omega, by omega, ?_⟩
            rw [← hQ]
            rcases y4 with ⟨v1, v3, v4, v5⟩ | ⟨q, v1, v3, v4, v5⟩
            · exact Or.inl ⟨sa, v1, ir.df y1 (qt_pp qt_pF5), v3, v4, v5⟩
            · refine Or.inr ⟨q, v1, v3, v4, fun i hi => ?_⟩
              rw [v5 i hi, hzq]
