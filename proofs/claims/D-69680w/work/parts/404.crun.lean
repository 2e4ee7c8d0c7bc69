/-! ===== CALLS, 28: running ===== -/
theorem M_before_loop {M : Mem} {o : Nat} {k : Int32} {n a : Nat} {z : Nat → Nat} {t : Nat → Int32} {y : Int32} {d : Nat} {p w l v7 : Int32} (g : GM M o k n z t y d p) (hn : n ≤ 4) (ha : a < n) : ∀ (e N m : Nat), m + e = n → a < m → F_X16_running_b58 (N + e) M 1068 w (iw (a : Int)) o l v7 (iw (bh z a m : Nat)) (iw (m : Int)) = F_X16_running_b58 N M 1068 w (iw (a : Int)) o l v7 (iw (bh z a n : Nat)) (iw (n : Int)) := by
  intro e
  induction e with
  | zero =>
    intro N m hm ham
    have : m = n := by omega
    subst this
    rfl
  | succ e ih =>
    intro N m hm ham
    show F_X16_running_b58_st (F_X16_running_b58 (N + e)) M _ _ _ _ _ _ _ _ = _
    unfold F_X16_running_b58_st
    simp only [vg_of g.2.2.1 (show x_isa 23 23 = true by decide), M_axes g, gr_of g.2.2.1 (show x_fr 23 1473 = true by decide), g.2.2.2.2.1.ai hn (show m < n by omega), Option.bind_some, iw_succ]
    rw [if_pos (by rw [iw_le4 (by omega) (by omega)]; omega), if_neg (by rw [iw_lt0 (by omega) (by omega)]; omega), iw_mul]
    have e1 : bh z a (m + 1) = bh z a m * z m := if_pos ham
    rw [show ((bh z a m : Nat) : Int) * ((z m : Nat) : Int) = ((bh z a (m + 1) : Nat) : Int) by rw [e1]; exact (Int.natCast_mul _ _).symm]
    exact ih N (m + 1) (by omega) (by omega)
theorem M_run0 {V : Mem} {o b : Nat} {k : Int32} {n : Nat} {z : Nat → Nat} {s t : Nat → Int32} {x y : Int32} {c d L : Nat} {p w l v8 v9 : Int32} (sV : ST V) (gV : GP V o b k n z s t x y c d L p) : ∃ W, F_X16_running_b112 xN V 1068 w b l 0 v8 v9 0 = F_X16_madeIfRoom W 1068 l (m_nx V) 1073 ∧ m_nx W = m_nx V + 1 ∧ m_sl W = m_sl V + n ∧ Df n2 n2 n2 V W ∧ IRw W (m_nx V) n (fun i => iw (z i)) := by
  have hn := gV.2.2.2.1
  have h0 := sV.1
  have irV := gV.2.1.2.2.2.2.1
  obtain ⟨W, w1, w2, w3, w4, w5⟩ := M_first (M := V) (src := cR V b 1473) (L := n) (n := n) (by omega) hn (Nat.le_refl _) (by omega) irV.2.1 irV.2.2.1 irV.2.2.2.1
  have sW : ST W := sV.n w4
  refine ⟨W, ?_, w2, w3, w4, ⟨w5.1, w5.2.1, w5.2.2.1, w5.2.2.2.1, fun i hi => (w5.2.2.2.2 i hi).trans (irV.2.2.2.2 i hi)⟩⟩
  show F_X16_running_b112_st (F_X16_running_b112 (xN - 1)) V _ _ _ _ _ _ _ _ = _
  unfold F_X16_running_b112_st
  rw [if_neg (by decide)]
  simp only [gr_of gV.2.1.2.2.1 (show x_fr 23 1473 = true by decide), vg_of gV.2.1.2.2.1 (show x_isa 23 23 = true by decide), M_axes gV.2.1, w1, g1068_1100, v1068, sW, Option.bind_some, bse]
theorem c_running {M : Mem} {g w a : Int32} (h : ST M) (k0 : K0 M) (h4 : I4 M) (h5 : I5 M) : CR (pg pFl) (rG M) I4 M (fun M => F_X0_running M 1000 g w a) (fun M => F_X16_running M 1068 g w a) := by
  have h0 := h.1
  have h5x := h5
  obtain ⟨m, ww, K, n, Z, S, T, X, Y, C, D, L, P, h5⟩ := h5
  have n10 : ¬ (1 : Int32) = 0 := by decide
  have hxN : xN = 1099511627776 := rfl
  obtain ⟨A, hA, fi, sA, dA, nA, lA, c91, x1, x2⟩ := E_seeW h g
  obtain ⟨B, hB, pB, sB, dB, dAB, c17, cB, yc, yg, ya⟩ := M_seeW h (dA.mono (fun _ _ q => Or.inl q) (fun _ _ q => q) (fun _ _ q => q.elim)) g
  have nB : m_nx B = m_nx M := by rw [hB]; exact nA
  have lB : m_sl B = m_sl M := by rw [hB]; exact lA
  have no : ∀ r : Int32, F_X0_running M 1000 g w a = some (r, A) → F_X16_running A 1068 g w a = some (r, B) → CR (pg pFl) (rG M) I4 M (fun M => F_X0_running M 1000 g w a) (fun M => F_X16_running M 1068 g w a) := fun r e1 e2 =>
    CR.fine h h4 h5x r e1 e2 dA c91 dAB c17 (by omega) (by omega)
  have z13 : (0 : Int32) < 13 := by decide
  have z14 : (0 : Int32) < 14 := by decide
  have z6 : ¬ (0 : Nat) = 6 := by decide
  rcases look h h4 h5 g with ⟨b1, b2, e1, e2, e3⟩ | ⟨b1, b2, e1, e2, e3, e8⟩ | ⟨b1, b2, j, j1, j2, hg, e1, e4, e5, e3, e7, e6, gp⟩
  · refine no (-13) ?_ ?_
    · simp only [F_X0_running, F_X0_foldRefusal, v1000, h, fi, sA, x1, x2, e1, e2, z13, z6, Option.bind_some, if_false, if_true]
    · simp only [F_X16_running, F_X16_codeOfFold, pB, v1068, g1068_1095, sB, cB, b2, n10, z13, Option.bind_some, if_false, if_true]
  · refine no (-14) ?_ ?_
    · simp only [F_X0_running, F_X0_foldRefusal, v1000, h, fi, sA, x1, x2, e1, e2, z14, z6, Option.bind_some, if_false, if_true]
    · simp only [F_X16_running, F_X16_codeOfFold, F_X16_codeOfFold_b49, pB, v1068, g1068_1095, sB, cB, b2, yg, e8, z14, Option.bind_some, if_true]
  have hk := gp.2.2.1
  have hn := gp.2.2.2.1
  have hz2 := gp.2.2.2.2.1
  have hprd := gp.2.2.2.2.2.1
  have cp := gp.2.2.2.2.2.2.2.1
  have gpA := gp.df dA (qt_pp qt_pFl) qt_qsc qt_n2
  have rE : F_X0_foldRefusal A 1000 (cR M 1005 j) w a 1 = some (rfc w a 1 (K j) (n j)) := E_refuse gpA.1 hk e5 e4
  have headM : ∀ M1, Df pWk qsc rWk M M1 → ∃ B1, B1 = wI M1 1068 1117 (-1) ∧ pi M1 1068 1117 (-1) = some B1 ∧ ST B1 ∧ Df pWk qsc rWk M B1 ∧ Df (pp pFm) qsc n2 M1 B1 ∧ cI B1 1068 1117 = -1 ∧ GP B1 (cR M 1005 j) (cR M 1070 j) (K j) (n j) (Z j) (S j) (T j) (X j) (Y j) (C j) (D j) (L j) (P j) ∧ K0 B1 ∧ F_X16_codeOfFold B1 1068 g w a 1 = some (rfc w a 1 (K j) (n j)) ∧ ar B1 1070 g = some (cR M 1070 j) ∧ (∀ q, cJ B1 (C j) q = cJ M (C j) q) := by
    intro M1 d1
    obtain ⟨B1, a1, a2, a3, a4, a5, a6, a7, a8, a9, a10⟩ := M_seeW h d1 g
    have gB := gp.df a4 qt_pWk qt_qsc qt_rWk
    have aB : ar B1 1070 g = some (cR M 1070 j) := by rw [a10, e6]
    exact ⟨B1, a1, a2, a3, a4, a5, a6, gB, k0.wk h a4, M_refuse a3 gB.2.1 hk (by rw [a7]; exact b2) (by rw [a9]; exact e7) aB, aB, fun q => a4.cJ cp.2.1 (qt_qsc _ _ cp.1)⟩
  obtain ⟨B', hB', pB', sB', dB', dAB', c17', gB', kB', rM, aM, -⟩ := headM A (dA.mono (fun _ _ q => Or.inl q) (fun _ _ q => q) (fun _ _ q => q.elim))
  have hBB : B' = B := hB'.trans hB.symm
  subst hBB
  by_cases cr : 0 < rfc w a 1 (K j) (n j)
  · refine no (-(rfc w a 1 (K j) (n j))) ?_ ?_
    · simp only [F_X0_running, v1000, h, fi, sA, x1, e1, rE, cr, Option.bind_some, if_true]
    · simp only [F_X16_running, pB, v1068, sB, rM, cr, Option.bind_some, if_true]
  obtain ⟨hw, ht, ha1, ha2, hw58⟩ := rfc_0 cr
  have w5 : w ≠ 5 := fun q => hw58 ⟨n10, Or.inl q⟩
  have w8 : w ≠ 8 := fun q => hw58 ⟨n10, Or.inr q⟩
  have hL : Lk (foL w (K j)) := foL_Lk hw hk
  obtain ⟨val, hval⟩ : ∃ val : Nat → Int64, val = fun i => cJ M (C j) (gpos (n j) (Z j) (S j) (X j) i) := ⟨_, rfl⟩
  have hvv : ∀ i, i < prd (Z j) (n j) → vb (K j) (val i) := fun i hi => by rw [hval]; exact (gp.get hi).1
  have hvN : ∀ N, (∀ q, cJ N (C j) q = cJ M (C j) q) → ∀ q, q < prd (Z j) (n j) → val q = cJ N (C j) (gpos (n j) (Z j) (S j) (X j) q) ∧ vb (K j) (val q) := fun N hN q hq => ⟨by rw [hN, hval], hvv q hq⟩
  have i00 : iw ((0 : Nat) : Int) = 0 := rfl
  -- both shapes at once
  have shE : ∃ (A2 : Mem) (lines len : Int32), F_X0_running M 1000 g w a = F_X0_running_b106 xN A2 1000 w a (cR M 1005 j) lines len (foL w (K j)) (-1) 0 0 ∧ ST A2 ∧ Df (pp pFl) qsc n2 M A2 ∧ m_nx A2 = m_nx M ∧ m_sl A2 = m_sl M ∧ cI A2 1000 91 = 0 ∧ cI A2 1000 89 = iw (n j : Int) ∧ (∀ i, i < n j → cI A2 1062 i = iw (Z j i)) ∧
      ((a = -1 ∧ lines = 1 ∧ len = iw (prd (Z j) (n j) : Nat)) ∨ (∃ ja, ja < n j ∧ a = iw (ja : Int) ∧ lines = cnt (fun i => Z j (sk ja i)) (n j - 1) ∧ len = iw (Z j ja : Nat))) := by
    -- a shape, then the grid's own
    have both : ∀ (A1 : Mem) (lines len : Int32), F_X0_shapeWithout A 1000 (cR M 1005 j) a = some A1 → Df (pp n2) qsc n2 A A1 → m_nx A1 = m_nx A → m_sl A1 = m_sl A → cI A1 1000 91 = 0 → F_X2_count A1 1062 (cI A1 1000 89) = some lines → (∀ N, GP N (cR M 1005 j) (cR M 1070 j) (K j) (n j) (Z j) (S j) (T j) (X j) (Y j) (C j) (D j) (L j) (P j) → (if a < 0 then (vg N (cR M 1005 j) 22).bind fun _ => (F_X21_count N (cR M 1005 j)).bind fun z44 => F_X0_running_b84 N z44 1000 w a (cR M 1005 j) lines else (gr N (cR M 1005 j) 1410).bind fun t45 => (ai N t45 a).bind fun t46 => F_X0_running_b84 N t46 1000 w a (cR M 1005 j) lines) = F_X0_running_b84 N len 1000 w a (cR M 1005 j) lines) →
        ∃ A2, F_X0_running M 1000 g w a = F_X0_running_b106 xN A2 1000 w a (cR M 1005 j) lines len (foL w (K j)) (-1) 0 0 ∧ ST A2 ∧ Df (pp pFl) qsc n2 M A2 ∧ m_nx A2 = m_nx M ∧ m_sl A2 = m_sl M ∧ cI A2 1000 91 = 0 ∧ cI A2 1000 89 = iw (n j : Int) ∧ (∀ i, i < n j → cI A2 1062 i = iw (Z j i)) := by
      intro A1 lines len sw dA1 nA1 lA1 c911 ec hb
      have sA1 : ST A1 := sA.n dA1
      have gA1 := gpA.df dA1 (qt_pp qt_n2) qt_qsc qt_n2
      have irS := gA1.1.2.2.2.2.2.1
      obtain ⟨A2, a1, a2, a3, a4, a5, a6⟩ := E_shapeOf (M := A1) (src := cR A1 (cR M 1005 j) 1410) (L := n j) (n := n j) sA1 hn (Nat.le_refl _) (by omega) (by have := irS.1; omega) (by have := irS.1; omega) irS.2.2.1 irS.2.2.2.1
      have dA2 : Df (pp n2) qsc n2 A1 A2 := a4.mono (fun a i q => Or.inl (by unfold pShape at q; unfold psc; omega)) (fun _ _ q => q.elim) (fun _ _ q => q)
      have sA2 : ST A2 := sA1.n dA2
      have gA2 := gA1.df dA2 (qt_pp qt_n2) qt_qsc qt_n2
      refine ⟨A2, ?_, sA2, dA.trans ((dA1.trans dA2).mono (fun _ _ q => q.imp id (fun q => q.elim)) (fun _ _ q => q) (fun _ _ q => q)), by omega, by omega, by rw [a4.cI (by omega) (by unfold pShape; omega)]; exact c911, a5, fun i hi => by rw [a6 i hi]; exact irS.2.2.2.2 i hi⟩
      simp only [F_X0_running, v1000, h, fi, sA, x1, e1, rE, cr, sw, g1000_88, g1000_89, sA1, ec, gr_of gA1.1.2.2.1 (show x_fr 22 1410 = true by decide), gi_of gA1.1.2.2.1 (show x_fi 22 1409 = true by decide), gA1.1.2.2.2.2.1, a1, Option.bind_some, if_false]
      refine (hb A2 gA2).trans ?_
      simp only [F_X0_running_b84, gi_of gA2.1.2.2.1 (show x_fi 22 1408 = true by decide), gA2.1.2.2.2.1, (E_takes hw hk).2.1, Option.bind_some]
    rcases ax_of hn ha1 ha2 with rfl | ⟨ja, hja, rfl⟩
    · obtain ⟨A1, hA1⟩ : ∃ A1, A1 = wI A 1000 89 0 := ⟨_, rfl⟩
      have dA1 : Df (pp n2) qsc n2 A A1 := by rw [hA1]; exact Df.wI _ (Or.inl (by unfold psc; omega))
      have sA1 : ST A1 := sA.n dA1
      have ec0 := E_cnt (n := 0) (z := fun _ => 0) (t1062 sA1) (l1062 sA1) (by decide) (by decide) (fun i hi => absurd hi (by omega))
      have cn1 : cnt (fun _ => 0) 0 = 1 := by unfold cnt; rw [if_neg (by decide)]; rfl
      have ec : F_X2_count A1 1062 (cI A1 1000 89) = some 1 := by
        rw [i00, cn1] at ec0
        rw [hA1, cI_wI, if_pos ⟨rfl, rfl⟩, ← hA1]
        exact ec0
      obtain ⟨A2, r1, r2⟩ := both A1 1 (iw (prd (Z j) (n j) : Nat)) (by rw [hA1]; exact E_without0 sA gpA.1 (by decide)) dA1 (by rw [hA1]; rfl) (by rw [hA1]; rfl) (by rw [hA1, cI_wI, if_neg (by decide)]; exact c91) ec (fun N gN => by
        rw [if_pos (by decide), vg_of gN.1.2.2.1 (show x_isa 22 22 = true by decide), E_count gN.1 hn]
        rfl)
      exact ⟨A2, 1, iw (prd (Z j) (n j) : Nat), r1, r2.1, r2.2.1, r2.2.2.1, r2.2.2.2.1, r2.2.2.2.2.1, r2.2.2.2.2.2.1, r2.2.2.2.2.2.2, Or.inl ⟨rfl, rfl, rfl⟩⟩
    · obtain ⟨A1, w1, w2, w3, w4, w5', w6⟩ := E_without sA gpA.1 hn hja
      have dA1 : Df (pp n2) qsc n2 A A1 := w4.mono (fun a i q => Or.inl (by unfold pShape at q; unfold psc; omega)) (fun _ _ q => q.elim) (fun _ _ q => q)
      have sA1 : ST A1 := sA.n dA1
      have hz3 : ∀ i, i < n j - 1 → Z j (sk ja i) ≤ 4096 := fun i hi => hz2 _ (by unfold sk; split <;> omega)
      have ec := E_cnt (n := n j - 1) (z := fun i => Z j (sk ja i)) (t1062 sA1) (l1062 sA1) (by decide) (by omega) (fun i hi => ⟨w6 i hi, hz3 i hi⟩)
      rw [← w5'] at ec
      obtain ⟨A2, r1, r2⟩ := both A1 (cnt (fun i => Z j (sk ja i)) (n j - 1)) (iw (Z j ja : Nat)) w1 dA1 w2 w3 (by rw [w4.cI (by omega) (by unfold pShape; omega)]; exact c91) ec (fun N gN => by
        rw [if_neg (by rw [iw_lt0 (by omega) (by omega)]; omega), gr_of gN.1.2.2.1 (show x_fr 22 1410 = true by decide)]
        simp only [Option.bind_some]
        rw [gN.1.2.2.2.2.2.1.ai hn hja]
        rfl)
      exact ⟨A2, _, _, r1, r2.1, r2.2.1, r2.2.2.1, r2.2.2.2.1, r2.2.2.2.2.1, r2.2.2.2.2.2.1, r2.2.2.2.2.2.2, Or.inr ⟨ja, hja, rfl, rfl, rfl⟩⟩
  obtain ⟨A2, lines, len, runE, sA2, dMA2, nA2, lA2, f91, f89, f62, hax⟩ := shE
  have gA2 := gp.df dMA2 (qt_pp qt_pFl) qt_qsc qt_n2
  -- the model's first steps
  have stepM : ∀ M1, Df pWk qsc rWk M M1 → ∃ (B1 : Mem) (v8 v9 : Int32), Df (pp pFm) qsc n2 M1 B1 ∧ m_nx B1 = m_nx M1 ∧ m_sl B1 = m_sl M1 ∧ ST B1 ∧ K0 B1 ∧ cI B1 1068 1117 = -1 ∧ GP B1 (cR M 1005 j) (cR M 1070 j) (K j) (n j) (Z j) (S j) (T j) (X j) (Y j) (C j) (D j) (L j) (P j) ∧ (∀ q, cJ B1 (C j) q = cJ M (C j) q) ∧ F_X16_running M1 1068 g w a = F_X16_running_b112 xN B1 1068 w (cR M 1070 j) (foL w (K j)) (iw (prd (Z j) (n j) : Nat)) v8 v9 0 ∧
      ((a = -1 ∧ v8 = 1 ∧ v9 = iw (prd (Z j) (n j) : Nat)) ∨ (∃ ja, ja < n j ∧ a = iw (ja : Int) ∧ v8 = iw (bh (Z j) ja (n j) : Nat) ∧ v9 = iw (Z j ja : Nat))) := by
    intro M1 d1
    obtain ⟨B1, a1, a2, a3, a4, a5, a6, gB, kB, rB, aB, vB⟩ := headM M1 d1
    have head : F_X16_running M1 1068 g w a = F_X16_running_b58 xN B1 1068 w a (cR M 1070 j) (foL w (K j)) (iw (prd (Z j) (n j) : Nat)) 1 (a + 1) := by
      simp only [F_X16_running, a2, v1068, a3, rB, cr, g1068_1092, aB, gi_of gB.2.1.2.2.1 (show x_fi 23 1472 = true by decide), gB.2.1.2.2.2.1, M_foldLane hw hk, ht, vg_of gB.2.1.2.2.1 (show x_isa 23 23 = true by decide), M_count gB.2.1 hn hz2, Option.bind_some, if_true, if_false]
    rcases ax_of hn ha1 ha2 with hm1 | ⟨ja, hja, hje⟩
    · refine ⟨B1, 1, iw (prd (Z j) (n j) : Nat), a5, by rw [a1]; rfl, by rw [a1]; rfl, a3, kB, a6, gB, vB, ?_, Or.inl ⟨hm1, rfl, rfl⟩⟩
      rw [head, hm1]
      show F_X16_running_b58_st (F_X16_running_b58 (xN - 1)) B1 _ _ _ _ _ _ _ _ = _
      unfold F_X16_running_b58_st F_X16_running_b91 F_X16_running_b107
      simp only [vg_of gB.2.1.2.2.1 (show x_isa 23 23 = true by decide), M_axes gB.2.1, Option.bind_some]
      rw [if_pos (show (-1 : Int32) < 0 by decide)]
      split <;> rfl
    · refine ⟨B1, iw (bh (Z j) ja (n j) : Nat), iw (Z j ja : Nat), a5, by rw [a1]; rfl, by rw [a1]; rfl, a3, kB, a6, gB, vB, ?_, Or.inr ⟨ja, hja, hje, rfl, rfl⟩⟩
      obtain ⟨N1, hN1⟩ : ∃ N1, N1 + 1 + (n j - (ja + 1)) = xN := ⟨xN - 1 - (n j - (ja + 1)), by omega⟩
      have lp := M_before_loop (w := w) (l := foL w (K j)) (v7 := iw (prd (Z j) (n j) : Nat)) gB.2.1 hn hja (n j - (ja + 1)) (N1 + 1) (ja + 1) (by omega) (by omega)
      have eb : bh (Z j) ja (ja + 1) = 1 := if_neg (by omega)
      rw [eb, hN1] at lp
      rw [head, hje, iw_succ]
      refine lp.trans ?_
      show F_X16_running_b58_st (F_X16_running_b58 N1) B1 _ _ _ _ _ _ _ _ = _
      unfold F_X16_running_b58_st F_X16_running_b91 F_X16_running_b107
      simp only [vg_of gB.2.1.2.2.1 (show x_isa 23 23 = true by decide), M_axes gB.2.1, gr_of gB.2.1.2.2.1 (show x_fr 23 1473 = true by decide), gB.2.1.2.2.2.2.1.ai hn hja, Option.bind_some]
      rw [if_neg (by rw [iw_le4 (by omega) (by omega)]; omega), if_neg (by rw [iw_lt0 (by omega) (by omega)]; omega)]
  by_cases cz : prd (Z j) (n j) = 0
  · -- no cells
    refine CR.work h h4 h5 (l := foL w (K j)) (n' := n j) (z := Z j) (r := fun _ => none) (cd := fun _ => 8) hL hn hz2 (fun i v _ q => by cases q) ?_ ?_
    · refine ⟨A2, dMA2.sc, by omega, by omega, f62, f89, f91, Or.inl ⟨by rw [cz]; rfl, ?_, fun x hx => by omega⟩⟩
      show F_X0_running M 1000 g w a = _
      rw [runE]
      have e73 : F_X0_running_b273 A2 1000 (foL w (K j)) (-1) 0 = F_X0_made A2 1000 (foL w (K j)) 1057 := by
        unfold F_X0_running_b273
        rw [if_pos (by decide)]
        simp only [g1000_81, v1000, sA2, Option.bind_some, bse]
      show F_X0_running_b106_st (F_X0_running_b106 (xN - 1)) A2 _ _ _ _ _ _ _ _ _ _ = _
      unfold F_X0_running_b106_st
      have h00 : ¬ (0 : Int32) < 0 := by decide
      rcases hax with ⟨q1, q2, q3⟩ | ⟨ja, q0, q1, q2, q3⟩
      · rw [q3, cz, i00]
        simp only [h00, if_false, e73]
        split <;> rfl
      · by_cases c0 : Z j ja = 0
        · rw [q3, c0, i00]
          simp only [h00, if_false, e73]
          split <;> rfl
        · have hpb := pw_bh (z := Z j) (a := ja) (n j) q0
          have hp0 : pw (Z j) ja (n j) = 0 := by
            rw [hpb.1]
            have e : prd (Z j) ja * Z j ja * bh (Z j) ja (n j) = 0 := by rw [← hpb.2]; exact cz
            rcases Nat.mul_eq_zero.mp e with e | e
            · rcases Nat.mul_eq_zero.mp e with e | e
              · rw [e, Nat.zero_mul]
              · exact absurd e c0
            · rw [e, Nat.mul_zero]
          rw [pw_n q0] at hp0
          have : lines = 0 := by
            rw [q2]
            unfold cnt
            rw [hp0, if_neg (by decide)]
            rfl
          rw [this]
          simp only [h00, if_false, e73]
    · intro M1 sM1 d1
      obtain ⟨B1, v8, v9, t1, t2, t3, s2, k2, t4, g2, v2, t6, -⟩ := stepM M1 d1
      obtain ⟨W, y1, y2, y3, y4, y5⟩ := M_run0 (w := w) (l := foL w (K j)) (v8 := v8) (v9 := v9) s2 g2
      have nB1 := s2.1
      refine ⟨W, (t1.trans (y4.mono (fun _ _ q => q.elim) (fun _ _ q => q.elim) (fun _ _ q => q))).sc, by omega, by omega, Or.inl ⟨m_nx B1, by rw [cz]; rfl, y5, ?_, by rw [y4.cI (by omega) (fun q => q)]; exact t4, fun x hx => by omega⟩⟩
      show F_X16_running M1 1068 g w a = _
      rw [t6, cz, i00, y1]
  · -- cells
    have key : ∃ (Bn ln H : Nat), 0 < Bn ∧ 0 < ln ∧ prd (Z j) (n j) = H * ln * Bn ∧ lines = iw ((H * Bn : Nat) : Int) ∧ len = iw (ln : Int) ∧
        (∀ N, GP N (cR M 1005 j) (cR M 1070 j) (K j) (n j) (Z j) (S j) (T j) (X j) (Y j) (C j) (D j) (L j) (P j) → ∀ lk i, lk < H * Bn → i < ln → F_X0_cellOf N (cR M 1005 j) a (iw (lk : Int)) (iw (i : Int)) = some (iw (clo Bn ln lk i : Nat))) ∧
        (∀ N lk, ST N → GP N (cR M 1005 j) (cR M 1070 j) (K j) (n j) (Z j) (S j) (T j) (X j) (Y j) (C j) (D j) (L j) (P j) → lk < H * Bn → ∃ N', F_X0_lineOf N 1000 (cR M 1005 j) a (iw (lk : Int)) = some (iw (ln : Int), N') ∧ m_nx N' = m_nx N ∧ m_sl N' = m_sl N ∧ Df n2 (at1 1058) n2 N N' ∧ ∀ i, i < ln → cJ N' 1058 i = cJ N (C j) (gpos (n j) (Z j) (S j) (X j) (clo Bn ln lk i))) ∧
        (∀ v8 v9 : Int32, ((a = -1 ∧ v8 = 1 ∧ v9 = iw (prd (Z j) (n j) : Nat)) ∨ (∃ ja, ja < n j ∧ a = iw (ja : Int) ∧ v8 = iw (bh (Z j) ja (n j) : Nat) ∧ v9 = iw (Z j ja : Nat))) → v8 = iw (Bn : Int) ∧ v9 = iw (ln : Int)) := by
      have hna : ∀ ja : Nat, ja < n j → (-1 : Int32) ≠ iw (ja : Int) := fun ja hja q => by
        have : iw (ja : Int) < 0 := by rw [← q]; decide
        rw [iw_lt0 (by omega) (by omega)] at this
        omega
      rcases hax with ⟨q1, q2, q3⟩ | ⟨ja, q0, q1, q2, q3⟩
      · have cl1 : ∀ i, clo 1 (prd (Z j) (n j)) 0 i = i := fun i => by
          unfold clo
          rw [Nat.div_one, Nat.zero_mul, Nat.zero_add, Nat.mul_one, Nat.mod_one, Nat.add_zero]
        refine ⟨1, prd (Z j) (n j), 1, by decide, Nat.pos_of_ne_zero cz, by rw [Nat.one_mul, Nat.mul_one], q2, q3, fun N gN lk i hlk hi => ?_, fun N lk sN gN hlk => ?_, fun v8 v9 hv => ?_⟩
        · have : lk = 0 := by omega
          rw [this, cl1, q1]
          rfl
        · have : lk = 0 := by omega
          subst this
          obtain ⟨N', f1, f2, f3, f4, f5⟩ := E_gather (arr := 1058) (W := 100000) gN (by decide) hprd (by decide) (t1058 sN) (l1058 sN)
          refine ⟨N', ?_, f2, f3, f4, fun i hi => by rw [cl1]; exact f5 i hi⟩
          unfold F_X0_lineOf
          rw [q1, if_pos (by decide)]
          simp only [g1000_82, v1000, sN, f1, Option.bind_some]
        · rcases hv with ⟨_, r2, r3⟩ | ⟨jb, r0, r1, r2, r3⟩
          · exact ⟨r2, r3⟩
          · exact absurd (q1.symm.trans r1) (hna jb r0)
      · have hz0 := (prd_pos (n j)).mp cz
        have hpb := pw_bh (z := Z j) (a := ja) (n j) q0
        have hbne : bh (Z j) ja (n j) ≠ 0 := fun q => cz (by rw [hpb.2, q, Nat.mul_zero])
        have hpw : pw (Z j) ja (n j) ≤ 100000 := by
          have h1 : pw (Z j) ja (n j) ≤ prd (Z j) (n j) := by
            rw [hpb.1, hpb.2, Nat.mul_assoc, Nat.mul_comm (Z j ja), ← Nat.mul_assoc]
            exact Nat.le_mul_of_pos_right _ (hz0 ja q0)
          omega
        refine ⟨bh (Z j) ja (n j), Z j ja, prd (Z j) ja, Nat.pos_of_ne_zero hbne, hz0 ja q0, hpb.2, ?_, q3, fun N gN lk i hlk hi => ?_, fun N lk sN gN hlk => ?_, fun v8 v9 hv => ?_⟩
        · rw [q2, ← hpb.1]
          unfold cnt
          rw [← pw_n q0, if_neg (by omega)]
        · rw [q1]
          exact E_cellOf gN q0 cz (by rw [hpb.1]; exact hlk) hi
        · rw [← hpb.1] at hlk
          obtain ⟨N', f1, f2, f3, f4, f5⟩ := E_lineOf (lk := lk) sN gN q0 hlk (by omega) (fun i hi _ => hz0 i hi)
          refine ⟨N', by rw [q1]; exact f1, f2, f3, f4, fun i hi => ?_⟩
          rw [f5 i hi, cn_clo (n j) lk q0 hlk]
        · rcases hv with ⟨r1, r2, r3⟩ | ⟨jb, r0, r1, r2, r3⟩
          · exact absurd (r1.symm.trans q1) (hna ja q0)
          · have : jb = ja := by
              have e := q1.symm.trans r1
              rw [iw_eq (by omega) (by omega) (by omega) (by omega)] at e
              omega
            rw [this] at r2 r3
            exact ⟨r2, r3⟩
    obtain ⟨Bn, ln, H, hBn, hln, hpp, hli, hle, hce, hlo, hv89⟩ := key
    have hcap : H * ln * Bn ≤ 100000 := by omega
    obtain ⟨A3, u1, u2, u3, u4⟩ := E_run (av := a) hw hk ht w8 sA2 gA2 hBn hln hcap (fun q hq => hvN A2 (fun q => dMA2.cJ cp.2.1 (qt_qsc _ _ cp.1)) q (by omega)) hce hlo
    rw [← hli, ← hle, ← runE, ← hpp] at u4
    have m2 : ∀ a i, at1 1002 a i → pp pFl a i := fun a i q => Or.inl (by unfold at1 at q; unfold psc; omega)
    refine CR.work h h4 h5 (l := foL w (K j)) (n' := n j) (z := Z j) (r := rnv w (K j) val Bn ln) (cd := fun _ => 8) hL hn hz2 (fun q v hq hv => ?_) ?_ ?_
    · have hq' : q < H * ln * Bn := by omega
      have hlc := lco_lt hBn hq'
      have hic : ico Bn ln q < ln := Nat.mod_lt _ hln
      exact (fogo_vb hw hk ht w8 _ _ _ _ (fun y _ hy => hvv _ (by rw [hpp]; exact clo_lt hBn (show y < ln by omega) hlc)) (foB_V hw hk ht w8 (hvv _ (by rw [hpp]; exact clo_lt hBn hln hlc))) hv).1 w5
    · have n2' := dMA2.1
      refine ⟨A3, (dMA2.trans (u1.mono m2 (fun _ _ q => q) (fun _ _ q => q))).sc, by omega, by omega, fun i hi => by rw [u1.cI (by omega) (by unfold at1; omega)]; exact f62 i hi, by rw [u1.cI (by omega) (by unfold at1; omega)]; exact f89, by rw [u1.cI (by omega) (by unfold at1; omega)]; exact f91, ?_⟩
      rcases u4 with ⟨v1, v2, v3⟩ | ⟨q, v1, v2, v3, v4⟩
      · exact Or.inl ⟨v1, v2, v3⟩
      · exact Or.inr ⟨q, v1, v2, by omega, v3, v4⟩
    · intro M1 sM1 d1
      obtain ⟨B1, v8, v9, t1, t2, t3, s2, k2, t4, g2, v2, t6, t7⟩ := stepM M1 d1
      obtain ⟨e8', e9'⟩ := hv89 v8 v9 t7
      obtain ⟨V, y1, y2, y3, y4⟩ := M_run hw hk ht w5 w8 s2 k2 g2 hBn hln hpp (fun q hq => hvN B1 v2 q (by omega)) t4
      rw [← hpp, ← e8', ← e9', ← t6] at y4
      refine ⟨V, (t1.trans (y1.mono pF5_m (fun _ _ q => q) (fun _ _ q => q))).sc, by omega, by omega, ?_⟩
      rcases y4 with ⟨sa, v1, v2, v3, v4, v5⟩ | ⟨q, v1, v2, v3, v4⟩
      · exact Or.inl ⟨sa, v1, v2, v3, v4, v5⟩
      · exact Or.inr ⟨q, v1, v2, v3, v4⟩
