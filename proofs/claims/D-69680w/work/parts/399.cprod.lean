/-! ===== CALLS, 27: product ===== -/
theorem c_product {M : Mem} {g g' : Int32} (h : ST M) (k0 : K0 M) (h4 : I4 M) (h5 : I5 M) : CR (pg pFl) (rG M) I4 M (fun M => F_X0_product M 1000 g g') (fun M => F_X16_product M 1068 g g') := by
  have h0 := h.1
  have h5x := h5
  obtain ⟨m, ww, K, n, Z, S, T, X, Y, C, D, L, P, h5⟩ := h5
  have n10 : ¬ (1 : Int32) = 0 := by decide
  have hxN : xN = 1099511627776 := rfl
  obtain ⟨A, hA, fi, sA, dA, nA, lA, c91, x1, x2⟩ := E_seeW h g
  have x1' : F_X0_find A 1000 g' = F_X0_find M 1000 g' := (E_see h dA sA (fun q => by unfold pp psc pFl at q; omega) (fun q => by unfold pp psc pFl at q; omega) (fun i q => q) g').1
  -- the model's head
  have headM : ∀ M1, Df pWk qsc rWk M M1 → ∃ B1, B1 = wI M1 1068 1117 (-1) ∧ pi M1 1068 1117 (-1) = some B1 ∧ ST B1 ∧ Df pWk qsc rWk M B1 ∧ Df (pp pFm) qsc n2 M1 B1 ∧ cI B1 1068 1117 = -1 ∧ K0 B1 ∧ cI B1 1068 1095 = cI M 1068 1095 ∧ F_X16_isGrid B1 1068 g = F_X16_isGrid M 1068 g ∧ F_X16_isGrid B1 1068 g' = F_X16_isGrid M 1068 g' ∧ ar B1 1070 g = ar M 1070 g ∧ ar B1 1070 g' = ar M 1070 g' := by
    intro M1 d1
    obtain ⟨B1, a1, a2, a3, a4, a5, a6, a7, a8, a9, a10⟩ := M_seeW h d1 g
    obtain ⟨B1', a1', -, -, -, -, -, -, -, a9', a10'⟩ := M_seeW h d1 g'
    have e : B1' = B1 := a1'.trans a1.symm
    subst e
    exact ⟨B1', a1', a2, a3, a4, a5, a6, k0.wk h a4, a7, a9, a9', a10, a10'⟩
  obtain ⟨B, hB, pB, sB, dB, dAB, c17, kB, cB, yg, yg', ya, ya'⟩ := headM A (dA.mono (fun _ _ q => Or.inl q) (fun _ _ q => q) (fun _ _ q => q.elim))
  have nB : m_nx B = m_nx M := by rw [hB]; exact nA
  have lB : m_sl B = m_sl M := by rw [hB]; exact lA
  have no : ∀ r : Int32, F_X0_product M 1000 g g' = some (r, A) → F_X16_product A 1068 g g' = some (r, B) → CR (pg pFl) (rG M) I4 M (fun M => F_X0_product M 1000 g g') (fun M => F_X16_product M 1068 g g') := fun r e1 e2 =>
    CR.fine h h4 h5x r e1 e2 dA c91 dAB c17 (by omega) (by omega)
  have z6 : ¬ (0 : Nat) = 6 := by decide
  rcases look2 h h4 h5 g g' with ⟨b1, b2, e1, e1', e2⟩ | ⟨b1, b2, e2, e1, ⟨x, e1'⟩, e8⟩ | ⟨b1, b2, e2, ⟨o, e1, o0, o6⟩, e1', e7, e8⟩ | ⟨b1, b2, i, j, i1, i2, j1, j2, hg, hg', e1, e1', i0, i6, j0, j6, e7, e7', e6, e6', gp, gp'⟩
  · refine no (-13) ?_ ?_
    · simp only [F_X0_product, F_X0_product_b26, v1000, h, fi, sA, x1, x1', x2, e1, e1', e2, z6, Option.bind_some, if_false, if_true]
    · simp only [F_X16_product, pB, g1068_1095, sB, cB, b2, n10, Option.bind_some, if_false]
  · refine no (-14) ?_ ?_
    · simp only [F_X0_product, F_X0_product_b26, v1000, h, fi, sA, x1, x1', x2, e1, e1', e2, z6, Option.bind_some, if_false, if_true]
    · simp only [F_X16_product, F_X16_product_b31, pB, g1068_1095, v1068, sB, cB, b2, yg, e8, Option.bind_some, if_true]
  · refine no (-14) ?_ ?_
    · simp only [F_X0_product, F_X0_product_b26, v1000, h, fi, sA, x1, x1', x2, e1, e1', e2, z6, o0, o6, Option.bind_some, if_false, if_true]
    · simp only [F_X16_product, F_X16_product_b31, pB, g1068_1095, v1068, sB, cB, b2, yg, yg', e7, e8, n10, Option.bind_some, if_true, if_false]
  have hk := gp.2.2.1
  have hk' := gp'.2.2.1
  have hn := gp.2.2.2.1
  have hn' := gp'.2.2.2.1
  have gA := gp.df dA (qt_pp qt_pFl) qt_qsc qt_n2
  have gA' := gp'.df dA (qt_pp qt_pFl) qt_qsc qt_n2
  have gB := gp.df dB qt_pWk qt_qsc qt_rWk
  have gB' := gp'.df dB qt_pWk qt_qsc qt_rWk
  have i2e : ∀ a : Nat, a ≤ 4 → (iw (a : Int) = 2 ↔ a = 2) := fun a ha => by rw [show (2 : Int32) = iw ((2 : Nat) : Int) from rfl, iw_eq (by omega) (by omega) (by omega) (by omega)]; omega
  by_cases c1 : ¬ n i = 2
  · have q1 : ¬ iw (n i : Int) = 2 := fun q => c1 ((i2e _ hn).mp q)
    refine no (-1) ?_ ?_
    · simp only [F_X0_product, F_X0_product_b70, v1000, h, fi, sA, x1, x1', e1, e1', i0, i6, j0, j6, gi_of gA.1.2.2.1 (show x_fi 22 1409 = true by decide), gA.1.2.2.2.2.1, q1, Option.bind_some, if_false]
    · simp only [F_X16_product, F_X16_product_b81, pB, g1068_1095, g1068_1092, v1068, sB, cB, b2, yg, yg', ya, ya', e7, e7', e6, e6', n10, vg_of gB.2.1.2.2.1 (show x_isa 23 23 = true by decide), M_axes gB.2.1, q1, Option.bind_some, if_true, if_false]
  have c1 : n i = 2 := Decidable.of_not_not c1
  have q1 : iw (n i : Int) = 2 := (i2e _ hn).mpr c1
  by_cases c2 : ¬ n j = 2
  · have q2 : ¬ iw (n j : Int) = 2 := fun q => c2 ((i2e _ hn').mp q)
    refine no (-1) ?_ ?_
    · simp only [F_X0_product, F_X0_product_b70, v1000, h, fi, sA, x1, x1', e1, e1', i0, i6, j0, j6, gi_of gA.1.2.2.1 (show x_fi 22 1409 = true by decide), gA.1.2.2.2.2.1, gi_of gA'.1.2.2.1 (show x_fi 22 1409 = true by decide), gA'.1.2.2.2.2.1, q1, q2, Option.bind_some, if_false, if_true]
    · simp only [F_X16_product, F_X16_product_b81, pB, g1068_1095, g1068_1092, v1068, sB, cB, b2, yg, yg', ya, ya', e7, e7', e6, e6', n10, vg_of gB.2.1.2.2.1 (show x_isa 23 23 = true by decide), M_axes gB.2.1, vg_of gB'.2.1.2.2.1 (show x_isa 23 23 = true by decide), M_axes gB'.2.1, q1, q2, Option.bind_some, if_true, if_false]
  have c2 : n j = 2 := Decidable.of_not_not c2
  have q2 : iw (n j : Int) = 2 := (i2e _ hn').mpr c2
  have headE : F_X0_product M 1000 g g' = (if K i = 0 then some (-1, A) else if K j = 0 then some (-1, A) else (ai A (cR A (cR M 1005 i) 1410) 1).bind fun t27 => (ai A (cR A (cR M 1005 j) 1410) 0).bind fun t29 => if t27 = t29 then (ai A (cR A (cR M 1005 i) 1410) 0).bind fun t31 => (ai A (cR A (cR M 1005 i) 1410) 1).bind fun t33 => (ai A (cR A (cR M 1005 j) 1410) 1).bind fun t35 => (pi A 1000 89 2).bind fun M36 => (gr M36 1000 88).bind fun t37 => (si M36 t37 0 t31).bind fun M38 => (gr M38 1000 88).bind fun t39 => (si M38 t39 1 t35).bind fun M40 => if (1000000 : Int64) < t31.toInt64 * t33.toInt64 * t35.toInt64 then F_X0_product_b169 M40 else (gr M40 1000 88).bind fun t41 => (gi M40 1000 89).bind fun t42 => (F_X2_count M40 t41 t42).bind fun z43 => if z43 < 0 then F_X0_product_b169 M40 else (gi M40 (cR M 1005 i) 1408).bind fun t44 => (gi M40 (cR M 1005 j) 1408).bind fun t45 => (F_X23_wider t44 t45).bind fun z46 => F_X0_product_b189 xN M40 1000 (cR M 1005 i) (cR M 1005 j) t31 t35 z46 0 else some (-3, A)) := by
    simp only [F_X0_product, F_X0_product_b70, v1000, h, fi, sA, x1, x1', e1, e1', i0, i6, j0, j6, gi_of gA.1.2.2.1 (show x_fi 22 1409 = true by decide), gA.1.2.2.2.2.1, gi_of gA'.1.2.2.1 (show x_fi 22 1409 = true by decide), gA'.1.2.2.2.2.1, gi_of gA.1.2.2.1 (show x_fi 22 1408 = true by decide), gA.1.2.2.2.1, gi_of gA'.1.2.2.1 (show x_fi 22 1408 = true by decide), gA'.1.2.2.2.1, gr_of gA.1.2.2.1 (show x_fr 22 1410 = true by decide), gr_of gA'.1.2.2.1 (show x_fr 22 1410 = true by decide), q1, q2, isNum hk, isNum hk', Option.bind_some, if_false, if_true]
    by_cases d1 : K i = 0
    · simp only [d1, if_true]
    · by_cases d2 : K j = 0
      · simp only [d1, d2, n10, if_true, if_false]
      · simp only [d1, d2, n10, if_false]
  have headM' : ∀ M1, Df pWk qsc rWk M M1 → ∃ B1, B1 = wI M1 1068 1117 (-1) ∧ ST B1 ∧ Df pWk qsc rWk M B1 ∧ Df (pp pFm) qsc n2 M1 B1 ∧ cI B1 1068 1117 = -1 ∧ K0 B1 ∧ GP B1 (cR M 1005 i) (cR M 1070 i) (K i) (n i) (Z i) (S i) (T i) (X i) (Y i) (C i) (D i) (L i) (P i) ∧ GP B1 (cR M 1005 j) (cR M 1070 j) (K j) (n j) (Z j) (S j) (T j) (X j) (Y j) (C j) (D j) (L j) (P j) ∧
      F_X16_product M1 1068 g g' = (if K i = 0 then some (-1, B1) else if K j = 0 then some (-1, B1) else (ai B1 (cR B1 (cR M 1070 i) 1473) 1).bind fun t59 => (ai B1 (cR B1 (cR M 1070 j) 1473) 0).bind fun t61 => if t59 = t61 then (ai B1 (cR B1 (cR M 1070 i) 1473) 0).bind fun t63 => (ai B1 (cR B1 (cR M 1070 i) 1473) 1).bind fun t65 => (ai B1 (cR B1 (cR M 1070 j) 1473) 1).bind fun t67 => if (1000000 : Int64) < t63.toInt64 * t65.toInt64 * t67.toInt64 then some (-12, B1) else if (100000 : Int64) < t63.toInt64 * t67.toInt64 then some (-12, B1) else (F_X16_wider (K i) (K j)).bind fun z70 => (F_X16_sizes B1 t63 t67).bind fun z71 => F_X16_product_b188 xN z71.2 1068 (cR M 1070 i) (cR M 1070 j) t63 t65 t67 z70 z71.1 0 else some (-3, B1)) := by
    intro M1 d1
    obtain ⟨B1, a1, pB1, sB1, dB1, dAB1, c171, kB1, cB1, zg, zg', za, za'⟩ := headM M1 d1
    have gB1 := gp.df dB1 qt_pWk qt_qsc qt_rWk
    have gB1' := gp'.df dB1 qt_pWk qt_qsc qt_rWk
    refine ⟨B1, a1, sB1, dB1, dAB1, c171, kB1, gB1, gB1', ?_⟩
    simp only [F_X16_product, F_X16_product_b81, F_X16_product_b159, pB1, g1068_1095, g1068_1092, v1068, sB1, cB1, b2, zg, zg', za, za', e7, e7', e6, e6', n10, vg_of gB1.2.1.2.2.1 (show x_isa 23 23 = true by decide), M_axes gB1.2.1, vg_of gB1'.2.1.2.2.1 (show x_isa 23 23 = true by decide), M_axes gB1'.2.1, gi_of gB1.2.1.2.2.1 (show x_fi 23 1472 = true by decide), gB1.2.1.2.2.2.1, gi_of gB1'.2.1.2.2.1 (show x_fi 23 1472 = true by decide), gB1'.2.1.2.2.2.1, gr_of gB1.2.1.2.2.1 (show x_fr 23 1473 = true by decide), gr_of gB1'.2.1.2.2.1 (show x_fr 23 1473 = true by decide), q1, q2, Option.bind_some, if_true, if_false]
  obtain ⟨B', hB', sB', dB', dAB', c17', kB', gBi, gBj, runM⟩ := headM' A (dA.mono (fun _ _ q => Or.inl q) (fun _ _ q => q) (fun _ _ q => q.elim))
  have hBB : B' = B := hB'.trans hB.symm
  subst hBB
  by_cases c3 : K i = 0
  · exact no (-1) (by rw [headE, if_pos c3]) (by rw [runM, if_pos c3])
  by_cases c4 : K j = 0
  · exact no (-1) (by rw [headE, if_neg c3, if_pos c4]) (by rw [runM, if_neg c3, if_pos c4])
  have GA : GP A (cR M 1005 i) (cR M 1070 i) (K i) 2 (Z i) (S i) (T i) (X i) (Y i) (C i) (D i) (L i) (P i) := by have q := gA; rw [c1] at q; exact q
  have GA' : GP A (cR M 1005 j) (cR M 1070 j) (K j) 2 (Z j) (S j) (T j) (X j) (Y j) (C j) (D j) (L j) (P j) := by have q := gA'; rw [c2] at q; exact q
  obtain ⟨a0, a1⟩ := ai0 GA.1.2.2.2.2.2.1 rfl
  obtain ⟨a0', a1'⟩ := ai0 GA'.1.2.2.2.2.2.1 rfl
  have zi0 := GA.2.2.2.2.1 0 (by omega)
  have zi1 := GA.2.2.2.2.1 1 (by omega)
  have zj0 := GA'.2.2.2.2.1 0 (by omega)
  have zj1 := GA'.2.2.2.2.1 1 (by omega)
  by_cases c5 : ¬ Z i 1 = Z j 0
  · have q5 : ¬ iw (Z i 1 : Nat) = iw (Z j 0 : Nat) := by rw [iw_eq (by omega) (by omega) (by omega) (by omega)]; omega
    have GB : GP B' (cR M 1005 i) (cR M 1070 i) (K i) 2 (Z i) (S i) (T i) (X i) (Y i) (C i) (D i) (L i) (P i) := by have q := gBi; rw [c1] at q; exact q
    have GB' : GP B' (cR M 1005 j) (cR M 1070 j) (K j) 2 (Z j) (S j) (T j) (X j) (Y j) (C j) (D j) (L j) (P j) := by have q := gBj; rw [c2] at q; exact q
    obtain ⟨w0, w1⟩ := ai0 GB.2.1.2.2.2.2.1 rfl
    obtain ⟨w0', w1'⟩ := ai0 GB'.2.1.2.2.2.2.1 rfl
    refine no (-3) ?_ ?_
    · rw [headE, if_neg c3, if_neg c4]
      simp only [a1, a0', q5, Option.bind_some, if_false]
    · rw [runM, if_neg c3, if_neg c4]
      simp only [w1, w0', q5, Option.bind_some, if_false]
  have c5 : Z i 1 = Z j 0 := Decidable.of_not_not c5
  obtain ⟨A1, hA1, f1, f2, f3, sA1, dA1, nA1, lA1, h89, h62a, h62b, hoth⟩ := E_shape2 sA (iw (Z i 0 : Nat)) (iw (Z j 1 : Nat))
  have dMA1 : Df (pp pFl) qsc n2 M A1 := dA.trans (dA1.mono (fun _ _ q => q.imp id (fun q => q.elim)) (fun _ _ q => q) (fun _ _ q => q))
  have fA1 : cI A1 1000 91 = 0 := by rw [hoth 91 (by decide)]; exact c91
  have G1 := GA.df dA1 (qt_pp qt_n2) qt_qsc qt_n2
  have G1' := GA'.df dA1 (qt_pp qt_n2) qt_qsc qt_n2
  obtain ⟨z, hz⟩ : ∃ z : Nat → Nat, z = fun y => if y = 0 then Z i 0 else Z j 1 := ⟨_, rfl⟩
  have hz0 : z 0 = Z i 0 := by rw [hz]; rfl
  have hz1 : z 1 = Z j 1 := by rw [hz]; rfl
  have hzle : ∀ y, y < 2 → z y ≤ 4096 := fun y hy => by rcases (show y = 0 ∨ y = 1 by omega) with rfl | rfl <;> omega
  have c62 : ∀ y, y < 2 → cI A1 1062 y = iw (z y) := fun y hy => by
    rcases (show y = 0 ∨ y = 1 by omega) with rfl | rfl
    · rw [h62a, hz0]
    · rw [h62b, hz1]
  have hprd : prd z 2 = Z i 0 * Z j 1 := by show 1 * z 0 * z 1 = _; rw [Nat.one_mul, hz0, hz1]
  have ecn := E_cnt (n := 2) (z := z) (t1062 sA1) (l1062 sA1) (by decide) (by decide) (fun y hy => ⟨c62 y hy, hzle y hy⟩)
  have m3 : ∀ a b c : Nat, a ≤ 4096 → b ≤ 4096 → c ≤ 4096 → a * b * c < 2 ^ 63 := fun a b c ha hb hc => by
    have q1 := Nat.mul_le_mul ha hb
    have q2 := Nat.mul_le_mul q1 hc
    omega
  have m2' : Z i 0 * Z j 1 < 2 ^ 63 := by
    have q1 := Nat.mul_le_mul zi0 zj1
    omega
  have l3 : (iw (Z i 0 : Nat)).toInt64 * (iw (Z i 1 : Nat)).toInt64 * (iw (Z j 1 : Nat)).toInt64 = nl (Z i 0 * Z i 1 * Z j 1) := by rw [i64_iw (by omega), i64_iw (by omega), i64_iw (by omega), nl_mul, nl_mul]
  have l2 : (iw (Z i 0 : Nat)).toInt64 * (iw (Z j 1 : Nat)).toInt64 = nl (Z i 0 * Z j 1) := by rw [i64_iw (by omega), i64_iw (by omega), nl_mul]
  have g88 : gr (wI A 1000 89 2) 1000 88 = some 1062 := g1000_88 sA
  have g88' : gr (wI (wI A 1000 89 2) 1062 0 (iw (Z i 0 : Nat))) 1000 88 = some 1062 := g1000_88 sA
  obtain ⟨wE, wM⟩ := wider_eq hk hk'
  obtain ⟨hl, fa, fb⟩ := mxk_ok hk hk' c3 c4
  have runE : F_X0_product M 1000 g g' = if (1000000 : Int64) < nl (Z i 0 * Z i 1 * Z j 1) then some (-12, A1) else if cnt z 2 < 0 then some (-12, A1) else F_X0_product_b189 xN A1 1000 (cR M 1005 i) (cR M 1005 j) (iw (Z i 0 : Nat)) (iw (Z j 1 : Nat)) (mxk (K i) (K j)) 0 := by
    rw [headE, if_neg c3, if_neg c4]
    simp only [a0, a1, a0', a1', c5, Option.bind_some, if_true]
    rw [← c5, f1]
    simp only [g88, f2, g88', f3, l3, Option.bind_some, F_X0_product_b169, g1000_88, g1000_89, sA1, h89]
    rw [show (2 : Int32) = iw ((2 : Nat) : Int) from rfl, ecn]
    simp only [gi_of G1.1.2.2.1 (show x_fi 22 1408 = true by decide), G1.1.2.2.2.1, gi_of G1'.1.2.2.1 (show x_fi 22 1408 = true by decide), G1'.1.2.2.2.1, wE, Option.bind_some]
  have runM' : ∀ M1, Df pWk qsc rWk M M1 → ∃ B1, B1 = wI M1 1068 1117 (-1) ∧ ST B1 ∧ Df pWk qsc rWk M B1 ∧ Df (pp pFm) qsc n2 M1 B1 ∧ cI B1 1068 1117 = -1 ∧ K0 B1 ∧ GP B1 (cR M 1005 i) (cR M 1070 i) (K i) 2 (Z i) (S i) (T i) (X i) (Y i) (C i) (D i) (L i) (P i) ∧ GP B1 (cR M 1005 j) (cR M 1070 j) (K j) 2 (Z j) (S j) (T j) (X j) (Y j) (C j) (D j) (L j) (P j) ∧
      F_X16_product M1 1068 g g' = if (1000000 : Int64) < nl (Z i 0 * Z i 1 * Z j 1) then some (-12, B1) else if (100000 : Int64) < nl (Z i 0 * Z j 1) then some (-12, B1) else (F_X16_sizes B1 (iw (Z i 0 : Nat)) (iw (Z j 1 : Nat))).bind fun z71 => F_X16_product_b188 xN z71.2 1068 (cR M 1070 i) (cR M 1070 j) (iw (Z i 0 : Nat)) (iw (Z i 1 : Nat)) (iw (Z j 1 : Nat)) (mxk (K i) (K j)) z71.1 0 := by
    intro M1 d1
    obtain ⟨B1, b1', b2', b3', b4', b5', b6', gb, gb', rm⟩ := headM' M1 d1
    have GB : GP B1 (cR M 1005 i) (cR M 1070 i) (K i) 2 (Z i) (S i) (T i) (X i) (Y i) (C i) (D i) (L i) (P i) := by rw [c1] at gb; exact gb
    have GB' : GP B1 (cR M 1005 j) (cR M 1070 j) (K j) 2 (Z j) (S j) (T j) (X j) (Y j) (C j) (D j) (L j) (P j) := by rw [c2] at gb'; exact gb'
    obtain ⟨w0, w1⟩ := ai0 GB.2.1.2.2.2.2.1 rfl
    obtain ⟨w0', w1'⟩ := ai0 GB'.2.1.2.2.2.2.1 rfl
    refine ⟨B1, b1', b2', b3', b4', b5', b6', GB, GB', ?_⟩
    rw [rm, if_neg c3, if_neg c4]
    simp only [w0, w1, w0', w1', c5, wM, Option.bind_some, if_true]
    rw [← c5, l3, l2]
  have nl6 : (1000000 : Int64) = nl 1000000 := rfl
  have nl5 : (100000 : Int64) = nl 100000 := rfl
  have h63 := m3 (Z i 0) (Z i 1) (Z j 1) zi0 zi1 zj1
  -- too much
  by_cases c6 : 1000000 < Z i 0 * Z i 1 * Z j 1 ∨ 100000 < Z i 0 * Z j 1
  · obtain ⟨B1, b1', b2', b3', b4', b5', b6', GB, GB', rm⟩ := runM' A1 (dMA1.mono (fun _ _ q => Or.inl q) (fun _ _ q => q) (fun _ _ q => q.elim))
    have nB1 : m_nx B1 = m_nx A1 := by rw [b1']; rfl
    have lB1 : m_sl B1 = m_sl A1 := by rw [b1']; rfl
    refine CR.fine h h4 h5x (A := A1) (B := B1) (-12) ?_ ?_ dMA1 fA1 b4' b5' (by omega) (by omega)
    · show F_X0_product M 1000 g g' = _
      rw [runE]
      by_cases q : 1000000 < Z i 0 * Z i 1 * Z j 1
      · rw [if_pos (by rw [nl6, nl_lt (by decide) h63]; exact q)]
      · rw [if_neg (by rw [nl6, nl_lt (by decide) h63]; exact q), if_pos]
        unfold cnt
        rw [hprd, if_pos (by omega)]
        decide
    · show F_X16_product A1 1068 g g' = _
      rw [rm]
      by_cases q : 1000000 < Z i 0 * Z i 1 * Z j 1
      · rw [if_pos (by rw [nl6, nl_lt (by decide) h63]; exact q)]
      · rw [if_neg (by rw [nl6, nl_lt (by decide) h63]; exact q), if_pos (by rw [nl5, nl_lt (by decide) m2']; omega)]
  obtain ⟨Q, hQ⟩ : ∃ Q, Q = Z i 0 * Z j 1 := ⟨_, rfl⟩
  have hQ5 : Q ≤ 100000 := by omega
  obtain ⟨cp, cp'⟩ : CP M (K i) (C i) (D i) (L i) ∧ CP M (K j) (C j) (D j) (L j) := ⟨gp.2.2.2.2.2.2.2.1, gp'.2.2.2.2.2.2.2.1⟩
  obtain ⟨r, hr⟩ : ∃ r : Nat → Option Int64, r = fun q => spg (mxk (K i) (K j)) (K i) (K j) (fun y => cJ M (C i) (gpos 2 (Z i) (S i) (X i) (q / Z j 1 * Z i 1 + y))) (fun y => cJ M (C j) (gpos 2 (Z j) (S j) (X j) (y * Z j 1 + q % Z j 1))) 0 (Z i 1) 0 := ⟨_, rfl⟩
  have rq : ∀ N, (∀ y, cJ N (C i) y = cJ M (C i) y) → (∀ y, cJ N (C j) y = cJ M (C j) y) → ∀ q, spg (mxk (K i) (K j)) (K i) (K j) (fun y => cJ N (C i) (gpos 2 (Z i) (S i) (X i) (q / Z j 1 * Z i 1 + y))) (fun y => cJ N (C j) (gpos 2 (Z j) (S j) (X j) (y * Z j 1 + q % Z j 1))) 0 (Z i 1) 0 = r q := fun N h1 h2 q => by
    rw [hr]
    simp only [h1, h2]
  have dq : ∀ q, q < Q → q / Z j 1 < Z i 0 ∧ q % Z j 1 < Z j 1 := fun q hq => by
    have : 0 < Z j 1 := by
      rcases Nat.eq_zero_or_pos (Z j 1) with c | c
      · rw [hQ, c, Nat.mul_zero] at hq; omega
      · exact c
    exact ⟨Nat.div_lt_of_lt_mul (by rw [Nat.mul_comm, ← hQ]; exact hq), Nat.mod_lt _ this⟩
  have iwQ : iw (Z i 0 : Nat) * iw (Z j 1 : Nat) = iw (Q : Int) := by rw [iw_mul, hQ]; congr 1
  have dvr : ∀ q, q < Q → iw (q : Int) / iw (Z j 1 : Nat) = iw ((q / Z j 1 : Nat) : Int) ∧ j_irem (iw (q : Int)) (iw (Z j 1 : Nat)) = iw ((q % Z j 1 : Nat) : Int) ∧ ¬ iw (Z j 1 : Nat) = 0 := fun q hq => by
    have := dq q hq
    refine ⟨?_, ?_, by rw [iw_eq0 (by omega) (by omega)]; omega⟩
    · rw [iw_div (by omega) (by omega) (by omega) (by omega)]; rfl
    · rw [iw_rem (by omega) (by omega) (by omega) (by omega)]; rfl
  have e1E : F_X0_product M 1000 g g' = F_X0_product_b189 xN A1 1000 (cR M 1005 i) (cR M 1005 j) (iw (Z i 0 : Nat)) (iw (Z j 1 : Nat)) (mxk (K i) (K j)) 0 := by
    rw [runE, if_neg (by rw [nl6, nl_lt (by decide) h63]; omega), if_neg]
    unfold cnt
    rw [hprd, if_neg (by omega), iw_lt0 (by omega) (by omega)]
    omega
  obtain ⟨N0, hN0⟩ : ∃ N0, N0 + 1 + Q = xN := ⟨xN - 1 - Q, by omega⟩
  have hLk : Lk (mxk (K i) (K j)) := Ak_Lk hl
  refine CR.work h h4 h5 (l := mxk (K i) (K j)) (n' := 2) (z := z) (r := r) (cd := fun _ => 8) hLk (by decide) hzle (fun q v hq hv => ?_) ?_ ?_
  · rw [hprd, ← hQ] at hq
    rw [hr] at hv
    have gM : GP M (cR M 1005 i) (cR M 1070 i) (K i) 2 (Z i) (S i) (T i) (X i) (Y i) (C i) (D i) (L i) (P i) := by have q := gp; rw [c1] at q; exact q
    have gM' : GP M (cR M 1005 j) (cR M 1070 j) (K j) 2 (Z j) (S j) (T j) (X j) (Y j) (C j) (D j) (L j) (P j) := by have q := gp'; rw [c2] at q; exact q
    have := dq q hq
    exact spg_vb hl hk hk' c3 c4 _ _ _ _ (fun y _ hy => ⟨(gM.at2 this.1 (show y < Z i 1 by omega)).2.2.2.2.2, (gM'.at2 (show y < Z j 0 by omega) this.2).2.2.2.2.2⟩) (vb_0 hLk) hv
  · -- the engine's
    have cell : ∀ N' q, Df (at1 1002) qsc n2 A1 N' → q < Q → F_X0_cellOfProduct N' 1000 (cR M 1005 i) (cR M 1005 j) (mxk (K i) (K j)) (iw ((q / Z j 1 : Nat) : Int)) (iw ((q % Z j 1 : Nat) : Int)) = eRes (r q) N' 1002 := fun N' q d hq => by
      have := dq q hq
      have sN : ST N' := sA1.n d
      have dN : Df (fun a i => pp pFl a i ∨ at1 1002 a i) qsc n2 M N' := (dMA1.mono (fun _ _ q => Or.inl q) (fun _ _ q => q) (fun _ _ q => q)).trans (d.mono (fun _ _ q => Or.inr q) (fun _ _ q => q) (fun _ _ q => q))
      rw [← rq N' (fun y => dN.cJ cp.2.1 (qt_qsc _ _ cp.1)) (fun y => dN.cJ cp'.2.1 (qt_qsc _ _ cp'.1)) q]
      exact E_cellp sN (G1.df d (qt_at1 (by decide)) qt_qsc qt_n2) (G1'.df d (qt_at1 (by decide)) qt_qsc qt_n2) c5 hl c3 c4 this.1 this.2 (Z i 1) xN 0 0 (by omega) (by omega) (vb_0 hLk)
    have lE := wloop2 (fun N U q => F_X0_product_b189 N U 1000 (cR M 1005 i) (cR M 1005 j) (iw (Z i 0 : Nat)) (iw (Z j 1 : Nat)) (mxk (K i) (K j)) q) (fun U q => F_X0_failedAt U 1000 (iw (q : Int))) 1057 Q r (fun N => Df (at1 1002) qsc n2 A1 N ∧ m_nx N = m_nx A1 ∧ m_sl N = m_sl A1) (fun _ N => (Df (at1 1002) qsc n2 A1 N ∧ m_nx N = m_nx A1 ∧ m_sl N = m_sl A1) ∧ cI N 1002 129 = 8)
      (fun N N' q v hJ hq hv => by
        obtain ⟨d1, e1', e2'⟩ := hJ
        have sN : ST N' := sA1.n d1
        have ce := cell N' q d1 hq
        rw [hv] at ce
        obtain ⟨v1, v2, v3⟩ := dvr q hq
        refine ⟨wJ N' 1057 q v, ?_, ⟨d1.trans (Df.wJ _ (by unfold qsc; omega)), e1', e2'⟩, by rw [cJ_wJ, if_pos ⟨rfl, rfl⟩], fun x hx => by rw [cJ_wJ, if_neg (fun q => by omega)]⟩
        show F_X0_product_b189_st (F_X0_product_b189 N) N' _ _ _ _ _ _ _ = _
        unfold F_X0_product_b189_st
        rw [iwQ, if_pos (by rw [iw_le4 (by omega) (by omega)]; exact hq)]
        simp only [g1000_81, v1000, sN, v1, v2, v3, ce, Option.bind_some, if_false]
        show tc (some (Sum.inl (v, N'))) _ _ = _
        rw [tc_inl, sj_of v (t1057 sN) (l1057 sN) (show q < 100000 by omega) (by decide)]
        simp only [Option.bind_some, iw_succ])
      (fun N N' q hJ hq hv => by
        obtain ⟨d1, e1', e2'⟩ := hJ
        have sN : ST N' := sA1.n d1
        have ce := cell N' q d1 hq
        rw [hv] at ce
        obtain ⟨v1, v2, v3⟩ := dvr q hq
        have s2 : ST (eT N' 8 (-1)) := sN
        refine ⟨eT N' 8 (-1), ?_, ⟨d1.trans ((eT_d2 N' 8 (-1)).mono (fun _ _ q => q) (fun _ _ q => q.elim) (fun _ _ q => q)), e1', e2'⟩, (eT_c N' 8 (-1)).1⟩
        show F_X0_product_b189_st (F_X0_product_b189 N) N' _ _ _ _ _ _ _ = _
        unfold F_X0_product_b189_st
        rw [iwQ, if_pos (by rw [iw_le4 (by omega) (by omega)]; exact hq)]
        simp only [g1000_81, v1000, sN, v1, v2, v3, ce, Option.bind_some, if_false]
        show tc (eTh N' 1002 8) _ _ = _
        rw [eTh_of sN, tc_inr]
        simp only [F_X0_product_b228, v1000, s2, Option.bind_some, bse])
      Q (N0 + 1) 0 A1 (by omega) ⟨Df.refl _ _ _ _, rfl, rfl⟩ (fun x hx => by omega)
    rw [hN0] at lE
    have m2 : ∀ a i, at1 1002 a i → pp pFl a i := fun a i q => Or.inl (by unfold at1 at q; unfold psc; omega)
    have fin : ∀ A2, Df (at1 1002) qsc n2 A1 A2 → Df (pp pFl) qsc rsc M A2 ∧ (∀ y, y < 2 → cI A2 1062 y = iw (z y)) ∧ cI A2 1000 89 = iw ((2 : Nat) : Int) ∧ cI A2 1000 91 = 0 := fun A2 d => by
      have := dMA1.1
      exact ⟨(dMA1.trans (d.mono m2 (fun _ _ q => q) (fun _ _ q => q))).sc, fun y hy => by rw [d.cI (by omega) (by unfold at1; omega)]; exact c62 y hy, by rw [d.cI (by omega) (by unfold at1; omega)]; exact h89, by rw [d.cI (by omega) (by unfold at1; omega)]; exact fA1⟩
    rcases lE with ⟨fn, A2, ⟨d1, e1', e2'⟩, run, row⟩ | ⟨q, A2, fq, hq, -, ⟨⟨d1, e1', e2'⟩, c8⟩, run⟩
    · obtain ⟨y1, y2, y3, y4⟩ := fin A2 d1
      have sA2 : ST A2 := sA1.n d1
      refine ⟨A2, y1, by omega, by omega, y2, y3, y4, ?_⟩
      rw [hprd, ← hQ]
      refine Or.inl ⟨fn, ?_, row⟩
      show F_X0_product M 1000 g g' = _
      rw [e1E, show (0 : Int32) = iw ((0 : Nat) : Int) from rfl, run]
      show F_X0_product_b189_st (F_X0_product_b189 N0) A2 _ _ _ _ _ _ _ = _
      unfold F_X0_product_b189_st
      rw [iwQ, if_neg (by rw [iw_le4 (by omega) (by omega)]; omega)]
      simp only [g1000_81, v1000, sA2, Option.bind_some, bse]
    · obtain ⟨y1, y2, y3, y4⟩ := fin A2 d1
      refine ⟨A2, y1, by omega, by omega, y2, y3, y4, ?_⟩
      rw [hprd, ← hQ]
      refine Or.inr ⟨q, fq, hq, by omega, ?_, c8⟩
      show F_X0_product M 1000 g g' = _
      rw [e1E, show (0 : Int32) = iw ((0 : Nat) : Int) from rfl, run]
  · -- the model's
    intro M1 sM1 d1
    obtain ⟨B1, b1', b2', b3', b4', b5', b6', GB, GB', rm⟩ := runM' M1 d1
    have nB1 : m_nx B1 = m_nx M1 := by rw [b1']; rfl
    have lB1 : m_sl B1 = m_sl M1 := by rw [b1']; rfl
    have nB1' := b3'.1
    obtain ⟨U, u1, u2, u3, u4, u5⟩ := M_sizes2 (B := B1) (by omega) z
    rw [hz0, hz1] at u1
    have sU : ST U := b2'.n u4
    have kU : K0 U := b6'.df b2' u4 (fun _ _ _ q => q) (fun _ _ _ q => q)
    have GU := GB.df u4 qt_n2 qt_n2 qt_n2
    have GU' := GB'.df u4 qt_n2 qt_n2 qt_n2
    have c17U : cI U 1068 1117 = -1 := by rw [u4.cI (by omega) (fun q => q)]; exact b5'
    have eJU : (∀ y, cJ U (C i) y = cJ M (C i) y) ∧ (∀ y, cJ U (C j) y = cJ M (C j) y) := by
      have w1 := cp.2.1
      have w2 := cp'.2.1
      exact ⟨fun y => by rw [u4.cJ (by omega) (fun q => q), b3'.cJ cp.2.1 (qt_qsc _ _ cp.1)], fun y => by rw [u4.cJ (by omega) (fun q => q), b3'.cJ cp'.2.1 (qt_qsc _ _ cp'.1)]⟩
    have e1M : F_X16_product M1 1068 g g' = F_X16_product_b188 xN U 1068 (cR M 1070 i) (cR M 1070 j) (iw (Z i 0 : Nat)) (iw (Z i 1 : Nat)) (iw (Z j 1 : Nat)) (mxk (K i) (K j)) (m_nx B1) 0 := by
      rw [rm, if_neg (by rw [nl6, nl_lt (by decide) h63]; omega), if_neg (by rw [nl5, nl_lt (by decide) m2']; omega), u1]
      rfl
    have x64 : x_cn 64 ≤ 20 := by decide
    have dgz : ∀ q, q < Q → dg z 2 q 0 = q / Z j 1 ∧ dg z 2 q 1 = q % Z j 1 := fun q hq => by
      refine ⟨?_, ?_⟩
      · show (q / z 1) % z 0 = _
        rw [hz0, hz1, Nat.mod_eq_of_lt (dq q hq).1]
      · show q % z 1 = _
        rw [hz1]
    have line : ∀ N N' q, (Df (pp pF5) qsc n2 U N' ∧ m_nx N' = m_nx U ∧ m_sl N' = m_sl U) → q < Q → ∃ V, F_X16_product_b188 (N + 1) N' 1068 (cR M 1070 i) (cR M 1070 j) (iw (Z i 0 : Nat)) (iw (Z i 1 : Nat)) (iw (Z j 1 : Nat)) (mxk (K i) (K j)) (m_nx B1) (iw (q : Int)) = tc (mRes (r q) V 1068) (fun z' => (sj z'.2 1073 (iw (q : Int)) z'.1).bind fun M35 => F_X16_product_b188 N M35 1068 (cR M 1070 i) (cR M 1070 j) (iw (Z i 0 : Nat)) (iw (Z i 1 : Nat)) (iw (Z j 1 : Nat)) (mxk (K i) (K j)) (m_nx B1) (iw (q : Int) + 1)) (fun z' => F_X16_product_b347 z'.2 z'.1 1068) ∧ (Df (pp pF5) qsc n2 U V ∧ m_nx V = m_nx U ∧ m_sl V = m_sl U) ∧ ST V ∧ (∀ x, cJ V 1073 x = cJ N' 1073 x) ∧ cI V 1068 1115 = iw ((2 : Nat) : Int) ∧ ∀ y, y < 2 → cI V 1082 y = iw (dg z 2 q y : Nat) := by
      intro N N' q hJ hq
      obtain ⟨dd, e1', e2'⟩ := hJ
      have sN : ST N' := sU.n dd
      have hdq := dq q hq
      obtain ⟨V, v1, v2, v3, v4, v5, v6⟩ := M_goTo (x := q) (z := z) sN (show 2 ≤ 4 by decide) (fun y hy => ⟨by rcases (show y = 0 ∨ y = 1 by omega) with rfl | rfl; (rw [hz0]; exact Nat.lt_of_le_of_lt (Nat.zero_le _) hdq.1); (rw [hz1]; exact Nat.lt_of_le_of_lt (Nat.zero_le _) hdq.2), hzle y hy⟩) (u5.df dd (qt_pp qt_pF5)) (by omega)
      have dV : Df (pp pF5) qsc n2 N' V := v4.mono (fun a i q => q.elim (fun q => Or.inl (by unfold psc; omega)) (fun q => Or.inr q)) (fun _ _ q => q.elim) (fun _ _ q => q)
      have dUV := dd.trans dV
      have sV : ST V := sU.n dUV
      have hw1 := cp.2.1
      have hw2 := cp'.2.1
      have n1 := dUV.1
      refine ⟨V, ?_, ⟨dUV, by omega, by omega⟩, sV, fun x => v4.cJ (by have := sN.1; omega) (fun q => q), v5, v6⟩
      show F_X16_product_b188_st (F_X16_product_b188 N) N' _ _ _ _ _ _ _ _ _ = _
      unfold F_X16_product_b188_st
      rw [iwQ, if_pos (by rw [iw_le4 (by omega) (by omega)]; exact hq)]
      simp only [v1068, sN, v1, Option.bind_some]
      have d2 := dgz q hq
      have mc := M_cellp sV (kU.ppd sU dUV (fun a i q1 q2 => by unfold pF5 at q2; omega)) (GU.df dUV (qt_pp qt_pF5) qt_qsc qt_n2) (GU'.df dUV (qt_pp qt_pF5) qt_qsc qt_n2) c5 hl fa fb c3 c4 hdq.1 hdq.2 (by rw [v6 0 (by decide), d2.1]) (by rw [v6 1 (by decide), d2.2]) (k188 := F_X16_product_b188 N) (v5 := iw (Z i 0 : Nat)) (v7 := iw (Z j 1 : Nat)) (v10 := iw (q : Int)) (v9 := m_nx B1) (Z i 1) xN 0 0 (by omega) (by omega) (vb_0 hLk)
      rw [rq V (fun y => by rw [dUV.cJ (by omega) (qt_qsc _ _ cp.1)]; exact eJU.1 y) (fun y => by rw [dUV.cJ (by omega) (qt_qsc _ _ cp'.1)]; exact eJU.2 y) q] at mc
      exact mc
    have lM := wloop2 (fun N V q => F_X16_product_b188 N V 1068 (cR M 1070 i) (cR M 1070 j) (iw (Z i 0 : Nat)) (iw (Z i 1 : Nat)) (iw (Z j 1 : Nat)) (mxk (K i) (K j)) (m_nx B1) q) (fun V q => F_X16_failsAt V 1068 8) 1073 Q r (fun N => Df (pp pF5) qsc n2 U N ∧ m_nx N = m_nx U ∧ m_sl N = m_sl U) (fun q N => (Df (pp pF5) qsc n2 U N ∧ m_nx N ≤ m_nx U + 1 ∧ m_sl N ≤ m_sl U + 20) ∧ cI N 1068 1115 = iw ((2 : Nat) : Int) ∧ ∀ y, y < 2 → cI N 1082 y = iw (dg z 2 q y : Nat))
      (fun N N' q v hJ hq hv => by
        obtain ⟨V, f1, ⟨d1, e1', e2'⟩, s1, f4, -, -⟩ := line N N' q hJ hq
        refine ⟨wJ V 1073 q v, ?_, ⟨d1.trans (Df.wJ _ (by unfold qsc; omega)), e1', e2'⟩, by rw [cJ_wJ, if_pos ⟨rfl, rfl⟩], fun x hx => by rw [cJ_wJ, if_neg (fun q => by omega), f4]⟩
        rw [hv] at f1
        refine f1.trans ?_
        show tc (some (Sum.inl (v, V))) _ _ = _
        rw [tc_inl, sj_of v (t1073 s1) (l1073 s1) (show q < 100000 by omega) (by decide)]
        simp only [Option.bind_some, iw_succ])
      (fun N N' q hJ hq hv => by
        obtain ⟨V, f1, ⟨d1, e1', e2'⟩, s1, f4, f5, f6⟩ := line N N' q hJ hq
        have n1 := d1.1
        have s2 : ST (mT V 8 (-1)) := s1.n (mT_df V 8 (-1))
        refine ⟨mT V 8 (-1), ?_, ⟨d1.trans ((mT_df V 8 (-1)).mono (fun _ _ q => Or.inl q) (fun _ _ q => q.elim) (fun _ _ q => q)), by show m_nx V + 1 ≤ _; omega, by show m_sl V + x_cn 64 ≤ _; omega⟩, ?_, fun y hy => ?_⟩
        · rw [hv] at f1
          refine f1.trans ?_
          show tc (mTh V 1068 8) _ _ = _
          rw [mTh_of s1, tc_inr]
          simp only [F_X16_product_b347, g1068_1103, g1075_1152, v1068, s2, (mT_c (M := V) 8 (-1) (by omega)).1, Option.bind_some, bse]
        · rw [(mT_df V 8 (-1)).cI (by omega) (nsc _)]
          exact f5
        · have : cI (mT V 8 (-1)) 1082 y = cI V 1082 y := by
            show cI (m_new (wI (wI V 1075 1152 8) 1075 1153 (-1)) 64 (x_cn 64)) 1082 y = _
            rw [cI_new, if_neg (by show ¬ 1082 = m_nx V; omega), cI_wI, if_neg (fun q => absurd q.1 (by decide)), cI_wI, if_neg (fun q => absurd q.1 (by decide))]
          rw [this]
          exact f6 y hy)
      Q (N0 + 1) 0 U (by omega) ⟨Df.refl _ _ _ _, rfl, rfl⟩ (fun x hx => by omega)
    rw [hN0] at lM
    have dMU : Df (pp pFm) qsc n2 M1 U := b4'.trans (u4.mono (fun _ _ q => q.elim) (fun _ _ q => q.elim) (fun _ _ q => q))
    have hU0 := sU.1
    rcases lM with ⟨fn, V, ⟨d1, e1', e2'⟩, run, row⟩ | ⟨q, V, fq, hq, -, ⟨⟨d1, e1', e2'⟩, f5, f6⟩, run⟩
    · have sV : ST V := sU.n d1
      refine ⟨V, (dMU.trans (d1.mono pF5_m (fun _ _ q => q) (fun _ _ q => q))).sc, by omega, by omega, Or.inl ⟨m_nx B1, ?_, u5.df d1 (qt_pp qt_pF5), ?_, ?_, ?_⟩⟩
      · rw [hprd, ← hQ]; exact fn
      · show F_X16_product M1 1068 g g' = _
        rw [e1M, show (0 : Int32) = iw ((0 : Nat) : Int) from rfl, run]
        show F_X16_product_b188_st (F_X16_product_b188 N0) V _ _ _ _ _ _ _ _ _ = _
        unfold F_X16_product_b188_st
        rw [iwQ, if_neg (by rw [iw_le4 (by omega) (by omega)]; omega)]
        simp only [g1068_1100, v1068, sV, Option.bind_some, bse]
      · rw [d1.cI (by omega) (fun q => q.elim (nsc _) (fun q => by unfold pF5 at q; omega))]
        exact c17U
      · rw [hprd, ← hQ]; exact row
    · refine ⟨V, (dMU.trans (d1.mono pF5_m (fun _ _ q => q) (fun _ _ q => q))).sc, by omega, by omega, Or.inr ⟨q, ?_, ?_, f5, f6⟩⟩
      · rw [hprd, ← hQ]; exact fq
      · show F_X16_product M1 1068 g g' = _
        rw [e1M, show (0 : Int32) = iw ((0 : Nat) : Int) from rfl, run]
