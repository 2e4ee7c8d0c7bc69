/-! ===== CALLS, 34: solve, both sides ===== -/
theorem rG_no {M : Mem} : ∀ i, ¬ rG M 1086 i ∧ ¬ rG M 1307 i := fun i => ⟨fun q => q.elim (fun q => by have := q.1; unfold rGr at this; omega) (fun q => by have := q.1; omega), fun q => q.elim (fun q => by have := q.1; unfold rGr at this; omega) (fun q => by have := q.1; omega)⟩
theorem GMx.rg {P Q : Nat → Nat → Prop} {M M' : Mem} (g : GMx M) (h : ST M) (d : Df P Q (rG M) M M') : GMx M' := g.cr (fun i => d.cR (by have := h.1; omega) (rG_no i).1) (fun i => d.cR (by have := h.1; omega) (rG_no i).2)
theorem CR.gx {p : Nat → Nat → Prop} {I : Mem → Prop} {M : Mem} {f g : Mem → Option (Int32 × Mem)} (h : ST M) (gm : GMx M) (c : CR p (rG M) I M f g) : CR p (rGx M) (fun M => I M ∧ GMx M) M f g := by
  obtain ⟨r, M1, M2, c1, c2, c3, c4, c5, c6, c7⟩ := c
  exact ⟨r, M1, M2, c1, c2, ⟨c3, gm.rg h c5⟩, c4, c5.mono (fun _ _ q => q) (fun _ _ q => q) (fun _ _ q => q.imp id Or.inl), c6, c7⟩
def smk (k : Int32) : Prop := k = 1 ∨ k = 2 ∨ k = 3 ∨ k = 4
theorem smk_E {k : Int32} (hk : Lk k) : (smk k ∧ F_X0_isSmall k = some 1) ∨ (¬ smk k ∧ F_X0_isSmall k = some 0) := by
  unfold smk
  rcases hk with rfl | rfl | rfl | rfl | rfl | rfl | rfl | rfl <;> first | exact Or.inl ⟨by decide, rfl⟩ | exact Or.inr ⟨by decide, rfl⟩
theorem smk_M {k : Int32} (hk : Lk k) : smk k ↔ ¬ k < 1 ∧ ¬ 4 < k := by
  unfold smk
  rcases hk with rfl | rfl | rfl | rfl | rfl | rfl | rfl | rfl <;> decide
theorem smk_v {k : Int32} (hk : smk k) {v : Int64} (hv : vb k v) : -2147483648 ≤ v.toInt ∧ v.toInt ≤ 2147483647 := by
  rcases hk with rfl | rfl | rfl | rfl
  · have := (vb_rng (by simp)).mp hv
    have e1 : lnLo 1 = -128 := by decide
    have e2 : lnHi 1 = 127 := by decide
    omega
  · have := (vb_rng (by simp)).mp hv
    have e1 : lnLo 2 = -32768 := by decide
    have e2 : lnHi 2 = 32767 := by decide
    omega
  · have := (vb_rng (by simp)).mp hv
    have e1 : lnLo 3 = 0 := by decide
    have e2 : lnHi 3 = 65535 := by decide
    omega
  · have := (vb_rng (by simp)).mp hv
    have e1 : lnLo 4 = -2147483648 := by decide
    have e2 : lnHi 4 = 2147483647 := by decide
    omega
theorem c_solve {M : Mem} {g g' : Int32} (h : ST M) (h4 : I4 M) (h5 : I5 M) (gm : GMx M) : CR (pg pFl) (rGx M) (fun M => I4 M ∧ GMx M) M (fun M => F_X0_solve M 1000 g g') (fun M => F_X16_solve M 1068 g g') := by
  have h0 := h.1
  have h5x := h5
  obtain ⟨m, ww, K, n, Z, S, T, X, Y, C, D, L, P, h5⟩ := h5
  have n10 : ¬ (1 : Int32) = 0 := by decide
  have hxN : xN = 1099511627776 := rfl
  obtain ⟨A, hA, fi, sA, dA, nA, lA, c91, x1, x2⟩ := E_seeW h g
  have x1' : F_X0_find A 1000 g' = F_X0_find M 1000 g' := (E_see h dA sA (fun q => by unfold pp psc pFl at q; omega) (fun q => by unfold pp psc pFl at q; omega) (fun i q => q) g').1
  have headM : ∀ M1, Df pWk qsc rWk M M1 → ∃ B1, B1 = wI M1 1068 1117 (-1) ∧ pi M1 1068 1117 (-1) = some B1 ∧ ST B1 ∧ Df pWk qsc rWk M B1 ∧ Df (pp pFm) qsc n2 M1 B1 ∧ cI B1 1068 1117 = -1 ∧ cI B1 1068 1095 = cI M 1068 1095 ∧ F_X16_isGrid B1 1068 g = F_X16_isGrid M 1068 g ∧ F_X16_isGrid B1 1068 g' = F_X16_isGrid M 1068 g' ∧ ar B1 1070 g = ar M 1070 g ∧ ar B1 1070 g' = ar M 1070 g' := by
    intro M1 d1
    obtain ⟨B1, a1, a2, a3, a4, a5, a6, a7, a8, a9, a10⟩ := M_seeW h d1 g
    obtain ⟨B1', a1', -, -, -, -, -, -, -, a9', a10'⟩ := M_seeW h d1 g'
    have e : B1' = B1 := a1'.trans a1.symm
    subst e
    exact ⟨B1', a1', a2, a3, a4, a5, a6, a7, a9, a9', a10, a10'⟩
  obtain ⟨B, hB, pB, sB, dB, dAB, c17, cB, yg, yg', ya, ya'⟩ := headM A (dA.mono (fun _ _ q => Or.inl q) (fun _ _ q => q) (fun _ _ q => q.elim))
  have nB : m_nx B = m_nx M := by rw [hB]; exact nA
  have lB : m_sl B = m_sl M := by rw [hB]; exact lA
  have no : ∀ r : Int32, F_X0_solve M 1000 g g' = some (r, A) → F_X16_solve A 1068 g g' = some (r, B) → CR (pg pFl) (rGx M) (fun M => I4 M ∧ GMx M) M (fun M => F_X0_solve M 1000 g g') (fun M => F_X16_solve M 1068 g g') := fun r e1 e2 =>
    CR.gx h gm (CR.fine h h4 h5x r e1 e2 dA c91 dAB c17 (by omega) (by omega))
  have z6 : ¬ (0 : Nat) = 6 := by decide
  rcases look2 h h4 h5 g g' with ⟨b1, b2, e1, e1', e2⟩ | ⟨b1, b2, e2, e1, ⟨x, e1'⟩, e8⟩ | ⟨b1, b2, e2, ⟨o, e1, o0, o6⟩, e1', e7, e8⟩ | ⟨b1, b2, i, j, i1, i2, j1, j2, hg, hg', e1, e1', i0, i6, j0, j6, e7, e7', e6, e6', gp, gp'⟩
  · refine no (-13) ?_ ?_
    · simp only [F_X0_solve, F_X0_solve_b26, v1000, h, fi, sA, x1, x1', x2, e1, e1', e2, z6, Option.bind_some, if_false, if_true]
    · simp only [F_X16_solve, pB, g1068_1095, sB, cB, b2, n10, Option.bind_some, if_false]
  · refine no (-14) ?_ ?_
    · simp only [F_X0_solve, F_X0_solve_b26, v1000, h, fi, sA, x1, x1', x2, e1, e1', e2, z6, Option.bind_some, if_false, if_true]
    · simp only [F_X16_solve, F_X16_solve_b31, pB, g1068_1095, v1068, sB, cB, b2, yg, e8, Option.bind_some, if_true]
  · refine no (-14) ?_ ?_
    · simp only [F_X0_solve, F_X0_solve_b26, v1000, h, fi, sA, x1, x1', x2, e1, e1', e2, z6, o0, o6, Option.bind_some, if_false, if_true]
    · simp only [F_X16_solve, F_X16_solve_b31, pB, g1068_1095, v1068, sB, cB, b2, yg, yg', e7, e8, n10, Option.bind_some, if_true, if_false]
  have hk := gp.2.2.1
  have hk' := gp'.2.2.1
  have hn := gp.2.2.2.1
  have hn' := gp'.2.2.2.1
  have gA := gp.df dA (qt_pp qt_pFl) qt_qsc qt_n2
  have gA' := gp'.df dA (qt_pp qt_pFl) qt_qsc qt_n2
  have h2e : iw (n i : Int) = 2 ↔ n i = 2 := by rw [show (2 : Int32) = iw ((2 : Nat) : Int) from rfl, iw_eq (by omega) (by omega) (by omega) (by omega)]; omega
  have h1e : iw (n j : Int) = 1 ↔ n j = 1 := by rw [show (1 : Int32) = iw ((1 : Nat) : Int) from rfl, iw_eq (by omega) (by omega) (by omega) (by omega)]; omega
  -- the model's head, in any memory
  have hdM : ∀ M1, Df pWk qsc rWk M M1 → ∃ B1, B1 = wI M1 1068 1117 (-1) ∧ ST B1 ∧ Df pWk qsc rWk M B1 ∧ Df (pp pFm) qsc n2 M1 B1 ∧ cI B1 1068 1117 = -1 ∧ GP B1 (cR M 1005 i) (cR M 1070 i) (K i) (n i) (Z i) (S i) (T i) (X i) (Y i) (C i) (D i) (L i) (P i) ∧ GP B1 (cR M 1005 j) (cR M 1070 j) (K j) (n j) (Z j) (S j) (T j) (X j) (Y j) (C j) (D j) (L j) (P j) ∧
      (¬ (n i = 2 ∧ n j = 1 ∧ smk (K i) ∧ smk (K j)) → F_X16_solve M1 1068 g g' = some (-1, B1)) ∧
      (n i = 2 → n j = 1 → smk (K i) → smk (K j) → F_X16_solve M1 1068 g g' = if iw (Z i 0 : Nat) < 1 then some (-1, B1) else if (10 : Int32) < iw (Z i 0 : Nat) then some (-1, B1) else if iw (Z i 1 : Nat) = iw (Z i 0 : Nat) then (if iw (Z j 0 : Nat) = iw (Z i 0 : Nat) then F_X16_solve_b178 xN B1 1068 (cR M 1070 i) (cR M 1070 j) (iw (Z i 0 : Nat)) (iw (Z i 0 : Nat) + 1) 0 else some (-3, B1)) else some (-3, B1)) := by
    intro M1 d1
    obtain ⟨B1, a1, pB1, sB1, dB1, dAB1, c171, cB1, zg, zg', za, za'⟩ := headM M1 d1
    have gB1 := gp.df dB1 qt_pWk qt_qsc qt_rWk
    have gB1' := gp'.df dB1 qt_pWk qt_qsc qt_rWk
    have hd : ∀ s : Int32, (smk (K i) ∧ smk (K j) ∧ s = 1) ∨ (¬ (smk (K i) ∧ smk (K j)) ∧ s = 0) → F_X16_solve M1 1068 g g' = F_X16_solve_b88 B1 s 1068 (cR M 1070 i) (cR M 1070 j) := fun s hs => by
      simp only [F_X16_solve, F_X16_solve_b87, pB1, g1068_1095, g1068_1092, v1068, sB1, cB1, b2, zg, zg', za, za', e7, e7', e6, e6', n10, gi_of gB1.2.1.2.2.1 (show x_fi 23 1472 = true by decide), gB1.2.1.2.2.2.1, gi_of gB1'.2.1.2.2.1 (show x_fi 23 1472 = true by decide), gB1'.2.1.2.2.2.1, Option.bind_some, if_true, if_false]
      have t1 := smk_M hk
      have t2 := smk_M hk'
      rcases hs with ⟨s1, s2, s3⟩ | ⟨s1, s3⟩
      · subst s3
        rw [if_neg (t1.mp s1).1, if_neg (t1.mp s1).2, if_neg (t2.mp s2).1, if_neg (t2.mp s2).2]
      · subst s3
        split
        · rfl
        · rename_i q1
          split
          · rfl
          · rename_i q2
            split
            · rfl
            · rename_i q3
              split
              · rfl
              · rename_i q4
                exact absurd ⟨t1.mpr ⟨q1, q2⟩, t2.mpr ⟨q3, q4⟩⟩ s1
    have b88 : ∀ s : Int32, F_X16_solve_b88 B1 s 1068 (cR M 1070 i) (cR M 1070 j) = if iw (n i : Int) = 2 then (if iw (n j : Int) = 1 then (if s = 0 then some (-1, B1) else (ai B1 (cR B1 (cR M 1070 i) 1473) 0).bind fun t49 => if t49 < 1 then some (-1, B1) else (ai B1 (cR B1 (cR M 1070 i) 1473) 0).bind fun t51 => if (10 : Int32) < t51 then some (-1, B1) else (ai B1 (cR B1 (cR M 1070 i) 1473) 0).bind fun t53 => (ai B1 (cR B1 (cR M 1070 i) 1473) 1).bind fun t55 => if t55 = t53 then (ai B1 (cR B1 (cR M 1070 j) 1473) 0).bind fun t57 => if t57 = t53 then F_X16_solve_b178 xN B1 1068 (cR M 1070 i) (cR M 1070 j) t53 (t53 + 1) 0 else some (-3, B1) else some (-3, B1)) else some (-1, B1)) else some (-1, B1) := fun s => by
      simp only [F_X16_solve_b88, F_X16_solve_b133, F_X16_solve_b166, vg_of gB1.2.1.2.2.1 (show x_isa 23 23 = true by decide), M_axes gB1.2.1, vg_of gB1'.2.1.2.2.1 (show x_isa 23 23 = true by decide), M_axes gB1'.2.1, gr_of gB1.2.1.2.2.1 (show x_fr 23 1473 = true by decide), gr_of gB1'.2.1.2.2.1 (show x_fr 23 1473 = true by decide), Option.bind_some]
    refine ⟨B1, a1, sB1, dB1, dAB1, c171, gB1, gB1', fun hng => ?_, fun q1 q2 q3 q4 => ?_⟩
    · rcases Classical.em (smk (K i) ∧ smk (K j)) with hs | hs
      · rw [hd 1 (Or.inl ⟨hs.1, hs.2, rfl⟩), b88]
        by_cases c1 : n i = 2
        · have c2 : ¬ n j = 1 := fun q => hng ⟨c1, q, hs.1, hs.2⟩
          rw [if_pos (h2e.mpr c1), if_neg (fun q => c2 (h1e.mp q))]
        · rw [if_neg (fun q => c1 (h2e.mp q))]
      · rw [hd 0 (Or.inr ⟨hs, rfl⟩), b88]
        split
        · split
          · rw [if_pos rfl]
          · rfl
        · rfl
    · rw [hd 1 (Or.inl ⟨q3, q4, rfl⟩), b88, if_pos (h2e.mpr q1), if_pos (h1e.mpr q2), if_neg n10]
      have ir := gB1.2.1.2.2.2.2.1
      have ir' := gB1'.2.1.2.2.2.2.1
      have r0 : ai B1 (cR B1 (cR M 1070 i) 1473) 0 = some (iw (Z i 0 : Nat)) := by
        have := ai_of (j := 0) ir.2.2.1 ir.2.2.2.1 (by omega) (by omega)
        rw [ir.2.2.2.2 0 (by omega)] at this
        exact this
      have r1 : ai B1 (cR B1 (cR M 1070 i) 1473) 1 = some (iw (Z i 1 : Nat)) := by
        have := ai_of (j := 1) ir.2.2.1 ir.2.2.2.1 (by omega) (by omega)
        rw [ir.2.2.2.2 1 (by omega)] at this
        exact this
      have r0' : ai B1 (cR B1 (cR M 1070 j) 1473) 0 = some (iw (Z j 0 : Nat)) := by
        have := ai_of (j := 0) ir'.2.2.1 ir'.2.2.2.1 (by omega) (by omega)
        rw [ir'.2.2.2.2 0 (by omega)] at this
        exact this
      simp only [r0, r1, r0', Option.bind_some]
  -- the engine's head
  have hdE : (¬ (n i = 2 ∧ n j = 1 ∧ smk (K i) ∧ smk (K j)) → F_X0_solve M 1000 g g' = some (-1, A)) ∧ (n i = 2 → n j = 1 → smk (K i) → smk (K j) → F_X0_solve M 1000 g g' = F_X0_solve_b75 A 1 1000 (cR M 1005 i) (cR M 1005 j)) := by
    have r75 : F_X0_solve_b75 A 0 1000 (cR M 1005 i) (cR M 1005 j) = some (-1, A) := by
      unfold F_X0_solve_b75 F_X0_solve_b103
      rw [if_pos rfl]
    have hh : F_X0_solve M 1000 g g' = if iw (n i : Int) = 2 then (if iw (n j : Int) = 1 then (F_X0_isSmall (K i)).bind fun z62 => if z62 = 0 then some (-1, A) else (F_X0_isSmall (K j)).bind fun z64 => if z64 = 0 then some (-1, A) else F_X0_solve_b75 A 1 1000 (cR M 1005 i) (cR M 1005 j) else some (-1, A)) else some (-1, A) := by
      simp only [F_X0_solve, F_X0_solve_b74, r75, v1000, h, fi, sA, x1, x1', e1, e1', i0, i6, j0, j6, gi_of gA.1.2.2.1 (show x_fi 22 1409 = true by decide), gA.1.2.2.2.2.1, gi_of gA'.1.2.2.1 (show x_fi 22 1409 = true by decide), gA'.1.2.2.2.2.1, gi_of gA.1.2.2.1 (show x_fi 22 1408 = true by decide), gA.1.2.2.2.1, gi_of gA'.1.2.2.1 (show x_fi 22 1408 = true by decide), gA'.1.2.2.2.1, Option.bind_some, if_false]
    refine ⟨fun hng => ?_, fun q1 q2 q3 q4 => ?_⟩
    · rw [hh]
      by_cases c1 : n i = 2
      · rw [if_pos (h2e.mpr c1)]
        by_cases c2 : n j = 1
        · rw [if_pos (h1e.mpr c2)]
          rcases smk_E hk with ⟨s1, s2⟩ | ⟨s1, s2⟩
          · rcases smk_E hk' with ⟨t1, t2⟩ | ⟨t1, t2⟩
            · exact absurd ⟨c1, c2, s1, t1⟩ hng
            · rw [s2, t2]
              simp only [Option.bind_some, n10, if_false, if_true]
          · rw [s2]
            simp only [Option.bind_some, if_true]
        · rw [if_neg (fun q => c2 (h1e.mp q))]
      · rw [if_neg (fun q => c1 (h2e.mp q))]
    · rw [hh, if_pos (h2e.mpr q1), if_pos (h1e.mpr q2)]
      rcases smk_E hk with ⟨s1, s2⟩ | ⟨s1, s2⟩
      · rcases smk_E hk' with ⟨t1, t2⟩ | ⟨t1, t2⟩
        · rw [s2, t2]
          simp only [Option.bind_some, n10, if_false]
        · exact absurd q4 t1
      · exact absurd q3 s1
  obtain ⟨B', hB', sB', dB', dAB', c17', gBi, gBj, runM1, runM2⟩ := hdM A (dA.mono (fun _ _ q => Or.inl q) (fun _ _ q => q) (fun _ _ q => q.elim))
  have hBB : B' = B := hB'.trans hB.symm
  subst hBB
  rcases Classical.em (n i = 2 ∧ n j = 1 ∧ smk (K i) ∧ smk (K j)) with hgood | hgood
  case inr => exact no (-1) (hdE.1 hgood) (runM1 hgood)
  obtain ⟨q1, q2, q3, q4⟩ := hgood
  have hdE2 := hdE.2 q1 q2 q3 q4
  have runM := runM2 q1 q2 q3 q4
  have zi0 := gp.2.2.2.2.1 0 (by omega)
  have zi1 := gp.2.2.2.2.1 1 (by omega)
  have zj0 := gp'.2.2.2.2.1 0 (by omega)
  have eE : F_X0_solve M 1000 g g' = if iw (Z i 0 : Nat) < 1 then some (-1, A) else if (10 : Int32) < iw (Z i 0 : Nat) then some (-1, A) else if iw (Z i 1 : Nat) = iw (Z i 0 : Nat) then (if iw (Z j 0 : Nat) = iw (Z i 0 : Nat) then (F_X8_begin A 1025 (iw (Z i 0 : Nat))).bind fun z52 => F_X0_solve_b151 xN z52 1000 (cR M 1005 i) (cR M 1005 j) (iw (Z i 0 : Nat)) 0 else some (-3, A)) else some (-3, A) := by
    rw [hdE2]
    have ir := gA.1.2.2.2.2.2.1
    have ir' := gA'.1.2.2.2.2.2.1
    have r0 : ai A (cR A (cR M 1005 i) 1410) 0 = some (iw (Z i 0 : Nat)) := by
      have := ai_of (j := 0) ir.2.2.1 ir.2.2.2.1 (by omega) (by omega)
      rw [ir.2.2.2.2 0 (by omega)] at this
      exact this
    have r1 : ai A (cR A (cR M 1005 i) 1410) 1 = some (iw (Z i 1 : Nat)) := by
      have := ai_of (j := 1) ir.2.2.1 ir.2.2.2.1 (by omega) (by omega)
      rw [ir.2.2.2.2 1 (by omega)] at this
      exact this
    have r0' : ai A (cR A (cR M 1005 j) 1410) 0 = some (iw (Z j 0 : Nat)) := by
      have := ai_of (j := 0) ir'.2.2.1 ir'.2.2.2.1 (by omega) (by omega)
      rw [ir'.2.2.2.2 0 (by omega)] at this
      exact this
    unfold F_X0_solve_b75 F_X0_solve_b103 F_X0_solve_b136
    rw [if_neg n10]
    simp only [gr_of gA.1.2.2.1 (show x_fr 22 1410 = true by decide), gr_of gA'.1.2.2.1 (show x_fr 22 1410 = true by decide), r0, r1, r0', g1000_75, v1025, sA, Option.bind_some]
  obtain ⟨w, hw⟩ : ∃ w, w = Z i 0 := ⟨_, rfl⟩
  rw [← hw] at eE runM runM2 zi0
  have l1 : iw (w : Int) < 1 ↔ w < 1 := by rw [show (1 : Int32) = iw ((1 : Nat) : Int) from rfl, iw_le4 (by omega) (by omega)]
  have l10 : (10 : Int32) < iw (w : Int) ↔ 10 < w := by rw [show (10 : Int32) = iw ((10 : Nat) : Int) from rfl, iw_le4 (by omega) (by omega)]
  by_cases c1 : w < 1
  · exact no (-1) (by rw [eE, if_pos (l1.mpr c1)]) (by rw [runM, if_pos (l1.mpr c1)])
  have c1' : ¬ iw (w : Int) < 1 := fun q => c1 (l1.mp q)
  by_cases c2 : 10 < w
  · exact no (-1) (by rw [eE, if_neg c1', if_pos (l10.mpr c2)]) (by rw [runM, if_neg c1', if_pos (l10.mpr c2)])
  have c2' : ¬ (10 : Int32) < iw (w : Int) := fun q => c2 (l10.mp q)
  have e1w : iw (Z i 1 : Nat) = iw (w : Int) ↔ Z i 1 = w := by rw [iw_eq (by omega) (by omega) (by omega) (by omega)]; omega
  have e0w : iw (Z j 0 : Nat) = iw (w : Int) ↔ Z j 0 = w := by rw [iw_eq (by omega) (by omega) (by omega) (by omega)]; omega
  by_cases c3 : Z i 1 = w
  case neg => exact no (-3) (by rw [eE, if_neg c1', if_neg c2', if_neg (fun q => c3 (e1w.mp q))]) (by rw [runM, if_neg c1', if_neg c2', if_neg (fun q => c3 (e1w.mp q))])
  by_cases c4 : Z j 0 = w
  case neg => exact no (-3) (by rw [eE, if_neg c1', if_neg c2', if_pos (e1w.mpr c3), if_neg (fun q => c4 (e0w.mp q))]) (by rw [runM, if_neg c1', if_neg c2', if_pos (e1w.mpr c3), if_neg (fun q => c4 (e0w.mp q))])
  rw [if_neg c1', if_neg c2', if_pos (e1w.mpr c3), if_pos (e0w.mpr c4)] at eE
  -- values
  have prI' : prd (Z i) (n i) = w * w := by
    rw [q1]
    show 1 * Z i 0 * Z i 1 = _
    rw [Nat.one_mul, ← hw, c3]
  have prJ : prd (Z j) (n j) = w := by
    rw [q2]
    show 1 * Z j 0 = _
    rw [Nat.one_mul, c4]
  obtain ⟨u, hu⟩ : ∃ u : Nat → Int64, u = fun t => cJ M (C i) (gpos (n i) (Z i) (S i) (X i) t) := ⟨_, rfl⟩
  obtain ⟨v, hv⟩ : ∃ v : Nat → Int64, v = fun t => cJ M (C j) (gpos (n j) (Z j) (S j) (X j) t) := ⟨_, rfl⟩
  have hub : ∀ t, t < w * w → -2147483648 ≤ (u t).toInt ∧ (u t).toInt ≤ 2147483647 := fun t ht => smk_v q3 (by rw [hu]; exact (gp.get (by rw [prI']; exact ht)).1)
  have hvb : ∀ t, t < w → -2147483648 ≤ (v t).toInt ∧ (v t).toInt ≤ 2147483647 := fun t ht => smk_v q4 (by rw [hv]; exact (gp'.get (by rw [prJ]; exact ht)).1)
  have hmb := mtx_b hub hvb
  have cpi := gp.2.2.2.2.2.2.2.1
  have cpj := gp'.2.2.2.2.2.2.2.1
  -- the engine
  obtain ⟨A1, s1, s2, s3⟩ := E_sbeg sA (show w ≤ 10 by omega)
  have sA1 := s3.st sA
  have dA1 : Df (pp pFl) qsc n2 M A1 := dA.trans (s3.1.mono (fun a i q => Or.inl (pWn_sc a i q)) (fun _ _ q => q.elim) (fun _ _ q => q))
  have hget : ∀ U, Dw pW A1 U → vg U (cR M 1005 i) 22 = some () ∧ vg U (cR M 1005 j) 22 = some () ∧ (∀ t, t < w * w → F_X21_get U (cR M 1005 i) (iw (t : Int)) = some (u t)) ∧ (∀ t, t < w → F_X21_get U (cR M 1005 j) (iw (t : Int)) = some (v t)) := fun U d => by
    have dU : Df (pp pFl) qsc n2 M U := dA1.trans (d.1.mono (fun a i q => Or.inl (pW_sc a i q)) (fun _ _ q => q.elim) (fun _ _ q => q))
    have gU := gp.df dU (qt_pp qt_pFl) qt_qsc qt_n2
    have gU' := gp'.df dU (qt_pp qt_pFl) qt_qsc qt_n2
    refine ⟨vg_of gU.1.2.2.1 (by decide), vg_of gU'.1.2.2.1 (by decide), fun t ht => ?_, fun t ht => ?_⟩
    · rw [(gU.get (by rw [prI']; exact ht)).2.1, hu, dU.cJ cpi.2.1 (qt_qsc _ _ cpi.1)]
    · rw [(gU'.get (by rw [prJ]; exact ht)).2.1, hv, dU.cJ cpj.2.1 (qt_qsc _ _ cpj.1)]
  have nxA1 : m_nx A1 = m_nx M := s3.2.1.trans nA
  have slA1 : m_sl A1 = m_sl M := s3.2.2.trans lA
  have c91A1 : cI A1 1000 91 = 0 := by rw [s3.ci sA (by decide) (by unfold pWn pW; omega)]; exact c91
  have eE2 : F_X0_solve M 1000 g g' = F_X0_solve_b151 xN A1 1000 (cR M 1005 i) (cR M 1005 j) (iw (w : Int)) 0 := by rw [eE, s1, Option.bind_some]
  have tE := E_solveT sA1 s2 hget hmb
  -- the model
  have tM : ∀ M1, Df pWk qsc rWk M M1 → ∃ B1, ST B1 ∧ Df (pp pFm) qsc n2 M1 B1 ∧ m_nx B1 = m_nx M1 ∧ m_sl B1 = m_sl M1 ∧ cI B1 1068 1117 = -1 ∧ GMx B1 ∧ F_X16_solve M1 1068 g g' = F_X16_solve_b178 xN B1 1068 (cR M 1070 i) (cR M 1070 j) (iw (w : Int)) (iw ((w + 1 : Nat) : Int)) 0 ∧
      (∀ U, Dw pMo B1 U → (∃ d bs st s0 s1, gr U (cR M 1070 i) 1476 = some d ∧ gi U (cR M 1070 i) 1475 = some bs ∧ gr U (cR M 1070 i) 1474 = some st ∧ ai U st 0 = some s0 ∧ ai U st 1 = some s1 ∧ ∀ a b, a < w → b < w → al U d ((bs + (iw (a : Int) * s0)) + (iw (b : Int) * s1)) = some (u (w * a + b))) ∧ vg U (cR M 1070 j) 23 = some () ∧ ∀ t, t < w → F_X22_cell U (cR M 1070 j) (iw (t : Int)) = some (v t)) := by
    intro M1 d1
    obtain ⟨B1, a1, sB1, dB1, dAB1, c171, gB1, gB1', -, run⟩ := hdM M1 d1
    rw [← hw] at run
    have run' := run q1 q2 q3 q4
    rw [if_neg c1', if_neg c2', if_pos (e1w.mpr c3), if_pos (e0w.mpr c4), iw_succ] at run'
    refine ⟨B1, sB1, dAB1, by rw [a1]; rfl, by rw [a1]; rfl, c171, gm.cr (fun i => dB1.cR (by omega) (fun q => q.elim (fun q => by have := q.1; omega) (fun q => by unfold rE at q; omega))) (fun i => dB1.cR (by omega) (fun q => q.elim (fun q => by have := q.1; omega) (fun q => by unfold rE at q; omega))), run', fun U d => ?_⟩
    have dU : Df pWk qsc rWk M U := dB1.trans (d.1.mono (fun a i q => Or.inl (Or.inl (by unfold pMo at q; unfold psc; omega))) (fun _ _ q => q.elim) (fun _ _ q => q.elim))
    have gU := gp.df dU qt_pWk qt_qsc qt_rWk
    have gU' := gp'.df dU qt_pWk qt_qsc qt_rWk
    refine ⟨⟨D i, Y i, cR U (cR M 1070 i) 1474, T i 0, T i 1, ?_, ?_, gr_of gU.2.1.2.2.1 (by decide), ?_, ?_, fun a b ha hb => ?_⟩, vg_of gU'.2.1.2.2.1 (by decide), fun t ht => ?_⟩
    · rw [gr_of gU.2.1.2.2.1 (by decide), gU.2.1.2.2.2.2.2.2.2.1]
    · rw [gi_of gU.2.1.2.2.1 (by decide), gU.2.1.2.2.2.2.2.2.1]
    · have ir := gU.2.1.2.2.2.2.2.1
      have := ai_of (j := 0) ir.2.2.1 ir.2.2.2.1 (by omega) (by omega)
      rw [ir.2.2.2.2 0 (by omega)] at this
      exact this
    · have ir := gU.2.1.2.2.2.2.2.1
      have := ai_of (j := 1) ir.2.2.1 ir.2.2.2.1 (by omega) (by omega)
      rw [ir.2.2.2.2 1 (by omega)] at this
      exact this
    · have gU2 := gU
      rw [q1] at gU2
      obtain ⟨-, -, t3, t4, t5, -⟩ := gU2.at2 (i := a) (j := b) (by omega) (by omega)
      have cU := gU.2.2.2.2.2.2.2.1
      rw [t3, al_of cU.2.2.2.2.2.1 cU.2.2.2.2.2.2.2.1 t4 (by have := cU.2.2.2.2.2.2.2.2.1; omega), ← t5, dU.cJ cpi.2.1 (qt_qsc _ _ cpi.1), hu]
      show some (cJ M (C i) (gpos 2 (Z i) (S i) (X i) (a * Z i 1 + b))) = some (cJ M (C i) (gpos (n i) (Z i) (S i) (X i) (w * a + b)))
      rw [q1, c3, Nat.mul_comm]
    · rw [(gU'.get (by rw [prJ]; exact ht)).2.2, hv, dU.cJ cpj.2.1 (qt_qsc _ _ cpj.1)]
  have dmX : ∀ {X' Y' : Mem}, DM X' Y' → Df (pp pFm) qsc rsx X' Y' := fun d => d.1.mono (fun a i q => q.elim Or.inl (fun q => Or.inr (by unfold pFm; omega))) (fun _ _ q => q) (fun a i q => Or.inr q)
  have deX : ∀ {X' Y' : Mem}, DE X' Y' → Df (pp pFl) qsc n2 X' Y' := fun d => d.1.mono (fun a i q => Or.inl q) (fun _ _ q => q) (fun _ _ q => q)
  rcases tE with ⟨t1, E, t2, t3⟩ | ⟨q', A', t1, hA', ⟨r, r2, r3, r4, E, r5, r6, r7, r8, r9⟩ | ⟨r3, E, r5, r6, r7⟩⟩
  · -- not one solution
    have dE : Df (pp pFl) qsc n2 M E := dA1.trans (deX t3)
    have nE : m_nx E = m_nx M := t3.2.1.trans nxA1
    have slE : m_sl E = m_sl M := t3.2.2.trans slA1
    obtain ⟨B1, sB1, dB1, nB1, lB1, c171, gB1, run, hg1⟩ := tM E (dE.mono (fun _ _ q => Or.inl q) (fun _ _ q => q) (fun _ _ q => q.elim))
    rcases M_solveT sB1 gB1 (show w ≤ 10 by omega) hg1 hmb with ⟨u1, G, u2, u3, u4, u5⟩ | ⟨q'', A'', u1, -⟩
    · have dG : Df (pp pFl) qsc rsx M G := (dE.mono (fun _ _ q => q) (fun _ _ q => q) (fun _ _ q => q.elim)).trans ((dB1.mono pFm_l (fun _ _ q => q) (fun _ _ q => q.elim)).trans ((dmX u3).mono pFm_l (fun _ _ q => q) (fun _ _ q => q)))
      have nG : m_nx G = m_nx M := by rw [u3.2.1, nB1, nE]
      have lG : m_sl G = m_sl M := by rw [u3.2.2, lB1, slE]
      refine ⟨-6, E, G, eE2.trans t2, run.trans u2, ⟨?_, u4⟩, h5x.df h dG (qt_pp qt_pFl) qt_qsc qt_rsx (noGr_pp noGr_pFl) rsx_5, dG.mono pp_pg (fun _ _ q => q) (fun _ _ q => Or.inr q), by omega, ?_⟩
      · refine I4.fl h dG h4 (fun a i q1 q2 => np94 a i q1 (pp_pg a i q2)) ⟨0, -1, by omega, by omega, Or.inr ⟨rfl, rfl⟩, ?_, ?_, fun i hi => by omega⟩
        · rw [u3.1.cI (by have := sB1.1; omega) (fun q => by unfold pMs psc at q; omega), dB1.cI (by omega) (fun q => by unfold pp psc pFm at q; omega), t3.1.cI (by omega) (fun q => by unfold psc at q; omega), c91A1]
          rfl
        · rw [u5, c171]
          rfl
      · unfold bud
        rw [dG.cI (by omega) (noGr_pp noGr_pFl _ _ (Or.inl ⟨rfl, Or.inr rfl⟩)), lG]
        omega
    · rw [t1] at u1
      exact absurd u1 (by simp)
  · -- a number does not fit
    have sE : ST E := sA1.n r6.1
    have dE : Df (pp pFl) qsc n2 M E := dA1.trans (deX r6)
    have nE : m_nx E = m_nx M := r6.2.1.trans nxA1
    have slE : m_sl E = m_sl M := r6.2.2.trans slA1
    obtain ⟨E1, f1, f2, f3, f4, f5, f6⟩ := E_failedAt (z := fun _ => w) (n := 1) (x := r) sE (by decide) (fun i hi => ⟨by omega, by omega⟩) r8 (fun i hi => by
      have e : i = 0 := by omega
      rw [e]
      exact r9) (by omega)
    rw [r7] at f1
    have sE1 : ST E1 := sE.n f4
    have dE1 : Df (pp pFl) qsc n2 M E1 := dE.trans (f4.mono (fun a i q => Or.inr (by unfold pFl; omega)) (fun _ _ q => q.elim) (fun _ _ q => q))
    obtain ⟨B1, sB1, dB1, nB1, lB1, c171, gB1, run, hg1⟩ := tM E1 (dE1.mono (fun _ _ q => Or.inl q) (fun _ _ q => q) (fun _ _ q => q.elim))
    rcases M_solveT sB1 gB1 (show w ≤ 10 by omega) hg1 hmb with ⟨u1, -⟩ | ⟨q'', A'', u1, ⟨r', r2', r3', r4', G, u2, u3, u4, u5, u6⟩ | ⟨r3', -⟩⟩
    · rw [t1] at u1
      exact absurd u1 (by simp)
    · rw [t1] at u1
      have eA : A' = A'' := congrArg Prod.snd (Option.some.inj u1)
      subst eA
      have hr : r' = r := by
        rcases Nat.lt_trichotomy r r' with c | c | c
        · exact absurd (r3' r c) r4
        · exact c.symm
        · exact absurd (r3 r' c) r4'
      subst hr
      have sG : ST G := sB1.r86 u3.1
      obtain ⟨G1, k1, k2, k3, k4, k5, k6⟩ := M_failsAt (c := 8) sG (show 1 ≤ 4 by decide) u5
      have dG : Df (pp pFl) qsc rsx M G1 := ((dE1.mono (fun _ _ q => q) (fun _ _ q => q) (fun _ _ q => q.elim)).trans ((dB1.mono pFm_l (fun _ _ q => q) (fun _ _ q => q.elim)).trans ((dmX u3).mono pFm_l (fun _ _ q => q) (fun _ _ q => q)))).trans (k4.mono (fun a i q => Or.inr (by unfold pFl; omega)) (fun _ _ q => q.elim) (fun _ _ q => q.elim))
      have nG : m_nx G1 = m_nx M := by rw [k2, u3.2.1, nB1, f2, nE]
      have lG : m_sl G1 = m_sl M := by rw [k3, u3.2.2, lB1, f3, slE]
      have hG0 := sG.1
      have nGB : m_nx G = m_nx M := by rw [u3.2.1, nB1, f2, nE]
      refine ⟨-8, E1, G1, eE2.trans (r5.trans f1), run.trans (u2.trans k1), ⟨?_, u4.cr (fun i => k4.cR (by omega) (fun q => q)) (fun i => k4.cR (by omega) (fun q => q))⟩, h5x.df h dG (qt_pp qt_pFl) qt_qsc qt_rsx (noGr_pp noGr_pFl) rsx_5, dG.mono pp_pg (fun _ _ q => q) (fun _ _ q => Or.inr q), by omega, ?_⟩
      · refine I4.fl h dG h4 (fun a i q1 q2 => np94 a i q1 (pp_pg a i q2)) ⟨1, 1, by omega, by omega, Or.inl rfl, ?_, k5, fun i hi => ?_⟩
        · rw [k4.cI (by omega) (by omega), u3.1.cI (by have := sB1.1; omega) (fun q => by unfold pMs psc at q; omega), dB1.cI (by omega) (fun q => by unfold pp psc pFm at q; omega), f5]
        · have : i = 0 := by omega
          subst this
          rw [k6 0 hi, u6, k4.cI (by omega) (by omega), u3.1.cI (by have := sB1.1; omega) (fun q => by unfold pMs psc at q; omega), dB1.cI (by omega) (fun q => by unfold pp psc pFm at q; omega), f6 0 hi]
          show iw ((r' % w : Nat) : Int) = _
          rw [Nat.mod_eq_of_lt r2]
      · unfold bud
        rw [dG.cI (by omega) (noGr_pp noGr_pFl _ _ (Or.inl ⟨rfl, Or.inr rfl⟩)), lG]
        omega
    · rw [t1] at u1
      have eA : A' = A'' := congrArg Prod.snd (Option.some.inj u1)
      subst eA
      exact absurd (r3' r r2) r4
  · -- all went well
    have sE : ST E := sA1.n r6.1
    have dE : Df (pp pFl) qsc n2 M E := dA1.trans (deX r6)
    have nE : m_nx E = m_nx M := r6.2.1.trans nxA1
    have slE : m_sl E = m_sl M := r6.2.2.trans slA1
    obtain ⟨ρ, M1, f1, f2, f3, f4, f5⟩ := mkTwoX (p := pFl) (ka := 5) (kb := 5) (g := w) h h5 (dE.mono (fun _ _ q => q) (fun _ _ q => q) (fun _ _ q => q.elim)) qt_pFl noGr_pFl (by omega) (fun x => Int64.ofInt (nmr (A' x w) (A' x x))) (fun x => Int64.ofInt (dnm (A' x w) (A' x x))) (by unfold Lk; simp) (by unfold Lk; simp) (fun x hx => ⟨(r7 x hx).1, vb5 _⟩) (fun x hx => ⟨(r7 x hx).2, vb5 _⟩)
    have nM1 := f3.1
    have dM1 : Df pWk qsc rWk M M1 := (dE.mono (fun _ _ q => Or.inl q) (fun _ _ q => q) (fun _ _ q => q.elim)).trans (f3.mono (fun a i q => q.elim (fun q => Or.inl (Or.inl q)) Or.inr) (fun _ _ q => q) (fun _ _ q => Or.inr q))
    obtain ⟨B1, sB1, dB1, nB1, lB1, c171, gB1, run, hg1⟩ := tM M1 dM1
    rcases M_solveT sB1 gB1 (show w ≤ 10 by omega) hg1 hmb with ⟨u1, -⟩ | ⟨q'', A'', u1, ⟨r', r2', r3', r4', -⟩ | ⟨r3', G, u2, u3, u4, u5, u6⟩⟩
    · rw [t1] at u1
      exact absurd u1 (by simp)
    · rw [t1] at u1
      have eA : A' = A'' := congrArg Prod.snd (Option.some.inj u1)
      subst eA
      exact absurd (r3 r' r2') r4'
    · rw [t1] at u1
      have eA : A' = A'' := congrArg Prod.snd (Option.some.inj u1)
      subst eA
      have dG : Df (pp pFm) qsc rsx M1 G := (dB1.mono (fun _ _ q => q) (fun _ _ q => q) (fun _ _ q => q.elim)).trans (dmX u3)
      have sG : ST G := f2.sx dG
      have nG : m_nx G = m_nx M1 := by rw [u3.2.1, nB1]
      have lG : m_sl G = m_sl M1 := by rw [u3.2.2, lB1]
      obtain ⟨M2, y1, y2, y3, y6, y4, y5⟩ := f5 G (dG.mono pFm_l (fun _ _ q => q) (fun _ _ q => q)) (fun x hx => (u6 x hx).1) (fun x hx => (u6 x hx).2)
      have hG0 := sG.1
      have hM0 := f2.1
      refine ⟨ρ, M1, M2, eE2.trans (r5.trans f1), run.trans (u2.trans (by unfold twoM; exact y1)), ⟨?_, u4.cr (fun i => y6.cR (by omega) (by omega)) (fun i => y6.cR (by omega) (by omega))⟩, y2, y3, by omega, by omega⟩
      refine I4.fl h y3 h4 np94 ⟨0, -1, by omega, by omega, Or.inr ⟨rfl, rfl⟩, ?_, ?_, fun i hi => by omega⟩
      · rw [y6.cI (by omega) (by unfold pNM; omega), dG.cI (by omega) (fun q => by unfold pp psc pFm at q; omega), f3.cI (by omega) (fun q => by unfold psc pNE at q; omega), r6.1.cI (by omega) (fun q => by unfold psc at q; omega), c91A1]
        rfl
      · rw [y6.cI (by omega) (by unfold pNM; omega), u5, c171]
        rfl
