/-! ===== CALLS, 6: shaped ===== -/
def pSz : Nat → Nat → Prop := fun a i => (a = 1000 ∧ i = 85) ∨ (a = 1068 ∧ i = 1098)
theorem qt_pSz : qt pSz := fun a i q1 q2 => by unfold pSz at q2; omega
theorem noGr_pSz : noGr pSz := fun a i q1 q2 => by unfold pGr at q1; unfold pSz at q2; omega
theorem I4.pp {p Q R : Nat → Nat → Prop} {M M' : Mem} (h : ST M) (d : Df (pp p) Q R M M') (h4 : I4 M) (hp : ∀ a i, ((a = 1000 ∧ (i = 94 ∨ i = 95 ∨ i = 96 ∨ i = 97 ∨ i = 98 ∨ i = 91)) ∨ (a = 1068 ∧ (i = 1102 ∨ i = 1091 ∨ i = 1113 ∨ i = 1095 ∨ i = 1132 ∨ i = 1117)) ∨ a = 1063 ∨ a = 1083) → ¬ p a i) : I4 M' :=
  I4.dfg h d h4 (fun a i q1 q2 => q2.elim (fun q => by unfold psc at q; omega) (hp a i q1))
theorem I5w.pp {p : Nat → Nat → Prop} {M M' : Mem} (h : ST M) (d : Df (pp p) qsc n2 M M') (q : qt p) (g : noGr p) {m w : Nat} {K : Nat → Int32} {n : Nat → Nat} {Z : Nat → Nat → Nat} {S T : Nat → Nat → Int32} {X Y : Nat → Int32} {C D L : Nat → Nat} {P : Nat → Int32} (h5 : I5w M m w K n Z S T X Y C D L P) : I5w M' m w K n Z S T X Y C D L P :=
  h5.df h d (qt_pp q) qt_qsc qt_n2 (noGr_pp g) (fun i => ⟨fun hh => hh, fun hh => hh⟩)
theorem cnt_eq {z z' : Nat → Nat} {n n' : Nat} (h : prd z' n' ≤ 100000) : cnt z n = iw (prd z' n' : Nat) ↔ prd z n = prd z' n' := by
  unfold cnt
  split
  · rw [show (-1 : Int32) = iw (-1) from rfl, iw_eq (by omega) (by omega) (by omega) (by omega)]
    omega
  · rw [iw_eq (by omega) (by omega) (by omega) (by omega)]
    omega
theorem c_shaped {M : Mem} {g : Int32} (h : ST M) (h2 : I2 M) (h4 : I4 M) (h5 : I5 M) : CR (pg pSz) (rG M) I2 M (fun M => F_X0_shaped M 1000 g) (fun M => F_X16_shaped M 1068 g) := by
  have h0 := h.1
  have h5x := h5
  obtain ⟨u, hu, k1, k2, k3⟩ := h2
  obtain ⟨m, w, K, n, Z, S, T, X, Y, C, D, L, P, h5⟩ := h5
  have z00 : ¬ (0 : Int32) < 0 := by decide
  have l13 : (0 : Int32) < 13 := by decide
  have l14 : (0 : Int32) < 14 := by decide
  have us : F_X0_usedSizes M 1000 = some (iw (u : Int), wI M 1000 85 0) := by simp only [F_X0_usedSizes, g1000_85, p1000_85, h, k1, Option.bind_some]
  have um : ∀ N : Mem, ST N → cI N 1068 1098 = iw (u : Int) → F_X16_usedSizes N 1068 = some (iw (u : Int), wI N 1068 1098 0) := fun N hN hc => by simp only [F_X16_usedSizes, g1068_1098, p1068_1098, hN, hc, Option.bind_some]
  obtain ⟨A0, hA0⟩ : ∃ A0, A0 = wI M 1000 85 0 := ⟨_, rfl⟩
  rw [← hA0] at us
  have dA0 : Df (pp pSz) qsc n2 M A0 := by rw [hA0]; exact Df.wI _ (Or.inr (Or.inl ⟨rfl, rfl⟩))
  have sA0 : ST A0 := h.n dA0
  have nA0 : m_nx A0 = m_nx M := by rw [hA0]; rfl
  have lA0 : m_sl A0 = m_sl M := by rw [hA0]; rfl
  have h4A := I4.pp h dA0 h4 (fun a i q1 q2 => by unfold pSz at q2; omega)
  have h5A := h5.pp h dA0 qt_pSz noGr_pSz
  have kA : cI A0 1068 1098 = iw (u : Int) := by rw [hA0, cI_wI, if_neg (by decide)]; exact k2
  have i2 : ∀ N N' : Mem, Df (fun a i => ¬ (a = 1000 ∧ i = 85)) qsc rGr A0 N → N' = wI N 1068 1098 0 → I2 N' := fun N N' d e => by
    refine I2.zero ?_ ?_
    · rw [e, cI_wI, if_neg (by decide), d.cI (by omega) (fun q => q ⟨rfl, rfl⟩), hA0, cI_wI, if_pos ⟨rfl, rfl⟩]
    · rw [e, cI_wI, if_pos ⟨rfl, rfl⟩]
  have dB0 : ∀ N : Mem, Df (pp pSz) qsc n2 N (wI N 1068 1098 0) := fun N => Df.wI _ (Or.inr (Or.inr ⟨rfl, rfl⟩))
  rcases look sA0 h4A h5A g with ⟨b1, b2, e1, e2, e3⟩ | ⟨b1, b2, e1, e2, e3, -⟩ | ⟨b1, b2, j, j1, j2, hg, e1, e4, e5, e3, e7, e6, gp⟩
  · have e3' : F_X16_codeOf (wI A0 1068 1098 0) 1068 g = some 13 := ((M_see sA0 (dB0 A0) (sA0.n (dB0 A0)) (fun q => by unfold pp psc pSz at q; omega) (fun q => by unfold pp psc pSz at q; omega) (fun _ q => q) g).1).trans e3
    refine CR.no h h5x (-13) A0 (wI A0 1068 1098 0) ?_ ?_ (i2 A0 _ (Df.refl _ _ _ _) rfl) (dA0.trans (dB0 A0)) pp_pg (qt_pp qt_pSz) (noGr_pp noGr_pSz) (by show m_nx A0 ≤ _; omega) (by show m_sl A0 ≤ _; omega)
    · simp only [F_X0_shaped, v1000, h, us, sA0, e1, e2, Option.bind_some, Nat.reduceEqDiff, if_false, if_true]
    · simp only [F_X16_shaped, v1068, sA0, um A0 sA0 kA, ST_wI, e3', l13, Option.bind_some, if_true]
  · have e3' : F_X16_codeOf (wI A0 1068 1098 0) 1068 g = some 14 := ((M_see sA0 (dB0 A0) (sA0.n (dB0 A0)) (fun q => by unfold pp psc pSz at q; omega) (fun q => by unfold pp psc pSz at q; omega) (fun _ q => q) g).1).trans e3
    refine CR.no h h5x (-14) A0 (wI A0 1068 1098 0) ?_ ?_ (i2 A0 _ (Df.refl _ _ _ _) rfl) (dA0.trans (dB0 A0)) pp_pg (qt_pp qt_pSz) (noGr_pp noGr_pSz) (by show m_nx A0 ≤ _; omega) (by show m_sl A0 ≤ _; omega)
    · simp only [F_X0_shaped, v1000, h, us, sA0, e1, e2, Option.bind_some, Nat.reduceEqDiff, if_false, if_true]
    · simp only [F_X16_shaped, v1068, sA0, um A0 sA0 kA, ST_wI, e3', l14, Option.bind_some, if_true]
  · obtain ⟨z, hz⟩ : ∃ z : Nat → Nat, ∀ i, i < u → cI M 1060 i = iw (z i : Nat) ∧ z i ≤ 4096 := ⟨fun i => (cI M 1060 i).toInt.toNat, fun i hi => ⟨i32_nat (k3 i hi).2.1, by have := (k3 i hi).2.2; show (cI M 1060 i).toInt.toNat ≤ 4096; omega⟩⟩
    obtain ⟨A1, a1, a2, a3, a4, a5, a6⟩ := E_shapeOf (M := A0) (src := 1060) (L := 4) (n := u) sA0 hu hu (by decide) (by decide) (by decide) (t1060 sA0) (l1060 sA0)
    have dA1 : Df (pp n2) qsc n2 A0 A1 := a4.mono (fun a i q => Or.inl (by unfold pShape at q; unfold psc; omega)) (fun _ _ q => q.elim) (fun _ _ q => q)
    have sA1 : ST A1 := sA0.n dA1
    have hzA : ∀ i, i < u → cI A1 1062 i = iw (z i) ∧ z i ≤ 4096 := fun i hi => ⟨by rw [a6 i hi, hA0]; simp only [cI_wI, Nat.reduceEqDiff, false_and, if_false]; exact (hz i hi).1, (hz i hi).2⟩
    have gp1 := gp.df dA1 (qt_pp qt_n2) qt_qsc qt_n2
    have hprd := gp.2.2.2.2.2.1
    have hnj := gp.2.2.2.1
    have cE := E_count gp1.1 hnj
    have vE := vg_of gp1.1.2.2.1 (show x_isa 22 22 = true by decide)
    have c1 := E_cnt (t1062 sA1) (l1062 sA1) (by decide) hu hzA
    have hq := cnt_eq (z := z) (n := u) hprd
    -- what the model sees, in any memory that keeps it
    have mg : ∀ N : Mem, Df (fun a i => pp pSz a i ∨ pNE a i) qsc rE M N → cI N 1068 1098 = iw (u : Int) →
        F_X16_shaped N 1068 g = if prd z u = prd (Z j) (n j) then ((F_X16_isRoom (wI N 1068 1098 0) 1068 (nl (prd z u)) 1).bind fun z16 => if z16 = 0 then some ((-12 : Int32), wI N 1068 1098 0) else (F_X16_listed (wI N 1068 1098 0) (cR M 1070 j) 1073).bind fun z18 => (gi z18 (cR M 1070 j) 1472).bind fun t19 => (gr z18 1068 1096).bind fun t20 => (F_X16_first z18 t20 (iw (u : Int))).bind fun z21 => (gr z21.2 1068 1100).bind fun t22 => (vg z21.2 1068 17).bind fun _ => (F_X16_made z21.2 1068 t19 z21.1 t22).bind fun z24 => some (z24.1, z24.2)) else some (-3, wI N 1068 1098 0) := by
      intro N dN hc
      have sN : ST N := h.df dN (fun p hp hr => (stR_na p hp).1 hr)
      have sN' : ST (wI N 1068 1098 0) := sN
      have dN' : Df (fun a i => pp pSz a i ∨ pNE a i) qsc rE M (wI N 1068 1098 0) := dN.trans (Df.wI _ (Or.inl (Or.inr (Or.inr ⟨rfl, rfl⟩))))
      obtain ⟨y1, y2, y3⟩ := M_see h dN' sN' (fun q => by unfold pp psc pSz pNE at q; omega) (fun q => by unfold pp psc pSz pNE at q; omega) (fun i q => by unfold rE at q; omega) g
      obtain ⟨x1, x2, x3⟩ := M_see h dA0 sA0 (fun q => by unfold pp psc pSz at q; omega) (fun q => by unfold pp psc pSz at q; omega) (fun i q => q) g
      have y1' : F_X16_codeOf (wI N 1068 1098 0) 1068 g = some 0 := by rw [y1, ← x1, e3]
      have y3' : ar (wI N 1068 1098 0) 1070 g = some (cR M 1070 j) := by rw [y3, ← x3, e6, dA0.cR (by omega) (fun q => q)]
      have gpM : GP M (cR M 1005 j) (cR M 1070 j) (K j) (n j) (Z j) (S j) (T j) (X j) (Y j) (C j) (D j) (L j) (P j) := by
        rcases h5.2.2.2.2.2.2.1 j j1 j2 with q | q
        · exact absurd (by rw [dA0.cR (by omega) (fun q => q)]; exact q.1) e4
        · exact q
      have gpN := gpM.df dN' (fun a i q1 q2 => q2.elim (qt_pp qt_pSz a i q1) (qt_pNE a i q1)) qt_qsc qt_rE
      have cM := M_count gpN.2.1 hnj gp.2.2.2.2.1
      have vM := vg_of gpN.2.1.2.2.1 (show x_isa 23 23 = true by decide)
      have ct : F_X16_count (wI N 1068 1098 0) 1071 (iw (u : Int)) = some (nl (prd z u)) := M_count16 (t1071 sN') (l1071 sN') hu (by decide) (fun i hi => ⟨by rw [dN'.cI (by omega) (fun q => by unfold pp psc pSz pNE at q; omega), ← (k3 i hi).1]; exact (hz i hi).1, (hz i hi).2⟩)
      have pl := prd_le (z := z) u (fun i hi => (hz i hi).2)
      have hp62 : prd z u < 2 ^ 62 := by
        have : 4096 ^ u ≤ 4096 ^ 4 := Nat.pow_le_pow_right (by decide) hu
        omega
      have hq2 : nl (prd z u) = (iw (prd (Z j) (n j) : Nat)).toInt64 ↔ prd z u = prd (Z j) (n j) := by
        rw [i64_iw (by omega), nl_eq (by omega) (by omega)]
      simp only [F_X16_shaped, v1068, sN, ST_wI, um N sN hc, y1', z00, g1068_1092, y3', g1068_1096, ct, vM, cM, hq2, Option.bind_some, if_false]
      by_cases c : prd z u = prd (Z j) (n j)
      · simp only [c, if_true, g1068_1100, ST_wI, sN, i64_iw (show prd (Z j) (n j) < 2147483648 by omega), Option.bind_some]
      · simp only [c, if_false]
    by_cases hc : prd z u = prd (Z j) (n j)
    · -- all cells
      obtain ⟨A2, f1, f2, f3, f4, f5⟩ := E_gather (arr := 1057) (W := 100000) gp1 (by decide) hprd (by decide) (t1057 sA1) (l1057 sA1)
      have dA2 : Df (pp pSz) qsc n2 M A2 := (dA0.trans (dA1.mono (fun a i q => q.imp id (fun q => q.elim)) (fun _ _ q => q) (fun _ _ q => q))).trans (f4.mono (fun _ _ q => q.elim) (fun a i q => by unfold qsc; have q : a = 1057 := q; omega) (fun _ _ q => q))
      have sA2 : ST A2 := h.n dA2
      have gp2 := gp1.df f4 qt_n2 (fun a i q1 q2 => by have q2 : a = 1057 := q2; omega) qt_n2
      have hv : ∀ i, i < prd z u → cJ A2 1057 i = cJ M (C j) (gpos (n j) (Z j) (S j) (X j) i) ∧ vb (K j) (cJ M (C j) (gpos (n j) (Z j) (S j) (X j) i)) := by
        intro i hi
        rw [hc] at hi
        obtain ⟨cc, -, -, -, -, -, -, -, -, cv⟩ := gp.2.2.2.2.2.2.2.1
        have e : ∀ i, cJ A1 (C j) i = cJ M (C j) i := fun i => by
          have cl := gp.2.2.2.2.2.2.2.1.2.1
          rw [dA1.cJ cl (qt_qsc _ _ cc), dA0.cJ (by omega) (qt_qsc _ _ cc)]
        rw [f5 i hi, e]
        refine ⟨rfl, ?_⟩
        rw [← e]
        exact (gp1.get hi).1
      obtain ⟨M1, g1, g2, g3, g4, gA, g5⟩ := mkB' (k := K j) (n' := u) (z := z) (r := 1057) h h5 dA2 qt_pSz noGr_pSz (fun i => cJ M (C j) (gpos (n j) (Z j) (S j) (X j) i)) gp.2.2.1 hu (fun i hi => ⟨by rw [f4.cI (by omega) (fun q => q)]; exact (hzA i hi).1, (hzA i hi).2⟩) (by rw [f4.cI (by omega) (fun q => q)]; exact a5) (fun hp => ⟨by decide, by decide, by omega, t1057 sA2, by rw [l1057 sA2]; exact hp, by rw [l1057 sA2]; decide⟩) (fun _ => hv)
      have eg : F_X0_shaped M 1000 g = F_X0_made A2 1000 (K j) 1057 := by
        have q0 : ¬ iw (prd (Z j) (n j) : Nat) < 0 := by rw [iw_lt0 (by omega) (by omega)]; omega
        simp only [F_X0_shaped, F_X0_shaped_b84, v1000, h, us, sA0, e1, e4, e5, g1000_84, a1, g1000_88, g1000_89, sA1, a5, c1, vE, cE, hq, hc, g1000_81, f1, q0, gi_of gp2.1.2.2.1 (show x_fi 22 1408 = true by decide), gp2.1.2.2.2.1, sA2, Option.bind_some, if_false, if_true]
        cases F_X0_made A2 1000 (K j) 1057 <;> rfl
      have dM1 : Df (fun a i => pp pSz a i ∨ pNE a i) qsc rE M M1 := (dA2.mono (fun _ _ q => Or.inl q) (fun _ _ q => q) (fun _ _ q => q.elim)).trans (g3.mono (fun _ _ q => Or.inr q) (fun _ _ q => q.elim) (fun _ _ q => q))
      have kM1 : cI M1 1068 1098 = iw (u : Int) := by rw [g3.cI (by omega) (by unfold pNE; omega), f4.cI (by omega) (fun q => q), a4.cI (by omega) (by unfold pShape; omega)]; exact kA
      have hm := mg M1 dM1 kM1
      rw [if_pos hc] at hm
      obtain ⟨N0, hN0⟩ : ∃ N0, N0 = wI M1 1068 1098 0 := ⟨_, rfl⟩
      have dN0 : Df (pp pSz) qsc n2 M1 N0 := by rw [hN0]; exact dB0 M1
      have z85 : cI M1 1000 85 = 0 := by rw [g3.cI (by omega) (by unfold pNE; omega), f4.cI (by omega) (fun q => q), a4.cI (by omega) (by unfold pShape; omega), hA0, cI_wI, if_pos ⟨rfl, rfl⟩]
      have nM1 := g3.1
      have nN0 : m_nx N0 = m_nx M1 := by rw [hN0]; rfl
      have lN0 : m_sl N0 = m_sl M1 := by rw [hN0]; rfl
      rw [← hN0] at hm
      cases hb : room m w 1 (prd z u) with
      | false =>
        obtain ⟨r1, r2, -⟩ := g5 N0 dN0
        obtain ⟨r3, r4, r5⟩ := r2 hb
        rw [r1, hb] at hm
        rw [hb, if_neg (by decide)] at g1
        refine ⟨-12, M1, N0, by show F_X0_shaped M 1000 g = _; rw [eg, g1], hm, ?_, r3, r4, by omega, ?_⟩
        · exact I2.zero (by rw [hN0, cI_wI, if_neg (by decide)]; exact z85) (by rw [hN0, cI_wI, if_pos ⟨rfl, rfl⟩])
        · rw [gA hb] at lN0
          omega
      | true =>
        have sN0 : ST N0 := g2.n dN0
        have r1 := (g5 N0 dN0).1
        have gpM1 := ((gp2.df g3 qt_pNE qt_n2 qt_rE)).df dN0 (qt_pp qt_pSz) qt_qsc qt_n2
        rw [dA0.cR (show 1070 < m_nx M by omega) (fun q => q)] at gpM1
        obtain ⟨N1, s1, s2, s3, s4, s5⟩ := M_listed (arr := 1073) (W := 100000) gpM1 (by decide) hprd (by decide) (t1073 sN0) (l1073 sN0)
        have dN1 : Df (pp pSz) qsc n2 M1 N1 := dN0.trans (s4.mono (fun _ _ q => q.elim) (fun a i q => by unfold qsc; have q : a = 1073 := q; omega) (fun _ _ q => q))
        have sN1 : ST N1 := g2.n dN1
        obtain ⟨N2, w1, w2, w3, w4, w5⟩ := M_first (M := N1) (src := 1071) (L := 4) (n := u) (by omega) hu hu (by decide) (by omega) (t1071 sN1) (l1071 sN1)
        have dN2 : Df (pp pSz) qsc n2 M1 N2 := dN1.trans (w4.mono (fun _ _ q => q.elim) (fun _ _ q => q.elim) (fun _ _ q => q))
        have sN2 : ST N2 := g2.n dN2
        have w5' : IRw N2 (m_nx N1) u (fun i => iw (z i)) := by
          obtain ⟨x1, x2, x3, x4, x5⟩ := w5
          refine ⟨x1, x2, x3, x4, fun i hi => ?_⟩
          rw [x5 i hi]
          show cI N1 1071 i = iw (z i : Nat)
          rw [dN1.cI (by omega) (fun q => by unfold pp psc pSz at q; omega), dM1.cI (by omega) (fun q => by unfold pp psc pSz pNE at q; omega), ← (k3 i hi).1]
          exact (hz i hi).1
        have hv2 : ∀ i, i < prd z u → cJ N2 1073 i = cJ M (C j) (gpos (n j) (Z j) (S j) (X j) i) := by
          intro i hi
          rw [w4.cJ (by omega) (fun q => q), s5 i (by rw [← hc]; exact hi)]
          have cc := gp.2.2.2.2.2.2.2.1.1
          have cl := gp.2.2.2.2.2.2.2.1.2.1
          rw [dN0.cJ (by omega) (qt_qsc _ _ cc), dM1.cJ (by omega) (qt_qsc _ _ cc)]
        obtain ⟨M2, y1, y2, y3, y4, y6, y5⟩ := (g5 N2 dN2).2.2 hb (m_nx N1) 1073 w5' ⟨by decide, by decide, by omega, t1073 sN2, by rw [l1073 sN2]; omega, by rw [l1073 sN2]; decide⟩ hv2
        have gpN1 := gpM1.df s4 qt_n2 (fun a i q1 q2 => by have q2 : a = 1073 := q2; omega) qt_n2
        rw [hb, if_pos rfl] at g1
        refine ⟨iw ((m + 1 : Nat) : Int), M1, M2, by show F_X0_shaped M 1000 g = _; rw [eg, g1], ?_, ?_, y2, y3, by omega, by omega⟩
        · show F_X16_shaped M1 1068 g = _
          rw [hm, r1, hb]
          simp only [show ¬ mr true = 0 by decide, if_false, s1, gi_of gpN1.2.1.2.2.1 (show x_fi 23 1472 = true by decide), gpN1.2.1.2.2.2.1, g1068_1096, g1068_1100, v1068, sN1, sN2, w1, y1, Option.bind_some]
        · refine I2.zero ?_ ?_
          · rw [y6.cI (by omega) (by unfold pNM; omega), w4.cI (by omega) (fun q => q), s4.cI (by omega) (fun q => q), hN0, cI_wI, if_neg (by decide)]
            exact z85
          · rw [y6.cI (by omega) (by unfold pNM; omega), w4.cI (by omega) (fun q => q), s4.cI (by omega) (fun q => q), hN0, cI_wI, if_pos ⟨rfl, rfl⟩]
    · -- another number of cells
      have dF : Df (pp pSz) qsc n2 M A1 := dA0.trans (dA1.mono (fun a i q => q.imp id (fun q => q.elim)) (fun _ _ q => q) (fun _ _ q => q))
      have hm := mg A1 (dF.mono (fun _ _ q => Or.inl q) (fun _ _ q => q) (fun _ _ q => q.elim)) (by rw [a4.cI (by omega) (by unfold pShape; omega)]; exact kA)
      rw [if_neg hc] at hm
      refine CR.no h h5x (-3) A1 (wI A1 1068 1098 0) ?_ hm (i2 A1 _ (dA1.mono (fun a i q hh => by rcases q with q | q; unfold psc at q; omega; exact q) (fun _ _ q => q) (fun _ _ q => q.elim)) rfl) (dF.trans (dB0 A1)) pp_pg (qt_pp qt_pSz) (noGr_pp noGr_pSz) (by show m_nx A1 ≤ _; omega) (by show m_sl A1 ≤ _; omega)
      simp only [F_X0_shaped, v1000, h, us, sA0, e1, e4, e5, g1000_84, a1, g1000_88, g1000_89, sA1, a5, c1, vE, cE, hq, hc, Option.bind_some, if_false]
