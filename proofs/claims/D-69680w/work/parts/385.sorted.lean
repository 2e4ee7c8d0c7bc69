/-! ===== CALLS, 16: sorted ===== -/
theorem vb4 (x : Int32) : vb 4 x.toInt64 := by
  rw [vb_rng (by simp), Int32.toInt_toInt64]
  have h1 := Int32.le_toInt x
  have h2 := Int32.toInt_lt x
  show (-2147483648 : Int) ≤ _ ∧ _ ≤ (2147483647 : Int)
  omega
theorem E_rowShape {M : Mem} {n : Nat} (h : ST M) : ∃ M', F_X0_rowShape M 1000 (iw (n : Int)) = some M' ∧ m_nx M' = m_nx M ∧ m_sl M' = m_sl M ∧ Df (fun a i => a = 1062 ∨ (a = 1000 ∧ i = 89)) n2 n2 M M' ∧ cI M' 1000 89 = iw ((1 : Nat) : Int) ∧ cI M' 1062 0 = iw (n : Int) := by
  have s1 : si (wI M 1000 89 1) 1062 0 (iw (n : Int)) = some (wI (wI M 1000 89 1) 1062 0 (iw (n : Int))) := si_of (M := wI M 1000 89 1) (j := 0) (iw (n : Int)) (t1062 (M := wI M 1000 89 1) h) (l1062 (M := wI M 1000 89 1) h) (by decide) (by decide)
  refine ⟨wI (wI M 1000 89 1) 1062 0 (iw (n : Int)), ?_, rfl, rfl, (Df.wI (P := fun a i => a = 1062 ∨ (a = 1000 ∧ i = 89)) (Q := n2) (R := n2) (a := 1000) (i := 89) 1 (Or.inr ⟨rfl, rfl⟩)).trans (Df.wI _ (Or.inl rfl)), ?_, ?_⟩
  · simp only [F_X0_rowShape, p1000_89, g1000_88, h, ST_wI, s1, Option.bind_some]
  · rw [cI_wI, if_neg (by decide), cI_wI, if_pos ⟨rfl, rfl⟩]; rfl
  · rw [cI_wI, if_pos ⟨rfl, rfl⟩]
/-- what is sorted is put into a row of longs -/
theorem E_put57 {A : Mem} {n : Nat} {P : Nat → Nat} (h : ST A) (hn : n ≤ 4096) (hp : ∀ q, q < n → cI A 1023 q = iw (P q : Nat)) (N0 : Nat) (hN : N0 + 1 + n = xN) :
    ∃ A', F_X0_sorted_b57 xN A 1000 (iw (n : Int)) 0 = F_X0_sorted_b57 (N0 + 1) A' 1000 (iw (n : Int)) (iw (n : Int)) ∧ m_nx A' = m_nx A ∧ m_sl A' = m_sl A ∧ Df n2 (fun a _ => a = 1057) n2 A A' ∧ ∀ x, x < n → cJ A' 1057 x = (iw (P x : Nat)).toInt64 := by
  have lw := wloop (fun N U i => F_X0_sorted_b57 N U 1000 (iw (n : Int)) i) (fun _ _ => none) 1057 n (fun i => some (iw (P i : Nat)).toInt64) (fun U => Df n2 (fun a _ => a = 1057) n2 A U ∧ m_nx U = m_nx A ∧ m_sl U = m_sl A) (fun _ => True)
    (fun N U i w hJ hi hw => by
      obtain ⟨d, e1, e2⟩ := hJ
      have sU : ST U := h.n d
      have h0 := h.1
      injection hw with hw
      have a1 : ai U 1023 (iw (i : Int)) = some (iw (P i : Nat)) := by rw [ai_of (t1023 sU) (l1023 sU) (by omega) (by decide), d.cI (by omega) (fun q => q), hp i hi]
      refine ⟨wJ U 1057 i w, ?_, ⟨d.trans (Df.wJ _ rfl), e1, e2⟩, by rw [cJ_wJ, if_pos ⟨rfl, rfl⟩], fun x hx => by rw [cJ_wJ, if_neg (fun q => by omega)]⟩
      show F_X0_sorted_b57_st (F_X0_sorted_b57 N) U _ _ _ = _
      unfold F_X0_sorted_b57_st F_X7_at
      rw [if_pos (by rw [iw_le4 (by omega) (by omega)]; exact hi)]
      simp only [g1000_81, g1000_74, v1022, g1022_512, sU, a1, hw, sj_of (j := i) w (t1057 sU) (l1057 sU) (show i < 100000 by omega) (by decide), iw_succ, Option.bind_some])
    (fun N U i hJ hi hw => by simp at hw) n (N0 + 1) 0 A (by omega) ⟨Df.refl _ _ _ _, rfl, rfl⟩ (fun x hx => by omega)
  rw [hN] at lw
  rcases lw with ⟨-, A', ⟨d, e1, e2⟩, run, row⟩ | ⟨q, A', -, -, rq, -⟩
  · exact ⟨A', run, e1, e2, d, row⟩
  · simp at rq
theorem M_put75 {A : Mem} {a b : Nat} {k : Int32} {n' : Nat} {z : Nat → Nat} {s t : Nat → Int32} {x y : Int32} {c d L : Nat} {p : Int32} (g : GP A a b k n' z s t x y c d L p) {n : Nat} (hpn : prd z n' = n) {P : Nat → Nat} (h : ST A) (hn : n ≤ 4096) (hp : ∀ q, q < n → cI A 1084 q = iw (P q : Nat)) (N0 : Nat) (hN : N0 + 1 + n = xN) :
    ∃ A', F_X16_sorted_b75 xN A 1068 b 0 = F_X16_sorted_b75 (N0 + 1) A' 1068 b (iw (n : Int)) ∧ m_nx A' = m_nx A ∧ m_sl A' = m_sl A ∧ Df n2 (fun a _ => a = 1073) n2 A A' ∧ ∀ x, x < n → cJ A' 1073 x = (iw (P x : Nat)).toInt64 := by
  have lw := wloop (fun N U i => F_X16_sorted_b75 N U 1068 b i) (fun _ _ => none) 1073 n (fun i => some (iw (P i : Nat)).toInt64) (fun U => Df n2 (fun a _ => a = 1073) n2 A U ∧ m_nx U = m_nx A ∧ m_sl U = m_sl A) (fun _ => True)
    (fun N U i w hJ hi hw => by
      obtain ⟨dd, e1, e2⟩ := hJ
      have sU : ST U := h.n dd
      have h0 := h.1
      injection hw with hw
      have gU := g.df dd qt_n2 (fun a i q1 q2 => by have q2 : a = 1073 := q2; omega) qt_n2
      have cU := M_count gU.2.1 g.2.2.2.1 g.2.2.2.2.1
      rw [hpn] at cU
      have a1 : ai U 1084 (iw (i : Int)) = some (iw (P i : Nat)) := by rw [ai_of (t1084 sU) (l1084 sU) (by omega) (by decide), dd.cI (by omega) (fun q => q), hp i hi]
      refine ⟨wJ U 1073 i w, ?_, ⟨dd.trans (Df.wJ _ rfl), e1, e2⟩, by rw [cJ_wJ, if_pos ⟨rfl, rfl⟩], fun x hx => by rw [cJ_wJ, if_neg (fun q => by omega)]⟩
      show F_X16_sorted_b75_st (F_X16_sorted_b75 N) U _ _ _ = _
      unfold F_X16_sorted_b75_st
      simp only [vg_of gU.2.1.2.2.1 (show x_isa 23 23 = true by decide), cU, Option.bind_some]
      rw [if_pos (by rw [iw_le4 (by omega) (by omega)]; exact hi)]
      simp only [g1068_1100, g1068_1118, sU, a1, hw, sj_of (j := i) w (t1073 sU) (l1073 sU) (show i < 100000 by omega) (by decide), iw_succ, Option.bind_some])
    (fun N U i hJ hi hw => by simp at hw) n (N0 + 1) 0 A (by omega) ⟨Df.refl _ _ _ _, rfl, rfl⟩ (fun x hx => by omega)
  rw [hN] at lw
  rcases lw with ⟨-, A', ⟨d, e1, e2⟩, run, row⟩ | ⟨q, A', -, -, rq, -⟩
  · exact ⟨A', run, e1, e2, d, row⟩
  · simp at rq
theorem c_sorted {M : Mem} {g fl : Int32} (hfl : fl = 0 ∨ fl = 1) (h : ST M) (h4 : I4 M) (h5 : I5 M) : CR (pg n2) (rG M) (fun _ => True) M (fun M => F_X0_sorted M 1000 g fl) (fun M => F_X16_sorted M 1068 g fl) := by
  have h0 := h.1
  have h5x := h5
  obtain ⟨m, w, K, n, Z, S, T, X, Y, C, D, L, P, h5⟩ := h5
  have n10 : ¬ (1 : Int32) = 0 := by decide
  have z00 : ¬ (0 : Int32) < 0 := by decide
  have l13 : (0 : Int32) < 13 := by decide
  have l14 : (0 : Int32) < 14 := by decide
  have no : ∀ r : Int32, F_X0_sorted M 1000 g fl = some (r, M) → F_X16_sorted M 1068 g fl = some (r, M) → CR (pg n2) (rG M) (fun _ => True) M (fun M => F_X0_sorted M 1000 g fl) (fun M => F_X16_sorted M 1068 g fl) := fun r e1 e2 =>
    CR.no h h5x r M M e1 e2 trivial (Df.refl n2 _ _ _) (fun _ _ q => q.elim) qt_n2 noGr_n2 (by omega) (by omega)
  rcases look h h4 h5 g with ⟨b1, b2, e1, e2, e3⟩ | ⟨b1, b2, e1, e2, e3, -⟩ | ⟨b1, b2, j, j1, j2, hg, e1, e4, e5, e3, e7, e6, gp⟩
  · exact no (-13) (by simp only [F_X0_sorted, v1000, h, e1, e2, Option.bind_some, Nat.reduceEqDiff, if_false, if_true]) (by simp only [F_X16_sorted, v1068, h, e3, l13, Option.bind_some, if_true])
  · exact no (-14) (by simp only [F_X0_sorted, v1000, h, e1, e2, Option.bind_some, Nat.reduceEqDiff, if_false, if_true]) (by simp only [F_X16_sorted, v1068, h, e3, l14, Option.bind_some, if_true])
  · obtain ⟨rE', rM'⟩ := E_row gp
    have vE := vg_of gp.1.2.2.1 (show x_isa 22 22 = true by decide)
    by_cases c1 : ¬ n j = 1
    · rw [if_neg c1] at rE' rM'
      exact no (-1) (by simp only [F_X0_sorted, v1000, h, e1, e4, e5, vE, rE', Option.bind_some, if_false, if_true]) (by simp only [F_X16_sorted, v1068, h, e3, z00, g1068_1092, e6, rM', Option.bind_some, if_false, if_true])
    have c1 : n j = 1 := Decidable.of_not_not c1
    rw [if_pos c1] at rE' rM'
    have hprd := gp.2.2.2.2.2.1
    have hZ : prd (Z j) (n j) = Z j 0 := by rw [c1]; show 1 * Z j 0 = _; omega
    have hZ1 : prd (Z j) 1 = Z j 0 := by show 1 * Z j 0 = _; omega
    have hz0 := gp.2.2.2.2.1 0 (by omega)
    obtain ⟨nn, hnn⟩ : ∃ nn, nn = Z j 0 := ⟨_, rfl⟩
    rw [← hnn] at hZ hZ1 hz0
    have hxN : xN = 1099511627776 := rfl
    obtain ⟨N0, hN0⟩ : ∃ N0, N0 + 1 + nn = xN := ⟨xN - 1 - nn, by omega⟩
    obtain ⟨val, hval⟩ : ∃ val : Nat → Int64, val = fun i => cJ M (C j) (gpos (n j) (Z j) (S j) (X j) i) := ⟨_, rfl⟩
    have hvv : ∀ i, i < nn → vb (K j) (val i) := fun i hi => by rw [hval]; exact (gp.get (by omega)).1
    -- the engine
    obtain ⟨A1, a1, a2, a3, a4, a5⟩ := E_gather (arr := 1058) (W := 100000) gp (by decide) hprd (by decide) (t1058 h) (l1058 h)
    rw [hZ] at a1 a5
    have sA1 : ST A1 := h.n a4
    have gp1 := gp.df a4 qt_n2 (fun a i q1 q2 => by have q2 : a = 1058 := q2; omega) qt_n2
    have ob : OB 1022 1023 1024 := Or.inl ⟨rfl, rfl, rfl⟩
    obtain ⟨A2, s1, s2, s3, s4, s5, s6⟩ := E_sort (v := val) (row := 1058) (n := nn) sA1 ob gp.2.2.1 hfl hz0 ⟨t1058 sA1, by rw [l1058 sA1]; omega, by rw [l1058 sA1]; decide⟩ (fun i hi => ⟨by rw [a5 i hi, hval], hvv i hi⟩)
    have sA2 : ST A2 := s5.1
    obtain ⟨A3, u1, u2, u3, u4, u5⟩ := E_put57 (P := srt fl (K j) val nn) sA2 hz0 (fun q hq => s5.2.2.2.2.2.2.2.2 q hq) N0 hN0
    have sA3 : ST A3 := sA2.n u4
    obtain ⟨A4, w1, w2, w3, w4, w5, w6⟩ := E_rowShape (n := nn) sA3
    have sA4 : ST A4 := sA3.n w4
    have dA4 : Df (pp n2) qsc rsc M A4 := (((a4.mono (fun _ _ q => q.elim) (fun a i q => by have q : a = 1058 := q; unfold qsc; omega) (fun _ _ q => q.elim)).trans (s4.mono (fun a i q => Or.inl (pOr_sc ob a i q)) (fun _ _ q => q.elim) (fun a i q => rOr_st ob a i q))).trans (u4.mono (fun _ _ q => q.elim) (fun a i q => by have q : a = 1057 := q; unfold qsc; omega) (fun _ _ q => q.elim))).trans (w4.mono (fun a i q => Or.inl (by unfold psc; omega)) (fun _ _ q => q.elim) (fun _ _ q => q.elim))
    obtain ⟨M1, g1, g2, g3, g4, gA, g5⟩ := mkBs (k := 4) (n' := 1) (z := Z j) (r := 1057) h h5 dA4 qt_n2 noGr_n2 (fun i => (iw (srt fl (K j) val nn i : Nat)).toInt64) (by unfold Lk; simp) (by decide) (fun i hi => by
      have : i = 0 := by omega
      subst this
      rw [w6, hnn]
      exact ⟨rfl, by omega⟩) w5 (fun hp => ⟨by decide, by decide, by omega, t1057 sA4, by rw [l1057 sA4]; exact hp, by rw [l1057 sA4]; decide⟩) (fun _ i hi => ⟨by rw [hZ1] at hi; rw [w4.cJ (by omega) (fun q => q), u5 i hi], vb4 _⟩)
    rw [hZ1] at g1 gA g5
    have eg : F_X0_sorted M 1000 g fl = some ((if room m w 1 nn = true then iw ((m + 1 : Nat) : Int) else -12), M1) := by
      simp only [F_X0_sorted, v1000, h, e1, e4, e5, vE, rE', n10, g1000_82, a1, g1000_74, sA1, gi_of gp1.1.2.2.1 (show x_fi 22 1408 = true by decide), gp1.1.2.2.2.1, v1022, s1, Option.bind_some, if_false]
      rw [u1]
      show F_X0_sorted_b57_st (F_X0_sorted_b57 N0) A3 _ _ _ = _
      unfold F_X0_sorted_b57_st
      rw [if_neg (by rw [iw_le4 (by omega) (by omega)]; omega)]
      simp only [v1000, sA3, w1, g1000_81, sA4, g1, Option.bind_some]
    have dM1 : Df (fun a i => pp n2 a i ∨ pNE a i) qsc (fun a i => rsc a i ∨ rE a i) M M1 := (dA4.mono (fun _ _ q => Or.inl q) (fun _ _ q => q) (fun _ _ q => Or.inl q)).trans (g3.mono (fun _ _ q => Or.inr q) (fun _ _ q => q.elim) (fun _ _ q => Or.inr q))
    have npm : ∀ i, ¬ (pp n2 1068 i ∨ pNE 1068 i) := fun i q => q.elim (fun q => q.elim (nsc i) (fun q => q)) (fun q => by unfold pNE at q; omega)
    have qx : qt (fun a i => pp n2 a i ∨ pNE a i) := fun a i a1 a2 => a2.elim (qt_pp qt_n2 a i a1) (qt_pNE a i a1)
    have qr : qt (fun a i => rsc a i ∨ rE a i) := fun a i a1 a2 => a2.elim (qt_rsc a i a1) (qt_rE a i a1)
    obtain ⟨y1, y2, y3⟩ := M_see h dM1 g2 (npm _) (npm _) (fun i q => q.elim (rsc_5 i).2 (fun q => by unfold rE at q; omega)) g
    have gpM := gp.df dM1 qx qt_qsc qr
    obtain ⟨-, rM1⟩ := E_row gpM
    rw [if_pos c1] at rM1
    have cM := M_count gpM.2.1 gp.2.2.2.1 gp.2.2.2.2.1
    rw [hZ] at cM
    have vM := vg_of gpM.2.1.2.2.1 (show x_isa 23 23 = true by decide)
    have nM1 := g3.1
    cases hb : room m w 1 nn with
    | false =>
      obtain ⟨r1, r2, -⟩ := g5 M1 (Df.refl _ _ _ _)
      rw [hb, if_neg (by decide)] at eg
      obtain ⟨r3, r4, r5⟩ := r2 hb
      have := gA hb
      subst this
      refine ⟨-12, M1, M1, eg, ?_, trivial, r3, r4, by omega, by omega⟩
      show F_X16_sorted M1 1068 g fl = _
      rw [hb] at r1
      simp only [F_X16_sorted, v1068, g2, y1, e3, z00, g1068_1092, y3, e6, rM1, n10, vM, cM, i64_iw (show nn < 2147483648 by omega), r1, Option.bind_some, if_false, show mr false = 0 by decide, if_true]
    | true =>
      have r1 := (g5 M1 (Df.refl _ _ _ _)).1
      rw [hb] at r1
      rw [hb, if_pos rfl] at eg
      obtain ⟨B1, k1, k2, k3, k4, k5⟩ := M_listed (arr := 1074) (W := 100000) gpM (by decide) hprd (by decide) (t1074 g2) (l1074 g2)
      rw [hZ] at k5
      have sB1 : ST B1 := g2.n k4
      have gpB1 := gpM.df k4 qt_n2 (fun a i q1 q2 => by have q2 : a = 1074 := q2; omega) qt_n2
      have hvB : ∀ i, i < nn → cJ B1 1074 i = val i := fun i hi => by
        have cc := gp.2.2.2.2.2.2.2.1
        rw [k5 i hi, hval, dM1.cJ cc.2.1 (qt_qsc _ _ cc.1)]
      obtain ⟨B2, p1, p2, p3, p4, p5⟩ := M_sort (row := 1074) (n := nn) (kd := K j) (fl := fl) (v := val) sB1 hz0 ⟨t1074 sB1, by rw [l1074 sB1]; omega, by rw [l1074 sB1]; decide⟩ (fun i hi => ⟨hvB i hi, hvv i hi⟩)
      have sB2 : ST B2 := p5.1
      have gpB2 := gpB1.df p4 (fun a i q1 q2 => by rcases q2 with q | q <;> omega) qt_n2 qt_n2
      obtain ⟨B3, o1, o2, o3, o4, o5⟩ := M_put75 gpB2 hZ sB2 hz0 (fun q hq => p5.2.2.2.2.2 q hq) N0 hN0
      have sB3 : ST B3 := sB2.n o4
      have gpB3 := gpB2.df o4 qt_n2 (fun a i q1 q2 => by have q2 : a = 1073 := q2; omega) qt_n2
      have irB := gpB3.2.1.2.2.2.2.1
      obtain ⟨B4, f1, f2, f3, f4, f5⟩ := M_first (M := B3) (src := cR B3 (cR M 1070 j) 1473) (L := n j) (n := 1) (by omega) (by decide) (by omega) (by omega) irB.2.1 irB.2.2.1 irB.2.2.2.1
      have f5' : IRw B4 (m_nx B3) 1 (fun i => iw (Z j i)) := ⟨f5.1, f5.2.1, f5.2.2.1, f5.2.2.2.1, fun i hi => (f5.2.2.2.2 i hi).trans (irB.2.2.2.2 i (by omega))⟩
      have dB4 : Df (pp n2) qsc rsc M1 B4 := (((k4.mono (fun _ _ q => q.elim) (fun a i q => by have q : a = 1074 := q; unfold qsc; omega) (fun _ _ q => q.elim)).trans (p4.mono (fun a i q => Or.inl (by unfold psc; rcases q with q | q <;> omega)) (fun _ _ q => q.elim) (fun a i q => q.elim))).trans (o4.mono (fun _ _ q => q.elim) (fun a i q => by have q : a = 1073 := q; unfold qsc; omega) (fun _ _ q => q.elim))).trans (f4.mono (fun _ _ q => q.elim) (fun _ _ q => q.elim) (fun _ _ q => q.elim))
      have sB4 : ST B4 := sB3.n f4
      obtain ⟨M2, t1, t2, t3, t4, -, t5⟩ := (g5 B4 dB4).2.2 hb (m_nx B3) 1073 f5' ⟨by decide, by decide, by omega, t1073 sB4, by rw [l1073 sB4]; omega, by rw [l1073 sB4]; decide⟩ (fun i hi => by rw [f4.cJ (by omega) (fun q => q), o5 i hi])
      refine ⟨iw ((m + 1 : Nat) : Int), M1, M2, eg, ?_, trivial, t2, t3, by omega, by omega⟩
      have cB1 := M_count gpB1.2.1 gp.2.2.2.1 gp.2.2.2.2.1
      rw [hZ] at cB1
      have cB3 := M_count gpB3.2.1 gp.2.2.2.1 gp.2.2.2.2.1
      rw [hZ] at cB3
      show F_X16_sorted M1 1068 g fl = _
      simp only [F_X16_sorted, v1068, g2, y1, e3, z00, g1068_1092, y3, e6, rM1, n10, vM, cM, i64_iw (show nn < 2147483648 by omega), r1, show ¬ mr true = 0 by decide, g1068_1101, k1, sB1, vg_of gpB1.2.1.2.2.1 (show x_isa 23 23 = true by decide), cB1, gi_of gpB1.2.1.2.2.1 (show x_fi 23 1472 = true by decide), gpB1.2.1.2.2.2.1, p1, Option.bind_some, if_false]
      rw [o1]
      show F_X16_sorted_b75_st (F_X16_sorted_b75 N0) B3 _ _ _ = _
      unfold F_X16_sorted_b75_st
      simp only [vg_of gpB3.2.1.2.2.1 (show x_isa 23 23 = true by decide), cB3, Option.bind_some]
      rw [if_neg (by rw [iw_le4 (by omega) (by omega)]; omega)]
      have f1' : F_X16_first B3 (cR B3 (cR M 1070 j) 1473) 1 = some (m_nx B3, B4) := f1
      simp only [gr_of gpB3.2.1.2.2.1 (show x_fr 23 1473 = true by decide), f1', g1068_1100, v1068, sB4, t1, Option.bind_some]
