/-! ===== CALLS, 15: cast ===== -/
theorem tc_inl {α γ : Type} {z : α} {k : α → Option γ} {h : Nat × Mem → Option γ} : tc (some (Sum.inl z)) k h = k z := rfl
theorem tc_inr {α γ : Type} {z : Nat × Mem} {k : α → Option γ} {h : Nat × Mem → Option γ} : tc (some (Sum.inr z)) k h = h z := rfl
theorem E_see {P Q R : Nat → Nat → Prop} {M N : Mem} (h : ST M) (d : Df P Q R M N) (hN : ST N) (p1 : ¬ P 1000 97) (p2 : ¬ P 1004 193) (r1 : ∀ i, ¬ R 1005 i) (g : Int32) : F_X0_find N 1000 g = F_X0_find M 1000 g ∧ F_X0_gone N 1000 = F_X0_gone M 1000 := by
  have h0 := h.1
  have c1 : cI N 1000 97 = cI M 1000 97 := d.cI (by omega) p1
  have c2 : cI N 1004 193 = cI M 1004 193 := d.cI (by omega) p2
  have c3 : ar N 1005 g = ar M 1005 g := by
    unfold ar m_in
    rw [(d.2.2 1005 (by omega)).1, (d.2.2 1005 (by omega)).2.1]
    split
    · rw [d.cR (by omega) (r1 _)]
    · rfl
  have c4 : F_X2_find N 1004 g = F_X2_find M 1004 g := by
    simp only [F_X2_find, F_X2_find_b22, F_X2_find_b23, g1004_193, g1004_192, hN, h, c2, c3, Option.bind_some]
  refine ⟨?_, ?_⟩
  · simp only [F_X0_find, F_X0_find_b19, g1000_97, g1000_68, v1004, hN, h, c1, c4, Option.bind_some]
  · simp only [F_X0_gone, F_X0_gone_b14, g1000_97, hN, h, c1, Option.bind_some]
theorem c_cast {M : Mem} {g l v : Int32} (h : ST M) (h4 : I4 M) (h5 : I5 M) : CR (pg pFl) (rG M) I4 M (fun M => F_X0_cast M 1000 g l v) (fun M => F_X16_cast M 1068 g l v) := by
  have h0 := h.1
  have h5x := h5
  obtain ⟨m, w, K, n, Z, S, T, X, Y, C, D, L, P, h5⟩ := h5
  have n10 : ¬ (1 : Int32) = 0 := by decide
  obtain ⟨A0, hA0⟩ : ∃ A0, A0 = wI M 1000 91 0 := ⟨_, rfl⟩
  have fi : F_X0_fine M 1000 = some A0 := by rw [hA0]; simp only [F_X0_fine, p1000_91, h, Option.bind_some]
  have dA0 : Df (pp pFl) qsc n2 M A0 := by rw [hA0]; exact Df.wI _ (Or.inr (Or.inl ⟨rfl, rfl⟩))
  have sA0 : ST A0 := h.n dA0
  have nA0 : m_nx A0 = m_nx M := by rw [hA0]; rfl
  have lA0 : m_sl A0 = m_sl M := by rw [hA0]; rfl
  have c91 : cI A0 1000 91 = 0 := by rw [hA0, cI_wI, if_pos ⟨rfl, rfl⟩]
  have fl94 : ∀ a i, ((a = 1000 ∧ (i = 94 ∨ i = 95 ∨ i = 96 ∨ i = 97 ∨ i = 98)) ∨ (a = 1068 ∧ (i = 1102 ∨ i = 1091 ∨ i = 1113 ∨ i = 1095 ∨ i = 1132))) → ¬ pg pFl a i := fun a i q1 q2 => by unfold pg psc pFl pGr at q2; omega
  have fl94' : ∀ a i, ((a = 1000 ∧ (i = 94 ∨ i = 95 ∨ i = 96 ∨ i = 97 ∨ i = 98)) ∨ (a = 1068 ∧ (i = 1102 ∨ i = 1091 ∨ i = 1113 ∨ i = 1095 ∨ i = 1132))) → ¬ pp pFl a i := fun a i q1 q2 => fl94 a i q1 (pp_pg a i q2)
  -- both without failure
  obtain ⟨B0, hB0⟩ : ∃ B0, B0 = wI A0 1068 1117 (-1) := ⟨_, rfl⟩
  have dB0 : Df (pp pFl) qsc n2 A0 B0 := by rw [hB0]; exact Df.wI _ (Or.inr (by unfold pFl; omega))
  have sB0 : ST B0 := sA0.n dB0
  have i4B : I4 B0 := I4.fl h (dA0.trans dB0) h4 fl94' ⟨0, -1, by omega, by omega, Or.inr ⟨rfl, rfl⟩, by rw [hB0, cI_wI, if_neg (by decide)]; exact c91, by rw [hB0, cI_wI, if_pos ⟨rfl, rfl⟩]; rfl, fun i hi => by omega⟩
  have no : ∀ r : Int32, F_X0_cast M 1000 g l v = some (r, A0) → F_X16_cast A0 1068 g l v = some (r, B0) → CR (pg pFl) (rG M) I4 M (fun M => F_X0_cast M 1000 g l v) (fun M => F_X16_cast M 1068 g l v) := fun r e1 e2 =>
    CR.no h h5x r A0 B0 e1 e2 i4B (dA0.trans dB0) pp_pg (qt_pp qt_pFl) (noGr_pp noGr_pFl) (by rw [hB0]; show m_nx A0 ≤ _; omega) (by rw [hB0]; show m_sl A0 ≤ _; omega)
  have np97 : ¬ pp pFl 1000 97 := fun q => by unfold pp psc pFl at q; omega
  have np193 : ¬ pp pFl 1004 193 := fun q => by unfold pp psc pFl at q; omega
  have npm : ∀ i, i ≠ 1115 → i ≠ 1117 → ¬ pp pFl 1068 i := fun i h1 h2 q => q.elim (nsc i) (fun q => by unfold pFl at q; omega)
  obtain ⟨x1, x2⟩ := E_see h dA0 sA0 np97 np193 (fun i q => q) g
  obtain ⟨y1, y2, y3⟩ := M_see h (dA0.trans dB0) sB0 (npm _ (by decide) (by decide)) (npm _ (by decide) (by decide)) (fun _ q => q) g
  have p17 : pi A0 1068 1117 (-1) = some B0 := by rw [hB0]; exact p1068_1117 sA0 _
  have c95 : ∀ N, Df (pp pFl) qsc n2 M N → cI N 1068 1095 = cI M 1068 1095 := fun N d => d.cI (by omega) (npm _ (by decide) (by decide))
  obtain ⟨zl, l1, l2, l3⟩ := lane_eq l
  rcases look h h4 h5 g with ⟨b1, b2, e1, e2, e3⟩ | ⟨b1, b2, e1, e2, e3, e8⟩ | ⟨b1, b2, j, j1, j2, hg, e1, e4, e5, e3, e7, e6, gp⟩
  · have b2' : cI B0 1068 1095 = 1 := by rw [c95 B0 (dA0.trans dB0)]; exact b2
    exact no (-13) (by simp only [F_X0_cast, v1000, h, fi, sA0, x1, x2, e1, e2, Option.bind_some, Nat.reduceEqDiff, if_false, if_true]) (by simp only [F_X16_cast, p17, g1068_1095, sB0, b2', n10, Option.bind_some, if_false])
  · have b2' : cI B0 1068 1095 = 0 := by rw [c95 B0 (dA0.trans dB0)]; exact b2
    exact no (-14) (by simp only [F_X0_cast, v1000, h, fi, sA0, x1, x2, e1, e2, Option.bind_some, Nat.reduceEqDiff, if_false, if_true]) (by simp only [F_X16_cast, F_X16_cast_b39, p17, g1068_1095, v1068, sB0, b2', y2, e8, Option.bind_some, if_true])
  · have b2' : cI B0 1068 1095 = 0 := by rw [c95 B0 (dA0.trans dB0)]; exact b2
    rcases l3 with ⟨rfl, -⟩ | ⟨rfl, hk⟩
    · exact no (-14) (by simp only [F_X0_cast, F_X0_cast_b38, v1000, h, fi, sA0, x1, e1, e4, e5, l1, Option.bind_some, if_false, if_true]) (by simp only [F_X16_cast, F_X16_cast_b39, p17, g1068_1095, v1068, sB0, b2', y2, e7, n10, l2, Option.bind_some, if_false, if_true])
    by_cases c1 : v < 0
    · exact no (-14) (by simp only [F_X0_cast, F_X0_cast_b38, v1000, h, fi, sA0, x1, e1, e4, e5, l1, n10, c1, Option.bind_some, if_false, if_true]) (by simp only [F_X16_cast, F_X16_cast_b39, p17, g1068_1095, v1068, sB0, b2', y2, e7, n10, l2, c1, Option.bind_some, if_false, if_true])
    by_cases c2 : (3 : Int32) < v
    · exact no (-14) (by simp only [F_X0_cast, F_X0_cast_b38, v1000, h, fi, sA0, x1, e1, e4, e5, l1, n10, c1, c2, Option.bind_some, if_false, if_true]) (by simp only [F_X16_cast, F_X16_cast_b39, p17, g1068_1095, v1068, sB0, b2', y2, e7, n10, l2, c1, c2, Option.bind_some, if_false, if_true])
    have hrule : v = 0 ∨ v = 1 ∨ v = 2 ∨ v = 3 := by
      rw [Int32.lt_iff_toInt_lt] at c1 c2
      have z0 : (0 : Int32).toInt = 0 := rfl
      have z3 : (3 : Int32).toInt = 3 := rfl
      have hh := i32_nat (v := v) (by omega)
      have : v.toInt.toNat = 0 ∨ v.toInt.toNat = 1 ∨ v.toInt.toNat = 2 ∨ v.toInt.toNat = 3 := by omega
      rcases this with q | q | q | q
      · left; rw [hh, q]; rfl
      · right; left; rw [hh, q]; rfl
      · right; right; left; rw [hh, q]; rfl
      · right; right; right; rw [hh, q]; rfl
    have gpA := gp.df dA0 (qt_pp qt_pFl) qt_qsc qt_n2
    have gpB := gpA.df dB0 (qt_pp qt_pFl) qt_qsc qt_n2
    have kE : gi A0 (cR M 1005 j) 1408 = some (K j) := by rw [gi_of gpA.1.2.2.1 (by decide), gpA.1.2.2.2.1]
    -- the heads of both
    have headE : F_X0_cast M 1000 g l v = if (K j = 0 ↔ l = 0) then F_X0_cast_b63 A0 1 1 1000 l v (cR M 1005 j) else some (-1, A0) := by
      simp only [F_X0_cast, v1000, h, fi, sA0, x1, e1, e4, e5, l1, n10, c1, c2, kE, Option.bind_some, if_false, F_X0_cast_b54]
      by_cases ca : K j = 0
      · by_cases cb : l = 0
        · simp only [ca, cb, if_true]
        · simp only [ca, cb, if_true, if_false, F_X0_cast_b63, n10, true_iff]
      · by_cases cb : l = 0
        · have : ¬ (0 : Int32) = 1 := by decide
          simp only [ca, cb, if_true, if_false, F_X0_cast_b63, this, false_iff, not_true]
        · simp only [ca, cb, if_false, F_X0_cast_b63, if_true]
    have headM : ∀ N : Mem, Df (fun a i => pp pFl a i ∨ pNE a i) qsc rE M N → F_X16_cast N 1068 g l v = if (K j = 0 ↔ l = 0) then F_X16_cast_b72 (wI N 1068 1117 (-1)) 1 1 1068 l v (cR M 1070 j) else some (-1, wI N 1068 1117 (-1)) := by
      intro N dN
      have sN : ST N := h.df dN (fun p hp hr => (stR_na p hp).1 hr)
      have sN' : ST (wI N 1068 1117 (-1)) := sN
      have dN' : Df (fun a i => pp pFl a i ∨ pNE a i) qsc rE M (wI N 1068 1117 (-1)) := dN.trans (Df.wI _ (Or.inl (Or.inr (by unfold pFl; omega))))
      have npn : ∀ i, i ≠ 1115 → i ≠ 1117 → ¬ (pp pFl 1068 i ∨ pNE 1068 i) := fun i h1 h2 q => q.elim (npm i h1 h2) (fun q => by unfold pNE at q; omega)
      obtain ⟨w1, w2, w3⟩ := M_see h dN' sN' (npn _ (by decide) (by decide)) (npn _ (by decide) (by decide)) (fun i q => by unfold rE at q; omega) g
      have gpN := gp.df dN' (fun a i q1 q2 => q2.elim (qt_pp qt_pFl a i q1) (qt_pNE a i q1)) qt_qsc qt_rE
      have b2n : cI (wI N 1068 1117 (-1)) 1068 1095 = 0 := by rw [dN'.cI (by omega) (npn _ (by decide) (by decide))]; exact b2
      simp only [F_X16_cast, p1068_1117, sN, g1068_1095, g1068_1092, v1068, sN', b2n, w2, e7, n10, l2, c1, c2, w3, e6, gi_of gpN.2.1.2.2.1 (show x_fi 23 1472 = true by decide), gpN.2.1.2.2.2.1, Option.bind_some, if_false, if_true, F_X16_cast_b63]
      by_cases ca : K j = 0
      · by_cases cb : l = 0
        · simp only [ca, cb, if_true]
        · simp only [ca, cb, if_true, if_false, F_X16_cast_b72, n10, true_iff]
      · by_cases cb : l = 0
        · have : ¬ (0 : Int32) = 1 := by decide
          simp only [ca, cb, if_true, if_false, F_X16_cast_b72, this, false_iff, not_true]
        · simp only [ca, cb, if_false, F_X16_cast_b72, if_true]
    by_cases c3 : ¬ (K j = 0 ↔ l = 0)
    · rw [if_neg c3] at headE
      have hm := headM A0 (dA0.mono (fun _ _ q => Or.inl q) (fun _ _ q => q) (fun _ _ q => q.elim))
      rw [if_neg c3, ← hB0] at hm
      exact no (-1) headE hm
    have c3 : K j = 0 ↔ l = 0 := Decidable.of_not_not c3
    rw [if_pos c3] at headE
    have hn := gp.2.2.2.1
    have hprd := gp.2.2.2.2.2.1
    have irS := gpA.1.2.2.2.2.2.1
    have hxN : xN = 1099511627776 := rfl
    obtain ⟨A1, a1, a2, a3, a4, a5, a6⟩ := E_shapeOf (M := A0) (src := cR A0 (cR M 1005 j) 1410) (L := n j) (n := n j) sA0 hn (Nat.le_refl _) (by omega) (by have := irS.1; omega) (by have := irS.1; omega) irS.2.2.1 irS.2.2.2.1
    have dA1 : Df (pp n2) qsc n2 A0 A1 := a4.mono (fun a i q => Or.inl (by unfold pShape at q; unfold psc; omega)) (fun _ _ q => q.elim) (fun _ _ q => q)
    have sA1 : ST A1 := sA0.n dA1
    have gp1 := gpA.df dA1 (qt_pp qt_n2) qt_qsc qt_n2
    have hzA : ∀ i, i < n j → cI A1 1062 i = iw (Z j i) ∧ Z j i ≤ 4096 := fun i hi => ⟨by rw [a6 i hi]; exact irS.2.2.2.2 i hi, gp.2.2.2.2.1 i hi⟩
    -- values
    obtain ⟨val, hval⟩ : ∃ val : Nat → Int64, val = fun i => cJ M (C j) (gpos (n j) (Z j) (S j) (X j) i) := ⟨_, rfl⟩
    have hvv : ∀ i, i < prd (Z j) (n j) → vb (K j) (val i) := fun i hi => by rw [hval]; exact (gp.get hi).1
    have hce : ∀ i, ∃ r : Option Int64, i < prd (Z j) (n j) → (∀ M st, F_X20_cast M (K j) l v (val i) st = eRes r M st) ∧ (∀ M v0, F_X16_casted_2 M v0 (val i) (K j) l v = mRes r M v0) ∧ (∀ w, r = some w → vb l w) := fun i => by
      by_cases hi : i < prd (Z j) (n j)
      · obtain ⟨r, hr⟩ := cast_eq gp.2.2.1 hk c3 hrule (hvv i hi)
        exact ⟨r, fun _ => hr⟩
      · exact ⟨none, fun q => absurd q hi⟩
    obtain ⟨r, hr⟩ := Classical.axiomOfChoice hce
    have cc := gp.2.2.2.2.2.2.2.1
    have gv : ∀ N : Mem, (∀ q, cJ N (C j) q = cJ M (C j) q) → GP N (cR M 1005 j) (cR M 1070 j) (K j) (n j) (Z j) (S j) (T j) (X j) (Y j) (C j) (D j) (L j) (P j) → ∀ i, i < prd (Z j) (n j) → F_X21_get N (cR M 1005 j) (iw (i : Int)) = some (val i) ∧ F_X22_cell N (cR M 1070 j) (iw (i : Int)) = some (val i) := fun N e gpN i hi => by
      obtain ⟨-, t2, t3⟩ := gpN.get hi
      rw [e] at t2 t3
      rw [hval]
      exact ⟨t2, t3⟩
    -- the engine's loop
    obtain ⟨N0, hN0⟩ : ∃ N0, N0 + 1 + prd (Z j) (n j) = xN := ⟨xN - 1 - prd (Z j) (n j), by omega⟩
    have lE := wloop (fun N U i => F_X0_cast_b92 N U 1000 l v (cR M 1005 j) (iw (prd (Z j) (n j) : Nat)) i) (fun U i => F_X0_cast_b130 U 1003 1000 (iw (i : Int))) 1057 (prd (Z j) (n j)) r (fun N => Df (at1 1002) qsc n2 A1 N ∧ m_nx N = m_nx A1 ∧ m_sl N = m_sl A1) (fun N => Df (at1 1002) qsc n2 A1 N ∧ m_nx N = m_nx A1 ∧ m_sl N = m_sl A1 ∧ cI N 1002 129 = 8)
      (fun N N' i w hJ hi hw => by
        obtain ⟨d, e1', e2'⟩ := hJ
        have sN : ST N' := sA1.n d
        have gpN := gp1.df d (qt_at1 (by decide)) qt_qsc qt_n2
        have eC : ∀ q, cJ N' (C j) q = cJ M (C j) q := fun q => by rw [d.cJ (by have := cc.2.1; omega) (qt_qsc _ _ cc.1), dA1.cJ (by have := cc.2.1; omega) (qt_qsc _ _ cc.1), dA0.cJ cc.2.1 (qt_qsc _ _ cc.1)]
        have hg := (gv N' eC gpN i hi).1
        have hcast := (hr i hi).1 N' 1002
        rw [hw] at hcast
        refine ⟨wJ N' 1057 i w, ?_, ⟨d.trans (Df.wJ _ (by unfold qsc; omega)), e1', e2'⟩, by rw [cJ_wJ, if_pos ⟨rfl, rfl⟩], fun x hx => by rw [cJ_wJ, if_neg (fun q => by omega)]⟩
        show F_X0_cast_b92_st (F_X0_cast_b92 N) N' _ _ _ _ _ _ = _
        unfold F_X0_cast_b92_st
        rw [if_pos (by rw [iw_le4 (by omega) (by omega)]; exact hi)]
        simp only [g1000_81, g1000_67, sN, gi_of gpN.1.2.2.1 (show x_fi 22 1408 = true by decide), gpN.1.2.2.2.1, vg_of gpN.1.2.2.1 (show x_isa 22 22 = true by decide), hg, hcast, Option.bind_some]
        show tc (some (Sum.inl (w, N'))) _ _ = _
        rw [tc_inl, sj_of w (t1057 sN) (l1057 sN) (show i < 100000 by omega) (by decide)]
        simp only [Option.bind_some, iw_succ])
      (fun N N' i hJ hi hw => by
        obtain ⟨d, e1', e2'⟩ := hJ
        have sN : ST N' := sA1.n d
        have gpN := gp1.df d (qt_at1 (by decide)) qt_qsc qt_n2
        have eC : ∀ q, cJ N' (C j) q = cJ M (C j) q := fun q => by rw [d.cJ (by have := cc.2.1; omega) (qt_qsc _ _ cc.1), dA1.cJ (by have := cc.2.1; omega) (qt_qsc _ _ cc.1), dA0.cJ cc.2.1 (qt_qsc _ _ cc.1)]
        have hg := (gv N' eC gpN i hi).1
        have hcast := (hr i hi).1 N' 1002
        rw [hw] at hcast
        refine ⟨eT N' 8 (-1), ?_, d.trans ((eT_d2 N' 8 (-1)).mono (fun _ _ q => q) (fun _ _ q => q.elim) (fun _ _ q => q)), e1', e2', (eT_c N' 8 (-1)).1⟩
        show F_X0_cast_b92_st (F_X0_cast_b92 N) N' _ _ _ _ _ _ = _
        unfold F_X0_cast_b92_st
        rw [if_pos (by rw [iw_le4 (by omega) (by omega)]; exact hi)]
        simp only [g1000_81, g1000_67, sN, gi_of gpN.1.2.2.1 (show x_fi 22 1408 = true by decide), gpN.1.2.2.2.1, vg_of gpN.1.2.2.1 (show x_isa 22 22 = true by decide), hg, hcast, Option.bind_some]
        show tc (eTh N' 1002 8) _ _ = _
        rw [eTh_of sN, tc_inr])
      (prd (Z j) (n j)) (N0 + 1) 0 A1 (by omega) ⟨Df.refl _ _ _ _, rfl, rfl⟩ (fun x hx => by omega)
    rw [hN0] at lE
    have runE : F_X0_cast M 1000 g l v = F_X0_cast_b92 xN A1 1000 l v (cR M 1005 j) (iw (prd (Z j) (n j) : Nat)) (iw ((0 : Nat) : Int)) := by
      rw [headE]
      unfold F_X0_cast_b63
      rw [if_pos rfl]
      simp only [gr_of gpA.1.2.2.1 (show x_fr 22 1410 = true by decide), gi_of gpA.1.2.2.1 (show x_fi 22 1409 = true by decide), gpA.1.2.2.2.2.1, v1000, sA0, a1, vg_of gp1.1.2.2.1 (show x_isa 22 22 = true by decide), E_count gp1.1 hn, Option.bind_some]
      rfl
    have dA1' : Df (pp pFl) qsc n2 M A1 := dA0.trans (dA1.mono (fun _ _ q => q.imp id (fun q => q.elim)) (fun _ _ q => q) (fun _ _ q => q))
    -- the model's loop, in any memory that keeps its grids
    have lM : ∀ M1 : Mem, Df (fun a i => pp pFl a i ∨ pNE a i) qsc rE M M1 → (F_X16_cast M1 1068 g l v = F_X16_cast_b87 xN (wI M1 1068 1117 (-1)) 1068 l v (cR M 1070 j) (iw (prd (Z j) (n j) : Nat)) (iw ((0 : Nat) : Int))) ∧
        ((ff r 0 (prd (Z j) (n j)) = none ∧ ∃ B2, (Df (pp n2) qsc n2 (wI M1 1068 1117 (-1)) B2 ∧ m_nx B2 = m_nx M1 ∧ m_sl B2 = m_sl M1) ∧ F_X16_cast_b87 xN (wI M1 1068 1117 (-1)) 1068 l v (cR M 1070 j) (iw (prd (Z j) (n j) : Nat)) (iw ((0 : Nat) : Int)) = F_X16_cast_b87 (N0 + 1) B2 1068 l v (cR M 1070 j) (iw (prd (Z j) (n j) : Nat)) (iw (prd (Z j) (n j) : Nat)) ∧ ∀ x, x < prd (Z j) (n j) → cJ B2 1073 x = (r x).getD 0) ∨
         (∃ q B2, ff r 0 (prd (Z j) (n j)) = some q ∧ q < prd (Z j) (n j) ∧ r q = none ∧ (Df (pp n2) qsc n2 (wI M1 1068 1117 (-1)) B2 ∧ m_nx B2 = m_nx M1 + 1 ∧ m_sl B2 = m_sl M1 + x_cn 64 ∧ cI B2 1075 1152 = 8) ∧ F_X16_cast_b87 xN (wI M1 1068 1117 (-1)) 1068 l v (cR M 1070 j) (iw (prd (Z j) (n j) : Nat)) (iw ((0 : Nat) : Int)) = F_X16_cast_b122 B2 0 1068 (cR M 1070 j) (iw (q : Int)))) := by
      intro M1 dM1
      have hm := headM M1 dM1
      rw [if_pos c3] at hm
      obtain ⟨B1, hB1⟩ : ∃ B1, B1 = wI M1 1068 1117 (-1) := ⟨_, rfl⟩
      rw [← hB1] at hm ⊢
      have dB1 : Df (fun a i => pp pFl a i ∨ pNE a i) qsc rE M B1 := by rw [hB1]; exact dM1.trans (Df.wI _ (Or.inl (Or.inr (by unfold pFl; omega))))
      have sB1 : ST B1 := h.df dB1 (fun p hp hr => (stR_na p hp).1 hr)
      have gpB1 := gp.df dB1 (fun a i q1 q2 => q2.elim (qt_pp qt_pFl a i q1) (qt_pNE a i q1)) qt_qsc qt_rE
      have nB1 : m_nx B1 = m_nx M1 := by rw [hB1]; rfl
      have lB1 : m_sl B1 = m_sl M1 := by rw [hB1]; rfl
      refine ⟨?_, ?_⟩
      · rw [hm]
        unfold F_X16_cast_b72
        rw [if_pos rfl]
        simp only [vg_of gpB1.2.1.2.2.1 (show x_isa 23 23 = true by decide), M_count gpB1.2.1 hn gp.2.2.2.2.1, Option.bind_some]
        rfl
      · have nB := dB1.1
        have lw := wloop (fun N U i => F_X16_cast_b87 N U 1068 l v (cR M 1070 j) (iw (prd (Z j) (n j) : Nat)) i) (fun U i => F_X16_cast_b122 U 0 1068 (cR M 1070 j) (iw (i : Int))) 1073 (prd (Z j) (n j)) r (fun N => Df (pp n2) qsc n2 B1 N ∧ m_nx N = m_nx M1 ∧ m_sl N = m_sl M1) (fun N => Df (pp n2) qsc n2 B1 N ∧ m_nx N = m_nx M1 + 1 ∧ m_sl N = m_sl M1 + x_cn 64 ∧ cI N 1075 1152 = 8)
          (fun N N' i w hJ hi hw => by
            obtain ⟨d, e1', e2'⟩ := hJ
            have sN : ST N' := sB1.n d
            have gpN := gpB1.df d (qt_pp qt_n2) qt_qsc qt_n2
            have eC : ∀ q, cJ N' (C j) q = cJ M (C j) q := fun q => by rw [d.cJ (by have := cc.2.1; omega) (qt_qsc _ _ cc.1), dB1.cJ cc.2.1 (qt_qsc _ _ cc.1)]
            have hg := (gv N' eC gpN i hi).2
            have hcast := (hr i hi).2.1 N' 1068
            rw [hw] at hcast
            refine ⟨wJ N' 1073 i w, ?_, ⟨d.trans (Df.wJ _ (by unfold qsc; omega)), e1', e2'⟩, by rw [cJ_wJ, if_pos ⟨rfl, rfl⟩], fun x hx => by rw [cJ_wJ, if_neg (fun q => by omega)]⟩
            show F_X16_cast_b87_st (F_X16_cast_b87 N) N' _ _ _ _ _ _ = _
            unfold F_X16_cast_b87_st
            rw [if_pos (by rw [iw_le4 (by omega) (by omega)]; exact hi)]
            simp only [g1068_1100, v1068, sN, gi_of gpN.2.1.2.2.1 (show x_fi 23 1472 = true by decide), gpN.2.1.2.2.2.1, vg_of gpN.2.1.2.2.1 (show x_isa 23 23 = true by decide), hg, hcast, Option.bind_some]
            show tc (some (Sum.inl (w, N'))) _ _ = _
            rw [tc_inl, sj_of w (t1073 sN) (l1073 sN) (show i < 100000 by omega) (by decide)]
            simp only [Option.bind_some, iw_succ])
          (fun N N' i hJ hi hw => by
            obtain ⟨d, e1', e2'⟩ := hJ
            have sN : ST N' := sB1.n d
            have gpN := gpB1.df d (qt_pp qt_n2) qt_qsc qt_n2
            have eC : ∀ q, cJ N' (C j) q = cJ M (C j) q := fun q => by rw [d.cJ (by have := cc.2.1; omega) (qt_qsc _ _ cc.1), dB1.cJ cc.2.1 (qt_qsc _ _ cc.1)]
            have hg := (gv N' eC gpN i hi).2
            have hcast := (hr i hi).2.1 N' 1068
            rw [hw] at hcast
            refine ⟨mT N' 8 (-1), ?_, d.trans ((mT_df N' 8 (-1)).mono (fun _ _ q => Or.inl q) (fun _ _ q => q.elim) (fun _ _ q => q)), by show m_nx N' + 1 = _; omega, by show m_sl N' + x_cn 64 = _; omega, (mT_c 8 (-1) (by omega)).1⟩
            show F_X16_cast_b87_st (F_X16_cast_b87 N) N' _ _ _ _ _ _ = _
            unfold F_X16_cast_b87_st
            rw [if_pos (by rw [iw_le4 (by omega) (by omega)]; exact hi)]
            simp only [g1068_1100, v1068, sN, gi_of gpN.2.1.2.2.1 (show x_fi 23 1472 = true by decide), gpN.2.1.2.2.2.1, vg_of gpN.2.1.2.2.1 (show x_isa 23 23 = true by decide), hg, hcast, Option.bind_some]
            show tc (mTh N' 1068 8) _ _ = _
            rw [mTh_of sN, tc_inr]
            rfl)
          (prd (Z j) (n j)) (N0 + 1) 0 B1 (by omega) ⟨Df.refl _ _ _ _, nB1, lB1⟩ (fun x hx => by omega)
        rw [hN0] at lw
        exact lw
    have x64 : x_cn 64 ≤ 20 := by decide
    have m2 : ∀ a i, at1 1002 a i → pp pFl a i := fun a i q => Or.inl (by unfold at1 at q; unfold psc; omega)
    rcases lE with ⟨fn, A2, ⟨d2, n2', s2'⟩, runA, rowA⟩ | ⟨q, A2, fq, hq, rq, ⟨d2, n2', s2', c8⟩, runA⟩
    · -- all went well
      have dA2 : Df (pp pFl) qsc n2 M A2 := dA1'.trans (d2.mono m2 (fun _ _ q => q) (fun _ _ q => q))
      have sA2 : ST A2 := h.n dA2
      have hall := ff_all _ _ fn
      have hv2 : ∀ i, i < prd (Z j) (n j) → vb l ((r i).getD 0) := fun i hi => by
        obtain ⟨w, hw⟩ := hall i (Nat.zero_le _) (by omega)
        rw [hw]
        exact (hr i hi).2.2 w hw
      obtain ⟨ρ, M1, g1, g2, g3, g4, g5⟩ := mkC' (k := l) (n' := n j) (z := Z j) (r := 1057) h h5 dA2 qt_pFl noGr_pFl (fun i => (r i).getD 0) hk hn (fun i hi => ⟨by rw [d2.cI (by omega) (fun q => absurd q (by unfold at1; decide))]; exact (hzA i hi).1, (hzA i hi).2⟩) (by rw [d2.cI (by omega) (fun q => absurd q (by unfold at1; decide))]; exact a5) (fun hp => ⟨by decide, by decide, by omega, t1057 sA2, by rw [l1057 sA2]; exact hp, by rw [l1057 sA2]; decide⟩) (fun _ i hi => ⟨rowA i hi, hv2 i hi⟩)
      have dM1 : Df (fun a i => pp pFl a i ∨ pNE a i) qsc rE M M1 := (dA2.mono (fun _ _ q => Or.inl q) (fun _ _ q => q) (fun _ _ q => q.elim)).trans (g3.mono (fun _ _ q => Or.inr q) (fun _ _ q => q.elim) (fun _ _ q => q))
      have nM1 := g3.1
      obtain ⟨run1, lm⟩ := lM M1 dM1
      rcases lm with ⟨-, B2, ⟨e2, n3', s3'⟩, runB, rowB⟩ | ⟨q, B2, fq, -⟩
      · obtain ⟨B1, hB1⟩ : ∃ B1, B1 = wI M1 1068 1117 (-1) := ⟨_, rfl⟩
        rw [← hB1] at e2 run1 runB
        have dB1 : Df (pp pFl) qsc n2 M1 B1 := by rw [hB1]; exact Df.wI _ (Or.inr (by unfold pFl; omega))
        have sB1 : ST B1 := g2.n dB1
        have sB2 : ST B2 := sB1.n e2
        have gpB2 := ((gp.df dM1 (fun a i q1 q2 => q2.elim (qt_pp qt_pFl a i q1) (qt_pNE a i q1)) qt_qsc qt_rE).df dB1 (qt_pp qt_pFl) qt_qsc qt_n2).df e2 (qt_pp qt_n2) qt_qsc qt_n2
        have irB := gpB2.2.1.2.2.2.2.1
        obtain ⟨B3, w1, w2, w3, w4, w5⟩ := M_first (M := B2) (src := cR B2 (cR M 1070 j) 1473) (L := n j) (n := n j) (by omega) hn (Nat.le_refl _) (by omega) irB.2.1 irB.2.2.1 irB.2.2.2.1
        have w5' : IRw B3 (m_nx B2) (n j) (fun i => iw (Z j i)) := ⟨w5.1, w5.2.1, w5.2.2.1, w5.2.2.2.1, fun i hi => (w5.2.2.2.2 i hi).trans (irB.2.2.2.2 i hi)⟩
        have dB13 : Df (pp n2) qsc n2 B1 B3 := e2.trans (w4.mono (fun _ _ q => q.elim) (fun _ _ q => q.elim) (fun _ _ q => q))
        have dB3 : Df (pp pFl) qsc n2 M1 B3 := dB1.trans (dB13.mono (fun _ _ q => q.imp id (fun q => q.elim)) (fun _ _ q => q) (fun _ _ q => q))
        have sB3 : ST B3 := g2.n dB3
        obtain ⟨M2, y1', y2', y3', y4', y6', y5'⟩ := g5 B3 dB3 (m_nx B2) 1073 w5' (fun hp => ⟨⟨by decide, by decide, by omega, t1073 sB3, by rw [l1073 sB3]; exact hp, by rw [l1073 sB3]; decide⟩, fun i hi => by rw [w4.cJ (by omega) (fun q => q)]; exact rowB i hi⟩)
        have nB1 : m_nx B1 = m_nx M1 := by rw [hB1]; rfl
        refine ⟨ρ, M1, M2, ?_, ?_, ?_, y2', y3', by omega, by omega⟩
        · show F_X0_cast M 1000 g l v = _
          rw [runE, runA]
          show F_X0_cast_b92_st (F_X0_cast_b92 N0) A2 _ _ _ _ _ _ = _
          unfold F_X0_cast_b92_st
          rw [if_neg (by rw [iw_le4 (by omega) (by omega)]; omega)]
          simp only [g1000_81, v1000, sA2, g1, Option.bind_some]
        · show F_X16_cast M1 1068 g l v = _
          rw [run1, runB]
          show F_X16_cast_b87_st (F_X16_cast_b87 N0) B2 _ _ _ _ _ _ = _
          unfold F_X16_cast_b87_st
          rw [if_neg (by rw [iw_le4 (by omega) (by omega)]; omega)]
          simp only [gr_of gpB2.2.1.2.2.1 (show x_fr 23 1473 = true by decide), vg_of gpB2.2.1.2.2.1 (show x_isa 23 23 = true by decide), M_axes gpB2.2.1, w1, g1068_1100, v1068, sB3, y1', Option.bind_some]
        · refine I4.fl h y3' h4 fl94 ⟨0, -1, by omega, by omega, Or.inr ⟨rfl, rfl⟩, ?_, ?_, fun i hi => by omega⟩
          · rw [y6'.cI (by omega) (by unfold pNM; omega), dB13.cI (by omega) (fun q => q.elim (fun q => by unfold psc at q; omega) (fun q => q)), hB1, cI_wI, if_neg (by decide), g3.cI (by omega) (by unfold pNE; omega), d2.cI (by omega) (fun q => absurd q (by unfold at1; decide)), a4.cI (by omega) (by unfold pShape; omega)]
            exact c91
          · rw [y6'.cI (by omega) (by unfold pNM; omega), dB13.cI (by omega) (fun q => q.elim (fun q => by unfold psc at q; omega) (fun q => q)), hB1, cI_wI, if_pos ⟨rfl, rfl⟩]
            rfl
      · rw [fn] at fq
        exact absurd fq (by simp)
    · -- one failed
      have dA2 : Df (pp pFl) qsc n2 M A2 := dA1'.trans (d2.mono m2 (fun _ _ q => q) (fun _ _ q => q))
      have sA2 : ST A2 := h.n dA2
      obtain ⟨M1, g1, g2, g3, g4, g5, g6⟩ := flB (n := n j) (q := q) (z := Z j) sA2 hn (fun i hi => ⟨by rw [d2.cI (by omega) (fun q => absurd q (by unfold at1; decide))]; exact (hzA i hi).1, (hzA i hi).2⟩) (by rw [d2.cI (by omega) (fun q => absurd q (by unfold at1; decide))]; exact a5) hq (by omega)
      rw [c8] at g1
      have dM1 : Df (pp pFl) qsc n2 M M1 := dA2.trans (g3.mono (fun _ _ q => Or.inr q) (fun _ _ q => q.elim) (fun _ _ q => q))
      obtain ⟨run1, lm⟩ := lM M1 (dM1.mono (fun _ _ q => Or.inl q) (fun _ _ q => q) (fun _ _ q => q.elim))
      rcases lm with ⟨fn, -⟩ | ⟨q', B2, fq', hq', rq', ⟨e2, n3', s3', k8⟩, runB⟩
      · rw [fq] at fn
        exact absurd fn (by simp)
      · have hqq : q' = q := by rw [fq] at fq'; injection fq' with fq'; exact fq'.symm
        subst hqq
        have dB1 : Df (pp pFm) qsc n2 M1 (wI M1 1068 1117 (-1)) := Df.wI _ (Or.inr (by unfold pFm; omega))
        have dB2 : Df (pp pFm) qsc n2 M1 B2 := dB1.trans (e2.mono (fun _ _ q => q.imp id (fun q => q.elim)) (fun _ _ q => q) (fun _ _ q => q))
        have sB2 : ST B2 := g2.n dB2
        have gpB2 := (gp.df dM1 (qt_pp qt_pFl) qt_qsc qt_n2).df dB2 (qt_pp (fun a i q1 q2 => by unfold pFm at q2; omega)) qt_qsc qt_n2
        have irB := gpB2.2.1.2.2.2.2.1
        obtain ⟨B3, k1, k2, k3, k4⟩ := g6 B2 _ dB2 irB
        obtain ⟨M2, u1, u2, u3, u4, u5, u6, u7⟩ := k4 8
        have dM2 : Df (pp pFl) qsc n2 M M2 := dM1.trans u2
        refine CR.no h h5x (-8) M1 M2 ?_ ?_ (I4.fl h dM2 h4 fl94' ⟨n j, n j, hn, by omega, Or.inl rfl, u5, u6, u7⟩) dM2 pp_pg (qt_pp qt_pFl) (noGr_pp noGr_pFl) (by omega) (by omega)
        · show F_X0_cast M 1000 g l v = _
          rw [runE, runA]
          simp only [F_X0_cast_b130, v1000, sA2, g1, Option.bind_some]
        · show F_X16_cast M1 1068 g l v = _
          rw [run1, runB]
          simp only [F_X16_cast_b122, gr_of gpB2.2.1.2.2.1 (show x_fr 23 1473 = true by decide), v1068, sB2, k1, g1068_1103, g1075_1152, k2, k3, k8, u1, Option.bind_some]
