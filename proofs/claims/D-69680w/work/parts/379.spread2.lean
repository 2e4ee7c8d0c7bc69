/-! ===== CALLS, 14: spread, whole ===== -/
theorem c_spread {M : Mem} {g : Int32} (h : ST M) (h2 : I2 M) (h4 : I4 M) (h5 : I5 M) : CR (pg pSz) (rG M) I2 M (fun M => F_X0_spread M 1000 g) (fun M => F_X16_spread M 1068 g) := by
  have h0 := h.1
  have h5x := h5
  obtain ⟨u, hu, k1, k2, k3⟩ := h2
  obtain ⟨m, w, K, n, Z, S, T, X, Y, C, D, L, P, h5⟩ := h5
  have q1 := h5.1
  have q2 := h5.2.1
  have z00 : ¬ (0 : Int32) < 0 := by decide
  have l13 : (0 : Int32) < 13 := by decide
  have l14 : (0 : Int32) < 14 := by decide
  have us : F_X0_usedSizes M 1000 = some (iw (u : Int), wI M 1000 85 0) := by simp only [F_X0_usedSizes, g1000_85, p1000_85, h, k1, Option.bind_some]
  have um : ∀ N : Mem, ST N → cI N 1068 1098 = iw (u : Int) → F_X16_usedSizes N 1068 = some (iw (u : Int), wI N 1068 1098 0) := fun N hN hc => by simp only [F_X16_usedSizes, g1068_1098, p1068_1098, hN, hc, Option.bind_some]
  obtain ⟨A0, hA0⟩ : ∃ A0, A0 = wI M 1000 85 0 := ⟨_, rfl⟩
  rw [← hA0] at us
  have dA0 : Df (pp pSz) qsc n2 M A0 := by rw [hA0]; exact Df.wI _ (Or.inr (Or.inl ⟨rfl, rfl⟩))
  have sA0 : ST A0 := h.n dA0
  have nA0 : m_nx A0 = m_nx M := by rw [hA0]; rfl
  have lA0 : m_sl A0 = m_sl M := by rw [hA0]; rfl
  have h4A := I4.pp h dA0 h4 (fun a i q1 q2 => by unfold pSz at q2; omega)
  have h5A := h5.pp h dA0 qt_pSz noGr_pSz
  have kA : cI A0 1068 1098 = iw (u : Int) := by rw [hA0, cI_wI, if_neg (by decide)]; exact k2
  have k85 : cI A0 1000 85 = 0 := by rw [hA0, cI_wI, if_pos ⟨rfl, rfl⟩]
  have dB0 : ∀ N : Mem, Df (pp pSz) qsc n2 N (wI N 1068 1098 0) := fun N => Df.wI _ (Or.inr (Or.inr ⟨rfl, rfl⟩))
  -- the model's first step
  obtain ⟨B0, hB0⟩ : ∃ B0, B0 = wI A0 1068 1098 0 := ⟨_, rfl⟩
  have dB : Df (pp pSz) qsc n2 A0 B0 := by rw [hB0]; exact dB0 A0
  have sB0 : ST B0 := sA0.n dB
  have nB0 : m_nx B0 = m_nx A0 := by rw [hB0]; rfl
  have lB0 : m_sl B0 = m_sl A0 := by rw [hB0]; rfl
  have umA : F_X16_usedSizes A0 1068 = some (iw (u : Int), B0) := by rw [hB0]; exact um A0 sA0 kA
  have i2 : I2 B0 := I2.zero (by rw [hB0, cI_wI, if_neg (by decide)]; exact k85) (by rw [hB0, cI_wI, if_pos ⟨rfl, rfl⟩])
  have no : ∀ r : Int32, F_X0_spread M 1000 g = some (r, A0) → F_X16_spread A0 1068 g = some (r, B0) → CR (pg pSz) (rG M) I2 M (fun M => F_X0_spread M 1000 g) (fun M => F_X16_spread M 1068 g) := fun r e1 e2 =>
    CR.no h h5x r A0 B0 e1 e2 i2 (dA0.trans dB) pp_pg (qt_pp qt_pSz) (noGr_pp noGr_pSz) (by omega) (by omega)
  have npz : ∀ i, i ≠ 1098 → ¬ pp pSz 1068 i := fun i hi q => q.elim (nsc i) (fun q => by unfold pSz at q; omega)
  obtain ⟨y1, y2, y3⟩ := M_see sA0 dB sB0 (npz _ (by decide)) (npz _ (by decide)) (fun _ q => q) g
  rcases look sA0 h4A h5A g with ⟨b1, b2, e1, e2, e3⟩ | ⟨b1, b2, e1, e2, e3, -⟩ | ⟨b1, b2, j, j1, j2, hg, e1, e4, e5, e3, e7, e6, gp⟩
  · exact no (-13) (by simp only [F_X0_spread, v1000, h, us, sA0, e1, e2, Option.bind_some, Nat.reduceEqDiff, if_false, if_true]) (by simp only [F_X16_spread, v1068, sA0, umA, sB0, y1, e3, l13, Option.bind_some, if_true])
  · exact no (-14) (by simp only [F_X0_spread, v1000, h, us, sA0, e1, e2, Option.bind_some, Nat.reduceEqDiff, if_false, if_true]) (by simp only [F_X16_spread, v1068, sA0, umA, sB0, y1, e3, l14, Option.bind_some, if_true])
  · have hn := gp.2.2.2.1
    have hprd := gp.2.2.2.2.2.1
    have ax : gi A0 (cR A0 1005 j) 1409 = some (iw (n j : Int)) := by rw [gi_of gp.1.2.2.1 (by decide), gp.1.2.2.2.2.1]
    have gpB := gp.df dB (qt_pp qt_pSz) qt_qsc qt_n2
    have vMB := vg_of gpB.2.1.2.2.1 (show x_isa 23 23 = true by decide)
    have aMB := M_axes gpB.2.1
    by_cases c1 : u < n j
    · have e0 : iw (u : Int) - iw (n j : Int) < 0 := by rw [iw_sub, iw_lt0 (by omega) (by omega)]; omega
      have e0' : iw (u : Int) < iw (n j : Int) := by rw [iw_le4 (by omega) (by omega)]; exact c1
      exact no (-3) (by simp only [F_X0_spread, v1000, h, us, sA0, e1, e4, e5, ax, e0, Option.bind_some, if_false, if_true]) (by simp only [F_X16_spread, v1068, sA0, umA, sB0, y1, e3, z00, g1068_1092, y3, e6, vMB, aMB, e0', Option.bind_some, if_false, if_true])
    obtain ⟨hh, hhe⟩ : ∃ hh, hh = u - n j := ⟨_, rfl⟩
    have hu' : u = hh + n j := by omega
    have e0 : iw (u : Int) - iw (n j : Int) = iw (hh : Int) := by rw [iw_sub]; congr 1; omega
    have e00 : ¬ iw (hh : Int) < 0 := by rw [iw_lt0 (by omega) (by omega)]; omega
    have e0' : ¬ iw (u : Int) < iw (n j : Int) := by rw [iw_le4 (by omega) (by omega)]; exact c1
    obtain ⟨z, hz⟩ : ∃ z : Nat → Nat, ∀ i, i < u → cI M 1060 i = iw (z i : Nat) ∧ z i ≤ 4096 := ⟨fun i => (cI M 1060 i).toInt.toNat, fun i hi => ⟨i32_nat (k3 i hi).2.1, by have := (k3 i hi).2.2; show (cI M 1060 i).toInt.toNat ≤ 4096; omega⟩⟩
    have hzA : ∀ i, i < u → cI A0 1060 i = iw (z i) ∧ z i ≤ 4096 := fun i hi => ⟨by rw [hA0]; simp only [cI_wI, Nat.reduceEqDiff, false_and, if_false]; exact (hz i hi).1, (hz i hi).2⟩
    have hzB : ∀ i, i < u → cI B0 1071 i = iw (z i) ∧ z i ≤ 4096 := fun i hi => ⟨by rw [hB0, hA0]; simp only [cI_wI, Nat.reduceEqDiff, false_and, if_false]; rw [← (k3 i hi).1]; exact (hz i hi).1, (hz i hi).2⟩
    have hx : xN = 1099511627776 := rfl
    have chkE := E_sp_chk sA0 gp hu' hu hzA (n j) xN 0 (by omega) (by omega)
    have chkM := M_sp_chk sB0 gpB hu' hu hzB (n j) xN 0 (by omega) (by omega)
    have headE : F_X0_spread M 1000 g = F_X0_spread_b40 xN A0 1000 (iw (u : Int)) (cR A0 1005 j) (iw (hh : Int)) (iw ((0 : Nat) : Int)) := by
      simp only [F_X0_spread, v1000, h, us, sA0, e1, e4, e5, ax, e0, e00, Option.bind_some, if_false]
      rfl
    have headM : ∀ N : Mem, Df (fun a i => pp pSz a i ∨ pNE a i) qsc rE A0 N → cI N 1068 1098 = iw (u : Int) → F_X16_spread N 1068 g = F_X16_spread_b41 xN (wI N 1068 1098 0) 1068 (iw (u : Int)) (cR A0 1070 j) (iw ((0 + 1 : Nat) : Int)) := by
      intro N dN hc
      have sN : ST N := sA0.df dN (fun p hp hr => (stR_na p hp).1 hr)
      have sN' : ST (wI N 1068 1098 0) := sN
      have dN' : Df (fun a i => pp pSz a i ∨ pNE a i) qsc rE A0 (wI N 1068 1098 0) := dN.trans (Df.wI _ (Or.inl (Or.inr (Or.inr ⟨rfl, rfl⟩))))
      obtain ⟨x1, x2, x3⟩ := M_see sA0 dN' sN' (fun q => q.elim (npz _ (by decide)) (fun q => by unfold pNE at q; omega)) (fun q => q.elim (npz _ (by decide)) (fun q => by unfold pNE at q; omega)) (fun i q => by unfold rE at q; omega) g
      have gpN := gp.df dN' (fun a i q1 q2 => q2.elim (qt_pp qt_pSz a i q1) (qt_pNE a i q1)) qt_qsc qt_rE
      simp only [F_X16_spread, v1068, sN, um N sN hc, sN', x1, e3, z00, g1068_1092, x3, e6, vg_of gpN.2.1.2.2.1 (show x_isa 23 23 = true by decide), M_axes gpN.2.1, e0', Option.bind_some, if_false]
      rfl
    have rA0 : Df (fun a i => pp pSz a i ∨ pNE a i) qsc rE A0 A0 := Df.refl _ _ _ _
    by_cases cc : ¬ ∀ k, k < n j → Z j k = 1 ∨ Z j k = z (hh + k)
    · rw [pif_neg (fun q => cc (fun k hk => q k (Nat.zero_le _) hk))] at chkE
      rw [pif_neg (fun q => cc (fun k hk => q k (by omega)))] at chkM
      refine no (-3) (by rw [headE, chkE]) ?_
      rw [headM A0 rA0 kA, ← hB0, chkM]
    have cc : ∀ k, k < n j → Z j k = 1 ∨ Z j k = z (hh + k) := Classical.not_not.mp cc
    rw [pif_pos (fun k _ hk => cc k hk)] at chkE
    rw [pif_pos (fun k hk => cc k (by omega))] at chkM
    -- room
    have cntE := E_cnt (t1060 sA0) (l1060 sA0) (by decide) hu hzA
    have hroom := E_room0 sA0 q1 q2 h5A.2.2.1 h5A.2.2.2.2.1
    have pl := prd_le (z := z) u (fun i hi => (hz i hi).2)
    have hp62 : prd z u < 2 ^ 62 := by
      have : 4096 ^ u ≤ 4096 ^ 4 := Nat.pow_le_pow_right (by decide) hu
      omega
    have endE : F_X0_spread_b40 1 A0 1000 (iw (u : Int)) (cR A0 1005 j) (iw (hh : Int)) (iw (n j : Int)) = if prd z u ≤ 100000 ∧ m < 400 then F_X0_spread_b128 xN (m_new (m_new A0 1005 u) 1005 u) 1000 (iw (u : Int)) (cR A0 1005 j) (iw (hh : Int)) (m_nx A0) (m_nx A0 + 1) (iw ((0 : Nat) : Int)) else some (-12, A0) := by
      show F_X0_spread_b40_st (F_X0_spread_b40 0) A0 _ _ _ _ _ = _
      unfold F_X0_spread_b40_st F_X0_spread_b112
      rw [ax]
      simp only [Option.bind_some]
      rw [if_neg (by rw [iw_le4 (by omega) (by omega)]; omega)]
      simp only [g1000_84, g1000_68, v1004, sA0, cntE, hroom, mk_of (show u ≤ 67108864 by omega), Option.bind_some]
      unfold cnt
      by_cases c : 100000 < prd z u
      · rw [if_pos c, if_pos (by decide), if_neg (by omega)]
      · rw [if_neg c, if_neg (by rw [iw_lt0 (by omega) (by omega)]; omega)]
        by_cases c' : m < 400
        · rw [decide_eq_true c', if_neg (by decide), if_pos ⟨by omega, c'⟩]
          rfl
        · rw [decide_eq_false c', if_pos (show mr false = 0 by decide), if_neg (fun q => c' q.2)]
    have endM : ∀ N : Mem, ST N → GM N (cR A0 1070 j) (K j) (n j) (Z j) (T j) (Y j) (D j) (P j) → cI N 1068 1093 = iw m → (∀ i, i < u → cI N 1071 i = iw (z i)) → F_X16_spread_b41 1 N 1068 (iw (u : Int)) (cR A0 1070 j) (iw ((n j + 1 : Nat) : Int)) = if prd z u ≤ 100000 ∧ m < 400 then F_X16_spread_b135 xN (m_new N 1005 u) 1068 (iw (u : Int)) (cR A0 1070 j) (m_nx N) (iw ((0 + 1 : Nat) : Int)) else some (-12, N) := by
      intro N sN gN hc hzN
      show F_X16_spread_b41_st (F_X16_spread_b41 0) N _ _ _ _ = _
      unfold F_X16_spread_b41_st F_X16_spread_b124
      rw [vg_of gN.2.2.1 (show x_isa 23 23 = true by decide), M_axes gN]
      simp only [Option.bind_some]
      rw [if_pos (by rw [iw_le4 (by omega) (by omega)]; omega)]
      have ct := M_count16 (t1071 sN) (l1071 sN) hu (by decide) (fun i hi => ⟨hzN i hi, (hz i hi).2⟩)
      have m400 : iw (m : Int) = 400 ↔ m = 400 := by rw [show (400 : Int32) = iw ((400 : Nat) : Int) from rfl, iw_eq (by omega) (by omega) (by omega) (by omega)]; omega
      have q100 : (100000 : Int64) < nl (prd z u) ↔ 100000 < prd z u := by rw [show (100000 : Int64) = nl 100000 from rfl, nl_lt (by decide) (by omega)]
      simp only [g1068_1093, g1068_1096, sN, hc, ct, m400, q100, mk_of (show u ≤ 67108864 by omega), Option.bind_some]
      by_cases c : m = 400
      · rw [if_pos c, if_neg (by omega)]
      · rw [if_neg c]
        by_cases c' : 100000 < prd z u
        · rw [if_pos c', if_neg (by omega)]
        · rw [if_neg c', if_pos ⟨by omega, by omega⟩]
          rfl
    by_cases cr : ¬ (prd z u ≤ 100000 ∧ m < 400)
    · rw [if_neg cr] at endE
      have eM := endM B0 sB0 gpB.2.1 (by rw [dB.cI (by omega) (npz _ (by decide))]; exact h5A.2.2.2.1) (fun i hi => (hzB i hi).1)
      rw [if_neg cr] at eM
      refine no (-12) (by rw [headE, chkE, endE]) ?_
      rw [headM A0 rA0 kA, ← hB0, chkM, eM]
    have cr := Decidable.of_not_not cr
    rw [if_pos cr] at endE
    obtain ⟨hp, c5⟩ := cr
    -- the engine's view
    obtain ⟨A1, hA1⟩ : ∃ A1, A1 = m_new (m_new A0 1005 u) 1005 u := ⟨_, rfl⟩
    rw [← hA1] at endE
    have d1 : Df n2 n2 n2 A0 A1 := by rw [hA1]; exact (Df.new _ _).trans (Df.new _ _)
    have n1 : m_nx A1 = m_nx A0 + 2 := by rw [hA1]; rfl
    have s1 : m_sl A1 = m_sl A0 + u + u := by rw [hA1]; rfl
    have tS : m_tg A1 (m_nx A0) = 1005 := by rw [hA1, tg_new, if_neg (by show ¬ m_nx A0 = m_nx A0 + 1; omega), tg_new, if_pos rfl]
    have lS : m_ln A1 (m_nx A0) = u := by rw [hA1, ln_new, if_neg (by show ¬ m_nx A0 = m_nx A0 + 1; omega), ln_new, if_pos rfl]
    have tT : m_tg A1 (m_nx A0 + 1) = 1005 := by rw [hA1, tg_new, if_pos (show m_nx A0 + 1 = m_nx (m_new A0 1005 u) from rfl)]
    have lT : m_ln A1 (m_nx A0 + 1) = u := by rw [hA1, ln_new, if_pos (show m_nx A0 + 1 = m_nx (m_new A0 1005 u) from rfl)]
    obtain ⟨A2, f1, f2, f3, f4, f5⟩ := E_sp_fill (sa := m_nx A0) (ta := m_nx A0 + 1) sA0 gp.1 hn gp.2.2.2.2.1 hu' hu hzA (by omega) (by omega) (by omega) u xN 0 A1 (by omega) (by omega) d1 tS lS tT lT (fun y hy => by omega)
    have d2 : Df n2 n2 n2 A0 A2 := d1.then f4 (fun x _ hx q => by rcases q with q | q <;> omega) (fun _ _ _ q => q) (fun _ _ _ q => q)
    have iS : IRw A2 (m_nx A0) u (fun i => iw (z i : Nat)) := ⟨by omega, by omega, (f4.2.2 _ (by omega)).1.trans tS, (f4.2.2 _ (by omega)).2.1.trans lS, fun i hi => (f5 i hi).1⟩
    have iT : IRw A2 (m_nx A0 + 1) u (spE (Z j) z (S j) hh) := ⟨by omega, by omega, (f4.2.2 _ (by omega)).1.trans tT, (f4.2.2 _ (by omega)).2.1.trans lT, fun i hi => (f5 i hi).2⟩
    obtain ⟨A3, hA3⟩ : ∃ A3, A3 = mo A2 22 := ⟨_, rfl⟩
    have d3 : Df n2 n2 n2 A2 A3 := by rw [hA3]; exact Df.new _ _
    have n3 : m_nx A3 = m_nx A2 + 1 := by rw [hA3]; rfl
    have s3 : m_sl A3 = m_sl A2 + x_cn 22 := by rw [hA3]; rfl
    have t3 : m_tg A3 (m_nx A2) = 22 := by rw [hA3]; show m_tg (m_new A2 22 (x_cn 22)) (m_nx A2) = 22; rw [tg_new, if_pos rfl]
    obtain ⟨O, o1, o2, o3, o4, o5⟩ := E_obj (a := m_nx A2) (k := K j) (b := X j) (c := C j) (p := 1) (z := z) (by omega) (by omega) t3 (Or.inr rfl) (iS.df d3 qt_n2) (iT.df d3 qt_n2)
    have gE3 := (gp.1.df d2 qt_n2 qt_n2).df d3 qt_n2 qt_n2
    have dO0 : Df (pp n2) qsc n2 A0 O := (d2.mono (fun _ _ q => q.elim) (fun _ _ q => q.elim) (fun _ _ q => q)).then ((d3.mono (fun _ _ q => q.elim) (fun _ _ q => q) (fun _ _ q => q.elim)).trans o4) (fun x _ hx q => by unfold at1 at q; omega) (fun _ _ _ q => q.elim) (fun x _ hx q => by unfold at1 at q; omega)
    have dO : Df (pp pSz) qsc n2 M O := dA0.trans (dO0.mono (fun _ _ q => q.imp id (fun q => q.elim)) (fun _ _ q => q) (fun _ _ q => q))
    have hO : ST O := h.n dO
    have sA2 : ST A2 := sA0.n d2
    have c193 : cI O 1004 193 = iw m := by rw [dO.cI (by omega) (noGr_pp noGr_pSz _ _ (Or.inl ⟨rfl, Or.inl rfl⟩))]; exact h5.2.2.1
    have numE := E_num (A := m_nx A2) hO c5 c193 o5.2.2.1
    obtain ⟨M1, hM1⟩ : ∃ M1, M1 = wR (wI O 1004 193 (iw ((m + 1 : Nat) : Int))) 1005 (m + 1) (m_nx A2) := ⟨_, rfl⟩
    rw [← hM1] at numE
    have eg : F_X0_spread M 1000 g = some (iw ((m + 1 : Nat) : Int), M1) := by
      rw [headE, chkE, endE, f1]
      show F_X0_spread_b128_st (F_X0_spread_b128 0) A2 _ _ _ _ _ _ _ = _
      unfold F_X0_spread_b128_st
      rw [if_neg (by rw [iw_le4 (by omega) (by omega)]; omega)]
      simp only [g1000_68, sA2, ← hA3, gi_of gE3.2.2.1 (show x_fi 22 1408 = true by decide), gi_of gE3.2.2.1 (show x_fi 22 1412 = true by decide), gr_of gE3.2.2.1 (show x_fr 22 1413 = true by decide), gE3.2.2.2.1, gE3.2.2.2.2.2.2.2.1, gE3.2.2.2.2.2.2.2.2.1, ng_of t3 (by decide), o1, v1004, hO, numE, Option.bind_some]
    have dM1 : Df (fun a i => pp n2 a i ∨ pNE a i) qsc rE A0 M1 := by
      rw [hM1]
      exact ((dO0.mono (fun _ _ q => Or.inl q) (fun _ _ q => q) (fun _ _ q => q.elim)).trans (Df.wI _ (Or.inr ⟨rfl, Or.inl rfl⟩))).trans (Df.wR _ rfl)
    have nM1 : m_nx M1 = m_nx A0 + 3 := by rw [hM1]; show m_nx O = _; omega
    have sM1' : m_sl M1 = m_sl O := by rw [hM1]; rfl
    have npm : ∀ i, ¬ (pp n2 1068 i ∨ pNE 1068 i) := fun i q => q.elim (fun q => q.elim (nsc i) (fun q => q)) (fun q => by unfold pNE at q; omega)
    have sM1 : ST M1 := sA0.df dM1 (fun p hp hr => (stR_na p hp).1 hr)
    have hcM1 : cI M1 1068 1098 = iw (u : Int) := by rw [dM1.cI (by omega) (npm _)]; exact kA
    have hM := headM M1 (dM1.mono (fun _ _ q => q.imp (fun q => q.imp id (fun q => q.elim)) id) (fun _ _ q => q) (fun _ _ q => q)) hcM1
    obtain ⟨B1, hB1⟩ : ∃ B1, B1 = wI M1 1068 1098 0 := ⟨_, rfl⟩
    rw [← hB1] at hM
    have dB1 : Df (pp pSz) qsc n2 M1 B1 := by rw [hB1]; exact dB0 M1
    have sB1 : ST B1 := sM1.n dB1
    have nB1 : m_nx B1 = m_nx M1 := by rw [hB1]; rfl
    have lB1 : m_sl B1 = m_sl M1 := by rw [hB1]; rfl
    have qx : qt (fun a i => pp n2 a i ∨ pNE a i) := fun a i a1 a2 => a2.elim (qt_pp qt_n2 a i a1) (qt_pNE a i a1)
    have gpB1 := (gp.df dM1 qx qt_qsc qt_rE).df dB1 (qt_pp qt_pSz) qt_qsc qt_n2
    have k71 : ∀ i, i < u → cI B1 1071 i = iw (z i) ∧ z i ≤ 4096 := fun i hi => ⟨by
      rw [dB1.cI (by omega) (fun q => by unfold pp psc pSz at q; omega), dM1.cI (by omega) (fun q => by rcases q with (q | q) | q; unfold psc at q; omega; exact q; unfold pNE at q; omega), hA0, cI_wI, if_neg (by omega), ← (k3 i hi).1]
      exact (hz i hi).1, (hz i hi).2⟩
    have chkM1 := M_sp_chk sB1 gpB1 hu' hu k71 (n j) xN 0 (by omega) (by omega)
    rw [pif_pos (fun k hk => cc k (by omega))] at chkM1
    have c1093 : cI B1 1068 1093 = iw m := by rw [dB1.cI (by omega) (npz _ (by decide)), dM1.cI (by omega) (npm _)]; exact h5A.2.2.2.1
    have eM := endM B1 sB1 gpB1.2.1 c1093 (fun i hi => (k71 i hi).1)
    rw [if_pos ⟨hp, c5⟩] at eM
    obtain ⟨B2, hB2⟩ : ∃ B2, B2 = m_new B1 1005 u := ⟨_, rfl⟩
    rw [← hB2] at eM
    have d4 : Df n2 n2 n2 B1 B2 := by rw [hB2]; exact Df.new _ _
    have n4 : m_nx B2 = m_nx B1 + 1 := by rw [hB2]; rfl
    have s4 : m_sl B2 = m_sl B1 + u := by rw [hB2]; rfl
    have tU : m_tg B2 (m_nx B1) = 1005 := by rw [hB2, tg_new, if_pos rfl]
    have lU : m_ln B2 (m_nx B1) = u := by rw [hB2, ln_new, if_pos rfl]
    have zU : ∀ y, cI B2 (m_nx B1) y = 0 := fun y => by rw [hB2, cI_new, if_pos rfl]
    obtain ⟨B3, g1, g2, g3, g4, g5⟩ := M_sp_fill (ta := m_nx B1) gpB1.2.1 hn gp.2.2.2.2.1 hu' hu (by omega) (n j) xN 0 B2 (by omega) (by omega) d4 tU lU (fun y hy => by rw [zU, if_neg (by omega)])
    have d5 : Df n2 n2 n2 B1 B3 := d4.then g4 (fun x _ hx q => by have q : x = m_nx B1 := q; omega) (fun _ _ _ q => q) (fun _ _ _ q => q)
    have iU : IRw B3 (m_nx B1) u (spM (Z j) (T j) hh) := ⟨by omega, by omega, (g4.2.2 _ (by omega)).1.trans tU, (g4.2.2 _ (by omega)).2.1.trans lU, fun i hi => g5 i hi⟩
    have gB3 := gpB1.2.1.df d5 qt_n2 qt_n2
    obtain ⟨B4, hB4⟩ : ∃ B4, B4 = mo B3 23 := ⟨_, rfl⟩
    have d6 : Df n2 n2 n2 B3 B4 := by rw [hB4]; exact Df.new _ _
    have n6 : m_nx B4 = m_nx B3 + 1 := by rw [hB4]; rfl
    have s6 : m_sl B4 = m_sl B3 + x_cn 23 := by rw [hB4]; rfl
    have t6 : m_tg B4 (m_nx B3) = 23 := by rw [hB4]; show m_tg (m_new B3 23 (x_cn 23)) (m_nx B3) = 23; rw [tg_new, if_pos rfl]
    have sB4 : ST B4 := (sB1.n d5).n d6
    obtain ⟨B5, w1, w2, w3, w4, w5⟩ := M_first (M := B4) (src := 1071) (L := 4) (n := u) (by omega) hu hu (by decide) (by omega) (t1071 sB4) (l1071 sB4)
    have w5' : IRw B5 (m_nx B4) u (fun i => iw (z i)) := by
      obtain ⟨x1, x2, x3, x4, x5⟩ := w5
      refine ⟨x1, x2, x3, x4, fun i hi => ?_⟩
      rw [x5 i hi]
      show cI B4 1071 i = iw (z i : Nat)
      rw [d6.cI (by omega) (fun q => q), d5.cI (by omega) (fun q => q)]
      exact (k71 i hi).1
    have t7 : m_tg B5 (m_nx B3) = 23 := (w4.2.2 _ (by omega)).1.trans t6
    obtain ⟨B6, o1', o2', o3', o4', o5'⟩ := M_obj (a := m_nx B3) (k := K j) (b := Y j) (c := D j) (p := 1) (z := z) (by omega) (by omega) t7 (Or.inr rfl) w5' ((iU.df d6 qt_n2).df w4 qt_n2)
    have gB4 := gB3.df d6 qt_n2 qt_n2
    have gB5 := gB4.df w4 qt_n2 qt_n2
    have dB6' : Df (pp n2) qsc n2 B1 B6 := (d5.mono (fun _ _ q => q.elim) (fun _ _ q => q.elim) (fun _ _ q => q)).then (((d6.trans w4).mono (fun _ _ q => q.elim) (fun _ _ q => q) (fun _ _ q => q.elim)).trans o4') (fun x _ hx q => by unfold at1 at q; omega) (fun _ _ _ q => q.elim) (fun x _ hx q => by unfold at1 at q; omega)
    have dB6 : Df (pp pSz) qsc n2 M1 B6 := dB1.trans (dB6'.mono (fun _ _ q => q.imp id (fun q => q.elim)) (fun _ _ q => q) (fun _ _ q => q))
    have sB6 : ST B6 := sM1.n dB6
    have c1093' : cI B6 1068 1093 = iw m := by rw [dB6'.cI (by omega) (fun q => q.elim (nsc _) (fun q => q))]; exact c1093
    have num := M_num (A := m_nx B3) sB6 c5 c1093' o5'.2.2.1
    obtain ⟨M2, hM2⟩ : ∃ M2, M2 = wR (wI B6 1068 1093 (iw ((m + 1 : Nat) : Int))) 1070 (m + 1) (m_nx B3) := ⟨_, rfl⟩
    rw [← hM2] at num
    have e4' : cR M 1005 j ≠ 0 := by rw [← dA0.cR (show 1005 < m_nx M by omega) (fun q => q)]; exact e4
    obtain ⟨r1, r2, r3, r4, r5⟩ := vw2 h h5 c5 j1 j2 e4' dO qt_pSz noGr_pSz o5 (by omega) hM1 dB6 o5' (by omega) hM2 hu (fun i hi => (hz i hi).2) hp (Or.inr rfl) (fun hp0 => by
      have hzp := (prd_pos u).mp hp0
      have hZp : prd (Z j) (n j) ≠ 0 := (prd_pos (n j)).mpr (fun i hi => by
        have := hzp (hh + i) (by omega)
        have := cc i hi
        omega)
      obtain ⟨v1, v2, v3⟩ := gp.2.2.2.2.2.2.2.2 hZp
      refine ⟨v1, fun i hi h1 => ?_, sp_VL v3 hu' cc⟩
      unfold spE spM
      by_cases c : hh ≤ i
      · have ck := cc (i - hh) (by omega)
        rw [show hh + (i - hh) = i by omega] at ck
        by_cases c' : Z j (i - hh) = z i
        · rw [if_pos ⟨c, c'⟩, if_pos ⟨c, by omega⟩]
          exact v2 _ (by omega) (by omega)
        · rw [if_neg (fun q => c' q.2), if_neg (fun q => q.2 (by omega))]
      · rw [if_neg (fun q => c q.1), if_neg (fun q => c q.1)])
    have x22 : x_cn 22 ≤ 20 := by decide
    have x23 : x_cn 23 ≤ 20 := by decide
    have dM2 : Df (fun a i => (a = 1068 ∧ i = 1093) ∨ psc a i) qsc (rNM m) B1 M2 := (dB6'.mono (fun _ _ q => q.elim Or.inr (fun q => q.elim)) (fun _ _ q => q) (fun _ _ q => q.elim)).trans (r3.mono (fun _ _ q => Or.inl q) (fun _ _ q => q.elim) (fun _ _ q => q))
    refine ⟨iw ((m + 1 : Nat) : Int), M1, M2, eg, ?_, ?_, r1, r2, by omega, by omega⟩
    · show F_X16_spread M1 1068 g = _
      rw [hM, chkM1, eM, g1]
      show F_X16_spread_b135_st (F_X16_spread_b135 0) B3 _ _ _ _ _ = _
      unfold F_X16_spread_b135_st
      rw [vg_of gB3.2.2.1 (show x_isa 23 23 = true by decide), M_axes gB3]
      simp only [Option.bind_some]
      rw [if_pos (by rw [iw_le4 (by omega) (by omega)]; omega)]
      simp only [← hB4, gi_of gB4.2.2.1 (show x_fi 23 1472 = true by decide), gB4.2.2.2.1, g1068_1096, sB4, w1, gi_of gB5.2.2.1 (show x_fi 23 1475 = true by decide), gr_of gB5.2.2.1 (show x_fr 23 1476 = true by decide), gB5.2.2.2.2.2.2.1, gB5.2.2.2.2.2.2.2.1, ng_of t7 (by decide), o1', v1068, sB6, num, Option.bind_some]
    · refine I2.zero ?_ ?_
      · rw [dM2.cI (by omega) (fun q => by unfold psc at q; omega), hB1, cI_wI, if_neg (by decide), dM1.cI (by omega) (fun q => by rcases q with (q | q) | q; unfold psc at q; omega; exact q; unfold pNE at q; omega)]
        exact k85
      · rw [dM2.cI (by omega) (fun q => by unfold psc at q; omega), hB1, cI_wI, if_pos ⟨rfl, rfl⟩]
