/-! ===== open, alike ===== -/
theorem c_open {M : Mem} {rs : List Nat} {d1 d2 : Nat} {e1 e2 : List Nat} {nn : Nat} (h : ST M) (h1 : I1 M) (h4 : I4 M) (h5 : I5 M) (h9 : I9w M rs d1 d2 e1 e2 nn) : CR (pg pOc) (rG M) I1 M (fun M => unl (F_X0_open M 1000)) (fun M => unl (F_X16_open M 1068)) := by
  have hxN : xN = 1099511627776 := rfl
  have h0 := h.1
  have h5x := h5
  have h1x := h1
  have h9x := h9
  have h9l := h9.len
  obtain ⟨m, w, K, n, Z, S, T, X, Y, C, D, L, P, h5⟩ := h5
  obtain ⟨t, f, t1, t2, t3, t4, t5, t6, t7, t8⟩ := h1
  obtain ⟨q1, q2, q3, q4, q5, q6, q7, q8, q9, q10, q11, q12, q13, q14, q15, q16, q17, q18⟩ := h9
  obtain ⟨-, -, -, q97, q1095, -⟩ := h4
  have n10 : ¬ (1 : Int32) = 0 := by decide
  by_cases c97 : cI M 1000 97 = 1
  · rw [c97] at q1095
    refine CR.nos (p' := n2) h h5x (-13) M M ?_ ?_ h1x (Df.refl _ _ _ _) (fun _ _ q => q.elim) qt_n2 noGr_n2 (by omega) (by omega)
    · simp only [F_X0_open, g1000_97, h, c97, n10, Option.bind_some, if_false, unl_l]
    · simp only [F_X16_open, g1068_1095, h, ← q1095, n10, Option.bind_some, if_false, unl_l]
  have z97 : cI M 1000 97 = 0 := q97.resolve_right c97
  rw [z97] at q1095
  obtain ⟨u1, u2, u3⟩ := q18 z97
  obtain ⟨A1, hA1⟩ : ∃ A1, A1 = wI M 1000 65 0 := ⟨_, rfl⟩
  have sA1 : ST A1 := hA1 ▸ h
  have dA1 : Df (pp pOc) qsc rsc M A1 := hA1 ▸ Df.wI _ (Or.inr (Or.inl ⟨rfl, rfl⟩))
  have eA1 : ∀ a i, ¬ (a = 1000 ∧ i = 65) → cI A1 a i = cI M a i := fun a i k1 => by rw [hA1, cI_wI, if_neg k1]
  have nA1 : m_nx A1 = m_nx M ∧ m_sl A1 = m_sl M := by rw [hA1]; exact ⟨rfl, rfl⟩
  have a65 : cI A1 1000 65 = 0 := by rw [hA1, cI_wI, if_pos ⟨rfl, rfl⟩]
  have us : F_X0_used M 1000 = some (iw (t : Int), A1) := by
    simp only [F_X0_used, g1000_65, p1000_65, h, t4, ← hA1, Option.bind_some]
  -- the log's bytes
  have f53 : ∀ i, i < rs.sum → cI A1 1053 i = cI M 1330 i := fun i hi => by rw [eA1 _ _ (by omega), q15 i (by omega), u2 i (by omega)]
  have r30 : RcS (cI M 1330) rs rs.length := Rec.rcs q2 q17
  have r53 : RcS (cI A1 1053) rs rs.length := r30.congr (Nat.le_refl _) (fun j hj => by rw [lst_end] at hj; exact f53 j hj)
  have r29 : RcS (cI M 1329) rs rs.length := r30.congr (Nat.le_refl _) (fun j hj => by rw [lst_end] at hj; exact u2 j (by omega))
  have nAn : cI A1 1052 1025 = iw (nn : Int) := by rw [eA1 _ _ (by omega)]; exact q13
  have fd := E_findr (t := t) (nn := nn) sA1 t1 q2 h9l r53 u1
  have hd : F_X0_open M 1000 = tb (F_X14_read A1 1051 1001 (iw (t : Int)) 1048) fun z8 =>
      if z8.1 < 0 then F_X0_open_b45 z8.2 (-14 : Int32) else (vg z8.2 1000 1).bind fun _ => (F_X0_readGrid z8.2 1000).bind fun z10 => F_X0_open_b45 z10.2 z10.1 := by
    simp only [F_X0_open, g1000_97, h, v1000, z97, us, g1000_79, g1000_64, g1000_78, sA1, v1051, Option.bind_some, if_true]
  -- the model, from the engine's end on
  have model : ∀ N : Mem, ST N → I9w N rs d1 d2 e1 e2 nn → cI N 1068 1095 = 0 → cI N 1068 1089 = iw (t : Int) → (∀ i, i < t → cI N 1069 i = cI M 1001 i) → (∀ i, cI N 1329 i = cI M 1329 i) →
      ∃ B, B = wI N 1068 1089 0 ∧ ST B ∧ I9w B rs d1 d2 e1 e2 nn ∧ F_X16_open N 1068 = F_X16_open_b48 B 1068 (iw (t : Int)) (lixv (lix (fun i => mtc (cI A1 1053) t (cI A1 1001) (lst rs i)) rs.length)) := fun N sN iN k1 k2 k3 k4 => by
    obtain ⟨B, hB⟩ : ∃ B, B = wI N 1068 1089 0 := ⟨_, rfl⟩
    have sB : ST B := hB ▸ sN
    have dB : Df (fun a i => a = 1068 ∧ i = 1089) n2 n2 N B := hB ▸ Df.wI _ ⟨rfl, rfl⟩
    have iB := iN.dfw sN dB (fun a i x y => by omega) qt_n2 (fun a i x y => by unfold pLg at x; omega) (fun _ _ _ y => y)
    have us : F_X16_used N 1068 = some (iw (t : Int), B) := by
      simp only [F_X16_used, g1068_1089, p1068_1089, sN, k2, ← hB, Option.bind_some]
    have iB' := iB
    obtain ⟨-, -, p3, -, p5, -, p7, -⟩ := iB'
    have c29 : ∀ i, cI B 1329 i = cI M 1329 i := fun i => by rw [hB, cI_wI, if_neg (by omega)]; exact k4 i
    have rB : RcS (cI B 1329) rs rs.length := r29.congr (Nat.le_refl _) (fun j _ => c29 j)
    refine ⟨B, hB, sB, iB, ?_⟩
    have hsz : iw (rs.length : Nat) - 1 = iw ((rs.length : Int) - 1) := by rw [show (1 : Int32) = iw 1 from rfl, iw_sub]
    obtain ⟨NN, hNN⟩ : ∃ NN, NN + 1 + rs.length = xN := ⟨xN - 1 - rs.length, by omega⟩
    have ml := M_ol (n := t) sB p3 p5 q1 (fun i hi => (p7 i hi).1) rB t1 rs.length NN (Nat.le_refl _)
    rw [hNN] at ml
    have hh : F_X16_open N 1068 = F_X16_open_b25 xN B 1068 (iw (t : Int)) (iw ((rs.length : Int) - 1)) := by
      simp only [F_X16_open, g1068_1095, v1068, sN, k1, us, g1068_1133, sB, v1331, p3.size, p5, hsz, Option.bind_some, if_true]
    rw [hh, ml]
    refine congrArg (fun x => F_X16_open_b48 B 1068 (iw (t : Int)) (lixv x)) (lix_congr _ (fun j hj => ?_))
    obtain ⟨-, s2, ml, s3, s4, s5, s6⟩ := r29 j hj
    have hl := lst_le rs j hj
    have e53 : ∀ x, x < rs.getD j 0 → cI B 1329 (lst rs j + x) = cI A1 1053 (lst rs j + x) := fun x hx => by rw [c29, f53 _ (by omega), u2 _ (by omega)]
    refine mtc_cg (e53 4 (by omega)) (fun hq k hk => ?_) (fun k hk => ?_)
    · have : ml = t := by
        rw [c29, s6, iw_eq (by omega) (by omega) (by omega) (by omega)] at hq
        omega
      have := e53 (5 + k) (by omega)
      rw [← Nat.add_assoc] at this
      exact this
    · rw [hB, cI_wI, if_neg (by omega), k3 k hk, eA1 _ _ (by omega)]
  cases hx : lix (fun i => mtc (cI A1 1053) t (cI A1 1001) (lst rs i)) rs.length with
  | none =>
    rw [hx] at fd
    have hE : F_X0_open M 1000 = some (.inl (-14, A1)) := by
      have : F_X14_read A1 1051 1001 (iw (t : Int)) 1048 = some (.inl (-1, A1)) := by
        unfold F_X14_read
        simp only [g1051_960, g1052_1025, v1051, sA1, nAn, fd, lixw, show (-1 : Int32) < 0 by decide, Option.bind_some, if_true]
      rw [hd, this, tb_l]
      simp only [show (-1 : Int32) < 0 by decide, if_true, F_X0_open_b45]
    have i9A := h9x.dfw h dA1 (qt_pp qt_pOc) qt_rsc (fun a i x y => pg_pOc_lg a i x (pp_pg a i y)) (fun a i x y => rO1_lg a i x (Or.inl y))
    obtain ⟨B, b1, b2, b3, b4⟩ := model A1 sA1 i9A (by rw [eA1 _ _ (by decide)]; exact q1095.symm) (by rw [eA1 _ _ (by decide)]; exact t5) (fun i hi => by rw [eA1 _ _ (by omega)]; exact (t8 i hi).1.symm) (fun i => eA1 _ _ (by omega))
    rw [hx] at b4
    have dB : Df (pp pOc) qsc rsc M B := dA1.trans (b1 ▸ Df.wI _ (Or.inr (Or.inr (Or.inl ⟨rfl, Or.inl rfl⟩))))
    refine CR.nos h h5x (-14) A1 B ?_ ?_ ?_ dB pp_pg (qt_pp qt_pOc) (noGr_pp noGr_pOc) ?_ ?_
    · show unl (F_X0_open M 1000) = _
      rw [hE, unl_l]
    · show unl (F_X16_open A1 1068) = _
      rw [b4]
      unfold F_X16_open_b48 F_X16_open_b63
      rw [if_pos (by decide), unl_l]
    · exact I1.emp h dB h1x (by rw [b1, cI_wI, if_neg (by decide)]; exact a65) (by rw [b1, cI_wI, if_pos ⟨rfl, rfl⟩]) (by unfold pp psc pOc; omega) (by unfold pp psc pOc; omega)
    · rw [b1]; show m_nx A1 ≤ _; omega
    · rw [b1]; show m_sl A1 ≤ _; omega
  | some j =>
    rw [hx] at fd
    obtain ⟨hj, hm⟩ := lix_some _ hx
    have hl := lst_le rs j hj
    obtain ⟨nl, k, n', z, val, v1, v2, v3, v4, v5, v6, v7, v8, v9, v10, v11, v12, v13⟩ := q17 j hj
    have hm' : cI A1 1053 (lst rs j + 4) = iw (t : Int) ∧ ∀ x, x < t → cI A1 1053 (lst rs j + 5 + x) = cI A1 1001 x := by
      have hm2 : mtc (cI A1 1053) t (cI A1 1001) (lst rs j) = true := hm
      unfold mtc at hm2
      rw [Bool.and_eq_true] at hm2
      refine ⟨of_decide_eq_true hm2.1, fun x hx => ?_⟩
      exact (eqn_iff t 0).mp hm2.2 x (by omega) (by omega)
    have htl : nl = t := by
      have := hm'.1
      rw [f53 _ (by omega), v10, iw_eq (by omega) (by omega) (by omega) (by omega)] at this
      omega
    subst htl
    obtain ⟨LL, hLL⟩ : ∃ LL, LL = (gbc k n' z val).length := ⟨_, rfl⟩
    rw [← hLL] at v8 v9 v13
    obtain ⟨fr, hfr⟩ : ∃ fr, fr = lst rs j + 5 + nl := ⟨_, rfl⟩
    obtain ⟨g, hg⟩ : ∃ g : Nat → Int32, g = fun p => cI A1 1053 (fr + p) := ⟨_, rfl⟩
    have gG : ∀ i, i < LL → g i = (gbc k n' z val).getD i 0 := fun i hi => by
      rw [hg, ← v13 i hi, hfr]
      exact f53 _ (by omega)
    have gb : ∀ i, i < LL → j_i2b (g i) = g i := fun i hi => by
      rw [gG i hi]
      refine gbc_b k n' z val _ ?_
      have hi' : i < (gbc k n' z val).length := by omega
      rw [List.getD_eq_getElem?_getD, List.getElem?_eq_getElem hi']
      exact List.getElem_mem hi'
    have hr : rdE g LL = none := by
      rw [hLL]
      exact rd_gbc v3 v4 v5 v7 (fun i hi => gG i (by omega))
    have er := E_read13 (M0 := A1) (r := 1053) (cap := 60000) (fr := fr) (n := LL) hg sA1 ⟨by omega, by unfold pRd; omega, t1053 sA1, l1053 sA1, by decide⟩ (by omega) (by omega)
    obtain ⟨c, E, x1, x2, G⟩ := er.2 hr
    have hE1 : F_X14_read A1 1051 1001 (iw (nl : Int)) 1048 = some (.inl (c, E)) := by
      have four := E_four4 (a := lst rs j) sA1 (by omega)
      rw [(r53 j hj).1] at four
      have s1 : iw (lst rs j : Nat) + (5 : Int32) + iw (nl : Int) = iw (fr : Int) := by rw [show (5 : Int32) = iw ((5 : Nat) : Int) from rfl, iw_nad, iw_nad, hfr]
      have s2 : iw (lst rs j : Nat) + iw (rs.getD j 0 : Nat) - (8 : Int32) = iw ((fr + LL : Nat) : Int) := by rw [iw_nad, show (8 : Int32) = iw ((8 : Nat) : Int) from rfl, iw_nsub (by omega), show lst rs j + rs.getD j 0 - 8 = fr + LL by omega]
      unfold F_X14_read
      simp only [g1051_960, g1052_1025, v1051, sA1, nAn, fd, lixw, show ¬ iw (lst rs j : Nat) < 0 by rw [iw_lt0 (by omega) (by omega)]; omega, g1052_1024, four, v1048, s1, s2, x1, tb_l, Option.bind_some, if_false]
    obtain ⟨ρ, M1, k1, k2, k3, k4, k5⟩ := rdMake h h5 dA1 qt_pOc noGr_pOc (Or.inr (Or.inl ⟨rfl, Or.inr rfl⟩)) G
    obtain ⟨G1, G2, G3, G4, -⟩ := G
    have hE : F_X0_open M 1000 = some (.inl (ρ, M1)) := by
      rw [hd, hE1, tb_l]
      simp only [x2, if_false, v1000, G1, k1, F_X0_open_b45, Option.bind_some]
    have cM1 : ∀ a i, a < 1334 → ¬ pRd a i → ¬ (pShape a i ∨ pNE a i) → cI M1 a i = cI A1 a i := fun a i x0 x1 x2 => by rw [k3.cI (by have := G1.1; omega) x2, G2.cI (by omega) x1]
    have dM1 : Df (pg pOc) qsc rO1 M M1 := ((dA1.mono pp_pg (fun _ _ q => q) (fun _ _ q => Or.inl q)).trans (G2.mono (fun a i q => Or.inl (pRd_sc a i q)) qRd_sc (fun a i q => Or.inl (rRd_sc a i q)))).trans (k3.mono (fun a i q => q.elim (fun x => Or.inl (pShape_sc a i x)) (fun x => Or.inr (Or.inr (Or.inl x)))) (fun _ _ q => q.elim) (fun _ _ q => Or.inr q))
    have i9M := h9x.dfw h dM1 (qt_pg qt_pOc) qt_rO1 pg_pOc_lg rO1_lg
    obtain ⟨B, b1, b2, b3, b4⟩ := model M1 k2 i9M (by rw [cM1 _ _ (by decide) (by unfold pRd; omega) (by unfold pShape pNE; omega), eA1 _ _ (by decide)]; exact q1095.symm) (by rw [cM1 _ _ (by decide) (by unfold pRd; omega) (by unfold pShape pNE; omega), eA1 _ _ (by decide)]; exact t5) (fun i hi => by rw [cM1 _ _ (by decide) (by unfold pRd; omega) (by unfold pShape pNE; omega), eA1 _ _ (by omega)]; exact (t8 i hi).1.symm) (fun i => by rw [cM1 _ _ (by decide) (by unfold pRd; omega) (by unfold pShape pNE; omega), eA1 _ _ (by omega)])
    rw [hx] at b4
    obtain ⟨-, -, p3, p4, p5, p6, p7, -⟩ := b3
    have c69 : ∀ x, x < nl → cI B 1069 x = cI M 1330 (lst rs j + 5 + x) := fun x hx => by
      rw [b1, cI_wI, if_neg (by omega), cM1 _ _ (by decide) (by unfold pRd; omega) (by unfold pShape pNE; omega), eA1 _ _ (by omega), ← (t8 x hx).1, ← eA1 1001 x (by omega), ← hm'.2 x hx, f53 _ (by omega)]
    have c29 : ∀ i, i < rs.sum → cI B 1329 i = cI M 1330 i := fun i hi => by
      rw [b1, cI_wI, if_neg (by omega), cM1 _ _ (by decide) (by unfold pRd; omega) (by unfold pShape pNE; omega), eA1 _ _ (by omega)]
      exact u2 i (by omega)
    have isn1 : isn (cI B 1069) nl = true := isn_of v1 v2 (fun x hx => by rw [c69 x hx]; exact v11 x hx)
    have g29 : ∀ x, x < LL → cI B 1329 (fr + x) = g x := fun x hx => by
      rw [c29 _ (by omega), hg]
      exact (f53 _ (by omega)).symm
    obtain ⟨NN, hNN⟩ : ∃ NN, NN + 1 + LL = xN := ⟨xN - 1 - LL, by omega⟩
    obtain ⟨B', y1, y2, y3, y4, y5, y6⟩ := M_cpy (a := fr) (L := LL) v9 (by omega) LL NN 0 B (by omega) b2 (fun x hx => by rw [g29 x hx]; exact gb x hx) (fun x hx => by omega)
    rw [hNN] at y1
    have mrd := M_readA (M0 := B') (r := 1333) (cap := 30000) (n := LL) (g := g) (fun i hi => by rw [y3 i hi]; exact g29 i hi) y2 ⟨by have := y2.1; omega, by decide, by decide, t1333 y2, l1333 y2, by decide⟩ v9 (by omega) (fun i hi => by rw [← gb i hi]; exact bt_i2b _)
    obtain ⟨s, Q, M', f1, f2, f3, f4, f5, f6⟩ := mrd.2 hr
    have dB' : Df (pp pOc) qsc rsc M1 B' := (b1 ▸ (Df.wI (P := pp pOc) (Q := qsc) (R := rsc) (M := M1) (a := 1068) (i := 1089) 0 (Or.inr (Or.inr (Or.inl ⟨rfl, Or.inl rfl⟩)))) : Df (pp pOc) qsc rsc M1 B).trans (y4.mono (fun a i q => Or.inr (Or.inr (Or.inr q))) (fun _ _ q => q.elim) (fun _ _ q => q.elim))
    obtain ⟨M2, j1, j2, j3, j4, j5, j6⟩ := k5 B' M' dB' f4 f5 f6
    obtain ⟨s1, s2, s3, s4, s5, s6, s7, s8, s9⟩ := id f4
    have hM : F_X16_open M1 1068 = some (.inl (ρ, M2)) := by
      have w1 : iw (lst rs j : Nat) + (5 : Int32) + iw (nl : Int) = iw (fr : Int) := by rw [show (5 : Int32) = iw ((5 : Nat) : Int) from rfl, iw_nad, iw_nad, hfr]
      have w2 : iw (rs.getD j 0 : Nat) - (13 : Int32) - iw (nl : Int) = iw (LL : Int) := by rw [show (13 : Int32) = iw ((13 : Nat) : Int) from rfl, iw_nsub (by omega), iw_nsub (by omega), show rs.getD j 0 - 13 - nl = LL by omega]
      have t48 : F_X16_open_b48 B 1068 (iw (nl : Int)) (iw (j : Nat)) = F_X16_open_b109 xN B 1068 (iw (fr : Int)) (iw (LL : Int)) (iw ((0 : Nat) : Int)) := by
        unfold F_X16_open_b48
        rw [if_neg (by rw [iw_lt0 (by omega) (by omega)]; omega)]
        simp only [g1068_1088, b2, M_isName b2 t1, isn1, show ¬ mr true = 0 by decide, g1068_1133, g1068_1134, v1331, v1332, p3.get (show j < e1.length by omega), p4.get (show j < e2.length by omega), (p7 j hj).1.cc, (p7 j hj).1.vg, (p7 j hj).1.val, (p7 j hj).2.cc, (p7 j hj).2.vg, (p7 j hj).2.val, w1, w2, Option.bind_some, if_false]
        rfl
      rw [b4]
      show F_X16_open_b48 B 1068 (iw (nl : Int)) (iw (j : Nat)) = _
      rw [t48, y1]
      show F_X16_open_b109_st (F_X16_open_b109 NN) B' 1068 _ _ _ = _
      unfold F_X16_open_b109_st
      rw [if_neg (by rw [iw_le4 (by omega) (by omega)]; omega)]
      simp only [g1068_1135, v1068, y2, f1, tb_l, f3, f2, Option.bind_some]
      simp only [g1068_1127, g1068_1128, g1068_1100, v1068, s1, s5, s6, j1, Option.bind_some]
    have nB : m_nx B = m_nx M1 ∧ m_sl B = m_sl M1 := by rw [b1]; exact ⟨rfl, rfl⟩
    have cM2 : ∀ a i, a < 1334 → ¬ pMd a i → ¬ pNM a i → a ≠ 1333 → cI M2 a i = cI B a i := fun a i x0 x1 x2 x3 => by rw [j5.cI (by have := s1.1; omega) x2, s2.cI (by have := y2.1; omega) x1, y4.cI (by have := b2.1; omega) x3]
    refine ⟨ρ, M1, M2, by show unl (F_X0_open M 1000) = _; rw [hE, unl_l], by show unl (F_X16_open M1 1068) = _; rw [hM, unl_l], ?_, j2, j3, by omega, by omega⟩
    refine I1.emp h j3 h1x ?_ ?_ (by unfold pg psc pOc pGr; omega) (by unfold pg psc pOc pGr; omega)
    · rw [cM2 _ _ (by decide) (by unfold pMd; omega) (by unfold pNM; omega) (by decide), b1, cI_wI, if_neg (by decide), cM1 _ _ (by decide) (by unfold pRd; omega) (by unfold pShape pNE; omega)]; exact a65
    · rw [cM2 _ _ (by decide) (by unfold pMd; omega) (by unfold pNM; omega) (by decide), b1, cI_wI, if_pos ⟨rfl, rfl⟩]
