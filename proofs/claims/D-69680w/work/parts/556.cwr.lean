/-! ===== CALLS: write ===== -/
theorem noT_pOu {Z : Nat → Prop} {M : Mem} (hZ : ∀ x, Z x → 1334 ≤ x ∧ x < m_nx M) : noT pOu rOu Z := ⟨fun x i q k => qt_pOu x i (hZ x q).1 k, fun x i q k => qt_rOu x i (hZ x q).1 k, fun i q => by unfold pOu at q; omega, fun q => by unfold pOu at q; omega, fun q => by unfold pOu at q; omega, fun q => by unfold pOu at q; omega, fun q => by unfold pOu at q; omega, fun i q => by unfold rOu at q; omega, fun i q => by unfold rOu at q; omega⟩
theorem c_write {M : Mem} {Z : Nat → Prop} (h : ST M) (k0 : K0 M) (h4 : I4 M) (h5 : I5 M) (h6 : I6 M Z) (h8 : I8 M) (x : Int32) : CR pOu rOu I8 M (fun M => F_X0_write M 1000 x) (fun M => F_X16_write M 1068 x) := by
  have h0 := h.1
  have h8x := h8
  obtain ⟨eo, ed, mw, mg, l8, q1, q2, q3, q4, q5, q6, q7, q8, q9, q10⟩ := h8
  have z00 : ¬ (0 : Int32) < 0 := by decide
  have l13 : (0 : Int32) < 13 := by decide
  have l14 : (0 : Int32) < 14 := by decide
  have z6 : ¬ (0 : Nat) = 6 := by decide
  have no : ∀ r : Int32, F_X0_write M 1000 x = some (r, M) → F_X16_write M 1068 x = some (r, M) → CR pOu rOu I8 M (fun M => F_X0_write M 1000 x) (fun M => F_X16_write M 1068 x) := fun r e1 e2 =>
    CR.no h h5 r M M e1 e2 h8x (Df.refl n2 _ _ _) (fun _ _ q => q.elim) qt_n2 noGr_n2 (by omega) (by omega)
  rcases lookT h h4 h6 x with ⟨a1, a2, a3, a4, a5⟩ | ⟨a1, a2, a3, a4, a5, a6⟩ | ⟨a1, a2, d, W, k, m, ev, k1, k2, m40, e71, e23, w65, e33, e24, gd, te, tm, fT, z1, z2, it, cT, ar2⟩
  · exact no (-13) (by simp only [F_X0_write, v1000, h, a3, a5, z6, Option.bind_some, if_false, if_true]) (by simp only [F_X16_write, v1068, h, a4, l13, Option.bind_some, if_true])
  · exact no (-14) (by simp only [F_X0_write, v1000, h, a3, a6, z6, Option.bind_some, if_false, if_true]) (by simp only [F_X16_write, v1068, h, a5, l14, Option.bind_some, if_true])
  obtain ⟨oE, oD⟩ := OUT_e q1
  obtain ⟨oW, oG⟩ := BYT_m q2
  have hed : 1064 ≤ ed ∧ ed ≤ 1066 := by omega
  have heo : 1064 ≤ eo ∧ eo ≤ 1066 := by omega
  have hmg : 1325 ≤ mg ∧ mg ≤ 1327 := by omega
  have hmw : 1325 ≤ mw ∧ mw ≤ 1327 := by omega
  have g2 := gd.2.1
  have g3 := gd.2.2.1
  have hZ := h6.1
  obtain ⟨A, hA⟩ : ∃ A, A = wI M ed 1025 0 := ⟨_, rfl⟩
  have dAo : Df (atO ed) n2 n2 M A := by rw [hA]; exact Df.wI _ (Or.inl ⟨rfl, rfl⟩)
  have pO : ∀ a i, atO ed a i → pOu a i := fun a i q => by unfold atO at q; unfold pOu; omega
  have pB : ∀ a i, atB mg a i → pOu a i := fun a i q => by unfold atB at q; unfold pOu; omega
  have sA : ST A := by rw [hA]; exact h
  have nA : m_nx A = m_nx M ∧ m_sl A = m_sl M := by rw [hA]; exact ⟨rfl, rfl⟩
  have eoA : EO A ed 30000 [] := ⟨by rw [hA, cI_wI, if_pos ⟨rfl, rfl⟩]; rfl, fun i hi => by cases hi⟩
  obtain ⟨A1, f, a1', fl, fe, a5, da1, nA1, lA1⟩ := E_write sA (k0.ou h oD dAo) gd w65 (te.ou h oD hZ dAo) (fun y hy => by have := hZ y hy; omega) oD eoA
  have dA1o : Df (atO ed) n2 n2 M A1 := dAo.trans da1
  have dA1 : Df pOu n2 rOu M A1 := dA1o.mono pO (fun _ _ q => q) (fun _ _ q => q.elim)
  have g93 : gr M 1000 93 = some ed := by rw [g1000_93 h, q4]
  have g93A : gr A 1000 93 = some ed := by rw [g1000_93 sA, hA]; show some (cR M 1000 93) = _; rw [q4]
  have p25 : pi M ed 1025 0 = some A := by rw [(oD.f h).2.2.1, hA]
  have e6 : ¬ cR M 1040 k = 6 := by omega
  have e0 : ¬ cR M 1040 k = 0 := by omega
  have headE : F_X0_write M 1000 x = F_X0_written A1 1000 (mr f) := by
    simp only [F_X0_write, v1000, h, fT, e6, e0, g93, p25, sA, g1000_77, g93A, v1037, a1', a5, Option.bind_some, if_false, bse]
  have fin : ∀ (r : Int32) (M1 M2 : Mem), F_X0_write M 1000 x = some (r, M1) → F_X16_write M1 1068 x = some (r, M2) → I8 M2 → Df pOu n2 rOu M M2 → m_nx M2 = m_nx M → m_sl M2 = m_sl M → CR pOu rOu I8 M (fun M => F_X0_write M 1000 x) (fun M => F_X16_write M 1068 x) := fun r M1 M2 x1 x2 x3 x4 x5 x6 =>
    ⟨r, M1, M2, x1, x2, x3, h5.df h x4 qt_pOu qt_n2 qt_rOu noGr_pOu (fun i => ⟨fun q => by unfold rOu at q; omega, fun q => by unfold rOu at q; omega⟩), x4.mono (fun _ _ q => q) (fun _ _ q => q.elim) (fun _ _ q => q), by omega, by unfold bud; rw [x4.cI (by omega) (by unfold pOu; omega), x6]; omega⟩
  -- the model from a memory where the engine has written
  have model : ∀ E : Mem, ST E → Df pOu n2 rOu M E → cR E 1068 1126 = mg → ∃ B2 u, F_X16_write E 1068 x = F_X16_write_b217 B2 1068 ∧ MX B2 mg u ∧ u.length ≤ 100000 ∧ (((ttt d).length ≤ 30000 ∧ u = ttt d) ∨ (30000 < (ttt d).length ∧ 30000 < u.length)) ∧ ST B2 ∧ Df (atB mg) n2 n2 E B2 ∧ m_nx B2 = m_nx E ∧ m_sl B2 = m_sl E := fun E sE dE rE => by
    have nE := dE.1
    have kE : K0 E := k0.df h dE (fun a i q kk => by unfold pOu at kk; omega) (fun a i q kk => by unfold rOu at kk; omega)
    have tE : TMt E Z (cR M 1324 k) d := tm.df dE (fun y hy => (hZ y hy).2) (noT_pOu hZ).1 (noT_pOu hZ).2.1
    have hZE : ∀ y, Z y → 1334 ≤ y ∧ y < m_nx E := fun y hy => by have := hZ y hy; omega
    have c68 : ∀ i, cI E 1068 i = cI M 1068 i := fun i => dE.cI (by omega) (fun q => by unfold pOu at q; omega)
    have cm := codeM (c := iw ((0 : Nat) : Int)) (j := 0) sE kE (by rw [c68]; exact a2) (by rw [c68]; exact e23) ev k1 k2 m40 (show cR E 1324 k = cR M 1324 k from dE.cR (by omega) (fun q => by unfold rOu at q; omega)) z2 gd tE hZE rfl (by have := gd.1; omega)
    obtain ⟨B, hB⟩ : ∃ B, B = wI E mg 1281 0 := ⟨_, rfl⟩
    have dB : Df (atB mg) n2 n2 E B := by rw [hB]; exact Df.wI _ (Or.inl ⟨rfl, rfl⟩)
    have sB : ST B := by rw [hB]; exact sE
    have nB : m_nx B = m_nx E ∧ m_sl B = m_sl E := by rw [hB]; exact ⟨rfl, rfl⟩
    have tB := tE.ob oG hZE dB
    have kB := kE.ob sE oG dB
    have hZB : ∀ y, Z y → 1334 ≤ y ∧ y < m_nx B := fun y hy => by have := hZE y hy; omega
    have mxB : MX B mg [] := ⟨by rw [hB, cI_wI, if_pos ⟨rfl, rfl⟩]; rfl, fun i hi => by cases hi⟩
    have rB : cR B 1068 1126 = mg := by rw [hB]; exact rE
    obtain ⟨K, hK⟩ : ∃ K, K + 1 + d.1 = xN := ⟨xN - 1 - d.1, by have : xN = 1099511627776 := rfl; omega⟩
    obtain ⟨C1, w1, w2, w3, w4, w5, w6⟩ := M_wnames gd oG d.1 K 0 [] B (by omega) sB kB tB hZB rB mxB (by show 0 + 83 * d.1 ≤ _; omega)
    rw [hK, List.nil_append] at *
    obtain ⟨K2, hK2⟩ : ∃ K, K + 1 + d.2.1 = xN := ⟨xN - 1 - d.2.1, by have : xN = 1099511627776 := rfl; omega⟩
    have hl := lnx_len (t := nmt d) d.1 0 (fun i _ hi => nmt_len gd (by omega))
    have hB0 := sB.1
    obtain ⟨B2, u, x1, x2, x3, x4, x5, x6, x7, x8⟩ := M_wrows gd oG d.2.1 K2 0 (lnx (nmt d) d.1 0) C1 (by omega) w3 (kB.ob sB oG w4) (tB.ob oG hZB w4) (fun y hy => by have := hZB y hy; omega) (by rw [w4.cR (by omega) (fun q => q)]; exact rB) w2 (by omega)
    rw [hK2] at x1
    refine ⟨B2, u, ?_, x2, x3, x4, x5, (dB.trans w4).trans x6, by omega, by omega⟩
    obtain ⟨r1, r2, ln, r3, r4, r5⟩ := tB.rows gd kB hZB
    have p81 : pi E mg 1281 0 = some B := by rw [(oG.f sE).2.2.1, hB]
    simp only [F_X16_write, v1068, sE, cm.2.1, z00, g1068_1122, cm.2.2.2, g1068_1126, rE, p81, r3, r4, r5, Option.bind_some, if_false]
    exact Eq.trans w1 x1
  by_cases cb : (ttt d).length ≤ 30000
  · -- told
    have hf : f = true := fl.mpr cb
    rw [hf] at headE
    have eo1 := fe hf
    obtain ⟨LL, hLL⟩ : ∃ LL, LL = (ttt d).length := ⟨_, rfl⟩
    obtain ⟨A2, hA2⟩ : ∃ A2, A2 = wR (wR A1 1000 92 ed) 1000 93 eo := ⟨_, rfl⟩
    have sW : ST (wR A1 1000 92 ed) := a5.df (Df.wR (P := n2) (Q := n2) (R := rOu) ed (by unfold rOu; omega)) rOu_st
    have dA2 : Df pOu n2 rOu M A2 := by rw [hA2]; exact (dA1.trans (Df.wR _ (by unfold rOu; omega))).trans (Df.wR _ (by unfold rOu; omega))
    have sA2 : ST A2 := h.df dA2 rOu_st
    have rA1 : ∀ a i, a < 1334 → cR A1 a i = cR M a i := fun a i q => dA1o.cR (by omega) (fun q => q)
    have x92 : gr A1 1000 92 = some eo := by rw [g1000_92 a5, rA1 _ _ (by decide), q3]
    have x93 : gr A1 1000 93 = some ed := by rw [g1000_93 a5, rA1 _ _ (by decide), q4]
    have y92 : gr A2 1000 92 = some ed := by rw [g1000_92 sA2, hA2, cR_wR, if_neg (by decide), cR_wR, if_pos ⟨rfl, rfl⟩]
    have y25 : gi A2 ed 1025 = some (iw (LL : Int)) := by
      rw [(oD.f sA2).2.1, hA2]
      show some (cI A1 ed 1025) = _
      rw [eo1.1, ← hLL, Nat.min_eq_left (by omega)]
    have eE : F_X0_write M 1000 x = some (iw (LL : Int), A2) := by
      rw [headE]
      unfold F_X0_written
      rw [if_neg (by decide)]
      simp only [x92, x93, p1000_92, a5, p1000_93, sW, Option.bind_some, ← hA2, y92, y25]
    have rg : cR A2 1068 1126 = mg := by rw [hA2, cR_wR, if_neg (by decide), cR_wR, if_neg (by decide), rA1 _ _ (by decide)]; exact q6
    have rw' : cR A2 1068 1125 = mw := by rw [hA2, cR_wR, if_neg (by decide), cR_wR, if_neg (by decide), rA1 _ _ (by decide)]; exact q5
    have h20 := sA2.1
    obtain ⟨B2, u, m1, m2, m3, m4, sB2, m6, m7, m8⟩ := model A2 sA2 dA2 rg
    have hu : u = ttt d := by
      rcases m4 with q | q
      · exact q.2
      · omega
    rw [hu] at m2
    have dB2 : Df pOu n2 rOu M B2 := dA2.trans (m6.mono pB (fun _ _ q => q) (fun _ _ q => q.elim))
    have rgB2 : cR B2 1068 1126 = mg := by rw [m6.cR (by omega) (fun q => q)]; exact rg
    have rwB2 : cR B2 1068 1125 = mw := by rw [m6.cR (by omega) (fun q => q)]; exact rw'
    obtain ⟨B3, hB3⟩ : ∃ B3, B3 = wR (wR B2 1068 1125 mg) 1068 1126 mw := ⟨_, rfl⟩
    have sW2 : ST (wR B2 1068 1125 mg) := sB2.df (Df.wR (P := n2) (Q := n2) (R := rOu) mg (by unfold rOu; omega)) rOu_st
    have dB3 : Df pOu n2 rOu M B3 := by rw [hB3]; exact (dB2.trans (Df.wR _ (by unfold rOu; omega))).trans (Df.wR _ (by unfold rOu; omega))
    have sB3 : ST B3 := h.df dB3 rOu_st
    have z25 : gr B3 1068 1125 = some mg := by rw [g1068_1125 sB3, hB3, cR_wR, if_neg (by decide), cR_wR, if_pos ⟨rfl, rfl⟩]
    have t81 : gi B2 mg 1281 = some (iw (LL : Int)) := by rw [(oG.f sB2).2.1, m2.1, ← hLL]
    have t83 : gi B3 mg 1281 = some (iw (LL : Int)) := by
      rw [(oG.f sB3).2.1, hB3]
      show some (cI B2 mg 1281) = _
      rw [m2.1, ← hLL]
    have told : F_X16_told B2 1068 = some (iw (LL : Int), B3) := by
      unfold F_X16_told
      simp only [g1068_1126, g1068_1125, sB2, rgB2, rwB2, t81, Option.bind_some]
      rw [if_neg (by rw [show (30000 : Int32) = iw ((30000 : Nat) : Int) from rfl, iw_le4 (by omega) (by omega)]; omega)]
      simp only [p1068_1125, sB2, p1068_1126, sW2, Option.bind_some, ← hB3, z25, t83]
    have nA2 : m_nx A2 = m_nx A1 ∧ m_sl A2 = m_sl A1 := by rw [hA2]; exact ⟨rfl, rfl⟩
    refine fin (iw (LL : Int)) A2 B3 eE ?_ ⟨ed, eo, mg, mw, LL, by omega, by omega, ?_, ?_, ?_, ?_, by omega, ?_, ?_, fun i hi => ?_⟩ dB3 (by rw [hB3]; show m_nx B2 = _; omega) (by rw [hB3]; show m_sl B2 = _; omega)
    · show F_X16_write A2 1068 x = _
      rw [m1]
      unfold F_X16_write_b217
      rw [v1068 sB2, Option.bind_some, told, Option.bind_some]
    · rw [hB3, cR_wR, if_neg (by decide), cR_wR, if_neg (by decide), m6.cR (by omega) (fun q => q), hA2, cR_wR, if_neg (by decide), cR_wR, if_pos ⟨rfl, rfl⟩]
    · rw [hB3, cR_wR, if_neg (by decide), cR_wR, if_neg (by decide), m6.cR (by omega) (fun q => q), hA2, cR_wR, if_pos ⟨rfl, rfl⟩]
    · rw [hB3, cR_wR, if_neg (by decide), cR_wR, if_pos ⟨rfl, rfl⟩]
    · rw [hB3, cR_wR, if_pos ⟨rfl, rfl⟩]
    · rw [hB3]
      show cI B2 ed 1025 = _
      rw [m6.cI (by omega) (by unfold atB; omega), hA2]
      show cI A1 ed 1025 = _
      rw [eo1.1, ← hLL, Nat.min_eq_left (by omega)]
    · rw [hB3]
      show cI B2 mg 1281 = _
      rw [m2.1, ← hLL]
    · rw [hB3]
      show cI B2 (ed + 1) i = cI B2 (mg + 1) i
      rw [m2.2 i (by omega) (by omega), m6.cI (by omega) (by unfold atB; omega), hA2]
      show cI A1 (ed + 1) i = _
      rw [eo1.2 i (by rw [← hLL, Nat.min_eq_left (by omega)]; exact hi)]
  · -- too many
    have hf : f = false := by
      cases f with
      | false => rfl
      | true => exact absurd (fl.mp rfl) cb
    rw [hf] at headE
    have h10 := a5.1
    have rg : cR A1 1068 1126 = mg := by rw [dA1o.cR (by omega) (fun q => q)]; exact q6
    obtain ⟨B2, u, m1, m2, m3, m4, sB2, m6, m7, m8⟩ := model A1 a5 dA1 rg
    have hu : 30000 < u.length := by
      rcases m4 with q | q
      · omega
      · exact q.2
    have rgB2 : cR B2 1068 1126 = mg := by rw [m6.cR (by omega) (fun q => q)]; exact rg
    have d1 : Df (fun a i => atO ed a i ∨ atB mg a i) n2 n2 M B2 := (dA1o.mono (fun _ _ q => Or.inl q) (fun _ _ q => q) (fun _ _ q => q)).trans (m6.mono (fun _ _ q => Or.inr q) (fun _ _ q => q) (fun _ _ q => q))
    have np : ∀ a i, (a = eo ∨ a = eo + 1 ∨ a = mw ∨ a = mw + 1) → ¬ (atO ed a i ∨ atB mg a i) := fun a i q => by unfold atO atB; omega
    refine fin (-12) A1 B2 ?_ ?_ ?_ (dA1.trans (m6.mono pB (fun _ _ q => q) (fun _ _ q => q.elim))) (by omega) (by omega)
    · rw [headE]
      unfold F_X0_written
      rw [if_pos (by decide)]
    · show F_X16_write A1 1068 x = _
      rw [m1]
      unfold F_X16_write_b217 F_X16_told
      simp only [v1068, g1068_1126, sB2, rgB2, (oG.f sB2).2.1, m2.1, Option.bind_some]
      rw [if_pos (show (30000 : Int32) < iw (u.length : Nat) by rw [show (30000 : Int32) = iw ((30000 : Nat) : Int) from rfl, iw_le4 (by omega) (by omega)]; exact hu), Option.bind_some]
    · refine ⟨eo, ed, mw, mg, l8, q1, q2, ?_, ?_, ?_, ?_, q7, ?_, ?_, fun i hi => ?_⟩
      · rw [d1.cR (by omega) (fun q => q)]; exact q3
      · rw [d1.cR (by omega) (fun q => q)]; exact q4
      · rw [d1.cR (by omega) (fun q => q)]; exact q5
      · rw [d1.cR (by omega) (fun q => q)]; exact q6
      · rw [d1.cI (by omega) (np _ _ (Or.inl rfl))]; exact q8
      · rw [d1.cI (by omega) (np _ _ (Or.inr (Or.inr (Or.inl rfl))))]; exact q9
      · rw [d1.cI (by omega) (np _ _ (Or.inr (Or.inl rfl))), d1.cI (by omega) (np _ _ (Or.inr (Or.inr (Or.inr rfl))))]; exact q10 i hi
