/-! ===== CALLS, 31: bytes, out ===== -/
theorem qt_atB {o : Nat} (ob : BYT o) : qt (atB o) := fun a i q1 q2 => by unfold atB at q2; unfold BYT at ob; omega
section GBM
variable {a b : Nat} {k : Int32} {n : Nat} {z : Nat → Nat} {s t : Nat → Int32} {x y : Int32} {c d L : Nat} {p : Int32} {o : Nat} {val : Nat → Int64}
theorem M_wsz (ob : BYT o) : ∀ (e N i : Nat) (vs : List Int32) (M : Mem), i + e = n → vs.length + 2 * e ≤ 30000 → ST M → cR M 1068 1126 = o → GP M a b k n z s t x y c d L p → MO M o vs → ∃ M', F_X16_writeGrid_b42 (N + e) M 1068 b (iw (i : Int)) = F_X16_writeGrid_b42 N M' 1068 b (iw (n : Int)) ∧ MO M' o (vs ++ szl z e i) ∧ Df (atB o) n2 n2 M M' ∧ m_nx M' = m_nx M ∧ m_sl M' = m_sl M ∧ ST M' := by
  intro e
  induction e with
  | zero =>
    intro N i vs M hi hl sM hr g eo
    have : i = n := by omega
    subst this
    refine ⟨M, rfl, ?_, Df.refl _ _ _ _, rfl, rfl, sM⟩
    show MO M o (vs ++ [])
    rw [List.append_nil]
    exact eo
  | succ e ih =>
    intro N i vs M hi hl sM hr g eo
    have hn := g.2.2.2.1
    have h0 := sM.1
    obtain ⟨A, a1, a2, a3, a4, a5, a6⟩ := M_number (w := 2) (v := (iw (z i)).toInt64) ob sM eo (by decide) (by omega)
    have hl2 : (vs ++ nbs (iw (z i)).toInt64 2).length = vs.length + 2 := by rw [List.length_append, nbs_len]
    obtain ⟨M', f1, f2, f3, f4, f5, f6⟩ := ih N (i + 1) _ A (by omega) (by omega) a6 (by rw [a3.cR (by omega) (fun q => q)]; exact hr) (g.df a3 (qt_atB ob) qt_n2 qt_n2) a2
    rw [List.append_assoc] at f2
    refine ⟨M', ?_, f2, a3.trans f3, by omega, by omega, f6⟩
    rw [← f1]
    show F_X16_writeGrid_b42_st (F_X16_writeGrid_b42 (N + e)) M _ _ _ = _
    unfold F_X16_writeGrid_b42_st
    have a1' : F_X19_number M o (iw (z i)).toInt64 2 = some A := a1
    simp only [vg_of g.2.1.2.2.1 (show x_isa 23 23 = true by decide), M_axes g.2.1, Option.bind_some]
    rw [if_pos (by rw [iw_le4 (by omega) (by omega)]; omega)]
    simp only [g1068_1126, sM, hr, gr_of g.2.1.2.2.1 (show x_fr 23 1473 = true by decide), g.2.1.2.2.2.2.1.ai hn (show i < n by omega), (ob.f sM).2.2.2.1, a1', iw_succ, Option.bind_some]
theorem M_wce (ob : BYT o) (hw : 0 < wdt k) (hw8 : wdt k ≤ 8) (hp : prd z n ≤ 100000) : ∀ (e N i : Nat) (vs : List Int32) (M : Mem), i + e = prd z n → vs.length + wdt k * e ≤ 30000 → ST M → cR M 1068 1126 = o → GP M a b k n z s t x y c d L p → (∀ q, q < prd z n → cJ M c (gpos n z s x q) = val q) → MO M o vs → ∃ M', F_X16_writeGrid_b78 (N + 1 + e) M 1068 b (iw (prd z n : Nat)) (iw (i : Int)) = some M' ∧ MO M' o (vs ++ cel val (wdt k) e i) ∧ Df (atB o) n2 n2 M M' ∧ m_nx M' = m_nx M ∧ m_sl M' = m_sl M ∧ ST M' := by
  intro e
  induction e with
  | zero =>
    intro N i vs M hi hl sM hr g hv eo
    refine ⟨M, ?_, ?_, Df.refl _ _ _ _, rfl, rfl, sM⟩
    · show F_X16_writeGrid_b78_st (F_X16_writeGrid_b78 N) M _ _ _ _ = _
      unfold F_X16_writeGrid_b78_st
      rw [if_neg (by rw [iw_le4 (by omega) (by omega)]; omega)]
    · show MO M o (vs ++ [])
      rw [List.append_nil]
      exact eo
  | succ e ih =>
    intro N i vs M hi hl sM hr g hv eo
    have h0 := sM.1
    have cp := g.2.2.2.2.2.2.2.1
    have hlt : i < prd z n := by omega
    have gg := (g.get hlt).2.2
    rw [hv i hlt] at gg
    rw [Nat.mul_succ] at hl
    obtain ⟨A, a1, a2, a3, a4, a5, a6⟩ := M_number (w := wdt k) (v := val i) ob sM eo hw8 (by omega)
    have hl2 : (vs ++ nbs (val i) (wdt k)).length = vs.length + wdt k := by rw [List.length_append, nbs_len]
    obtain ⟨M', f1, f2, f3, f4, f5, f6⟩ := ih N (i + 1) _ A (by omega) (by omega) a6 (by rw [a3.cR (by omega) (fun q => q)]; exact hr) (g.df a3 (qt_atB ob) qt_n2 qt_n2) (fun q hq => by rw [a3.cJ cp.2.1 (fun q => q)]; exact hv q hq) a2
    rw [List.append_assoc] at f2
    refine ⟨M', ?_, f2, a3.trans f3, by omega, by omega, f6⟩
    rw [← f1]
    show F_X16_writeGrid_b78_st (F_X16_writeGrid_b78 (N + 1 + e)) M _ _ _ _ = _
    unfold F_X16_writeGrid_b78_st
    rw [if_pos (by rw [iw_le4 (by omega) (by omega)]; exact hlt)]
    simp only [g1068_1126, sM, hr, vg_of g.2.1.2.2.1 (show x_isa 23 23 = true by decide), gg, gi_of g.2.1.2.2.1 (show x_fi 23 1472 = true by decide), g.2.1.2.2.2.1, (wdt_eq g.2.2.1).2.1, (ob.f sM).2.2.2.1, a1, iw_succ, Option.bind_some]
theorem M_wgrid {M : Mem} (ob : BYT o) (sM : ST M) (hr : cR M 1068 1126 = o) (g : GP M a b k n z s t x y c d L p) (hv : ∀ q, q < prd z n → cJ M c (gpos n z s x q) = val q) (eo : MO M o []) (hl : (gby k n z val).length ≤ 30000) :
    ∃ M', F_X16_writeGrid M 1068 b = some M' ∧ MO M' o (gby k n z val) ∧ Df (atB o) n2 n2 M M' ∧ m_nx M' = m_nx M ∧ m_sl M' = m_sl M ∧ ST M' := by
  have hxN : xN = 1099511627776 := rfl
  have h0 := sM.1
  have hn := g.2.2.2.1
  have hk := g.2.2.1
  have hp := g.2.2.2.2.2.1
  have cp := g.2.2.2.2.2.2.2.1
  rw [gby_len] at hl
  obtain ⟨w1, w2, w3, w4⟩ := wdt_eq hk
  have q4 := qt_atB ob
  have rr : ∀ N, Df (atB o) n2 n2 M N → cR N 1068 1126 = o := fun N d => by rw [d.cR (by omega) (fun q => q)]; exact hr
  obtain ⟨A, a1, a2, a3, a4, a5⟩ := M_addb ob sM eo (by decide) 71
  have sA : ST A := sM.n a3
  obtain ⟨B, b1, b2, b3, b4, b5⟩ := M_addb ob sA a2 (by show 1 < 30000; decide) 82
  have dB := a3.trans b3
  have sB : ST B := sM.n dB
  have gB := g.df dB q4 qt_n2 qt_n2
  obtain ⟨C, c1, c2, c3, c4, c5⟩ := M_addb ob sB b2 (by show 2 < 30000; decide) k
  have dC := dB.trans c3
  have sC : ST C := sM.n dC
  have gC := g.df dC q4 qt_n2 qt_n2
  obtain ⟨D, d1, d2, d3, d4, d5⟩ := M_addb ob sC c2 (by show 3 < 30000; decide) (iw (n : Int))
  have dD := dC.trans d3
  have sD : ST D := sM.n dD
  have gD := g.df dD q4 qt_n2 qt_n2
  have d2' : MO D o [j_i2b 71, j_i2b 82, j_i2b k, j_i2b (iw (n : Int))] := d2
  obtain ⟨N1, hN1⟩ : ∃ N1, N1 + 1 + n = xN := ⟨xN - 1 - n, by omega⟩
  obtain ⟨M2, k1, k2, k3, k4, k5, s2⟩ := M_wsz ob n (N1 + 1) 0 _ D (by omega) (by show 4 + 2 * n ≤ _; omega) sD (rr D dD) gD d2'
  rw [hN1] at k1
  have g2 := gD.df k3 q4 qt_n2 qt_n2
  have d2M := dD.trans k3
  obtain ⟨N2, hN2⟩ : ∃ N2, N2 + 1 + prd z n = xN := ⟨xN - 1 - prd z n, by omega⟩
  have hl2 : ([j_i2b 71, j_i2b 82, j_i2b k, j_i2b (iw (n : Int))] ++ szl z n 0).length = 4 + 2 * n := by rw [List.length_append, szl_len]; rfl
  obtain ⟨M3, j1, j2, j3, j4, j5, s3⟩ := M_wce (val := val) ob w3 w4 hp (prd z n) N2 0 _ M2 (by omega) (by omega) s2 (rr M2 d2M) g2 (fun q hq => by rw [d2M.cJ cp.2.1 (fun q => q)]; exact hv q hq) k2
  rw [hN2] at j1
  refine ⟨M3, ?_, j2, d2M.trans j3, by omega, by omega, s3⟩
  unfold F_X16_writeGrid
  simp only [g1068_1126, sM, hr, (ob.f sM).2.2.2.1, a1, sA, rr A a3, (ob.f sA).2.2.2.1, b1, sB, rr B dB, (ob.f sB).2.2.2.1, gi_of gB.2.1.2.2.1 (show x_fi 23 1472 = true by decide), gB.2.1.2.2.2.1, c1, sC, rr C dC, vg_of gC.2.1.2.2.1 (show x_isa 23 23 = true by decide), M_axes gC.2.1, (ob.f sC).2.2.2.1, d1, Option.bind_some]
  refine k1.trans ?_
  show F_X16_writeGrid_b42_st (F_X16_writeGrid_b42 N1) M2 _ _ _ = _
  unfold F_X16_writeGrid_b42_st
  simp only [vg_of g2.2.1.2.2.1 (show x_isa 23 23 = true by decide), M_axes g2.2.1, M_count g2.2.1 hn g.2.2.2.2.1, Option.bind_some]
  rw [if_neg (by rw [iw_le4 (by omega) (by omega)]; omega)]
  exact j1
end GBM
/-- what is told as bytes -/
def I8w (M : Mem) (eo ed mw mg n : Nat) : Prop := ((eo = 1064 ∧ ed = 1066) ∨ (eo = 1066 ∧ ed = 1064)) ∧ ((mw = 1325 ∧ mg = 1327) ∨ (mw = 1327 ∧ mg = 1325)) ∧ cR M 1000 92 = eo ∧ cR M 1000 93 = ed ∧ cR M 1068 1125 = mw ∧ cR M 1068 1126 = mg ∧ n ≤ 30000 ∧ cI M eo 1025 = iw (n : Int) ∧ cI M mw 1281 = iw (n : Int) ∧ ∀ i, i < n → cI M (eo + 1) i = cI M (mw + 1) i
def I8 (M : Mem) : Prop := ∃ eo ed mw mg n, I8w M eo ed mw mg n
def pOu : Nat → Nat → Prop := fun a _ => (1064 ≤ a ∧ a ≤ 1067) ∨ (1325 ≤ a ∧ a ≤ 1328)
def rOu : Nat → Nat → Prop := fun a i => (a = 1000 ∧ (i = 92 ∨ i = 93)) ∨ (a = 1068 ∧ (i = 1125 ∨ i = 1126))
theorem qt_pOu : qt pOu := fun a i q1 q2 => by unfold pOu at q2; omega
theorem qt_rOu : qt rOu := fun a i q1 q2 => by unfold rOu at q2; omega
theorem noGr_pOu : noGr pOu := fun a i q1 q2 => by unfold pGr at q1; unfold pOu at q2; omega
theorem I8.df {P Q R : Nat → Nat → Prop} {M M' : Mem} (h : ST M) (h8 : I8 M) (d : Df P Q R M M') (hP : ∀ a i, pOu a i → ¬ P a i) (hR : ∀ a i, rOu a i → ¬ R a i) : I8 M' := by
  have h0 := h.1
  obtain ⟨eo, ed, mw, mg, n, q1, q2, q3, q4, q5, q6, q7, q8, q9, q10⟩ := h8
  have p1 : ∀ a i, (1064 ≤ a ∧ a ≤ 1067) ∨ (1325 ≤ a ∧ a ≤ 1328) → cI M' a i = cI M a i := fun a i q => d.cI (by omega) (hP a i q)
  refine ⟨eo, ed, mw, mg, n, q1, q2, ?_, ?_, ?_, ?_, q7, ?_, ?_, fun i hi => ?_⟩
  · rw [d.cR (by omega) (hR _ _ (by unfold rOu; omega))]; exact q3
  · rw [d.cR (by omega) (hR _ _ (by unfold rOu; omega))]; exact q4
  · rw [d.cR (by omega) (hR _ _ (by unfold rOu; omega))]; exact q5
  · rw [d.cR (by omega) (hR _ _ (by unfold rOu; omega))]; exact q6
  · rw [p1 _ _ (by omega)]; exact q8
  · rw [p1 _ _ (by omega)]; exact q9
  · rw [p1 _ _ (by omega), p1 _ _ (by omega)]; exact q10 i hi
theorem OUT_e {eo ed : Nat} (q : (eo = 1064 ∧ ed = 1066) ∨ (eo = 1066 ∧ ed = 1064)) : OUT eo 30000 ∧ OUT ed 30000 := by
  unfold OUT
  omega
theorem BYT_m {mw mg : Nat} (q : (mw = 1325 ∧ mg = 1327) ∨ (mw = 1327 ∧ mg = 1325)) : BYT mw ∧ BYT mg := by
  unfold BYT
  omega
theorem c_out {M : Mem} {i : Int32} (h : ST M) (h8 : I8 M) : ∃ r, F_X0_out M 1000 i = some r ∧ F_X16_out M 1068 i = some r := by
  obtain ⟨eo, ed, mw, mg, n, q1, q2, q3, q4, q5, q6, q7, q8, q9, q10⟩ := h8
  obtain ⟨e1, e2, e3, e4, e5, e6, -⟩ := (OUT_e q1).1.f h
  obtain ⟨m1, m2, m3, m4, m5, m6, -⟩ := (BYT_m q2).1.f h
  unfold F_X0_out F_X16_out F_X0_out_b31 F_X16_out_b31 F_X0_out_b32 F_X16_out_b32
  by_cases c : i < 0
  · exact ⟨-1, by rw [if_pos c], by rw [if_pos c]⟩
  · rw [if_neg c, if_neg c]
    simp only [g1000_92, g1068_1125, h, q3, q5, e2, q8, m2, q9, e1, m1, Option.bind_some]
    by_cases c2 : i < iw (n : Int)
    · rw [if_pos c2, if_pos c2]
      rw [Int32.lt_iff_toInt_lt] at c c2
      have z0 : (0 : Int32).toInt = 0 := rfl
      rw [iw_toInt (by omega) (by omega)] at c2
      have hh := i32_nat (v := i) (by omega)
      rw [hh, ab_of (Or.inr (Or.inl e5)) e6 (by omega) (by decide), ab_of (Or.inr (Or.inl m5)) m6 (by omega) (by decide), q10 _ (by omega)]
      exact ⟨_, rfl, rfl⟩
    · rw [if_neg c2, if_neg c2]
      exact ⟨-1, rfl, rfl⟩
theorem rOu_st : ∀ p ∈ stR, ¬ rOu p.1 p.2.1 := by
  have : ∀ p ∈ stR, ¬ ((p.1 = 1000 ∧ (p.2.1 = 92 ∨ p.2.1 = 93)) ∨ (p.1 = 1068 ∧ (p.2.1 = 1125 ∨ p.2.1 = 1126))) := by decide +kernel
  exact this
theorem c_bytes {M : Mem} {g : Int32} (h : ST M) (h4 : I4 M) (h5 : I5 M) (h8 : I8 M) : CR pOu rOu I8 M (fun M => F_X0_bytes M 1000 g) (fun M => F_X16_bytes M 1068 g) := by
  have h0 := h.1
  have h5x := h5
  have h8x := h8
  obtain ⟨m, ww, K, n, Z, S, T, X, Y, C, D, L, P, h5⟩ := h5
  obtain ⟨eo, ed, mw, mg, l8, q1, q2, q3, q4, q5, q6, q7, q8, q9, q10⟩ := h8
  have n10 : ¬ (1 : Int32) = 0 := by decide
  have z00 : ¬ (0 : Int32) < 0 := by decide
  have l13 : (0 : Int32) < 13 := by decide
  have l14 : (0 : Int32) < 14 := by decide
  have z6 : ¬ (0 : Nat) = 6 := by decide
  have no : ∀ r : Int32, F_X0_bytes M 1000 g = some (r, M) → F_X16_bytes M 1068 g = some (r, M) → CR pOu rOu I8 M (fun M => F_X0_bytes M 1000 g) (fun M => F_X16_bytes M 1068 g) := fun r e1 e2 =>
    CR.no h h5x r M M e1 e2 h8x (Df.refl n2 _ _ _) (fun _ _ q => q.elim) qt_n2 noGr_n2 (by omega) (by omega)
  rcases look h h4 h5 g with ⟨b1, b2, e1, e2, e3⟩ | ⟨b1, b2, e1, e2, e3, e8⟩ | ⟨b1, b2, j, j1, j2, hg, e1, e4, e5, e3, e7, e6, gp⟩
  · exact no (-13) (by simp only [F_X0_bytes, v1000, h, e1, e2, z6, Option.bind_some, if_false, if_true]) (by simp only [F_X16_bytes, v1068, h, e3, l13, Option.bind_some, if_true])
  · exact no (-14) (by simp only [F_X0_bytes, v1000, h, e1, e2, z6, Option.bind_some, if_false, if_true]) (by simp only [F_X16_bytes, v1068, h, e3, l14, Option.bind_some, if_true])
  obtain ⟨val, hval⟩ : ∃ val : Nat → Int64, val = fun i => cJ M (C j) (gpos (n j) (Z j) (S j) (X j) i) := ⟨_, rfl⟩
  have hk := gp.2.2.1
  have hn := gp.2.2.2.1
  have hp := gp.2.2.2.2.2.1
  have cp := gp.2.2.2.2.2.2.2.1
  obtain ⟨w1, w2, w3, w4⟩ := wdt_eq hk
  obtain ⟨oE, oD⟩ := OUT_e q1
  obtain ⟨oW, oG⟩ := BYT_m q2
  have hed : 1064 ≤ ed ∧ ed ≤ 1066 := by omega
  have heo : 1064 ≤ eo ∧ eo ≤ 1066 := by omega
  have hmg : 1325 ≤ mg ∧ mg ≤ 1327 := by omega
  have hmw : 1325 ≤ mw ∧ mw ≤ 1327 := by omega
  -- the engine
  obtain ⟨A, hA⟩ : ∃ A, A = wI M ed 1025 0 := ⟨_, rfl⟩
  have dA : Df pOu n2 rOu M A := by rw [hA]; exact Df.wI _ (Or.inl (by omega))
  have sA : ST A := by rw [hA]; exact h
  have gA := gp.df dA qt_pOu qt_n2 qt_rOu
  have eoA : EO A ed 30000 [] := ⟨by rw [hA, cI_wI, if_pos ⟨rfl, rfl⟩]; rfl, fun i hi => by cases hi⟩
  obtain ⟨A1, a1, a2, a3, a4, a5, a6, -⟩ := E_wgrid (val := val) (vs := []) oD sA gA (fun q hq => by rw [dA.cJ cp.2.1 (fun q => q), hval]) eoA (by decide)
  have lz : ([] : List Int32).length + (gbc (K j) (n j) (Z j) val).length = (gbc (K j) (n j) (Z j) val).length := by show 0 + _ = _; omega
  rw [lz] at a1 a6
  have dA1 : Df pOu n2 rOu M A1 := dA.trans (a2.mono (fun a i q => by unfold atO at q; unfold pOu; omega) (fun _ _ q => q) (fun _ _ q => q.elim))
  obtain ⟨LL, hLL⟩ : ∃ LL, LL = (gbc (K j) (n j) (Z j) val).length := ⟨_, rfl⟩
  rw [← hLL] at a1 a6
  have hlen := gbc_len (K j) (n j) (Z j) val
  rw [← hLL] at hlen
  have mul8 : wdt (K j) * prd (Z j) (n j) ≤ 800000 := by
    have := Nat.mul_le_mul w4 hp
    omega
  -- the model's bound
  have bO : ∀ N, GP N (cR M 1005 j) (cR M 1070 j) (K j) (n j) (Z j) (S j) (T j) (X j) (Y j) (C j) (D j) (L j) (P j) → F_X16_bytesOf N (cR M 1070 j) = some (nl LL) := fun N gN => by
    unfold F_X16_bytesOf
    simp only [vg_of gN.2.1.2.2.1 (show x_isa 23 23 = true by decide), M_axes gN.2.1, M_count gN.2.1 hn gp.2.2.2.2.1, gi_of gN.2.1.2.2.1 (show x_fi 23 1472 = true by decide), gN.2.1.2.2.2.1, w2, Option.bind_some]
    rw [i64_iw (by omega), i64_iw (by omega), i64_iw (by omega), show (8 : Int64) = nl 8 from rfl, show (2 : Int64) = nl 2 from rfl, nl_mul, nl_mul, nl_add, nl_add, hlen, Nat.mul_comm (prd (Z j) (n j))]
  have nl3 : (30000 : Int64) = nl 30000 := rfl
  have g93 : gr M 1000 93 = some ed := by rw [g1000_93 h, q4]
  have g93A : gr A 1000 93 = some ed := by rw [g1000_93 sA, hA]; show some (cR M 1000 93) = _; rw [q4]
  have p25 : pi M ed 1025 0 = some A := by rw [(oD.f h).2.2.1, hA]
  have headE : F_X0_bytes M 1000 g = F_X0_written A1 1000 (mr (decide (LL ≤ 30000))) := by
    simp only [F_X0_bytes, v1000, h, e1, e4, e5, g93, p25, g93A, a1, a5, Option.bind_some, if_false, bse]
  -- the model sees
  have seeM : ∀ N, ST N → Df pOu n2 rOu M N → F_X16_codeOf N 1068 g = some 0 ∧ ar N 1070 g = some (cR M 1070 j) ∧ GP N (cR M 1005 j) (cR M 1070 j) (K j) (n j) (Z j) (S j) (T j) (X j) (Y j) (C j) (D j) (L j) (P j) := fun N sN d => by
    obtain ⟨y1, y2, y3⟩ := M_see h d sN (by unfold pOu; omega) (by unfold pOu; omega) (fun i q => by unfold rOu at q; omega) g
    exact ⟨by rw [y1, e3], by rw [y3, e6], gp.df d qt_pOu qt_n2 qt_rOu⟩
  have fin : ∀ (r : Int32) (M1 M2 : Mem), F_X0_bytes M 1000 g = some (r, M1) → F_X16_bytes M1 1068 g = some (r, M2) → I8 M2 → Df pOu n2 rOu M M2 → m_nx M2 = m_nx M → m_sl M2 = m_sl M → CR pOu rOu I8 M (fun M => F_X0_bytes M 1000 g) (fun M => F_X16_bytes M 1068 g) := fun r M1 M2 x1 x2 x3 x4 x5 x6 =>
    ⟨r, M1, M2, x1, x2, x3, h5x.df h x4 qt_pOu qt_n2 qt_rOu noGr_pOu (fun i => ⟨fun q => by unfold rOu at q; omega, fun q => by unfold rOu at q; omega⟩), x4.mono (fun _ _ q => q) (fun _ _ q => q.elim) (fun _ _ q => q), by omega, by unfold bud; rw [x4.cI (by omega) (by unfold pOu; omega), x6]; omega⟩
  have nA1 : m_nx A1 = m_nx M := by rw [a3, hA]; rfl
  have lA1 : m_sl A1 = m_sl M := by rw [a4, hA]; rfl
  by_cases cb : LL ≤ 30000
  · -- told
    rw [decide_eq_true cb] at headE
    have eo1 := a6 cb
    obtain ⟨A2, hA2⟩ : ∃ A2, A2 = wR (wR A1 1000 92 ed) 1000 93 eo := ⟨_, rfl⟩
    have sW : ST (wR A1 1000 92 ed) := a5.df (Df.wR (P := n2) (Q := n2) (R := rOu) ed (by unfold rOu; omega)) rOu_st
    have dA2 : Df pOu n2 rOu M A2 := by rw [hA2]; exact (dA1.trans (Df.wR _ (by unfold rOu; omega))).trans (Df.wR _ (by unfold rOu; omega))
    have sA2 : ST A2 := h.df dA2 rOu_st
    have x92 : gr A1 1000 92 = some eo := by rw [g1000_92 a5, a2.cR (by rw [hA]; show 1000 < m_nx M; omega) (fun q => q), hA]; show some (cR M 1000 92) = _; rw [q3]
    have x93 : gr A1 1000 93 = some ed := by rw [g1000_93 a5, a2.cR (by rw [hA]; show 1000 < m_nx M; omega) (fun q => q), hA]; show some (cR M 1000 93) = _; rw [q4]
    have y92 : gr A2 1000 92 = some ed := by rw [g1000_92 sA2, hA2, cR_wR, if_neg (by decide), cR_wR, if_pos ⟨rfl, rfl⟩]
    have y25 : gi A2 ed 1025 = some (iw (LL : Int)) := by
      rw [(oD.f sA2).2.1, hA2]
      show some (cI A1 ed 1025) = _
      rw [eo1.1, List.nil_append, ← hLL, Nat.min_eq_left cb]
    have eE : F_X0_bytes M 1000 g = some (iw (LL : Int), A2) := by
      rw [headE]
      unfold F_X0_written
      rw [if_neg (by decide)]
      simp only [x92, x93, p1000_92, a5, p1000_93, sW, Option.bind_some, ← hA2, y92, y25]
    -- the model
    obtain ⟨c0, r0, gA2⟩ := seeM A2 sA2 dA2
    have rg : cR A2 1068 1126 = mg := by rw [hA2, cR_wR, if_neg (by decide), cR_wR, if_neg (by decide), a2.cR (by rw [hA]; show 1068 < m_nx M; omega) (fun q => q), hA]; exact q6
    have rw' : cR A2 1068 1125 = mw := by rw [hA2, cR_wR, if_neg (by decide), cR_wR, if_neg (by decide), a2.cR (by rw [hA]; show 1068 < m_nx M; omega) (fun q => q), hA]; exact q5
    obtain ⟨B, hB⟩ : ∃ B, B = wI A2 mg 1281 0 := ⟨_, rfl⟩
    have dB : Df pOu n2 rOu M B := dA2.trans (by rw [hB]; exact Df.wI _ (Or.inr (by omega)))
    have sB : ST B := by rw [hB]; exact sA2
    obtain ⟨-, rB, gB⟩ := seeM B sB dB
    have rgB : cR B 1068 1126 = mg := by rw [hB]; exact rg
    have moB : MO B mg [] := ⟨by rw [hB, cI_wI, if_pos ⟨rfl, rfl⟩]; rfl, fun i hi => by cases hi⟩
    have hgl : (gby (K j) (n j) (Z j) val).length + 4 = LL := by rw [gby_len, hlen]; omega
    obtain ⟨B1, k1, k2, k3, k4, k5, sB1⟩ := M_wgrid (val := val) oG sB rgB gB (fun q hq => by rw [dB.cJ cp.2.1 (fun q => q), hval]) moB (by omega)
    have nB : m_nx B = m_nx M := by rw [hB, hA2]; show m_nx A1 = _; exact nA1
    have lB : m_sl B = m_sl M := by rw [hB, hA2]; show m_sl A1 = _; exact lA1
    obtain ⟨f1, f2, f3, f4, f5, f6, f7, f8⟩ := oG.f sB1
    have rgB1 : cR B1 1068 1126 = mg := by rw [k3.cR (by omega) (fun q => q)]; exact rgB
    have crcM : F_X16_crc B1 (mg + 1) (iw ((gby (K j) (n j) (Z j) val).length : Nat)) = some (crr (fun i => (gby (K j) (n j) (Z j) val).getD i 0) (gby (K j) (n j) (Z j) val).length 0 (-1)) := by
      rw [M_crc f5 f6 (by omega) (by decide), crr_congr (g := fun i => (gby (K j) (n j) (Z j) val).getD i 0) _ 0 0 _ (fun q hq => by rw [Nat.zero_add]; exact k2.2 q hq)]
    obtain ⟨B2, y1, y2, y3, y4, y5, sB2⟩ := M_number (w := 4) (v := (crr (fun i => (gby (K j) (n j) (Z j) val).getD i 0) (gby (K j) (n j) (Z j) val).length 0 (-1)).toInt64) oG sB1 k2 (by decide) (by omega)
    have y1' : F_X19_number B1 mg (crr (fun i => (gby (K j) (n j) (Z j) val).getD i 0) (gby (K j) (n j) (Z j) val).length 0 (-1)).toInt64 4 = some B2 := y1
    have mo2 : MO B2 mg (gbc (K j) (n j) (Z j) val) := y2
    have dB2 : Df pOu n2 rOu M B2 := (dB.trans (k3.mono (fun a i q => by unfold atB at q; unfold pOu; omega) (fun _ _ q => q) (fun _ _ q => q.elim))).trans (y3.mono (fun a i q => by unfold atB at q; unfold pOu; omega) (fun _ _ q => q) (fun _ _ q => q.elim))
    have rgB2 : cR B2 1068 1126 = mg := by rw [y3.cR (by omega) (fun q => q)]; exact rgB1
    have rwB2 : cR B2 1068 1125 = mw := by rw [y3.cR (by omega) (fun q => q), k3.cR (by omega) (fun q => q), hB]; exact rw'
    obtain ⟨B3, hB3⟩ : ∃ B3, B3 = wR (wR B2 1068 1125 mg) 1068 1126 mw := ⟨_, rfl⟩
    have sW2 : ST (wR B2 1068 1125 mg) := sB2.df (Df.wR (P := n2) (Q := n2) (R := rOu) mg (by unfold rOu; omega)) rOu_st
    have dB3 : Df pOu n2 rOu M B3 := by rw [hB3]; exact (dB2.trans (Df.wR _ (by unfold rOu; omega))).trans (Df.wR _ (by unfold rOu; omega))
    have sB3 : ST B3 := h.df dB3 rOu_st
    have z25 : gr B3 1068 1125 = some mg := by rw [g1068_1125 sB3, hB3, cR_wR, if_neg (by decide), cR_wR, if_pos ⟨rfl, rfl⟩]
    have t81 : gi B2 mg 1281 = some (iw (LL : Int)) := by rw [(oG.f sB2).2.1, mo2.1, ← hLL]
    have t83 : gi B3 mg 1281 = some (iw (LL : Int)) := by
      rw [(oG.f sB3).2.1, hB3]
      show some (cI B2 mg 1281) = _
      rw [mo2.1, ← hLL]
    have told : F_X16_told B2 1068 = some (iw (LL : Int), B3) := by
      unfold F_X16_told
      simp only [g1068_1126, g1068_1125, sB2, rgB2, rwB2, t81, Option.bind_some]
      rw [if_neg (by rw [show (30000 : Int32) = iw ((30000 : Nat) : Int) from rfl, iw_le4 (by omega) (by omega)]; omega)]
      simp only [p1068_1125, sB2, p1068_1126, sW2, Option.bind_some, ← hB3, z25, t83]
    refine fin (iw (LL : Int)) A2 B3 eE ?_ ⟨ed, eo, mg, mw, LL, by omega, by omega, ?_, ?_, ?_, ?_, cb, ?_, ?_, fun i hi => ?_⟩ dB3 (by rw [hB3]; show m_nx B2 = _; omega) (by rw [hB3]; show m_sl B2 = _; omega)
    · show F_X16_bytes A2 1068 g = _
      have p81 : pi A2 mg 1281 0 = some B := by rw [(oG.f sA2).2.2.1, hB]
      simp only [F_X16_bytes, v1068, sA2, c0, z00, g1068_1092, r0, bO A2 gA2, Option.bind_some, if_false]
      rw [if_neg (by rw [nl3, nl_lt (by decide) (by omega)]; omega)]
      simp only [g1068_1126, sA2, rg, p81, g1068_1092, sB, rB, v1068, k1, sB1, rgB1, f1, f2, k2.1, crcM, f4, y1', sB2, told, Option.bind_some, bse]
    · rw [hB3, cR_wR, if_neg (by decide), cR_wR, if_neg (by decide), y3.cR (by omega) (fun q => q), k3.cR (by omega) (fun q => q), hB]
      show cR A2 1000 92 = ed
      rw [hA2, cR_wR, if_neg (by decide), cR_wR, if_pos ⟨rfl, rfl⟩]
    · rw [hB3, cR_wR, if_neg (by decide), cR_wR, if_neg (by decide), y3.cR (by omega) (fun q => q), k3.cR (by omega) (fun q => q), hB]
      show cR A2 1000 93 = eo
      rw [hA2, cR_wR, if_pos ⟨rfl, rfl⟩]
    · rw [hB3, cR_wR, if_neg (by decide), cR_wR, if_pos ⟨rfl, rfl⟩]
    · rw [hB3, cR_wR, if_pos ⟨rfl, rfl⟩]
    · rw [hB3]
      show cI B2 ed 1025 = _
      rw [y3.cI (by omega) (by unfold atB; omega), k3.cI (by omega) (by unfold atB; omega), hB, cI_wI, if_neg (by omega), hA2]
      show cI A1 ed 1025 = _
      rw [eo1.1, List.nil_append, ← hLL, Nat.min_eq_left cb]
    · rw [hB3]
      show cI B2 mg 1281 = _
      rw [mo2.1, ← hLL]
    · rw [hB3]
      show cI B2 (ed + 1) i = cI B2 (mg + 1) i
      rw [mo2.2 i (by omega), y3.cI (by omega) (by unfold atB; omega), k3.cI (by omega) (by unfold atB; omega), hB, cI_wI, if_neg (by omega), hA2]
      show cI A1 (ed + 1) i = _
      rw [eo1.2 i (by rw [List.nil_append, ← hLL, Nat.min_eq_left cb]; exact hi), List.nil_append]
  · -- too many
    rw [decide_eq_false cb] at headE
    obtain ⟨c0, r0, gA1⟩ := seeM A1 a5 dA1
    refine fin (-12) A1 A1 ?_ ?_ ?_ dA1 nA1 lA1
    · rw [headE]
      unfold F_X0_written
      rw [if_pos (by decide)]
    · show F_X16_bytes A1 1068 g = _
      simp only [F_X16_bytes, v1068, a5, c0, z00, g1068_1092, r0, bO A1 gA1, Option.bind_some, if_false]
      rw [if_pos (by rw [nl3, nl_lt (by decide) (by omega)]; omega)]
    · have d1 : Df (fun a i => (a = ed ∧ i = 1025) ∨ a = ed + 1) n2 n2 M A1 := (by rw [hA]; exact Df.wI _ (Or.inl ⟨rfl, rfl⟩) : Df (fun a i => (a = ed ∧ i = 1025) ∨ a = ed + 1) n2 n2 M A).trans (a2.mono (fun a i q => q) (fun _ _ q => q) (fun _ _ q => q))
      refine ⟨eo, ed, mw, mg, l8, q1, q2, ?_, ?_, ?_, ?_, q7, ?_, ?_, fun i hi => ?_⟩
      · rw [d1.cR (by omega) (fun q => q)]; exact q3
      · rw [d1.cR (by omega) (fun q => q)]; exact q4
      · rw [d1.cR (by omega) (fun q => q)]; exact q5
      · rw [d1.cR (by omega) (fun q => q)]; exact q6
      · rw [d1.cI (by omega) (by omega)]; exact q8
      · rw [d1.cI (by omega) (by omega)]; exact q9
      · rw [d1.cI (by omega) (by omega), d1.cI (by omega) (by omega)]; exact q10 i hi
