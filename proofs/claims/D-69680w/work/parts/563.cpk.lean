/-! ===== CALLS: pick, both ===== -/
def pPc : Nat → Nat → Prop := fun a i => (a = 1068 ∧ (i = 1123 ∨ i = 1124)) ∨ (a = 1037 ∧ i = 771) ∨ (a = 1038 ∧ i = 833) ∨ a = 1039
def pPe : Nat → Nat → Prop := fun a i => a = 1002 ∨ (a = 1037 ∧ i = 771) ∨ (a = 1038 ∧ i = 833) ∨ a = 1039
def qPe : Nat → Nat → Prop := fun a _ => a = 1057
def rPe : Nat → Nat → Prop := fun a _ => a = 1040
theorem pPc_t : ∀ a i, pp pPc a i → pp pTt a i := fun a i q => by
  rcases q with q | q | q | q | q
  · exact Or.inl q
  · exact Or.inr (Or.inr (Or.inl ⟨q.1, by omega⟩))
  · exact Or.inr (Or.inr (Or.inr (Or.inl ⟨q.1, Or.inl q.2⟩)))
  · exact Or.inr (Or.inr (Or.inr (Or.inr (Or.inl q))))
  · exact Or.inr (Or.inr (Or.inr (Or.inr (Or.inr q))))
theorem pPe_c : ∀ a i, pPe a i → pp pPc a i := fun a i q => by
  rcases q with rfl | q | q | q
  · exact Or.inl (psc_t i).2.2.2.1
  · exact Or.inr (Or.inr (Or.inl q))
  · exact Or.inr (Or.inr (Or.inr (Or.inl q)))
  · exact Or.inr (Or.inr (Or.inr (Or.inr q)))
theorem E_chk {A : Mem} {T n R : Nat} {val : Nat → Int64} (h : ST A) (hT : m_tg A T = 53 ∧ cI A T 3393 = iw (R : Int)) (hR : R < 500) (hn : n ≤ 4096) (hJ : ∀ k, k < n → cJ A 1057 k = val k) : ∀ (m K k : Nat), k + m = n → (∀ r, r < k → ¬ bdr val R r) → F_X0_pick_b62 (K + 1 + m) A 1000 T (iw (n : Int)) (iw (k : Int)) = pif (∃ r, r < n ∧ bdr val R r) (some (-2, A)) (tc (F_X11_pick A 1037 T 1057 (iw (n : Int))) (fun z14 => some (z14.1, z14.2)) (fun z15 => F_X0_pick_b121 z15.2 z15.1 1000))
  | 0, K, k, hk, hb => by
    have st : F_X0_pick_b62 (K + 1 + 0) A 1000 T (iw (n : Int)) (iw (k : Int)) = F_X0_pick_b62_st (F_X0_pick_b62 K) A 1000 T (iw (n : Int)) (iw (k : Int)) := rfl
    rw [st]
    unfold F_X0_pick_b62_st
    rw [if_neg (show ¬ iw (k : Int) < iw (n : Int) by rw [iw_le4 (by omega) (by omega)]; omega), fpif (fun ⟨r, h1, h2⟩ => hb r (by omega) h2)]
    simp only [g1000_77, g1000_81, v1037, h, Option.bind_some]
  | m + 1, K, k, hk, hb => by
    have st : F_X0_pick_b62 (K + 1 + (m + 1)) A 1000 T (iw (n : Int)) (iw (k : Int)) = F_X0_pick_b62_st (F_X0_pick_b62 (K + 1 + m)) A 1000 T (iw (n : Int)) (iw (k : Int)) := rfl
    rw [st]
    unfold F_X0_pick_b62_st F_X0_pick_b97
    have aj : al A 1057 (iw (k : Int)) = some (val k) := by rw [al_of (t1057 h) (l1057 h) (show k < 100000 by omega) (by decide), hJ k (by omega)]
    rw [if_pos (show iw (k : Int) < iw (n : Int) by rw [iw_le4 (by omega) (by omega)]; omega)]
    simp only [g1000_81, h, aj, Option.bind_some]
    by_cases c0 : val k < 0
    · rw [if_pos c0, tpif ⟨k, by omega, Or.inl c0⟩]
    · rw [if_neg c0, gi_of hT.1 (show x_fi 53 3393 = true by decide), hT.2, Option.bind_some, i64_iw (by omega)]
      by_cases c1 : val k < nl R
      · rw [if_pos c1, iw_succ]
        exact E_chk h hT hR hn hJ m K (k + 1) (by omega) (fun r hr => by
          by_cases q : r = k
          · rw [q]; exact fun q => q.elim c0 (fun q => q c1)
          · exact hb r (by omega))
      · rw [if_neg c1, tpif ⟨k, by omega, Or.inr c1⟩]
def PCn (M : Mem) (v g : Int32) (Z : Nat → Prop) : Prop := ∃ (r : Int32) (M1 M2 : Mem) (Z' : Nat → Prop), F_X0_pick M 1000 v g = some (r, M1) ∧ F_X16_pick M1 1068 v g = some (r, M2) ∧ I6 M2 Z' ∧ (∀ x, Z x → Z' x) ∧ (∀ x, Z' x → Z x ∨ m_nx M ≤ x) ∧ I5 M2 ∧ Df (pp pPc) qsc rTt M M2 ∧ m_nx M2 ≤ m_nx M + 9000 ∧ bud M2 ≤ bud M + 80000
theorem noT_Pe {Z : Nat → Prop} {M : Mem} (hZ : ∀ x, Z x → 1334 ≤ x ∧ x < m_nx M) : noT (fun a _ => a = 1002) n2 Z := ⟨fun x i q k => by have := hZ x q; omega, fun _ _ _ q => q, fun i q => by omega, fun q => by omega, fun q => by omega, fun q => by omega, fun q => by omega, fun _ q => q, fun _ q => q⟩
theorem c_pick {M : Mem} {Z : Nat → Prop} (h : ST M) (k0 : K0 M) (k4 : m_tg M 4 = 1091 ∧ m_ln M 4 = 0) (h4 : I4 M) (h5 : I5 M) (h6 : I6 M Z) (v g : Int32) : PCn M v g Z := by
  have h0 := h.1
  have h5x := h5
  have h6x := h6
  obtain ⟨m', w', Kk, nn, Zz, S, TT', X, Y, C, D', L, P, h5⟩ := h5
  have n10 : ¬ (1 : Int32) = 0 := by decide
  have z6 : ¬ (0 : Nat) = 6 := by decide
  -- nothing changes
  have no : ∀ r : Int32, F_X0_pick M 1000 v g = some (r, M) → F_X16_pick M 1068 v g = some (r, M) → PCn M v g Z := fun r e1 e2 => ⟨r, M, M, Z, e1, e2, h6x, fun _ q => q, fun _ q => Or.inl q, h5x, Df.refl _ _ _ _, by omega, by omega⟩
  rcases lookT h h4 h6 v with ⟨a1, a2, a3, a4, a5⟩ | ⟨a1, a2, a3, a4, a5, a6⟩ | ⟨a1, a2, d, W, k, m, ev, k1, k2, m40, e71, e23, w65, e33, e24, gd, te, tm, fT, z1, z2, it, cT, ar2⟩
  · -- closed
    rcases look h h4 h5 g with ⟨b1, b2, e1, e2, e3⟩ | ⟨b1, -⟩ | ⟨b1, -⟩
    · exact no (-13) (by simp only [F_X0_pick, F_X0_pick_b22, v1000, h, a3, e1, a5, z6, if_false, if_true, Option.bind_some]) (by simp only [F_X16_pick, g1068_1095, h, a2, n10, if_false, Option.bind_some])
    · rw [a1] at b1; exact absurd b1 (by decide)
    · rw [a1] at b1; exact absurd b1 (by decide)
  · -- no table
    have eM : F_X16_pick M 1068 v g = some (-14, M) := by simp only [F_X16_pick, F_X16_pick_b26, g1068_1095, v1068, h, a2, a4, if_true, Option.bind_some]
    rcases look h h4 h5 g with ⟨b1, -⟩ | ⟨b1, b2, e1, e2, e3, e8⟩ | ⟨b1, b2, j, j1, j2, hg, e1, -⟩
    · rw [a1] at b1; exact absurd b1 (by decide)
    · exact no (-14) (by simp only [F_X0_pick, F_X0_pick_b22, v1000, h, a3, e1, a6, z6, if_false, if_true, Option.bind_some]) eM
    · exact no (-14) (by simp only [F_X0_pick, F_X0_pick_b22, v1000, h, a3, e1, a6, z6, if_false, if_true, Option.bind_some]) eM
  have t6 : ¬ cR M 1040 k = 6 := by omega
  have t0 : ¬ cR M 1040 k = 0 := by omega
  have gone : F_X0_gone M 1000 = some 14 := by simp only [F_X0_gone, F_X0_gone_b14, g1000_97, h, a1, if_true, Option.bind_some]
  rcases look h h4 h5 g with ⟨b1, -⟩ | ⟨b1, b2, e1, e2, e3, e8⟩ | ⟨b1, b2, j, j1, j2, hg, e1, e4, e5, e3, e7, e6, gp⟩
  · rw [a1] at b1; exact absurd b1 (by decide)
  · exact no (-14) (by simp only [F_X0_pick, F_X0_pick_b22, v1000, h, fT, e1, t6, t0, gone, z6, if_false, if_true, Option.bind_some]) (by simp only [F_X16_pick, F_X16_pick_b26, g1068_1095, v1068, h, a2, it, e8, n10, if_true, if_false, Option.bind_some])
  obtain ⟨rE, rM⟩ := E_row gp
  have laneE := gi_of gp.1.2.2.1 (show x_fi 22 1408 = true by decide)
  have laneM := gi_of gp.2.1.2.2.1 (show x_fi 23 1472 = true by decide)
  rw [gp.1.2.2.2.1] at laneE
  rw [gp.2.1.2.2.2.1] at laneM
  have vE := vg_of gp.1.2.2.1 (show x_isa 22 22 = true by decide)
  by_cases c1 : ¬ nn j = 1
  · rw [if_neg c1] at rE rM
    exact no (-1) (by simp only [F_X0_pick, F_X0_pick_b45, v1000, h, fT, e1, t6, t0, e4, e5, vE, rE, if_false, if_true, Option.bind_some]) (by simp only [F_X16_pick, F_X16_pick_b51, g1068_1095, v1068, h, a2, it, e7, n10, g1068_1092, e6, rM, if_true, if_false, Option.bind_some])
  have c1 := Decidable.of_not_not c1
  rw [if_pos c1] at rE rM
  by_cases c4 : ¬ Kk j = 4
  · exact no (-1) (by simp only [F_X0_pick, F_X0_pick_b45, v1000, h, fT, e1, t6, t0, e4, e5, vE, rE, n10, laneE, c4, if_false, if_true, Option.bind_some]) (by simp only [F_X16_pick, F_X16_pick_b51, g1068_1095, v1068, h, a2, it, e7, n10, g1068_1092, e6, rM, laneM, c4, if_true, if_false, Option.bind_some])
  have c4 := Decidable.of_not_not c4
  obtain ⟨n, hn⟩ : ∃ n, n = prd (Zz j) (nn j) := ⟨_, rfl⟩
  have hzb := gp.2.2.2.2.1
  have hn4 : n ≤ 4096 := by
    rw [hn, c1]
    have := hzb 0 (by omega)
    show 1 * Zz j 0 ≤ 4096
    omega
  obtain ⟨val, hval⟩ : ∃ val : Nat → Int64, val = fun i => cJ M (C j) (gpos (nn j) (Zz j) (S j) (X j) i) := ⟨_, rfl⟩
  have cp := gp.2.2.2.2.2.2.2.1
  obtain ⟨A, f1, f2, f3, f4, f5⟩ := E_gather (arr := 1057) (W := 100000) gp (by decide) (by omega) (by decide) (t1057 h) (l1057 h)
  rw [← hn] at f1 f5
  have sA : ST A := h.df f4 n2_st
  have kA : K0 A := k0.df h f4 (fun _ _ _ q => q) (fun _ _ _ q => q)
  have hZ := h6.1
  have noA : noT n2 n2 Z := ⟨fun _ _ _ q => q, fun _ _ _ q => q, fun _ q => q, fun q => q, fun q => q, fun q => q, fun q => q, fun _ q => q, fun _ q => q⟩
  have h6A : I6 A Z := h6x.df f4 h0 noA
  have teA : TE A Z W (cR M 1040 k) d := te.df f4 (fun x hx => (hZ x hx).2) (fun _ _ _ q => q) (fun _ _ _ q => q) h0 (fun _ _ q => q)
  have hvA : ∀ i, i < n → cJ A 1057 i = val i := fun i hi => by rw [f5 i hi, hval]
  have g3 := gd.2.2.1
  obtain ⟨K3, hK3⟩ : ∃ K, K + 1 + n = xN := ⟨xN - 1 - n, by have : xN = 1099511627776 := rfl; omega⟩
  have ck := E_chk (T := cR M 1040 k) (R := d.2.1) (val := val) sA ⟨teA.1.2, teA.2.2.1⟩ g3 hn4 hvA n K3 0 (by omega) (fun r hr => by omega)
  rw [hK3] at ck
  have headE : F_X0_pick M 1000 v g = pif (∃ r, r < n ∧ bdr val d.2.1 r) (some (-2, A)) (tc (F_X11_pick A 1037 (cR M 1040 k) 1057 (iw (n : Int))) (fun z14 => some (z14.1, z14.2)) (fun z15 => F_X0_pick_b121 z15.2 z15.1 1000)) := by
    simp only [F_X0_pick, v1000, h, fT, e1, t6, t0, e4, e5, vE, rE, n10, laneE, c4, g1000_81, f1, if_true, if_false, Option.bind_some]
    exact ck
  obtain ⟨ρ, hρd⟩ : ∃ ρ : Nat → Nat, ρ = fun r => (val r).toInt.toNat := ⟨_, rfl⟩
  have hρ : ∀ r, r < n → ¬ bdr val d.2.1 r → val r = nl (ρ r) ∧ ρ r < d.2.1 := fun r _ hb => by rw [hρd]; exact good_r g3 hb
  -- the model from where the engine has come to
  have model : ∀ N : Mem, ST N → Df pPe qPe rPe M N → F_X16_pick N 1068 v g = F_X16_pick_b73 xN N 1068 (cR M 1070 j) (cR M 1324 k) (iw (n : Int)) 0 0 ∧ K0 N ∧ (m_tg N 4 = 1091 ∧ m_ln N 4 = 0) ∧ TMt N Z (cR M 1324 k) d ∧ (∀ x, Z x → 1334 ≤ x ∧ x < m_nx N) ∧ cI N 1068 1123 = iw (m : Int) ∧ cI N 1068 1124 = iw (W : Int) ∧ (∀ N', Df n2 n2 n2 N N' → (∀ r, r < n → F_X22_cell N' (cR M 1070 j) (iw (r : Int)) = some (val r)) ∧ vg N' (cR M 1070 j) 23 = some ()) := fun N sN dN => by
    have nN := dN.1
    have c68 : ∀ i, cI N 1068 i = cI M 1068 i := fun i => dN.cI (by omega) (fun q => by unfold pPe at q; omega)
    have kN : K0 N := k0.df h dN (fun a i q kk => by unfold pPe at kk; omega) (fun a i q kk => by unfold rPe at kk; omega)
    have tN : TMt N Z (cR M 1324 k) d := tm.df dN (fun y hy => (hZ y hy).2) (fun x i q kk => by have := hZ x q; unfold pPe at kk; omega) (fun x i q kk => by have := hZ x q; unfold rPe at kk; omega)
    have hZN : ∀ x, Z x → 1334 ≤ x ∧ x < m_nx N := fun y hy => by have := hZ y hy; omega
    have rT : cR N 1324 k = cR M 1324 k := dN.cR (by omega) (fun q => by unfold rPe at q; omega)
    have cm := codeM (c := iw ((0 : Nat) : Int)) (j := 0) sN kN (by rw [c68]; exact a2) (by rw [c68]; exact e23) ev k1 k2 m40 rT z2 gd tN hZN rfl (by have := gd.1; omega)
    obtain ⟨y1, y2, y3⟩ := M_see h dN sN (by unfold pPe; omega) (by unfold pPe; omega) (fun i q => by unfold rPe at q; omega) g
    have gN := gp.df dN (fun a i q1 q2 => by unfold pPe at q2; omega) (fun a i q1 q2 => by unfold qPe at q2; omega) (fun a i q1 q2 => by unfold rPe at q2; omega)
    obtain ⟨-, rN⟩ := E_row gN
    rw [if_pos c1] at rN
    have laneN := gi_of gN.2.1.2.2.1 (show x_fi 23 1472 = true by decide)
    rw [gN.2.1.2.2.2.1] at laneN
    refine ⟨?_, kN, ⟨(dN.2.2 4 (by omega)).1.trans k4.1, (dN.2.2 4 (by omega)).2.1.trans k4.2⟩, tN, hZN, by rw [c68]; exact e23, by rw [c68]; exact e24, fun N' dN' => ?_⟩
    · simp only [F_X16_pick, g1068_1095, v1068, sN, c68, a2, cm.1, n10, y2, e7, g1068_1092, y3, e6, rN, laneN, c4, g1068_1122, cm.2.2.2, vg_of gN.2.1.2.2.1 (show x_isa 23 23 = true by decide), M_count gN.2.1 gp.2.2.2.1 gp.2.2.2.2.1, ← hn, if_true, if_false, Option.bind_some]
    · have gN' := gN.df dN' qt_n2 qt_n2 qt_n2
      refine ⟨fun r hr => ?_, vg_of gN'.2.1.2.2.1 (show x_isa 23 23 = true by decide)⟩
      have gg := (gN'.get (show r < prd (Zz j) (nn j) by omega)).2.2
      rw [gg, hval, dN'.cJ (by have := cp.2.1; omega) (fun q => q), dN.cJ cp.2.1 (fun q => by unfold qPe at q; have := cp.1; omega)]
  have dA : Df pPe qPe rPe M A := f4.mono (fun _ _ q => q.elim) (fun _ _ q => q) (fun _ _ q => q.elim)
  have toP : ∀ {N : Mem}, Df pPe qPe rPe M N → Df (pp pPc) qsc rTt M N := fun {N} dN => dN.mono pPe_c (fun a i q => by unfold qPe at q; show a < 1334; omega) (fun a i q => Or.inr (Or.inl q))
  have fin5 : ∀ {N : Mem}, Df (pp pPc) qsc rTt M N → I5 N ∧ bud N + m_sl M = bud M + m_sl N := fun {N} dN => tab_no h h5x (dN.mono pPc_t (fun _ _ q => q) (fun _ _ q => q))
  rw [show PCn M v g Z ↔ PCn M v g Z from Iff.rfl]
  by_cases cb : ∃ r, r < n ∧ bdr val d.2.1 r
  · -- a row that is none
    rw [tpif cb] at headE
    obtain ⟨w1, w2, w3, w4, w5, w6, w7, w8⟩ := model A sA dA
    have mp := (M_pickT sA w2 w3 gd w4 w5 w6 m40 w7 w65 hn4 w8 hρ).1 cb
    obtain ⟨y1, y2⟩ := fin5 (toP dA)
    exact ⟨-2, A, A, Z, headE, w1.trans mp, h6A, fun _ q => q, fun _ q => Or.inl q, y1, toP dA, by omega, by omega⟩
  · rw [fpif cb] at headE
    have gr' : ∀ r, r < n → val r = nl (ρ r) ∧ ρ r < d.2.1 := fun r hr => hρ r hr (fun q => cb ⟨r, hr, q⟩)
    have pk := E_pickT (m := m) (n := n) (ρ := ρ) sA kA gd w65 teA (fun x hx => by have := hZ x hx; omega) (by rw [f4.cI (by omega) (fun q => q)]; exact e71) m40 (by rw [f4.cI (by omega) (fun q => q)]; exact e33) hn4 (fun r hr => (gr' r hr).2) (fun r hr => by rw [hvA r hr]; exact (gr' r hr).1)
    by_cases full : m = 40 ∨ 500 ≤ n ∨ 65536 < W + pkx d ρ n
    · -- no room
      obtain ⟨E, hE⟩ : ∃ E, E = eT A 12 (-1) := ⟨_, rfl⟩
      have sE : ST E := by rw [hE]; exact sA
      have dAE : Df (fun a _ => a = 1002) n2 n2 A E := by
        rw [hE]
        unfold eT
        exact (Df.wI (P := fun a _ => a = 1002) (Q := n2) (R := n2) (M := A) (a := 1002) (i := 129) 12 rfl).trans (Df.wI _ rfl)
      have dE : Df pPe qPe rPe M E := dA.trans (dAE.mono (fun _ _ q => Or.inl q) (fun _ _ q => q.elim) (fun _ _ q => q.elim))
      have eE : F_X0_pick M 1000 v g = some (-12, E) := by
        have c29 : cI E 1002 129 = 12 := by rw [hE]; unfold eT; rw [cI_wI, if_neg (by decide), cI_wI, if_pos ⟨rfl, rfl⟩]
        rw [headE, pk.1 full, ← hE, tc_inr]
        simp only [F_X0_pick_b121, g1000_67, g1002_129, sE, c29, Option.bind_some]
      obtain ⟨w1, w2, w3, w4, w5, w6, w7, w8⟩ := model E sE dE
      have mp := (M_pickT sE w2 w3 gd w4 w5 w6 m40 w7 w65 hn4 w8 hρ).2.1 cb full
      obtain ⟨y1, y2⟩ := fin5 (toP dE)
      have nE : m_nx E = m_nx A ∧ m_sl E = m_sl A := by rw [hE]; exact ⟨rfl, rfl⟩
      exact ⟨-12, E, E, Z, eE, w1.trans mp, h6A.df dAE (by omega) (noT_Pe h6A.1), fun _ q => q, fun _ q => Or.inl q, y1, toP dE, by omega, by omega⟩
    · -- a table is made
      obtain ⟨E, x1, x2, x3, x4, x5, x6, x7, x8, x9, x10⟩ := pk.2 full
      have eE : F_X0_pick M 1000 v g = some (iw ((m + 1 : Nat) : Int), E) := by
        rw [headE, x1, tc_inl]
      have dE : Df pPe qPe rPe M E := dA.trans (x8.mono (fun a i q => by unfold pMk pWd at q; unfold pPe; omega) (fun _ _ q => q.elim) (fun a i q => q.1))
      obtain ⟨w1, w2, w3, w4, w5, w6, w7, w8⟩ := model E x2 dE
      obtain ⟨M2, u1, u2, u3, u4, u5, u6, u7⟩ := (M_pickT x2 w2 w3 gd w4 w5 w6 m40 w7 w65 hn4 w8 hρ).2.2 cb full
      have hE0 := x2.1
      have nn2 := u5.1
      have dM2 : Df (pp pPc) qsc rTt M M2 := (toP dE).trans (u5.mono (fun a i q => Or.inr (Or.inl q)) (fun _ _ q => q.elim) (fun a i q => Or.inr (Or.inr q.1)))
      obtain ⟨y1, y2⟩ := fin5 dM2
      have g2 := gd.2.1
      have hCn : d.1 * n ≤ 16 * 499 := Nat.mul_le_mul g2 (by omega)
      obtain ⟨hZA, mA, WA, DA, q1, q2, q3, q4, q5, q6, q7⟩ := h6A
      have emA : mA = m := by
        have : cI A 1037 771 = iw (m : Int) := by rw [f4.cI (by omega) (fun q => q)]; exact e71
        rw [q3, iw_eq (by omega) (by omega) (by omega) (by omega)] at this
        omega
      have eWA : WA = W := by
        have : cI A 1038 833 = iw (W : Int) := by rw [f4.cI (by omega) (fun q => q)]; exact e33
        rw [q5, iw_eq (by omega) (by omega) (by omega) (by omega)] at this
        omega
      rw [emA, eWA] at q7
      rw [emA] at q1
      -- the new table may hold cells of the old one
      refine ⟨iw ((m + 1 : Nat) : Int), E, M2, fun x => Z x ∨ (m_nx A ≤ x ∧ x < m_nx M2), eE, w1.trans u1, ?_, fun x q => Or.inl q, fun x q => q.imp id (fun q => by omega), y1, dM2, by omega, by omega⟩
      have nMk : ∀ x i, 1334 ≤ x → ¬ pMk W x i := fun x i q k => by unfold pMk pWd at k; omega
      have nMkW : ∀ i, i < W → ¬ pMk W 1039 i := fun i q k => by unfold pMk pWd at k; omega
      have d3 : Df (fun a i => pMk W a i ∨ pTa a i) n2 (fun a i => rMk m a i ∨ rMt m a i) A M2 := (x8.mono (fun _ _ q => Or.inl q) (fun _ _ q => q) (fun _ _ q => Or.inl q)).trans (u5.mono (fun _ _ q => Or.inr q) (fun _ _ q => q) (fun _ _ q => Or.inr q))
      have nTa : ∀ x i, x ≠ 1068 → ¬ pTa x i := fun x i q k => q k.1
      have p1 : ∀ x i, Z x → ¬ (pMk W x i ∨ pTa x i) := fun x i q k => k.elim (nMk x i (hZA x q).1) (nTa x i (by have := (hZA x q).1; omega))
      have p2 : ∀ x i, Z x → ¬ (rMk m x i ∨ rMt m x i) := fun x i q k => by
        have := (hZA x q).1
        rcases k with k | k
        · have := k.1; omega
        · have := k.1; omega
      refine ⟨fun x q => ?_, m + 1, W + pkx d ρ n, fun k' => if k' = m + 1 then some (pkd d ρ n) else DA k', by omega, by omega, by rw [u5.cI (by omega) (nTa _ _ (by decide))]; exact x5, u3, by rw [u5.cI (by omega) (nTa _ _ (by decide))]; exact x7, u4, fun k' k1' k2' => ?_⟩
      · rcases q with q | q
        · have := hZA x q; omega
        · omega
      · simp only []
        by_cases ek : k' = m + 1
        · rw [if_pos ek, ek]
          have r40 : cR M2 1040 (m + 1) = m_nx A := by rw [u5.cR (by omega) (fun q => by have := q.1; omega)]; exact x6
          rw [r40]
          refine ⟨pkd_gt gd (by omega) (fun r hr => (gr' r hr).2), ?_, u2.w (fun x q => q.imp id (fun q => by omega))⟩
          exact (x4.df u5 (fun x q => by omega) (fun x i q => nTa x i (by omega)) (fun x i q k => by have := k.1; omega) (by omega) (fun i _ => nTa _ _ (by decide))).w (Nat.le_refl _) (fun x q => Or.inr ⟨by omega, by omega⟩)
        · rw [if_neg ek]
          have old := q7 k' k1' (by omega)
          have r40 : cR M2 1040 k' = cR A 1040 k' := by rw [u5.cR (by omega) (fun q => by have := q.1; omega), x8.cR (by omega) (fun q => ek q.2)]
          have r24 : cR M2 1324 k' = cR A 1324 k' := by rw [u5.cR (by omega) (fun q => ek q.2), x8.cR (by omega) (fun q => by have := q.1; omega)]
          rw [r40, r24]
          cases hDk : DA k' with
          | none => rw [hDk] at old; exact old
          | some d' =>
            rw [hDk] at old
            exact ⟨old.1, (old.2.1.df d3 (fun x q => (hZA x q).2) p1 p2 (by omega) (fun i hi k => k.elim (nMkW i hi) (nTa _ _ (by decide)))).w (by omega) (fun x q => Or.inl q), (old.2.2.df d3 (fun x q => (hZA x q).2) p1 p2).w (fun x q => Or.inl q)⟩
