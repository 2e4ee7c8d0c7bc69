/-! ===== CALLS, 10: copy, whole ===== -/
theorem I5w.puts {P' Q' : Nat → Nat → Prop} {M M2 : Mem} (h : ST M) {m w : Nat} {K : Nat → Int32} {n : Nat → Nat} {Z : Nat → Nat → Nat} {S T : Nat → Nat → Int32} {X Y : Nat → Int32} {C D L : Nat → Nat} {P : Nat → Int32} (h5 : I5w M m w K n Z S T X Y C D L P) {j : Nat} (j1 : 1 ≤ j) (j2 : j ≤ m) (hj : cR M 1005 j ≠ 0) (d : Df P' Q' n2 M M2) (hP : qt P') (gP : noGr P') (hQ : ∀ a i, 1334 ≤ a → Q' a i → a = C j ∨ a = D j)
    (hv : ∀ q, q < L j → cJ M2 (C j) q = cJ M2 (D j) q ∧ vb (K j) (cJ M2 (C j) q)) : I5w M2 m w K n Z S T X Y C D L P := by
  have h0 := h.1
  obtain ⟨q1, q2, q3, q4, q5, q6, q7, q8⟩ := h5
  have r5 : ∀ g, cR M2 1005 g = cR M 1005 g := fun g => d.cR (by omega) (fun hh => hh)
  have r7 : ∀ g, cR M2 1070 g = cR M 1070 g := fun g => d.cR (by omega) (fun hh => hh)
  refine ⟨q1, q2, ?_, ?_, ?_, ?_, fun g a1 a2 => ?_, fun g g' a1 a2 a3 a4 a5 a6 => ?_⟩
  · rw [d.cI (by omega) (gP _ _ (Or.inl ⟨rfl, Or.inl rfl⟩))]; exact q3
  · rw [d.cI (by omega) (gP _ _ (Or.inr ⟨rfl, Or.inl rfl⟩))]; exact q4
  · rw [d.cI (by omega) (gP _ _ (Or.inl ⟨rfl, Or.inr rfl⟩))]; exact q5
  · rw [d.cI (by omega) (gP _ _ (Or.inr ⟨rfl, Or.inr rfl⟩))]; exact q6
  · rw [r5, r7]
    rcases q7 g a1 a2 with hz | gp
    · exact Or.inl hz
    · right
      have hg : cR M 1005 g ≠ 0 := by have := gp.1.1; omega
      obtain ⟨s1, s2, s3⟩ := q8 g j a1 a2 j1 j2 hg hj
      obtain ⟨-, -, s4⟩ := q8 j g j1 j2 a1 a2 hj hg
      have gpj : GP M (cR M 1005 j) (cR M 1070 j) (K j) (n j) (Z j) (S j) (T j) (X j) (Y j) (C j) (D j) (L j) (P j) := (q7 j j1 j2).resolve_left (fun hh => hj hh.1)
      obtain ⟨gE, gM, hk, hn, hz, hc, hp, hC, hvl⟩ := gp
      refine ⟨gE.df d hP qt_n2, gM.df d hP qt_n2, hk, hn, hz, hc, hp, ?_, hvl⟩
      obtain ⟨c1, c2, c3, c4, c5, c6, c7, c8, c9, c10⟩ := hC
      obtain ⟨t1, t2, t3⟩ := d.2.2 _ c2
      obtain ⟨u1, u2, u3⟩ := d.2.2 _ c4
      have dn := d.1
      refine ⟨c1, by omega, c3, by omega, t1.trans c5, u1.trans c6, t2.trans c7, u2.trans c8, c9, fun i hi => ?_⟩
      by_cases e : C g = C j
      · have eD := s1.mp e
        have eL : L g = L j := by
          have q := gpj.2.2.2.2.2.2.2.1.2.2.2.2.2.2.1
          rw [← e] at q
          rw [← c7, q]
        rw [e, eD, s2 e]
        exact hv i (by omega)
      · have eD : ¬ D g = D j := fun hh => e (s1.mpr hh)
        have n1 : ¬ C g = D j := s3
        have n2 : ¬ D g = C j := fun hh => s4 hh.symm
        rw [(t3 i).2.1 (fun hh => (hQ _ _ c1 hh).elim e n1), (u3 i).2.1 (fun hh => (hQ _ _ c3 hh).elim n2 eD)]
        exact c10 i hi
  · rw [r5] at a5 a6
    exact q8 g g' a1 a2 a3 a4 a5 a6
theorem M_listed1_loop {P R : Nat → Nat → Prop} {M0 : Mem} {a b : Nat} {k : Int32} {n : Nat} {z : Nat → Nat} {s t : Nat → Int32} {x y : Int32} {c d L W arr : Nat} {p : Int32} (g : GP M0 a b k n z s t x y c d L p) (hP : qt P) (hR : qt R) (ha : arr < 1334) (hW : prd z n ≤ W) (hW2 : W ≤ 100000) (v : Nat → Int64) : ∀ (e N i : Nat) (M : Mem), i + e = prd z n → e + 1 ≤ N → Df P (fun _ _ => True) R M0 M → (∀ x', x' < prd z n → cJ M d (gpos n z s x x') = v x') → m_tg M arr = 1006 → m_ln M arr = W → (∀ x', x' < i → cJ M arr x' = v x') →
    ∃ M', F_X16_listed_b7 N M b arr (iw (prd z n : Nat)) (iw (i : Int)) = some M' ∧ m_nx M' = m_nx M ∧ m_sl M' = m_sl M ∧ Df n2 (fun a _ => a = arr) n2 M M' ∧ ∀ x', x' < prd z n → cJ M' arr x' = v x' := by
  have cp := g.2.2.2.2.2.2.2.1
  intro e
  induction e with
  | zero =>
    intro N i M hi hN dd hv t1 l1 hx
    obtain ⟨N, rfl⟩ : ∃ x, N = x + 1 := ⟨N - 1, by omega⟩
    have hi : i = prd z n := by omega
    subst hi
    refine ⟨M, ?_, rfl, rfl, Df.refl _ _ _ _, hx⟩
    show F_X16_listed_b7_st (F_X16_listed_b7 N) M _ _ _ _ = _
    unfold F_X16_listed_b7_st
    rw [if_neg (by rw [iw_le4 (by omega) (by omega)]; omega)]
  | succ e ih =>
    intro N i M hi hN dd hv t1 l1 hx
    obtain ⟨N, rfl⟩ : ∃ x, N = x + 1 := ⟨N - 1, by omega⟩
    have hlt : i < prd z n := by omega
    have gM := g.2.1.df dd hP hR
    have hpos := (g.place hlt).1
    have hda : d ≠ arr := by have := cp.2.2.1; omega
    have hd : Df n2 (fun a _ => a = arr) n2 M (wJ M arr i (v i)) := Df.wJ _ rfl
    obtain ⟨M', f1, f2, f3, f4, f5⟩ := ih N (i + 1) (wJ M arr i (v i)) (by omega) (by omega) (dd.trans (hd.mono (fun _ _ q => q.elim) (fun _ _ _ => trivial) (fun _ _ q => q.elim))) (fun x' hx' => by rw [cJ_wJ, if_neg (fun hh => hda hh.1)]; exact hv x' hx') t1 l1 (fun x' hx' => by
      rw [cJ_wJ]
      by_cases e : x' = i
      · rw [if_pos ⟨rfl, e⟩, e]
      · rw [if_neg (fun hh => e hh.2)]
        exact hx x' (by omega))
    refine ⟨M', ?_, f2, f3, hd.trans f4, f5⟩
    rw [← f1]
    show F_X16_listed_b7_st (F_X16_listed_b7 N) M _ _ _ _ = _
    unfold F_X16_listed_b7_st
    have td : m_tg M d = 1006 := (dd.2.2 _ cp.2.2.2.1).1.trans cp.2.2.2.2.2.1
    have ld : m_ln M d = L := (dd.2.2 _ cp.2.2.2.1).2.1.trans cp.2.2.2.2.2.2.2.1
    have hL := cp.2.2.2.2.2.2.2.2.1
    have hcell : F_X22_cell M b (iw (i : Int)) = some (v i) := by
      unfold F_X22_cell
      simp only [gr_of gM.2.2.1 (show x_fr 23 1476 = true by decide), gM.2.2.2.2.2.2.2.1, vg_of gM.2.2.1 (show x_isa 23 23 = true by decide), g.placeM dd hP hR hlt, Option.bind_some, al_of td ld hpos (by omega), hv i hlt]
    rw [if_pos (by rw [iw_le4 (by omega) (by omega)]; exact hlt), vg_of gM.2.2.1 (show x_isa 23 23 = true by decide)]
    simp only [Option.bind_some]
    rw [hcell]
    simp only [Option.bind_some]
    rw [sj_of (v i) t1 l1 (show i < W by omega) (by omega)]
    simp only [Option.bind_some]
    rw [show iw (i : Int) + 1 = iw ((i + 1 : Nat) : Int) by rw [show (1 : Int32) = iw 1 from rfl, iw_add]; rfl]
theorem M_listed1 {P R : Nat → Nat → Prop} {M0 M : Mem} {a b : Nat} {k : Int32} {n : Nat} {z : Nat → Nat} {s t : Nat → Int32} {x y : Int32} {c d L W arr : Nat} {p : Int32} (g : GP M0 a b k n z s t x y c d L p) (dd : Df P (fun _ _ => True) R M0 M) (hP : qt P) (hR : qt R) (ha : arr < 1334) (hW : prd z n ≤ W) (hW2 : W ≤ 100000) (t1 : m_tg M arr = 1006) (l1 : m_ln M arr = W) :
    ∃ M', F_X16_listed M b arr = some M' ∧ m_nx M' = m_nx M ∧ m_sl M' = m_sl M ∧ Df n2 (fun a _ => a = arr) n2 M M' ∧ ∀ x', x' < prd z n → cJ M' arr x' = cJ M d (gpos n z s x x') := by
  obtain ⟨M', f1, f2⟩ := M_listed1_loop g hP hR ha hW hW2 (fun x' => cJ M d (gpos n z s x x')) (prd z n) xN 0 M (by omega) (by have : xN = 1099511627776 := rfl; omega) dd (fun x' _ => rfl) t1 l1 (fun x' h => by omega)
  refine ⟨M', ?_, f2⟩
  have gM := g.2.1.df dd hP hR
  unfold F_X16_listed
  rw [vg_of gM.2.2.1 (show x_isa 23 23 = true by decide)]
  simp only [Option.bind_some]
  rw [M_count gM g.2.2.2.1 g.2.2.2.2.1]
  exact f1
theorem c_copy {M : Mem} {g g' : Int32} (h : ST M) (h4 : I4 M) (h5 : I5 M) : ∃ (r : Int32) (M1 M2 : Mem), F_X0_copy M 1000 g g' = some (r, M1) ∧ F_X16_copy M1 1068 g g' = some (r, M2) ∧ I5 M2 ∧ Df n2 (fun a i => qsc a i ∨ qG M a i) n2 M M2 ∧ m_nx M2 = m_nx M ∧ m_sl M2 = m_sl M := by
  have h0 := h.1
  have h5x := h5
  obtain ⟨m, w, K, n, Z, S, T, X, Y, C, D, L, P, h5⟩ := h5
  have n10 : ¬ (1 : Int32) = 0 := by decide
  rcases look h h4 h5 g with ⟨b1, b2, e1, e2, e3⟩ | ⟨b1, b2, e1, e2, e3, e8⟩ | ⟨b1, b2, j, j1, j2, hg, e1, e4, e5, e3, e7, e6, gp⟩
  · have x1 : F_X0_find M 1000 g' = some 0 := by
      rcases look h h4 h5 g' with ⟨-, -, x, -⟩ | ⟨y, -⟩ | ⟨y, -⟩
      · exact x
      · rw [b1] at y; exact absurd y n10
      · rw [b1] at y; exact absurd y n10
    refine ⟨-13, M, M, ?_, ?_, h5x, Df.refl _ _ _ _, rfl, rfl⟩
    · simp only [F_X0_copy, F_X0_copy_b22, v1000, h, e1, x1, e2, Option.bind_some, Nat.reduceEqDiff, if_false, if_true]
    · simp only [F_X16_copy, g1068_1095, h, b2, n10, Option.bind_some, if_false]
  · have x1 : ∃ x, F_X0_find M 1000 g' = some x := by
      rcases look h h4 h5 g' with ⟨-, -, x, -⟩ | ⟨-, -, x, -⟩ | ⟨-, -, j, -, -, -, x, -⟩
      · exact ⟨_, x⟩
      · exact ⟨_, x⟩
      · exact ⟨_, x⟩
    obtain ⟨x, x1⟩ := x1
    refine ⟨-14, M, M, ?_, ?_, h5x, Df.refl _ _ _ _, rfl, rfl⟩
    · simp only [F_X0_copy, F_X0_copy_b22, v1000, h, e1, x1, e2, Option.bind_some, Nat.reduceEqDiff, if_false, if_true]
    · simp only [F_X16_copy, F_X16_copy_b26, g1068_1095, v1068, h, b2, e8, Option.bind_some, if_true]
  · rcases look h h4 h5 g' with ⟨x1, -⟩ | ⟨-, -, x1, x2, x3, x8⟩ | ⟨-, -, j', j1', j2', hg', x1, x4, x5, x3, x7, x6, gp'⟩
    · rw [b1] at x1; exact absurd x1.symm n10
    · refine ⟨-14, M, M, ?_, ?_, h5x, Df.refl _ _ _ _, rfl, rfl⟩
      · simp only [F_X0_copy, F_X0_copy_b22, v1000, h, e1, e4, e5, x1, x2, Option.bind_some, Nat.reduceEqDiff, if_false, if_true]
      · simp only [F_X16_copy, F_X16_copy_b26, g1068_1095, v1068, h, b2, e7, x8, n10, Option.bind_some, if_true, if_false]
    · obtain ⟨zf, f1, f2, f3, f4⟩ := fits_eq gp.2.2.1 gp'.2.2.1
      have gE := gp.1.2.2.1
      have gE' := gp'.1.2.2.1
      have gM := gp.2.1.2.2.1
      have gM' := gp'.2.1.2.2.1
      have k1 : gi M (cR M 1005 j) 1408 = some (K j) := by rw [gi_of gE (by decide), gp.1.2.2.2.1]
      have k1' : gi M (cR M 1005 j') 1408 = some (K j') := by rw [gi_of gE' (by decide), gp'.1.2.2.2.1]
      have k2 : gi M (cR M 1070 j) 1472 = some (K j) := by rw [gi_of gM (by decide), gp.2.1.2.2.2.1]
      have k2' : gi M (cR M 1070 j') 1472 = some (K j') := by rw [gi_of gM' (by decide), gp'.2.1.2.2.2.1]
      have p1' : gi M (cR M 1005 j') 1414 = some (P j') := by rw [gi_of gE' (by decide), gp'.1.2.2.2.2.2.2.2.2.2]
      have p2' : gi M (cR M 1070 j') 1477 = some (P j') := by rw [gi_of gM' (by decide), gp'.2.1.2.2.2.2.2.2.2.2]
      rcases f3 with c1 | c1
      · refine ⟨-1, M, M, ?_, ?_, h5x, Df.refl _ _ _ _, rfl, rfl⟩
        · simp only [F_X0_copy, v1000, h, e1, e4, e5, x1, x4, x5, k1, k1', f1, c1, Option.bind_some, if_false, if_true]
        · simp only [F_X16_copy, g1068_1095, g1068_1092, v1068, h, b2, e7, x7, e6, x6, n10, k2, k2', f2, c1, Option.bind_some, if_false, if_true]
      · have hf := f4.mp c1
        by_cases c2 : P j' = 0
        · have sE := E_shp gp gp'
          have sM := M_shp gp gp'
          have vE := vg_of gE (show x_isa 22 22 = true by decide)
          by_cases c3 : n j = n j' ∧ ∀ i, i < n j → Z j i = Z j' i
          · rw [pif_pos c3] at sE sM
            have hpe : prd (Z j) (n j) = prd (Z j') (n j') := (prd_congr _ c3.2).trans (congrArg (prd (Z j')) c3.1)
            have hprd := gp.2.2.2.2.2.1
            obtain ⟨A1, a1, a2, a3, a4, a5⟩ := E_gather (arr := 1057) (W := 100000) gp (by decide) hprd (by decide) (t1057 h) (l1057 h)
            obtain ⟨M1, m1, m2, m3, m4, m5⟩ := E_cp_loop h gp gp' (fun i => cJ M (C j) (gpos (n j) (Z j) (S j) (X j) i)) (fun i hi => (gp.get (by omega)).1) hf (prd (Z j') (n j')) xN 0 A1 (by omega) (by have : xN = 1099511627776 := rfl; have := gp'.2.2.2.2.2.1; omega) (a4.mono (fun _ _ q => q) (fun _ _ _ => trivial) (fun _ _ q => q)) (fun x hx => a5 x (by omega))
            have cc' := gp'.2.2.2.2.2.2.2.1
            have dM1 : Df n2 (fun a _ => a = 1057 ∨ a = C j') n2 M M1 := (a4.mono (fun _ _ q => q) (fun _ _ q => Or.inl q) (fun _ _ q => q)).trans (m4.mono (fun _ _ q => q) (fun _ _ q => Or.inr q) (fun _ _ q => q))
            have sM1 : ST M1 := h.n dM1
            -- the model: its grids as before
            have nCD : ∀ g, 1 ≤ g → g ≤ m → cR M 1005 g ≠ 0 → C j' ≠ D g := fun g q1 q2 q3 => (h5.2.2.2.2.2.2.2 j' g j1' j2' q1 q2 x4 q3).2.2
            have dT : Df n2 (fun _ _ => True) n2 M M1 := dM1.mono (fun _ _ q => q) (fun _ _ _ => trivial) (fun _ _ q => q)
            obtain ⟨B1, s1, s2, s3, s4, s5⟩ := M_listed1 (arr := 1073) (W := 100000) gp dT qt_n2 qt_n2 (by decide) hprd (by decide) (t1073 sM1) (l1073 sM1)
            have cp := gp.2.2.2.2.2.2.2.1
            have s5' : ∀ x', x' < prd (Z j) (n j) → cJ B1 1073 x' = cJ M (C j) (gpos (n j) (Z j) (S j) (X j) x') := fun x' hx => by
              have hpos := (gp.place hx).1
              rw [s5 x' hx, dM1.cJ cp.2.2.2.1 (fun q => by
                rcases q with q | q
                · have := cp.2.2.1; omega
                · exact nCD j j1 j2 e4 q.symm)]
              exact (cp.2.2.2.2.2.2.2.2.2 _ hpos).1.symm
            have sB1 : ST B1 := sM1.n s4
            have dB1 : Df n2 (fun a _ => a = 1057 ∨ a = C j' ∨ a = 1073) n2 M B1 := (dM1.mono (fun _ _ q => q) (fun _ _ q => q.imp id Or.inl) (fun _ _ q => q)).trans (s4.mono (fun _ _ q => q) (fun _ _ q => Or.inr (Or.inr q)) (fun _ _ q => q))
            have gMto := gp'.2.1.df (dB1.mono (fun _ _ q => q) (fun _ _ _ => trivial) (fun _ _ q => q) : Df n2 (fun _ _ => True) n2 M B1) qt_n2 qt_n2
            obtain ⟨M2, w1, w2, w3, w4, w5⟩ := M_cp_loop h gp gp' (fun i => cJ M (C j) (gpos (n j) (Z j) (S j) (X j) i)) (fun i hi => (gp.get (by omega)).1) hf (prd (Z j') (n j')) xN 0 B1 (by omega) (by have : xN = 1099511627776 := rfl; have := gp'.2.2.2.2.2.1; omega) (dB1.mono (fun _ _ q => q) (fun _ _ _ => trivial) (fun _ _ q => q)) (fun x hx => s5' x (by omega))
            have dM2 : Df n2 (fun a _ => a = 1057 ∨ a = C j' ∨ a = 1073 ∨ a = D j') n2 M M2 := (dB1.mono (fun _ _ q => q) (fun _ _ q => by rcases q with q | q | q; exact Or.inl q; exact Or.inr (Or.inl q); exact Or.inr (Or.inr (Or.inl q))) (fun _ _ q => q)).trans (w4.mono (fun _ _ q => q) (fun _ _ q => Or.inr (Or.inr (Or.inr q))) (fun _ _ q => q))
            have hcd := nCD j' j1' j2' x4
            have nB1 : m_nx B1 = m_nx M := by omega
            -- the cells
            have vE' : ∀ q, cJ M2 (C j') q = wr (fun q => cJ M (C j') q) (gpos (n j') (Z j') (S j') (X j')) (fun i => cvt (K j) (K j') (cJ M (C j) (gpos (n j) (Z j) (S j) (X j) i))) 0 (prd (Z j') (n j')) q := fun q => by
              rw [w4.cJ (by have := cc'.2.1; omega) (fun hh => hcd hh), s4.cJ (by have := cc'.2.1; omega) (fun hh => by have hh : C j' = 1073 := hh; have := cc'.1; omega), m5 q]
              refine wr_congr _ _ _ _ ?_
              exact a4.cJ cc'.2.1 (fun hh => by have hh : C j' = 1057 := hh; have := cc'.1; omega)
            have vM' : ∀ q, q < L j' → cJ M2 (D j') q = wr (fun q => cJ M (C j') q) (gpos (n j') (Z j') (S j') (X j')) (fun i => cvt (K j) (K j') (cJ M (C j) (gpos (n j) (Z j) (S j) (X j) i))) 0 (prd (Z j') (n j')) q := fun q hq => by
              rw [w5 q]
              refine wr_congr _ _ _ _ ?_
              show cJ B1 (D j') q = cJ M (C j') q
              rw [dB1.cJ cc'.2.2.2.1 (fun hh => by have := cc'.2.2.1; rcases hh with hh | hh | hh; omega; exact hcd hh.symm; omega)]
              exact (cc'.2.2.2.2.2.2.2.2.2 q hq).1.symm
            have hpair : K j = K j' ∨ (K j ≠ 0 ∧ K j' ≠ 0) := hf.imp id (fun a => ⟨a.1, a.2.1⟩)
            refine ⟨0, M1, M2, ?_, ?_, ⟨m, w, K, n, Z, S, T, X, Y, C, D, L, P, ?_⟩, dM2.mono (fun _ _ q => q) (fun a i q => ?_) (fun _ _ q => q), by omega, by omega⟩
            · simp only [F_X0_copy, v1000, h, e1, e4, e5, x1, x4, x5, k1, k1', f1, c1, p1', c2, vE, sE, n10, g1000_81, a1, Option.bind_some, if_false, if_true]
              rw [hpe]
              exact m1
            · have b2' : cI M1 1068 1095 = 0 := by rw [dM1.cI (by omega) (fun q => q)]; exact b2
              have y := M_see h dM1 sM1 (fun q => q) (fun q => q) (fun i q => q) g
              have y' := M_see h dM1 sM1 (fun q => q) (fun q => q) (fun i q => q) g'
              have q1 : gi M1 (cR M 1070 j) 1472 = some (K j) := by rw [gi_of (gp.2.1.df dT qt_n2 qt_n2).2.2.1 (by decide), (gp.2.1.df dT qt_n2 qt_n2).2.2.2.1]
              have q2 : gi M1 (cR M 1070 j') 1472 = some (K j') := by rw [gi_of (gp'.2.1.df dT qt_n2 qt_n2).2.2.1 (by decide), (gp'.2.1.df dT qt_n2 qt_n2).2.2.2.1]
              have q3 : gi M1 (cR M 1070 j') 1477 = some (P j') := by rw [gi_of (gp'.2.1.df dT qt_n2 qt_n2).2.2.1 (by decide), (gp'.2.1.df dT qt_n2 qt_n2).2.2.2.2.2.2.2.2]
              have q4 : F_X16_areAlike M1 (cR M 1070 j) (cR M 1070 j') = some 1 := by
                have := M_shp1 (gp.2.1.df dT qt_n2 qt_n2) (gp'.2.1.df dT qt_n2 qt_n2) gp.2.2.2.1 gp'.2.2.2.1 gp.2.2.2.2.1 gp'.2.2.2.2.1
                rw [pif_pos c3] at this
                exact this
              have q5 := M_count gMto gp'.2.2.2.1 gp'.2.2.2.2.1
              have q6 := vg_of gMto.2.2.1 (show x_isa 23 23 = true by decide)
              simp only [F_X16_copy, g1068_1095, g1068_1092, g1068_1100, v1068, sM1, b2', y.2.1, y'.2.1, y.2.2, y'.2.2, e7, x7, e6, x6, n10, q1, q2, f2, c1, q3, c2, q4, s1, q6, q5, Option.bind_some, if_false, if_true]
              exact w1
            · refine I5w.puts h h5 j1' j2' x4 dM2 qt_n2 noGr_n2 (fun a i q1 q2 => ?_) (fun q hq => ?_)
              · rcases q2 with q2 | q2 | q2 | q2
                · omega
                · exact Or.inl q2
                · omega
                · exact Or.inr q2
              · rw [vE', vM' q hq]
                refine ⟨rfl, wr_all (V := vb (K j')) _ _ _ ?_ (fun i i1 i2 => cvt_vb gp.2.2.1 gp'.2.2.1 hpair (gp.get (by omega)).1)⟩
                exact (cc'.2.2.2.2.2.2.2.2.2 q hq).2
            · rcases q with q | q | q | q
              · exact Or.inl (by unfold qsc; omega)
              · rw [q]; exact Or.inr (h5.qG j1' j2' x4 i).1
              · exact Or.inl (by unfold qsc; omega)
              · rw [q]; exact Or.inr (h5.qG j1' j2' x4 i).2
          · rw [pif_neg c3] at sE sM
            refine ⟨-3, M, M, ?_, ?_, h5x, Df.refl _ _ _ _, rfl, rfl⟩
            · simp only [F_X0_copy, v1000, h, e1, e4, e5, x1, x4, x5, k1, k1', f1, c1, p1', c2, vE, sE, n10, Option.bind_some, if_false, if_true]
            · simp only [F_X16_copy, g1068_1095, g1068_1092, v1068, h, b2, e7, x7, e6, x6, n10, k2, k2', f2, c1, p2', c2, sM, Option.bind_some, if_false, if_true]
        · refine ⟨-5, M, M, ?_, ?_, h5x, Df.refl _ _ _ _, rfl, rfl⟩
          · simp only [F_X0_copy, v1000, h, e1, e4, e5, x1, x4, x5, k1, k1', f1, c1, p1', c2, n10, Option.bind_some, if_false]
          · simp only [F_X16_copy, g1068_1095, g1068_1092, v1068, h, b2, e7, x7, e6, x6, n10, k2, k2', f2, c1, p2', c2, Option.bind_some, if_false, if_true]
