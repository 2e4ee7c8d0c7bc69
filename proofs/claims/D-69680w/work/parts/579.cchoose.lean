/-! ===== CALLS: choose, alike ===== -/
theorem M_chooseC {M : Mem} {Z : Nat → Prop} {fs : List Fn} {ea ma : List Nat} {de lm dm u t n : Nat} (h : ST M) (hF : FW M Z fs ea ma de lm dm u) (hZ : ∀ x, Z x → 1334 ≤ x ∧ x < m_nx M) (z97 : cI M 1068 1095 = 0) (ht : cI M 1068 1089 = iw (t : Int)) (hb : ∀ i, i < t → bt (cI M 1069 i)) (t2 : t ≤ 16000) (hn : cI M 1068 1098 = iw (n : Int)) (n4 : n ≤ 4) :
    ∃ r M1, F_X16_choose M 1068 = some (r, M1) ∧ Df pCm n2 n2 M M1 ∧ cI M1 1068 1089 = 0 ∧ cI M1 1068 1098 = 0 ∧ m_nx M1 ≤ m_nx M + 2 * t + 60 ∧ m_sl M1 ≤ m_sl M + 6 * t + 200 ∧ ((¬ gdL (cI M 1071) n ∧ r = -14) ∨ (gdL (cI M 1071) n ∧ Chs fs (bsl (cI M 1069) t) (bsl (cI M 1071) n) r)) := by
  have h0 := h.1
  have hxN : xN = 1099511627776 := rfl
  obtain ⟨A1, hA1⟩ : ∃ A1, A1 = wI M 1068 1089 0 := ⟨_, rfl⟩
  obtain ⟨A2, hA2⟩ : ∃ A2, A2 = wI A1 1068 1098 0 := ⟨_, rfl⟩
  have s1 : ST A1 := hA1 ▸ h
  have s2 : ST A2 := hA2 ▸ s1
  have d2 : Df pCm n2 n2 M A2 := by rw [hA2, hA1]; exact (Df.wI _ ⟨rfl, Or.inl rfl⟩).trans (Df.wI _ ⟨rfl, Or.inr rfl⟩)
  have c98 : cI A1 1068 1098 = iw (n : Int) := by rw [hA1, cI_wI, if_neg (by decide)]; exact hn
  have k65 : cI A2 1068 1089 = 0 ∧ cI A2 1068 1098 = 0 := by rw [hA2, hA1]; exact ⟨by rw [cI_wI, if_neg (by decide), cI_wI, if_pos ⟨rfl, rfl⟩], by rw [cI_wI, if_pos ⟨rfl, rfl⟩]⟩
  have nA : m_nx A2 = m_nx M ∧ m_sl A2 = m_sl M := by rw [hA2, hA1]; exact ⟨rfl, rfl⟩
  have st : ∀ K, Df n2 n2 n2 A2 K → ST K := fun K d => s2.df d (fun _ _ q => q)
  have c1071 : ∀ K i, Df n2 n2 n2 A2 K → cI K 1071 i = cI M 1071 i := fun K i d => by rw [d.cI (by omega) (fun q => q), d2.cI (by omega) (fun q => by unfold pCm at q; omega)]
  have c1069 : ∀ K i, Df n2 n2 n2 A2 K → cI K 1069 i = cI M 1069 i := fun K i d => by rw [d.cI (by omega) (fun q => q), d2.cI (by omega) (fun q => by unfold pCm at q; omega)]
  have hgo : F_X16_choose M 1068 = F_X16_choose_b27 xN A2 1068 (iw (t : Int)) (iw (n : Int)) 0 := by
    unfold F_X16_choose F_X16_used F_X16_usedSizes
    simp only [v1068, g1068_1095, h, z97, if_true, g1068_1089, p1068_1089, ht, ← hA1, g1068_1098, p1068_1098, s1, c98, ← hA2, Option.bind_some]
  have L : ∀ (e N i : Nat), i + e = n → e + 1 ≤ N → (∀ j, j < i → Lk (cI M 1071 j)) → (¬ gdL (cI M 1071) n ∧ F_X16_choose_b27 N A2 1068 (iw (t : Int)) (iw (n : Int)) (iw (i : Int)) = some (-14, A2)) ∨ (gdL (cI M 1071) n ∧ ∃ K, F_X16_choose_b27 N A2 1068 (iw (t : Int)) (iw (n : Int)) (iw (i : Int)) = F_X16_choose_b27 (K + 1) A2 1068 (iw (t : Int)) (iw (n : Int)) (iw (n : Int))) := by
    intro e
    induction e with
    | zero =>
      intro N i hi hN hJ
      obtain ⟨N', rfl⟩ : ∃ N', N = N' + 1 := ⟨N - 1, by omega⟩
      obtain rfl : i = n := by omega
      by_cases q : 0 < i
      · exact Or.inr ⟨⟨q, hJ⟩, N', rfl⟩
      · left
        refine ⟨fun g => q g.1, ?_⟩
        show F_X16_choose_b27_st _ A2 1068 _ _ _ = _
        unfold F_X16_choose_b27_st
        rw [if_neg (by rw [iw_le4 (by omega) (by omega)]; omega), if_pos (by rw [show i = 0 by omega]; rfl)]
    | succ e ih =>
      intro N i hi hN hJ
      obtain ⟨N', rfl⟩ : ∃ N', N = N' + 1 := ⟨N - 1, by omega⟩
      obtain ⟨z, -, z1, z2⟩ := lane_eq (cI M 1071 i)
      have e1 : F_X16_choose_b27 (N' + 1) A2 1068 (iw (t : Int)) (iw (n : Int)) (iw (i : Int)) = if z = 0 then some (-14, A2) else F_X16_choose_b27 N' A2 1068 (iw (t : Int)) (iw (n : Int)) (iw ((i + 1 : Nat) : Int)) := by
        show F_X16_choose_b27_st _ A2 1068 _ _ _ = _
        unfold F_X16_choose_b27_st
        simp only [if_pos ((iw_le4 (show i ≤ 2147483647 by omega) (show n ≤ 2147483647 by omega)).mpr (by omega)), g1068_1096, s2, ai_of (t1071 s2) (l1071 s2) (show i < 4 by omega) (by decide), c1071 A2 i (Df.refl _ _ _ _), z1, Option.bind_some, iw_succ]
        rfl
      rw [e1]
      rcases z2 with ⟨rfl, z2⟩ | ⟨rfl, z2⟩
      · rw [if_pos rfl]
        exact Or.inl ⟨fun g => z2 (g.2 i (by omega)), rfl⟩
      · rw [if_neg (by decide)]
        exact ih N' (i + 1) (by omega) (by omega) (fun j hj => by rcases Nat.lt_or_ge j i with x | x; exact hJ j x; rw [show j = i by omega]; exact z2)
  have dd : ∀ K, Df n2 n2 n2 A2 K → Df pCm n2 n2 M K := fun K d => d2.trans (d.mono (fun _ _ q => q.elim) (fun _ _ q => q) (fun _ _ q => q))
  have kk : ∀ K, Df n2 n2 n2 A2 K → cI K 1068 1089 = 0 ∧ cI K 1068 1098 = 0 := fun K d => ⟨by rw [d.cI (by omega) (fun q => q)]; exact k65.1, by rw [d.cI (by omega) (fun q => q)]; exact k65.2⟩
  rw [hgo]
  rcases L n xN 0 (by omega) (by omega) (fun j hj => by omega) with ⟨g, q⟩ | ⟨hg, K, q⟩
  · exact ⟨-14, A2, q, d2, k65.1, k65.2, by omega, by omega, Or.inl ⟨g, rfl⟩⟩
  · rw [show F_X16_choose_b27 xN A2 1068 (iw (t : Int)) (iw (n : Int)) 0 = _ from q]
    have n0 := hg.1
    show ∃ r M1, F_X16_choose_b27_st _ A2 1068 _ _ _ = some (r, M1) ∧ _
    unfold F_X16_choose_b27_st
    rw [if_neg (by rw [iw_le4 (by omega) (by omega)]; omega), if_neg (by rw [iw_eq0 (by omega) (by omega)]; omega)]
    obtain ⟨C, hC⟩ : ∃ C, C = mo A2 75 := ⟨_, rfl⟩
    have dC : Df n2 n2 n2 A2 C := by rw [hC]; exact Df.new _ _
    have tC : m_tg C (m_nx A2) = 75 := by rw [hC]; show m_tg (m_new A2 75 _) _ = _; rw [tg_new, if_pos rfl]
    have iC : cI C (m_nx A2) 4739 = 0 := by rw [hC]; show cI (m_new A2 75 _) _ _ = _; rw [cI_new, if_pos rfl]
    have nC : m_nx C = m_nx A2 + 1 ∧ m_sl C = m_sl A2 + 4 := by rw [hC]; exact ⟨rfl, rfl⟩
    obtain ⟨D, x1, x2, x3, x4, x5⟩ := BD.init2 (by omega) tC iC (by omega)
    have dBD : Df n2 n2 n2 A2 D := dC.then x3 (fun x i hx q => (show False by unfold at1 at q; omega)) (fun _ _ _ q => q) (fun x i hx q => (show False by unfold at1 at q; omega))
    obtain ⟨K2, E, -, e3, E0⟩ := upl0 (β := Option (Int32 × Mem)) (σ := Unit) (fun N K _ i => F_X16_choose_b71 N K 1068 (iw (t : Int)) (iw (n : Int)) (m_nx A2) i) (n := t) (by omega)
      (fun i K _ => NB A2 (m_nx A2) t (cI M 1069) i K)
      (fun N K _ i hi hJ => by
        have sK : ST K := by obtain ⟨_, _, _, q, _⟩ := hJ; exact s2.df q (fun _ _ w => w)
        have cK : cI K 1069 i = cI M 1069 i := by obtain ⟨_, _, _, q, _⟩ := hJ; exact c1069 K i q
        have vK : vg K (m_nx A2) 75 = some () := by obtain ⟨_, _, q, _⟩ := hJ; exact vg_of q.2.1 (show x_isa 75 75 = true by decide)
        obtain ⟨K', k1, k2⟩ := hJ.step (by omega) (by omega) hi (hb i hi)
        refine ⟨K', (), ?_, k2⟩
        show F_X16_choose_b71_st (F_X16_choose_b71 N) K _ _ _ _ _ = _
        unfold F_X16_choose_b71_st
        simp only [if_pos ((iw_le4 (show i ≤ 2147483647 by omega) (show t ≤ 2147483647 by omega)).mpr hi), g1068_1088, sK, ab_of (Or.inr (Or.inl (t1069 sK))) (l1069 sK) (show i < 16000 by omega) (by decide), cK, vK, k1, Option.bind_some, iw_succ])
      (M := D) (s := ()) ⟨m_nx C, 16, x2, dBD, Nat.le_refl _, by omega, by omega, by omega, by omega⟩
    obtain ⟨ds, c, y1, y2, y3, y4, y5, y6, y7⟩ := E0
    have sE : ST E := s2.df y2 (fun _ _ w => w)
    obtain ⟨G, g1, g2, g3, g4, g5, g6, g7⟩ := y1.str (by rw [bsl_len]; omega) (by have := y2.1; omega)
    have dG : Df n2 n2 n2 A2 G := y2.trans g5
    have sG := st G dG
    obtain ⟨H, h1, h2, h3, h4, h5⟩ := M_firstR (t1071 sG) (l1071 sG) (by have := dG.1; omega) n4 (by have := dG.1; omega) (by decide)
    have eL : bsl (cI G 1071) n = bsl (cI M 1071) n := by
      unfold bsl
      refine List.map_congr_left (fun i _ => c1071 G i dG)
    rw [eL] at h2
    have dH : Df n2 n2 n2 A2 H := dG.trans h3
    have sH := st H dH
    have fH : FW H Z fs ea ma de lm dm u := hF.df (dd H dH) h0 (fun x hx => (hZ x hx).2) (noF_n (fun x hx => (hZ x hx).1) (fun a i q => by unfold pCm at q; omega))
    have hSB : SB H (m_nx E) (bsl (cI M 1069) t) := (g2.df h3 (by omega) (by rw [g4]; omega) (fun q => q) (fun q => q) (fun _ q => q)).1
    obtain ⟨r, r1, r2⟩ := M_chosen (fH.ml sH (fun x hx => (hZ x hx).1)) hSB (by have := y2.1; omega) h2 (fun l hl => by obtain ⟨i, q1, rfl⟩ := bsl_mem hl; exact hg.2 i q1) (by rw [bsl_len]; omega)
    rw [bsl_len] at g7
    have x76 : x_cn 76 = 4 := by decide
    refine ⟨r, H, ?_, dd H dH, (kk H dH).1, (kk H dH).2, by omega, by omega, Or.inr ⟨hg, r2⟩⟩
    rw [← hC]
    simp only [ng_of tC (show (75 : Nat) ≠ 0 by decide), x1, Option.bind_some]
    rw [e3]
    show F_X16_choose_b71_st _ E _ _ _ _ _ = _
    unfold F_X16_choose_b71_st
    rw [if_neg (by rw [iw_le4 (by omega) (by omega)]; omega)]
    simp only [g1068_1096, sG, vg_of y1.2.1 (show x_isa 75 75 = true by decide), g1, h1, v1068, sH, r1, Option.bind_some]
def pCh : Nat → Nat → Prop := fun a i => (a = 1000 ∧ (i = 65 ∨ i = 85)) ∨ (a = 1068 ∧ (i = 1089 ∨ i = 1098))
theorem qt_pCh : qt pCh := fun a i q1 q2 => by unfold pCh at q2; omega
theorem noGr_pCh : noGr pCh := fun a i q1 q2 => by unfold pGr at q1; unfold pCh at q2; omega
theorem gdL_cong {f g : Nat → Int32} {n : Nat} (h : ∀ i, i < n → f i = g i) : gdL f n ↔ gdL g n :=
  ⟨fun q => ⟨q.1, fun i hi => by rw [← h i hi]; exact q.2 i hi⟩, fun q => ⟨q.1, fun i hi => by rw [h i hi]; exact q.2 i hi⟩⟩
theorem bsl_cong {f g : Nat → Int32} {n : Nat} (h : ∀ i, i < n → f i = g i) : bsl f n = bsl g n := by
  unfold bsl
  exact List.map_congr_left (fun i hi => h i (List.mem_range.mp hi))
theorem c_choose {M : Mem} {Z : Nat → Prop} {t f : Nat} (h : ST M) (h1 : I1w M t f) (t1 : t ≤ 1280) (h2 : I2 M) (h4 : I4 M) (h5 : I5 M) (h10 : I10 M Z) : CR pCh (rG M) (fun N => I1 N ∧ I2 N ∧ I10 N Z) M (fun M => F_X0_choose M 1000) (fun M => F_X16_choose M 1068) := by
  have h0 := h.1
  have hI1 := h1.i1
  have hI10 := h10
  obtain ⟨a1, a2, a3, a4, a5, a6, a7, a8⟩ := h1
  obtain ⟨n, n4, b1, b2, b3⟩ := h2
  obtain ⟨hZ, fs, ea, ma, de, lm, dm, u, hF⟩ := h10
  obtain ⟨-, -, -, c1, c2, -⟩ := h4
  have z10 : ∀ P, (∀ a i, P a i → pCh a i) → noF P n2 n2 M Z := fun P hP => noF_n (fun x hx => (hZ x hx).1) (fun a i q => by have := hP _ _ q; unfold pCh at this; omega)
  have i2 : ∀ N, cI N 1000 85 = 0 → cI N 1068 1098 = 0 → I2 N := fun N q1 q2 => ⟨0, by omega, by rw [q1]; rfl, by rw [q2]; rfl, fun i hi => by omega⟩
  by_cases hc : cI M 1000 97 = 0
  · obtain ⟨r, M1, e1, e2, e3, e4, e5, e6, e7, e8⟩ := E_chooseC h hF hZ hc a4 (fun i hi => (a8 i hi).2) a1 b1 n4
    have k : ∀ a i, a = 1068 ∨ a = 1069 ∨ a = 1071 → cI M1 a i = cI M a i := fun a i q => e3.cI (by omega) (fun w => by unfold pCe at w; omega)
    have fM1 : FW M1 Z fs ea ma de lm dm u := hF.df e3 h0 (fun x hx => (hZ x hx).2) (z10 _ (fun a i q => by unfold pCe at q; unfold pCh; omega))
    have nn := e3.1
    obtain ⟨r', M2, g1, g2, g3, g4, g5, g6, g7⟩ := M_chooseC (t := t) (n := n) e2 fM1 (fun x hx => ⟨(hZ x hx).1, by have := (hZ x hx).2; omega⟩) (by rw [k _ _ (Or.inl rfl), ← c2]; exact hc) (by rw [k _ _ (Or.inl rfl)]; exact a5) (fun i hi => by rw [k _ _ (Or.inr (Or.inl rfl)), ← (a8 i hi).1]; exact (a8 i hi).2) a1 (by rw [k _ _ (Or.inl rfl)]; exact b2) n4
    have eG : ∀ i, i < n → cI M1 1071 i = cI M 1060 i := fun i hi => by rw [k _ _ (Or.inr (Or.inr rfl))]; exact (b3 i hi).1.symm
    have eT : ∀ i, i < t → cI M1 1069 i = cI M 1001 i := fun i hi => by rw [k _ _ (Or.inr (Or.inl rfl))]; exact (a8 i hi).1.symm
    rw [gdL_cong eG, bsl_cong eG, bsl_cong eT] at g7
    have hr : r = r' := by
      rcases e8 with ⟨q1, rfl⟩ | ⟨q1, q2, rfl⟩ | ⟨q1, q2, q3⟩
      · rcases g7 with ⟨w1, rfl⟩ | ⟨w1, _⟩
        · rfl
        · exact (q1 w1).elim
      · rcases g7 with ⟨w1, rfl⟩ | ⟨w1, w2⟩
        · exact (w1 q1).elim
        · have nm : ∀ j, j < fs.length → ¬ mtk (fs.getD j fn0) (bsl (cI M 1001) t) (bsl (cI M 1060) n) := fun j hj q => by
            have := (hF.2.2.2.2.2.2.2.2.2.2.2.1 j hj).2.2.2.2.2.1
            rw [q.1, bsl_len] at this
            omega
          rcases w2 with ⟨j, j1, j2, _⟩ | ⟨_, ⟨⟨j, j1, j2⟩, _⟩ | ⟨_, rfl⟩⟩
          · exact (nm j j1 j2.1).elim
          · exact (nm j j1 j2).elim
          · rfl
      · rcases g7 with ⟨w1, rfl⟩ | ⟨w1, w2⟩
        · exact (w1 q1).elim
        · exact q3.one hF.2.2.2.2.2.2.2.2.2.2.2 w2
    subst hr
    have dd : Df pCh qsc n2 M M2 := (e3.mono (fun a i q => Or.inl q) (fun _ _ q => q.elim) (fun _ _ q => q)).trans (g2.mono (fun a i q => Or.inr q) (fun _ _ q => q.elim) (fun _ _ q => q))
    have dd0 : Df pCh n2 n2 M M2 := (e3.mono (fun a i q => Or.inl q) (fun _ _ q => q) (fun _ _ q => q)).trans (g2.mono (fun a i q => Or.inr q) (fun _ _ q => q) (fun _ _ q => q))
    have k65 : cI M2 1000 65 = 0 := by rw [g2.cI (by omega) (fun q => by unfold pCm at q; omega)]; exact e4
    have k85 : cI M2 1000 85 = 0 := by rw [g2.cI (by omega) (fun q => by unfold pCm at q; omega)]; exact e5
    exact CR.no h h5 r M1 M2 e1 g1 ⟨I1.emp h dd hI1 k65 g3 (fun q => by unfold pCh at q; omega) (fun q => by unfold pCh at q; omega), i2 M2 k85 g4, hI10.df dd0 h0 (z10 _ (fun _ _ q => q))⟩ dd (fun _ _ q => q) qt_pCh noGr_pCh (by omega) (by omega)
  · obtain ⟨A, hA⟩ : ∃ A, A = wI M 1000 85 0 := ⟨_, rfl⟩
    have sA : ST A := hA ▸ h
    obtain ⟨B, hB⟩ : ∃ B, B = wI A 1068 1098 0 := ⟨_, rfl⟩
    have dB0 : Df pCh n2 n2 M B := by rw [hB, hA]; exact (Df.wI _ (Or.inl ⟨rfl, Or.inr rfl⟩)).trans (Df.wI _ (Or.inr ⟨rfl, Or.inr rfl⟩))
    have cA : cI A 1000 97 = cI M 1000 97 ∧ cI A 1068 1095 = cI M 1068 1095 := by rw [hA]; exact ⟨by rw [cI_wI, if_neg (by decide)], by rw [cI_wI, if_neg (by decide)]⟩
    have kB : ∀ a i, ¬ ((a = 1000 ∧ i = 85) ∨ (a = 1068 ∧ i = 1098)) → cI B a i = cI M a i := fun a i q => by rw [hB, cI_wI, if_neg (by omega), hA, cI_wI, if_neg (by omega)]
    refine CR.no h h5 (-13) A B ?_ ?_ ⟨⟨t, f, a1, a2, a3, by rw [kB _ _ (by omega)]; exact a4, by rw [kB _ _ (by omega)]; exact a5, by rw [kB _ _ (by omega)]; exact a6, by rw [kB _ _ (by omega)]; exact a7, fun i hi => by rw [kB _ _ (by omega), kB _ _ (by omega)]; exact a8 i hi⟩, i2 B (by rw [hB, cI_wI, if_neg (by decide), hA, cI_wI, if_pos ⟨rfl, rfl⟩]) (by rw [hB, cI_wI, if_pos ⟨rfl, rfl⟩]), hI10.df dB0 h0 (z10 _ (fun _ _ q => q))⟩ (dB0.mono (fun _ _ q => q) (fun _ _ q => q.elim) (fun _ _ q => q)) (fun _ _ q => q) qt_pCh noGr_pCh (by rw [hB, hA]; show m_nx M ≤ _; omega) (by rw [hB, hA]; show m_sl M ≤ _; omega)
    · show F_X0_choose M 1000 = _
      unfold F_X0_choose F_X0_usedSizes
      simp only [v1000, g1000_85, p1000_85, h, ← hA, g1000_97, sA, cA.1, Option.bind_some, if_neg hc]
    · show F_X16_choose A 1068 = _
      unfold F_X16_choose
      simp only [g1068_1095, sA, cA.2, ← c2, p1068_1098, ← hB, Option.bind_some, if_neg hc]
