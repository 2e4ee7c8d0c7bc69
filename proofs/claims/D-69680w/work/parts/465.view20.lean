/-! ===== VIEWS, 20: the model's call ===== -/
theorem vis_len {f : Nat → Int32} {n : Nat} : ∀ (e a : Nat) (l : List (Nat → Int)), vis f n e a = .inr l → l.length ≤ e
  | 0, a, l, h => by cases h
  | e + 1, a, l, h => by
    obtain ⟨it, b, -, hc⟩ := vis_step h
    rcases hc with ⟨-, -, l', h1, h2⟩ | ⟨-, h2⟩
    · have := vis_len e _ l' h1
      rw [h2]
      show l'.length + 1 ≤ _
      omega
    · rw [h2]
      show 1 ≤ _
      omega
theorem vtx_len {f : Nat → Int32} {n : Nat} {l : List (Nat → Int)} (h : vtx f n = .inr l) : l.length ≤ n + 1 := by
  unfold vtx at h
  by_cases c : skpa f n 0 < n
  · rw [if_pos c] at h
    exact vis_len _ _ _ h
  · rw [if_neg c] at h
    have hl : [] = l := Sum.inr.inj h
    rw [← hl]
    exact Nat.zero_le _
theorem vtx_ok {f : Nat → Int32} {n : Nat} {l : List (Nat → Int)} (hn : n ≤ 16000) (h : vtx f n = .inr l) : ∀ it, it ∈ l → IT it := by
  unfold vtx at h
  by_cases c : skpa f n 0 < n
  · rw [if_pos c] at h
    exact vis_ok hn _ _ _ (by omega) h
  · rw [if_neg c] at h
    have hl : [] = l := Sum.inr.inj h
    rw [← hl]
    intro it hit
    cases hit
theorem M_vcall {N : Mem} {f : Nat → Int32} {t own nn c0 : Nat} {g k b0 p0 : Int32} {z : Nat → Nat} {s : Nat → Int32} {B1 : Mem} (hB1 : B1 = wI (wI N 1068 1091 (-1)) 1068 1089 0) (h : ST N) (k4 : m_tg N 4 = 1091 ∧ m_ln N 4 = 0) (ht : t ≤ 16000) (hf : ∀ i, i < t → cI N 1069 i = f i ∧ bt (f i)) (c95 : cI N 1068 1095 = 0) (c89 : cI N 1068 1089 = iw (t : Int)) (ig : F_X16_isGrid B1 1068 g = some 1) (ia : ar B1 1070 g = some own) (gm : GM N own k nn z s b0 c0 p0) (hnn : nn ≤ 4) (hz : ∀ i, i < nn → z i ≤ 4096) (hp0 : p0 = 0 ∨ p0 = 1) :
    (∀ p, vw f t nn z s b0 = .inl p → ∃ M2, F_X16_view N 1068 g = some (-20, wI M2 1068 1091 (iw (p : Int))) ∧ ST M2 ∧ Df (at1 1075) n2 n2 B1 M2 ∧ m_nx M2 ≤ m_nx N + 2 * t + 20 ∧ m_sl M2 ≤ m_sl N + (t + 1) * (2 * t + 92) + 2 * t + 200) ∧
    (∀ σ, vw f t nn z s b0 = .inr σ → ∃ M2 a, F_X16_view N 1068 g = (if cI M2 1068 1093 = 400 then some (-12, M2) else (F_X16_numbered M2 1068 a).bind fun z25 => some (z25.1, z25.2)) ∧ ST M2 ∧ m_nx N ≤ a ∧ GM M2 a k σ.1 σ.2.2.2.1 σ.2.2.2.2 σ.2.2.1 c0 p0 ∧ Df (at1 1075) n2 n2 B1 M2 ∧ m_nx M2 ≤ m_nx N + 2 * t + 20 ∧ m_sl M2 ≤ m_sl N + (t + 1) * (2 * t + 92) + 2 * t + 200) := by
  have h0 := h.1
  have n10 : ¬ (1 : Int32) = 0 := by decide
  obtain ⟨B, hB⟩ : ∃ B, B = wI N 1068 1091 (-1) := ⟨_, rfl⟩
  rw [← hB] at hB1
  have sB : ST B := hB ▸ h
  have sB1 : ST B1 := hB1 ▸ sB
  have nB1 : m_nx B1 = m_nx N ∧ m_sl B1 = m_sl N := by rw [hB1, hB]; exact ⟨rfl, rfl⟩
  have eB1 : ∀ x i, x ≠ 1068 → cI B1 x i = cI N x i := fun x i hx => by rw [hB1, cI_wI, if_neg (by omega), hB, cI_wI, if_neg (by omega)]
  have gB1 : GM B1 own k nn z s b0 c0 p0 := by
    have d1 : Df (fun a i => a = 1068 ∧ (i = 1091 ∨ i = 1089)) n2 n2 N B1 := by
      rw [hB1, hB]
      exact (Df.wI (P := fun a i => a = 1068 ∧ (i = 1091 ∨ i = 1089)) (Q := n2) (R := n2) (M := N) (a := 1068) (i := 1091) _ ⟨rfl, Or.inl rfl⟩).trans (Df.wI (P := fun a i => a = 1068 ∧ (i = 1091 ∨ i = 1089)) (Q := n2) (R := n2) (a := 1068) (i := 1089) _ ⟨rfl, Or.inr rfl⟩)
    exact gm.df d1 (fun a i q1 q2 => by omega) qt_n2
  have us : F_X16_used B 1068 = some (iw (t : Int), B1) := by
    have : cI B 1068 1089 = iw (t : Int) := by rw [hB, cI_wI, if_neg (by decide)]; exact c89
    simp only [F_X16_used, g1068_1089, p1068_1089, sB, this, ← hB1, Option.bind_some]
  have b95 : cI B 1068 1095 = 0 := by rw [hB, cI_wI, if_neg (by decide)]; exact c95
  have k4B : m_tg B1 4 = 1091 ∧ m_ln B1 4 = 0 := by rw [hB1, hB]; exact k4
  have mi := M_vinit sB1 k4B ht (fun i hi => by rw [eB1 _ _ (by decide)]; exact hf i hi)
  obtain ⟨o, ho⟩ : ∃ o, o = m_nx B1 := ⟨_, rfl⟩
  obtain ⟨A, hA⟩ : ∃ A, A = mo B1 26 := ⟨_, rfl⟩
  rw [← ho, ← hA] at mi
  have sA : ST A := sB1.df (show Df n2 n2 n2 B1 A from hA ▸ Df.new _ _) n2_st
  have tA : m_tg A o = 26 := by rw [hA, ho]; show m_tg (m_new B1 26 (x_cn 26)) (m_nx B1) = 26; exact tg_new.trans (if_pos rfl)
  have hd : F_X16_view N 1068 g = tc (F_X25_init A o 1075 1069 (iw (t : Int))) (fun z17 =>
        (gr z17 o 1668).bind fun t19 =>
        (vg z17 1068 17).bind fun _ =>
        tc (F_X16_viewed z17 1068 own t19 (iw (t : Int))) (fun z21 =>
          (gi z21.2 1068 1093).bind fun t23 =>
          if t23 = (400 : Int32) then
            F_X16_view_b101 z21.2 (-12 : Int32)
          else
            (vg z21.2 1068 17).bind fun _ =>
            (F_X16_numbered z21.2 1068 z21.1).bind fun z25 =>
            F_X16_view_b101 z25.2 z25.1)
          (fun z22 => F_X16_view_b65 z22.2 z22.1 1068))
        (fun z18 => F_X16_view_b65 z18.2 z18.1 1068) := by
    simp only [F_X16_view, p1068_1091, h, ← hB, g1068_1095, sB, b95, v1068, us, sB1, ig, n10, g1068_1092, ia, ← ho, ← hA, g1068_1103, g1068_1088, sA, ng_of tA (show ¬ (26 : Nat) = 0 by decide), Option.bind_some, if_true, if_false]
  have b65 : ∀ (M2 : Mem) (u p : Nat), ST M2 → cI M2 1075 1153 = iw (p : Int) → F_X16_view_b65 M2 u 1068 = some (-20, wI M2 1068 1091 (iw (p : Int))) := fun M2 u p k1 k2 => by
    simp only [F_X16_view_b65, g1068_1103, g1075_1153, p1068_1091, k1, k2, Option.bind_some]
  unfold vw
  cases hv : vtx f t with
  | inl p =>
    refine ⟨fun q hq => ?_, fun σ hs => by cases hs⟩
    cases hq
    obtain ⟨u, M2, y1, y2, y3, y4, y5, y6⟩ := mi.1 p hv
    exact ⟨M2, by rw [hd, y1, tc_inr]; exact b65 M2 u p y2 y6, y2, y3, by omega, by omega⟩
  | inr l =>
    obtain ⟨M3, L, d, es, y1, y2, y3, y4, y5, y6, y7⟩ := mi.2 l hv
    have hlen := vtx_len hv
    have g3 := gB1.df y3 (qt_at1 (by decide)) qt_n2
    have mv := M_viewed (n := t) y2 g3 hnn hz hp0 y5 (vtx_ok ht hv) (by omega)
    have hd2 : F_X16_view N 1068 g = tc (F_X16_viewed M3 1068 own L (iw (t : Int))) (fun z21 =>
          (gi z21.2 1068 1093).bind fun t23 =>
          if t23 = (400 : Int32) then
            F_X16_view_b101 z21.2 (-12 : Int32)
          else
            (vg z21.2 1068 17).bind fun _ =>
            (F_X16_numbered z21.2 1068 z21.1).bind fun z25 =>
            F_X16_view_b101 z25.2 z25.1)
          (fun z22 => F_X16_view_b65 z22.2 z22.1 1068) := by
      rw [hd, y1, tc_inl]
      simp only [y4, v1068, y2, Option.bind_some]
    refine ⟨fun p hp => ?_, fun σ hσ => ?_⟩
    · obtain ⟨u, M2, x1, x2, x3, x4, x5, x6⟩ := mv.1 p hp
      exact ⟨M2, by rw [hd2, x1, tc_inr]; exact b65 M2 u p x2 x6, x2, y3.trans x3, by omega, by omega⟩
    · obtain ⟨M2, a, x1, x2, x3, x4, x5, x6, x7, x8⟩ := mv.2 σ hσ
      have y3' := y3.1
      refine ⟨M2, a, ?_, x2, by omega, x4, y3.trans (x6.mono (fun _ _ q => q.elim) (fun _ _ q => q) (fun _ _ q => q)), by omega, by omega⟩
      rw [hd2, x1, tc_inl]
      simp only [g1068_1093, v1068, x2, F_X16_view_b101, Option.bind_some]
/-- a view of a grid on both sides -/
theorem vw2s {p : Nat → Nat → Prop} {M A M1 B M2 : Mem} {m w : Nat} {K : Nat → Int32} {n : Nat → Nat} {Z : Nat → Nat → Nat} {S T : Nat → Nat → Int32} {X Y : Nat → Int32} {C D L : Nat → Nat} {P : Nat → Int32} (h : ST M) (h5 : I5w M m w K n Z S T X Y C D L P) (hm : m < 400)
    {j : Nat} (j1 : 1 ≤ j) (j2 : j ≤ m) (hj : cR M 1005 j ≠ 0)
    (dA : Df (pp p) qsc rsc M A) (pA : qt p) (gA : noGr p) {a b n' : Nat} {z : Nat → Nat} {s t : Nat → Int32} {x y : Int32} {f : Int32}
    (gE : GE A a (K j) n' z s x (C j) f) (ha : m_nx M ≤ a) (e1 : M1 = wR (wI A 1004 193 (iw ((m + 1 : Nat) : Int))) 1005 (m + 1) a)
    (dB : Df (pp p) qsc rsc M1 B) (gM : GM B b (K j) n' z t y (D j) f) (hb : m_nx M1 ≤ b) (f1 : M2 = wR (wI B 1068 1093 (iw ((m + 1 : Nat) : Int))) 1070 (m + 1) b)
    (hn : n' ≤ 4) (hz : ∀ i, i < n' → z i ≤ 4096) (hp : prd z n' ≤ 100000) (hf : f = 0 ∨ f = 1) (hv : prd z n' ≠ 0 → x = y ∧ (∀ i, i < n' → 1 < z i → s i = t i) ∧ VL n' z s x (L j)) :
    I5 M2 ∧ Df (pg p) qsc (rG M) M M2 ∧ Df (fun a i => a = 1068 ∧ i = 1093) n2 (rNM m) B M2 ∧ m_nx M2 = m_nx B ∧ bud M2 + m_sl M = bud M + m_sl B := by
  have h0 := h.1
  have h5' := h5
  obtain ⟨q1, q2, q3, q4, q5, q6, q7, q8⟩ := h5'
  have nA := dA.1
  have nB := dB.1
  have gpj : GP M (cR M 1005 j) (cR M 1070 j) (K j) (n j) (Z j) (S j) (T j) (X j) (Y j) (C j) (D j) (L j) (P j) := (q7 j j1 j2).resolve_left (fun hh => hj hh.1)
  have d1 : Df (fun a i => a = 1004 ∧ i = 193) n2 (rNE m) A M1 := by rw [e1]; exact (Df.wI _ ⟨rfl, rfl⟩).trans (Df.wR _ ⟨rfl, rfl⟩)
  have d2 : Df (fun a i => a = 1068 ∧ i = 1093) n2 (rNM m) B M2 := by rw [f1]; exact (Df.wI _ ⟨rfl, rfl⟩).trans (Df.wR _ ⟨rfl, rfl⟩)
  have nM1 : m_nx M1 = m_nx A := by rw [e1]; rfl
  have nM2 : m_nx M2 = m_nx B := by rw [f1]; rfl
  have dd : Df (pg p) qsc (fun a i => (rNE m a i ∨ rNM m a i) ∨ rsc a i) M M2 := (((dA.mono pp_pg (fun _ _ q => q) (fun _ _ q => Or.inr q)).trans (d1.mono (fun a i q => Or.inr (Or.inr (by unfold pGr; omega))) (fun _ _ q => q.elim) (fun _ _ q => Or.inl (Or.inl q)))).trans (dB.mono pp_pg (fun _ _ q => q) (fun _ _ q => Or.inr q))).trans (d2.mono (fun a i q => Or.inr (Or.inr (by unfold pGr; omega))) (fun _ _ q => q.elim) (fun _ _ q => Or.inl (Or.inr q)))
  have qrr : qt (fun a i => (rNE m a i ∨ rNM m a i) ∨ rsc a i) := fun a i a1 a2 => by
    rcases a2 with a2 | a2
    · unfold rNE rNM at a2; omega
    · exact qt_rsc a i a1 a2
  have gE2 : GE M2 a (K j) n' z s x (C j) f := ((gE.df d1 (fun a i a1 a2 => by omega) (fun a i a1 a2 => by unfold rNE at a2; omega)).df dB (qt_pp pA) qt_rsc).df d2 (fun a i a1 a2 => by omega) (fun a i a1 a2 => by unfold rNM at a2; omega)
  have gM2 : GM M2 b (K j) n' z t y (D j) f := gM.df d2 (fun a i a1 a2 => by omega) (fun a i a1 a2 => by unfold rNM at a2; omega)
  have c194 : cI M2 1004 194 = iw w := by
    rw [d2.cI (by omega) (by omega), dB.cI (by omega) (noGr_pp gA _ _ (Or.inl ⟨rfl, Or.inr rfl⟩)), d1.cI (by omega) (by omega), dA.cI (by omega) (noGr_pp gA _ _ (Or.inl ⟨rfl, Or.inr rfl⟩))]
    exact q5
  refine ⟨?_, dd.mono (fun _ _ q => q) (fun _ _ q => q) (fun _ _ q => rG_of q1 q3 q), d2, nM2, ?_⟩
  · have gp : GP M2 a b (K j) n' z s t x y (C j) (D j) (L j) f := ⟨gE2, gM2, gpj.2.2.1, hn, hz, hp, hf, gpj.2.2.2.2.2.2.2.1.df dd qt_qsc, hv⟩
    have r5 : cR M2 1005 (m + 1) = a := by rw [d2.cR (by omega) (by unfold rNM; omega), dB.cR (by omega) (rsc_5 _).1, e1, cR_wR, if_pos ⟨rfl, rfl⟩]
    have r7 : cR M2 1070 (m + 1) = b := by rw [f1, cR_wR, if_pos ⟨rfl, rfl⟩]
    refine I5w.add h h5 hm q2 dd (qt_pg pA) qt_qsc qrr (fun i hi => ⟨fun q => ?_, fun q => ?_⟩) ?_ ?_ c194 ?_ (by rw [r5, r7]; exact gp) (fun g g1 g2 g3 => ?_) ?_
    · rcases q with q | q
      · unfold rNE rNM at q; omega
      · exact (rsc_5 _).1 q
    · rcases q with q | q
      · unfold rNE rNM at q; omega
      · exact (rsc_5 _).2 q
    · rw [d2.cI (by omega) (by omega), dB.cI (by omega) (noGr_pp gA _ _ (Or.inl ⟨rfl, Or.inl rfl⟩)), e1, cI_wR, cI_wI, if_pos ⟨rfl, rfl⟩]
    · rw [f1, cI_wR, cI_wI, if_pos ⟨rfl, rfl⟩]
    · rw [d2.cI (by omega) (by omega), dB.cI (by omega) (noGr_pp gA _ _ (Or.inr ⟨rfl, Or.inr rfl⟩)), d1.cI (by omega) (by omega), dA.cI (by omega) (noGr_pp gA _ _ (Or.inr ⟨rfl, Or.inr rfl⟩))]
      exact q6
    · obtain ⟨s1, s2, s3⟩ := q8 j g j1 j2 g1 g2 hj g3
      exact ⟨s1, s2, s3, (q8 g j g1 g2 j1 j2 g3 hj).2.2⟩
    · exact (q8 j j j1 j2 j1 j2 hj hj).2.2
  · unfold bud
    rw [c194, q5, show m_sl M2 = m_sl B by rw [f1]; rfl]
    omega
