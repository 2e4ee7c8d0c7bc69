/-! ===== CALLS, 34: solve ===== -/
/-- references that solve exchanges, too -/
def rsx : Nat → Nat → Prop := fun a i => rsc a i ∨ a = 1086
theorem qt_rsx : qt rsx := fun a i q1 q2 => q2.elim (qt_rsc a i q1) (fun q => by omega)
theorem rsx_5 (i : Nat) : ¬ rsx 1005 i ∧ ¬ rsx 1070 i := ⟨fun q => q.elim (rsc_5 i).1 (fun q => by omega), fun q => q.elim (rsc_5 i).2 (fun q => by omega)⟩
theorem rsx_st : ∀ p ∈ stR, ¬ rsx p.1 p.2.1 := fun p hp q => q.elim (rsc_st p hp) (st86 p hp)
theorem ST.sx {P Q : Nat → Nat → Prop} {M M' : Mem} (h : ST M) (d : Df P Q rsx M M') : ST M' := h.df d rsx_st
theorem Df.sx {P Q : Nat → Nat → Prop} {M M' : Mem} (d : Df P Q rsc M M') : Df P Q rsx M M' := d.mono (fun _ _ p => p) (fun _ _ p => p) (fun _ _ p => Or.inl p)
def rGx (M : Mem) : Nat → Nat → Prop := fun a i => (rGr a i ∧ (cI M 1004 193).toInt < (i : Int)) ∨ rsx a i
def rTwX (m : Nat) : Nat → Nat → Prop := fun a i => ((a = 1005 ∨ a = 1070) ∧ (i = m + 1 ∨ i = m + 2)) ∨ rsx a i
/-- both make two rows -/
theorem mkTwoX {p : Nat → Nat → Prop} {M A : Mem} {m w : Nat} {K : Nat → Int32} {n : Nat → Nat} {Z : Nat → Nat → Nat} {S T : Nat → Nat → Int32} {X Y : Nat → Int32} {C D L : Nat → Nat} {P : Nat → Int32} (h : ST M) (h5 : I5w M m w K n Z S T X Y C D L P)
    (dA : Df (pp p) qsc rsx M A) (pA : qt p) (gA : noGr p) {ka kb : Int32} {g : Nat} (hg : g ≤ 4096) (u v : Nat → Int64) (hka : Lk ka) (hkb : Lk kb) (hu : ∀ i, i < g → cJ A 1057 i = u i ∧ vb ka (u i)) (hv : ∀ i, i < g → cJ A 1057 (4096 + i) = v i ∧ vb kb (v i)) :
    ∃ (ρ : Int32) (M1 : Mem), F_X0_two A 1000 ka kb (iw (g : Int)) = some (ρ, M1) ∧ ST M1 ∧ Df (fun a i => psc a i ∨ pNE a i) qsc rE A M1 ∧ m_nx M1 ≤ m_nx A + 8 ∧
      ∀ (B : Mem), Df (pp p) qsc rsx M1 B → (∀ i, i < g → cJ B 1073 i = u i) → (∀ i, i < g → cJ B 1074 i = v i) →
        ∃ M2, ((F_X16_isRoom B 1068 ((2 : Int64) * (iw (g : Int)).toInt64) 2).bind fun z27 => if z27 = 0 then some (-12, B) else (F_X16_oneSize B (iw (g : Int))).bind fun z29 => (gr z29.2 1068 1100).bind fun t30 => (vg z29.2 1068 17).bind fun _ => (F_X16_made z29.2 1068 ka z29.1 t30).bind fun z32 => (F_X16_oneSize z32.2 (iw (g : Int))).bind fun z33 => (gr z33.2 1068 1101).bind fun t34 => (vg z33.2 1068 17).bind fun _ => (F_X16_made z33.2 1068 kb z33.1 t34).bind fun z36 => some (z32.1, z36.2)) = some (ρ, M2) ∧
          I5 M2 ∧ Df (pg p) qsc (rGx M) M M2 ∧ Df pNM qsc (fun a _ => a = 1070) B M2 ∧ m_nx M2 ≤ m_nx B + 8 ∧ bud M2 + m_sl M + m_sl M1 ≤ bud M + m_sl A + m_sl B + 300 := by
  have h0 := h.1
  have hxN : xN = 1099511627776 := rfl
  have nA := dA.1
  have h5' := h5
  obtain ⟨q1, q2, q3, q4, q5, q6, q7, q8⟩ := h5'
  have sA : ST A := h.sx dA
  have gPP := noGr_pp gA
  have c193 : cI A 1004 193 = iw m := by rw [dA.cI (by omega) (gPP _ _ (Or.inl ⟨rfl, Or.inl rfl⟩))]; exact q3
  have c194 : cI A 1004 194 = iw w := by rw [dA.cI (by omega) (gPP _ _ (Or.inl ⟨rfl, Or.inr rfl⟩))]; exact q5
  have d193 : cI A 1068 1093 = iw m := by rw [dA.cI (by omega) (gPP _ _ (Or.inr ⟨rfl, Or.inl rfl⟩))]; exact q4
  have d194 : cI A 1068 1094 = iw w := by rw [dA.cI (by omega) (gPP _ _ (Or.inr ⟨rfl, Or.inr rfl⟩))]; exact q6
  have rmE : F_X2_hasRoom A 1004 2 ((2 : Int32) * iw (g : Int)) = some (mr (room m w 2 (2 * g))) := by
    have := E_room (M := A) (m := m) (w := w) (g := 2) (z := fun _ => 2 * g) (n := 1) sA q1 q2 (by decide) c193 c194
    have hp : prd (fun _ => 2 * g) 1 = 2 * g := by show 1 * (2 * g) = _; omega
    have hc : cnt (fun _ => 2 * g) 1 = iw ((2 * g : Nat) : Int) := by unfold cnt; rw [hp, if_neg (by omega)]
    rw [hc, hp] at this
    rw [iw_2mul]
    exact this
  have rmM : ∀ B, ST B → cI B 1068 1093 = iw m → cI B 1068 1094 = iw w → F_X16_isRoom B 1068 ((2 : Int64) * (iw (g : Int)).toInt64) 2 = some (mr (room m w 2 (2 * g))) := fun B sB e1 e2 => by
    rw [i64_iw (by omega), show (2 : Int64) = nl 2 from rfl, nl_mul]
    exact M_room (g := 2) sB q1 q2 (by decide) (by omega) e1 e2
  have mf : ¬ mr true = 0 := by decide
  have mf0 : mr false = 0 := by decide
  cases hb : room m w 2 (2 * g) with
  | false =>
    rw [hb] at rmE rmM
    refine ⟨-12, A, ?_, sA, Df.refl _ _ _ _, by omega, fun B dB e1 e2 => ?_⟩
    · simp only [F_X0_two, g1000_68, v1004, sA, rmE, mf0, Option.bind_some, if_true]
    · have nB := dB.1
      have sB : ST B := sA.sx dB
      have dd : Df (pp p) qsc rsx M B := dA.trans dB
      refine ⟨B, ?_, ⟨m, w, K, n, Z, S, T, X, Y, C, D, L, P, h5.df h dd (qt_pp pA) qt_qsc qt_rsx gPP rsx_5⟩, dd.mono pp_pg (fun _ _ q => q) (fun _ _ q => Or.inr q), Df.refl _ _ _ _, by omega, ?_⟩
      · rw [rmM B sB (by rw [dB.cI (by omega) (gPP _ _ (Or.inr ⟨rfl, Or.inl rfl⟩))]; exact d193) (by rw [dB.cI (by omega) (gPP _ _ (Or.inr ⟨rfl, Or.inr rfl⟩))]; exact d194)]
        rfl
      · unfold bud
        rw [dd.cI (by omega) (gPP _ _ (Or.inl ⟨rfl, Or.inr rfl⟩))]
        omega
  | true =>
    rw [hb] at rmE rmM
    have hroom : m + 2 ≤ 400 ∧ 2 * g ≤ 100000 ∧ w + 2 * g ≤ 100000 := of_decide_eq_true hb
    obtain ⟨z, hz⟩ : ∃ z : Nat → Nat, z = fun _ => g := ⟨_, rfl⟩
    have hp : prd z 1 = g := by rw [hz]; show 1 * g = _; omega
    have hz0 : ∀ i, z i = g := fun i => by rw [hz]
    -- the engine
    obtain ⟨A1, a1, a2, a3, a4, a5, a6⟩ := E_rowShape (n := g) sA
    have sA1 : ST A1 := sA.n a4
    have zA : ∀ N, Df pNE n2 (rNE m) A1 N ∨ N = A1 → ∀ i, i < 1 → cI N 1062 i = iw (z i) ∧ z i ≤ 4096 := fun N hN i hi => by
      have : i = 0 := by omega
      subst this
      rw [hz0]
      refine ⟨?_, hg⟩
      rcases hN with d | rfl
      · rw [d.cI (by omega) (by unfold pNE; omega)]; exact a6
      · exact a6
    obtain ⟨A2, b0, b1, bS, b2, b3, b4, bC, b5, b6, b7, b8⟩ := E_make (k := ka) (r := 1057) (m := m) (w := w) (n := 1) (z := z) sA1 (by decide) (zA A1 (Or.inr rfl)) (by omega) (by omega) (by omega) (by rw [a4.cI (by omega) (by omega)]; exact c193) (by rw [a4.cI (by omega) (by omega)]; exact c194) (Or.inr ⟨by decide, by decide, by omega, t1057 sA1, by rw [l1057 sA1]; omega, by rw [l1057 sA1]; decide⟩)
    rw [hp] at bS b4 bC b6
    have sA2 : ST A2 := sA1.df b8 (fun p hp hr => (stR_na p hp).1 hr.1)
    obtain ⟨N1, hN1⟩ : ∃ N1, N1 + 1 + g = xN := ⟨xN - 1 - g, by omega⟩
    obtain ⟨A3, e1, e2, e3, e4, e5, e6, e7⟩ := E_down (k2 := kb) (v4 := iw ((m + 1 : Nat) : Int)) hg g (N1 + 1) 0 A2 (by omega) sA2
    rw [hN1] at e1
    have sA3 : ST A3 := sA2.n e4
    have c89 : cI A3 1000 89 = iw ((1 : Nat) : Int) := by rw [e4.cI (by omega) (fun q => q), b8.cI (by omega) (by unfold pNE; omega)]; exact a5
    have hz3 : ∀ i, i < 1 → cI A3 1062 i = iw (z i) ∧ z i ≤ 4096 := fun i hi => by rw [e4.cI (by omega) (fun q => q)]; exact zA A2 (Or.inl b8) i hi
    obtain ⟨A4, k0, k1, kS, k2, k3, k4, kC, k5, k6, k7, k8⟩ := E_make (k := kb) (r := 1057) (m := m + 1) (w := w + g) (n := 1) (z := z) sA3 (by decide) hz3 (by omega) (by omega) (by omega) (by rw [e4.cI (by omega) (fun q => q)]; exact b5) (by rw [e4.cI (by omega) (fun q => q)]; exact b6) (Or.inr ⟨by decide, by decide, by omega, t1057 sA3, by rw [l1057 sA3]; omega, by rw [l1057 sA3]; decide⟩)
    rw [hp] at kS k4 kC k6
    have sA4 : ST A4 := sA3.df k8 (fun p hp hr => (stR_na p hp).1 hr.1)
    have eE : F_X0_two A 1000 ka kb (iw (g : Int)) = some (iw ((m + 1 : Nat) : Int), A4) := by
      have b0' : F_X2_make A1 1004 ka 1062 (cI A1 1000 89) 1057 = some (iw ((m + 1 : Nat) : Int), A2) := by rw [a5]; exact b0
      simp only [F_X0_two, g1000_68, v1004, v1000, sA, rmE, mf, a1, g1000_88, g1000_89, g1000_81, sA1, b0', Option.bind_some, if_false]
      refine e1.trans ?_
      show F_X0_two_b47_st (F_X0_two_b47 N1) A3 _ _ _ _ _ = _
      unfold F_X0_two_b47_st
      rw [if_neg (by rw [iw_le4 (by omega) (by omega)]; omega)]
      have k0' : F_X2_make A3 1004 kb 1062 (cI A3 1000 89) 1057 = some (iw ((m + 1 + 1 : Nat) : Int), A4) := by rw [c89]; exact k0
      simp only [g1000_68, g1000_88, g1000_89, g1000_81, v1004, sA3, k0', J_min2 (show m + 1 ≤ 2147483647 by omega) (show m + 1 + 1 ≤ 2147483647 by omega), Nat.min_eq_left (show m + 1 ≤ m + 1 + 1 by omega), Option.bind_some]
    -- engine's frames
    have dE : Df (fun a i => psc a i ∨ pNE a i) qsc (fun a i => a = 1005 ∧ (i = m + 1 ∨ i = m + 2)) A A4 := (((a4.mono (fun a i q => Or.inl (by unfold psc; omega)) (fun _ _ q => q.elim) (fun _ _ q => q.elim)).trans (b8.mono (fun _ _ q => Or.inr q) (fun _ _ q => q.elim) (fun a i q => ⟨q.1, Or.inl q.2⟩))).trans (e4.mono (fun _ _ q => q.elim) (fun a i q => by unfold at1 at q; unfold qsc; omega) (fun _ _ q => q.elim))).trans (k8.mono (fun _ _ q => Or.inr q) (fun _ _ q => q.elim) (fun a i q => ⟨q.1, Or.inr q.2⟩))
    refine ⟨iw ((m + 1 : Nat) : Int), A4, eE, sA4, dE.mono (fun _ _ q => q) (fun _ _ q => q) (fun _ _ q => q.1), by omega, fun B dB eu ev => ?_⟩
    have nB := dB.1
    have sB : ST B := sA4.sx dB
    have m93 : cI B 1068 1093 = iw m := by rw [dB.cI (by omega) (gPP _ _ (Or.inr ⟨rfl, Or.inl rfl⟩)), dE.cI (by omega) (fun q => q.elim (nsc _) (fun q => by unfold pNE at q; omega))]; exact d193
    have m94 : cI B 1068 1094 = iw w := by rw [dB.cI (by omega) (gPP _ _ (Or.inr ⟨rfl, Or.inr rfl⟩)), dE.cI (by omega) (fun q => q.elim (nsc _) (fun q => by unfold pNE at q; omega))]; exact d194
    -- the model
    obtain ⟨B1, o1, o2, o3, o4, o5⟩ := M_oneSize (B := B) (by omega) (iw (g : Int))
    have sB1 : ST B1 := sB.n o4
    have o5' : IRw B1 (m_nx B) 1 (fun i => iw (z i)) := ⟨o5.1, o5.2.1, o5.2.2.1, o5.2.2.2.1, fun i hi => (o5.2.2.2.2 i hi).trans (by show iw (g : Int) = iw (z i : Nat); rw [hz0])⟩
    obtain ⟨B2, f0, f1, fS, f2, f3, f4, fC, f5, f6, f7, f8⟩ := M_made (k := ka) (r := 1073) (m := m) (w := w) (n := 1) (z := z) sB1 (by decide) (fun i _ => by rw [hz0]; exact hg) o5' (by omega) (by omega) (by omega) (by rw [o4.cI (by omega) (fun q => q)]; exact m93) (by rw [o4.cI (by omega) (fun q => q)]; exact m94) (Or.inr ⟨by decide, by decide, by omega, t1073 sB1, by rw [l1073 sB1]; omega, by rw [l1073 sB1]; decide⟩)
    rw [hp] at fS f4 fC f6
    have sB2 : ST B2 := sB1.df f8 (fun p hp hr => (stR_na p hp).2.1 hr.1)
    obtain ⟨B3, r1, r2, r3, r4, r5⟩ := M_oneSize (B := B2) (by omega) (iw (g : Int))
    have sB3 : ST B3 := sB2.n r4
    have r5' : IRw B3 (m_nx B2) 1 (fun i => iw (z i)) := ⟨r5.1, r5.2.1, r5.2.2.1, r5.2.2.2.1, fun i hi => (r5.2.2.2.2 i hi).trans (by show iw (g : Int) = iw (z i : Nat); rw [hz0])⟩
    obtain ⟨B4, y0, y1, yS, y2, y3, y4, yC, y5, y6, y7, y8⟩ := M_made (k := kb) (r := 1074) (m := m + 1) (w := w + g) (n := 1) (z := z) sB3 (by decide) (fun i _ => by rw [hz0]; exact hg) r5' (by omega) (by omega) (by omega) (by rw [r4.cI (by omega) (fun q => q)]; exact f5) (by rw [r4.cI (by omega) (fun q => q)]; exact f6) (Or.inr ⟨by decide, by decide, by omega, t1074 sB3, by rw [l1074 sB3]; omega, by rw [l1074 sB3]; decide⟩)
    rw [hp] at yS y4 yC y6
    have qNM : qt pNM := fun a i q1 q2 => by unfold pNM at q2; omega
    have qrM : ∀ m, qt (rNM m) := fun m a i q1 q2 => by unfold rNM at q2; omega
    have qNE : qt pNE := qt_pNE
    have qrE : ∀ m, qt (rNE m) := fun m a i q1 q2 => by unfold rNE at q2; omega
    have dM : Df (fun a i => pNM a i) qsc (fun a i => a = 1070 ∧ (i = m + 1 ∨ i = m + 2)) B B4 := (((o4.mono (fun _ _ q => q.elim) (fun _ _ q => q.elim) (fun _ _ q => q.elim)).trans (f8.mono (fun _ _ q => q) (fun _ _ q => q.elim) (fun a i q => ⟨q.1, Or.inl q.2⟩))).trans (r4.mono (fun _ _ q => q.elim) (fun _ _ q => q.elim) (fun _ _ q => q.elim))).trans (y8.mono (fun _ _ q => q) (fun _ _ q => q.elim) (fun a i q => ⟨q.1, Or.inr q.2⟩))
    have dd : Df (pg p) qsc (rTwX m) M B4 := (((dA.mono pp_pg (fun _ _ q => q) (fun _ _ q => Or.inr q)).trans (dE.mono (fun a i q => q.elim Or.inl (fun q => Or.inr (Or.inr (Or.inl q)))) (fun _ _ q => q) (fun a i q => Or.inl ⟨Or.inl q.1, q.2⟩))).trans (dB.mono pp_pg (fun _ _ q => q) (fun _ _ q => Or.inr q))).trans (dM.mono (fun a i q => Or.inr (Or.inr (Or.inr q))) (fun _ _ q => q) (fun a i q => Or.inl ⟨Or.inr q.1, q.2⟩))
    -- later: what holds of the engine's first
    have GE1 : GE B4 (m_nx A1 + 3) ka 1 z (fun i => iw (sfx z 1 (1 - 1 - i) : Nat)) 0 (m_nx A1 + 2) 0 := (((b2.df e4 qt_n2 qt_n2).df k8 qNE (qrE _)).df dB (qt_pp pA) qt_rsx).df dM qNM (fun a i q1 q2 => by omega)
    have GE2 : GE B4 (m_nx A3 + 3) kb 1 z (fun i => iw (sfx z 1 (1 - 1 - i) : Nat)) 0 (m_nx A3 + 2) 0 := (k2.df dB (qt_pp pA) qt_rsx).df dM qNM (fun a i q1 q2 => by omega)
    have GM1 : GM B4 (m_nx B1 + 1) ka 1 z (fun i => iw (mfx z 1 (1 - 1 - i) : Nat)) 0 (m_nx B1) 0 := (f2.df r4 qt_n2 qt_n2).df y8 qNM (qrM _)
    have tl : ∀ c, c < m_nx A4 → 1334 ≤ c → m_tg B4 c = m_tg A4 c ∧ m_ln B4 c = m_ln A4 c ∧ ∀ i, cJ B4 c i = cJ A4 c i := fun c hc hc2 => by
      have u1 := dB.2.2 c hc
      have u2 := dM.2.2 c (by omega)
      exact ⟨u2.1.trans u1.1, u2.2.1.trans u1.2.1, fun i => by rw [dM.cJ (by omega) (qt_qsc _ _ hc2), dB.cJ hc (qt_qsc _ _ hc2)]⟩
    have tl2 : ∀ c, c < m_nx A2 → 1334 ≤ c → m_tg B4 c = m_tg A2 c ∧ m_ln B4 c = m_ln A2 c ∧ ∀ i, cJ B4 c i = cJ A2 c i := fun c hc hc2 => by
      obtain ⟨w1, w2, w3⟩ := tl c (by omega) hc2
      have u1 := e4.2.2 c hc
      have u2 := k8.2.2 c (by omega)
      exact ⟨w1.trans (u2.1.trans u1.1), w2.trans (u2.2.1.trans u1.2.1), fun i => by rw [w3, k8.cJ (by omega) (fun q => q), e4.cJ hc (by unfold at1; omega)]⟩
    have tb : ∀ c, c < m_nx B2 → m_tg B4 c = m_tg B2 c ∧ m_ln B4 c = m_ln B2 c ∧ ∀ i, cJ B4 c i = cJ B2 c i := fun c hc => by
      have u1 := r4.2.2 c hc
      have u2 := y8.2.2 c (by omega)
      exact ⟨u2.1.trans u1.1, u2.2.1.trans u1.2.1, fun i => by rw [y8.cJ (by omega) (fun q => q), r4.cJ hc (fun q => q)]⟩
    have E1 := tl2 (m_nx A1 + 2) (by omega) (by omega)
    have E2 := tl (m_nx A3 + 2) (by omega) (by omega)
    have Mm1 := tb (m_nx B1) (by omega)
    have GP1 := GP.mk GE1 GM1 hka (by decide) (fun i _ => by rw [hz0]; exact hg) (by omega) (by omega) (by omega) (by omega) (by omega) (E1.1.trans b3) (Mm1.1.trans f3) (by rw [E1.2.1, b4, hp]) (by rw [Mm1.2.1, f4, hp]) (fun i hi => by
      rw [hp] at hi
      rw [E1.2.2, Mm1.2.2, bC i hi, fC i hi, if_neg (by decide), if_neg (by decide), a4.cJ (by omega) (fun q => q), (hu i hi).1, o4.cJ (by omega) (fun q => q), eu i hi]
      exact ⟨rfl, (hu i hi).2⟩)
    have GP2 := GP.mk GE2 y2 hkb (by decide) (fun i _ => by rw [hz0]; exact hg) (by omega) (by omega) (by omega) (by omega) (by omega) (E2.1.trans k3) y3 (by rw [E2.2.1, k4, hp]) (by rw [y4, hp]) (fun i hi => by
      rw [hp] at hi
      rw [E2.2.2, kC i hi, yC i hi, if_neg (by decide), if_neg (by decide), e5 i (Nat.zero_le _) hi, b8.cJ (by omega) (fun q => q), a4.cJ (by omega) (fun q => q), (hv i hi).1, r4.cJ (by omega) (fun q => q), f8.cJ (by omega) (fun q => q), o4.cJ (by omega) (fun q => q), ev i hi]
      exact ⟨rfl, (hv i hi).2⟩)
    have R1 : cR B4 1005 (m + 1) = m_nx A1 + 3 := by rw [dM.cR (by omega) (by omega), dB.cR (by omega) (rsx_5 _).1, k8.cR (by omega) (by unfold rNE; omega), e4.cR (by omega) (fun q => q)]; exact b7
    have R2 : cR B4 1005 (m + 2) = m_nx A3 + 3 := by rw [dM.cR (by omega) (by omega), dB.cR (by omega) (rsx_5 _).1]; exact k7
    have R3 : cR B4 1070 (m + 1) = m_nx B1 + 1 := by rw [y8.cR (by omega) (by unfold rNM; omega), r4.cR (by omega) (fun q => q)]; exact f7
    have R4 : cR B4 1070 (m + 2) = m_nx B3 + 1 := y7
    refine ⟨B4, ?_, ?_, dd.mono (fun _ _ q => q) (fun _ _ q => q) (fun a i q => q.elim (fun q => Or.inl ⟨q.1, by rw [q3, iw_toInt (by omega) (by omega)]; omega⟩) (fun q => Or.inr q)), dM.mono (fun _ _ q => q) (fun _ _ q => q) (fun _ _ q => q.1), by omega, ?_⟩
    · rw [rmM B sB m93 m94]
      simp only [Option.bind_some, mf, if_false, o1, g1068_1100, g1068_1101, v1068, sB1, f0, r1, sB3, y0]
    · refine I5w.add2 h h5 hroom.1 (show w + g + g ≤ 100000 by omega) dd (fun a i q1 q2 => ?_) qt_qsc (fun a i q1 q2 => ?_) (fun i h1 h2 => ⟨?_, ?_⟩) ?_ y5 ?_ y6 (by rw [R1, R3]; exact GP1) (by rw [R2, R4]; exact GP2) (by omega) (by omega) (by omega) (by omega) (by omega) (by omega) (by omega) (by omega) (by omega) (by omega)
      · rcases q2 with q | q | q
        · exact qt_psc a i q1 q
        · exact pA a i q1 q
        · exact qt_pGr a i q1 q
      · exact q2.elim (fun q => by omega) (qt_rsx a i q1)
      · exact fun q => q.elim (fun q => by omega) (rsx_5 i).1
      · exact fun q => q.elim (fun q => by omega) (rsx_5 i).2
      · rw [dM.cI (by omega) (by unfold pNM; omega), dB.cI (by omega) (gPP _ _ (Or.inl ⟨rfl, Or.inl rfl⟩))]; exact k5
      · rw [dM.cI (by omega) (by unfold pNM; omega), dB.cI (by omega) (gPP _ _ (Or.inl ⟨rfl, Or.inr rfl⟩))]; exact k6
    · have x22 : x_cn 22 ≤ 20 := by decide
      have x23 : x_cn 23 ≤ 20 := by decide
      unfold bud
      rw [dM.cI (by omega) (by unfold pNM; omega), dB.cI (by omega) (gPP _ _ (Or.inl ⟨rfl, Or.inr rfl⟩)), k6, q5, iw_toInt (by omega) (by omega), iw_toInt (by omega) (by omega)]
      omega
