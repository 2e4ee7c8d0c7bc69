/-! ===== VIEWS, 9: the engine's side, together ===== -/
def vw (f : Nat → Int32) (n nn : Nat) (z : Nat → Nat) (s : Nat → Int32) (b0 : Int32) : Nat ⊕ VS := match vtx f n with
  | .inl p => .inl p
  | .inr l => vfin n nn z s b0 l
theorem E_gob {M : Mem} {f : Nat → Int32} {n own : Nat} (h : ST M) (h2 : cR M 1006 257 = 1001) (h3 : cI M 1006 258 = iw (n : Int)) (hn : n ≤ 16000) (hf : ∀ i, cI M 1001 i = f i) : ∃ C, SC M C (skpa f n 0) ∧ TX C f n (skpa f n 0) ∧ (¬ skpa f n 0 < n → F_X3_go M 1006 own = some (.inl C)) ∧ (skpa f n 0 < n → F_X3_go M 1006 own = F_X3_go_b22 xN C 1006 own 1) := by
  have h0 := h.1
  have hxN : xN = (1099511627775 : Nat) + 1 := rfl
  obtain ⟨B, hB⟩ : ∃ B, B = wI M 1006 259 0 := ⟨_, rfl⟩
  have sB : SC M B 0 := by rw [hB]; exact SC.w h 0
  have tB : TX B f n 0 := ⟨sB.1, by rw [sB.2.1.cR (by omega) (fun q => q)]; exact h2, by rw [sB.2.1.cI (by omega) (by omega)]; exact h3, hn, sB.2.2.1, by omega, fun i => by rw [sB.2.1.cI (by omega) (by omega)]; exact hf i⟩
  obtain ⟨C, k1, s1⟩ := E_skip tB
  have tC := s1.tx tB (skpa_le (by omega))
  refine ⟨C, sB.trans s1, tC, fun c => ?_, fun c => ?_⟩
  · unfold F_X3_go F_X3_go_b21
    simp only [p1006_259, h, ← hB, v1006, tB.1, k1, tC.1, E_look tC, Option.bind_some]
    rw [if_pos (lk_neg.mpr (by omega)), hxN]
    show F_X3_go_b22_st (F_X3_go_b22 1099511627775) C 1006 own 0 = _
    unfold F_X3_go_b22_st
    rw [if_pos rfl]
  · unfold F_X3_go F_X3_go_b21
    simp only [p1006_259, h, ← hB, v1006, tB.1, k1, tC.1, E_look tC, Option.bind_some]
    rw [if_neg (fun hh => by have := lk_neg.mp hh; omega)]
def rVw : Nat → Nat → Prop := fun a i => a = 1006 ∧ i = 257
theorem rVw_st : ∀ p ∈ stR, ¬ rVw p.1 p.2.1 := by
  unfold rVw
  decide +kernel
theorem rVw_sc : ∀ a i, rVw a i → rsc a i := fun a i q => ⟨by unfold rVw at q; omega, fun p hp hh => rVw_st p hp (by
  unfold rVw at q ⊢
  omega)⟩
def VF3 (M M' : Mem) (p x : Nat) : Prop := ST M' ∧ Df pVw n2 rVw M M' ∧ m_nx M' = m_nx M ∧ m_sl M' = m_sl M ∧ cI M' 1002 130 = iw (p : Int) ∧ ∃ x' : Nat, x' ≤ x ∧ cI M' 1006 262 = iw (x' : Int)
theorem Df.r0 {P Q R : Nat → Nat → Prop} {M M' : Mem} (d : Df P Q n2 M M') : Df P Q R M M' := d.mono (fun _ _ q => q) (fun _ _ q => q) (fun _ _ q => q.elim)
theorem SC.pv {M M' : Mem} {a : Nat} (s : SC M M' a) : Df pVw n2 rVw M M' := s.2.1.mono (fun a i q => Or.inl q.1) (fun _ _ q => q) (fun _ _ q => q.elim)
theorem qt_rVw : qt rVw := fun a i q1 q2 => by unfold rVw at q2; omega
theorem E_vread {M : Mem} {f : Nat → Int32} {n own c0 nn x : Nat} {k x0 p0 : Int32} {z : Nat → Nat} {s : Nat → Int32} (h : ST M) (hf : ∀ i, cI M 1001 i = f i) (hn : n ≤ 16000) (g : GE M own k nn z s x0 c0 p0) (hnn : nn ≤ 4) (hz : ∀ i, i < nn → z i ≤ 4096) (hp : p0 = 0 ∨ p0 = 1) (hx : cI M 1006 262 = iw (x : Int)) (hxb : x ≤ 90000000) :
    (∀ p, vw f n nn z s x0 = .inl p → ∃ M', F_X3_read M 1006 own 1001 (iw (n : Int)) = some (.inr (1003, M')) ∧ VF3 M M' p (x + 20000)) ∧
    (∀ σ, vw f n nn z s x0 = .inr σ → ∃ M' a, F_X3_read M 1006 own 1001 (iw (n : Int)) = some (.inl (a, M')) ∧ ST M' ∧ m_nx M ≤ a ∧ GE M' a k σ.1 σ.2.2.2.1 σ.2.2.2.2 σ.2.2.1 c0 p0 ∧ σ.1 ≤ 4 ∧ Df pVw n2 rVw M M' ∧ m_nx M' ≤ m_nx M + 3 ∧ m_sl M' ≤ m_sl M + 40 ∧ cI M' 1006 262 = iw (σ.1 : Nat)) := by
  have h0 := h.1
  have hxN : xN = 1099511627776 := rfl
  obtain ⟨A0, hA0⟩ : ∃ A0, A0 = wR M 1006 257 1001 := ⟨_, rfl⟩
  have dA0 : Df pVw n2 rVw M A0 := hA0 ▸ Df.wR _ ⟨rfl, rfl⟩
  have sA0 : ST A0 := h.df dA0 rVw_st
  obtain ⟨A, hA⟩ : ∃ A, A = wI A0 1006 258 (iw (n : Int)) := ⟨_, rfl⟩
  have sA : ST A := hA ▸ sA0
  have dA : Df pVw n2 rVw M A := dA0.trans (hA ▸ Df.wI _ (Or.inl rfl))
  have nA : m_nx A = m_nx M ∧ m_sl A = m_sl M := by rw [hA, hA0]; exact ⟨rfl, rfl⟩
  have A57 : cR A 1006 257 = 1001 := by rw [hA, cR_wI, hA0, cR_wR, if_pos ⟨rfl, rfl⟩]
  have A58 : cI A 1006 258 = iw (n : Int) := by rw [hA, cI_wI, if_pos ⟨rfl, rfl⟩]
  have A62 : cI A 1006 262 = iw (x : Int) := by rw [hA, cI_wI, if_neg (by decide), hA0]; exact hx
  have fA : ∀ i, cI A 1001 i = f i := fun i => by rw [dA.cI (by omega) (by unfold pVw; omega)]; exact hf i
  have hd : F_X3_read M 1006 own 1001 (iw (n : Int)) = tb (F_X3_go A 1006 0) fun z43 =>
      (pi z43 1006 262 (0 : Int32)).bind fun M44 =>
      (pi M44 1006 264 (0 : Int32)).bind fun M45 =>
      (gi M45 own 1412).bind fun t46 =>
      (pi M45 1006 263 t46).bind fun M47 =>
      (vg M47 1006 4).bind fun _ =>
      tb (F_X3_go M47 1006 own) fun z49 =>
      F_X3_read_b38 xN z49 1006 own := by
    unfold F_X3_read
    simp only [p1006_257, h, ← hA0, Option.bind_some]
    simp only [p1006_258, sA0, ← hA, v1006, sA, Option.bind_some]
  -- the first go
  obtain ⟨C, s1, t1, c1, c2⟩ := E_gob (own := 0) sA A57 A58 hn fA
  have C62 : cI C 1006 262 = iw (x : Int) := by rw [s1.2.1.cI (by omega) (by omega)]; exact A62
  obtain ⟨N1, hN1⟩ : ∃ N1, N1 + 1 + (n + 1) = xN := ⟨xN - 1 - (n + 1), by omega⟩
  have go1 : (∀ p, vtx f n = .inl p → ∃ M', F_X3_go A 1006 0 = some (.inr (1003, M')) ∧ VF3 M M' p (x + 20000)) ∧ (∀ l, vtx f n = .inr l → ∃ M', F_X3_go A 1006 0 = some (.inl M') ∧ ST M' ∧ Df pVw n2 rVw M M' ∧ m_nx M' = m_nx M ∧ m_sl M' = m_sl M ∧ cI M' 1006 258 = iw (n : Int) ∧ cR M' 1006 257 = 1001) := by
    unfold vtx
    by_cases c : skpa f n 0 < n
    · rw [if_pos c, c2 c]
      obtain ⟨w1, w2⟩ := E_go1 (n + 1) N1 (skpa f n 0) x C (by omega) (by omega) t1 C62
      rw [hN1] at w1 w2
      refine ⟨fun p hp => ?_, fun l hl => ?_⟩
      · obtain ⟨M', f1, f2, f3, f4, f5, f6, x', f7, f8⟩ := w1 p hp
        exact ⟨M', f1, f2, (dA.trans s1.pv).trans f3.r0, by rw [f4, s1.2.2.2.1]; exact nA.1, by rw [f5, s1.2.2.2.2]; exact nA.2, f6, x', by omega, f8⟩
      · obtain ⟨M', f1, f2, f3, f4, f5, f6, x', f7, f8⟩ := w2 l hl
        have hC0 := t1.1.1
        exact ⟨M', f1, f2, (dA.trans s1.pv).trans f3.r0, by rw [f4, s1.2.2.2.1]; exact nA.1, by rw [f5, s1.2.2.2.2]; exact nA.2, by rw [f6, s1.2.1.cI (by omega) (by omega)]; exact A58, by rw [f3.cR (by omega) (fun q => q), s1.2.1.cR (by omega) (fun q => q)]; exact A57⟩
    · rw [if_neg c, c1 c]
      refine ⟨fun p hp => (by cases hp), fun l hl => ⟨C, rfl, t1.1, dA.trans s1.pv, by rw [s1.2.2.2.1]; exact nA.1, by rw [s1.2.2.2.2]; exact nA.2, by rw [s1.2.1.cI (by omega) (by omega)]; exact A58, by rw [s1.2.1.cR (by omega) (fun q => q)]; exact A57⟩⟩
  unfold vw
  cases hv : vtx f n with
  | inl p =>
    refine ⟨fun q hq => ?_, fun σ hs => by cases hs⟩
    cases hq
    obtain ⟨M', f1, f2⟩ := go1.1 p hv
    exact ⟨M', by rw [hd, f1, tb_r], f2⟩
  | inr l =>
    obtain ⟨E, e1, e2, e3, e4, e5, e6, e7⟩ := go1.2 l hv
    have hE0 := e2.1
    obtain ⟨F, hF⟩ : ∃ F, F = wI (wI (wI E 1006 262 0) 1006 264 0) 1006 263 x0 := ⟨_, rfl⟩
    have sF : ST F := hF ▸ e2
    have dF : Df pVw n2 rVw M F := by
      rw [hF]
      exact ((e3.trans (Df.wI _ (Or.inl rfl))).trans (Df.wI _ (Or.inl rfl))).trans (Df.wI _ (Or.inl rfl))
    have nF : m_nx F = m_nx M ∧ m_sl F = m_sl M := by rw [hF]; exact ⟨e4, e5⟩
    have gE := g.df e3 qt_pVw qt_rVw
    have gF := g.df dF qt_pVw qt_rVw
    have g1412 : gi (wI (wI E 1006 262 0) 1006 264 0) own 1412 = some x0 := by
      obtain ⟨o1, o2, o3, o4, o5, o6, o7, o8, o9, o10⟩ := gE
      have tt : m_tg (wI (wI E 1006 262 0) 1006 264 0) own = 22 := o3
      rw [gi_of tt (show x_fi 22 1412 = true by decide), cI_wI, if_neg (by omega), cI_wI, if_neg (by omega), o8]
    have hd2 : F_X3_read M 1006 own 1001 (iw (n : Int)) = tb (F_X3_go F 1006 own) fun z49 => F_X3_read_b38 xN z49 1006 own := by
      rw [hd, e1, tb_l]
      simp only [p1006_262, p1006_264, e2, ST_wI, g1412, p1006_263, Option.bind_some, ← hF, v1006, sF]
    have F57 : cR F 1006 257 = 1001 := by rw [hF]; exact e7
    have F58 : cI F 1006 258 = iw (n : Int) := by rw [hF, cI_wI, if_neg (by decide), cI_wI, if_neg (by decide), cI_wI, if_neg (by decide)]; exact e6
    have fF : ∀ i, cI F 1001 i = f i := fun i => by rw [dF.cI (by omega) (by unfold pVw; omega)]; exact hf i
    have vF : VE F (0, 0, x0, fun _ => 0, fun _ => 0) := ⟨by rw [hF, cI_wI, if_neg (by decide), cI_wI, if_neg (by decide), cI_wI, if_pos ⟨rfl, rfl⟩]; rfl, by rw [hF, cI_wI, if_neg (by decide), cI_wI, if_pos ⟨rfl, rfl⟩]; rfl, by rw [hF, cI_wI, if_pos ⟨rfl, rfl⟩], fun j hj _ => absurd hj (Nat.not_lt_zero j)⟩
    obtain ⟨D, s2, t2, d1, d2⟩ := E_gob (own := own) sF F57 F58 hn fF
    have gD := gF.df s2.2.1 qt_s59 qt_n2
    have vD := vF.sc sF s2
    have hD0 := t2.1.1
    have dD : Df pVw n2 rVw M D := dF.trans s2.pv
    have nD : m_nx D = m_nx M ∧ m_sl D = m_sl M := ⟨s2.2.2.2.1.trans nF.1, s2.2.2.2.2.trans nF.2⟩
    -- the second go
    have go2 : (∀ p, vall nn z s l (0, 0, x0, fun _ => 0, fun _ => 0) = .inl p → ∃ M', F_X3_go F 1006 own = some (.inr (1003, M')) ∧ VF3 M M' p (x + 20000)) ∧ (∀ σ, vall nn z s l (0, 0, x0, fun _ => 0, fun _ => 0) = .inr σ → ∃ M', F_X3_go F 1006 own = some (.inl M') ∧ ST M' ∧ VE M' σ ∧ σ.1 ≤ 16001 ∧ σ.2.1 ≤ nn ∧ Df pVw n2 rVw M M' ∧ m_nx M' = m_nx M ∧ m_sl M' = m_sl M ∧ cI M' 1006 258 = iw (n : Int)) := by
      unfold vtx at hv
      by_cases c : skpa f n 0 < n
      · rw [if_pos c] at hv
        rw [d2 c]
        obtain ⟨w1, w2⟩ := E_go2 hnn hz (n + 1) N1 (skpa f n 0) (0, 0, x0, fun _ => 0, fun _ => 0) D l (by omega) t2 gD vD (by show 0 + (n + 1) ≤ _; omega) (Nat.zero_le _) hv
        rw [hN1] at w1 w2
        refine ⟨fun p hp => ?_, fun σ hσ => ?_⟩
        · obtain ⟨M', f1, f2, f3, f4, f5, f6, x', f7, f8⟩ := w1 p hp
          have f7' : x' ≤ 0 + (n + 1) := f7
          exact ⟨M', f1, f2, dD.trans f3.r0, f4.trans nD.1, f5.trans nD.2, f6, x', by omega, f8⟩
        · obtain ⟨M', f1, f2, f3, f4, f5, f6, f7, f8, f9⟩ := w2 σ hσ
          have f4' : σ.1 ≤ 0 + (n + 1) := f4
          exact ⟨M', f1, f2, f3, by omega, f5, dD.trans f6.r0, f7.trans nD.1, f8.trans nD.2, by rw [f9]; exact t2.2.2.1⟩
      · rw [if_neg c] at hv
        have hl : [] = l := Sum.inr.inj hv
        subst hl
        rw [d1 c]
        refine ⟨fun p hp => (by cases hp), fun σ hσ => ?_⟩
        have hσ' : (0, 0, x0, (fun _ => 0), fun _ => 0) = σ := Sum.inr.inj hσ
        rw [← hσ']
        exact ⟨D, rfl, t2.1, vD, Nat.zero_le _, Nat.zero_le _, dD, nD.1, nD.2, t2.2.2.1⟩
    show (∀ p, vfin n nn z s x0 l = .inl p → _) ∧ (∀ σ, vfin n nn z s x0 l = .inr σ → _)
    unfold vfin
    cases ha : vall nn z s l (0, 0, x0, fun _ => 0, fun _ => 0) with
    | inl p =>
      refine ⟨fun q hq => ?_, fun σ hs => by cases hs⟩
      cases hq
      obtain ⟨M', f1, f2⟩ := go2.1 p ha
      exact ⟨M', by rw [hd2, f1, tb_r], f2⟩
    | inr σ =>
      obtain ⟨G, f1, f2, f3, f4, f5, f6, f7, f8, f9⟩ := go2.2 σ ha
      have gG := g.df f6 qt_pVw qt_rVw
      have hG0 := f2.1
      obtain ⟨r, hr⟩ : ∃ r, r = nn - σ.2.1 := ⟨_, rfl⟩
      obtain ⟨N2, hN2⟩ : ∃ N2, N2 + 1 + r = xN := ⟨xN - 1 - r, by omega⟩
      obtain ⟨H, y1, y2, y3, y4, y5, y6, y7, y8⟩ := E_rest hnn r N2 σ G (by omega) f2 gG f3 (by omega)
      rw [hN2] at y1
      have dH : Df pVw n2 rVw M H := f6.trans ((y6.mono pVi_v (fun _ _ q => q) (fun _ _ q => q)).r0)
      have gH := g.df dH qt_pVw qt_rVw
      have hd3 : F_X3_read M 1006 own 1001 (iw (n : Int)) = F_X3_read_b38 (N2 + 1) H 1006 own := by rw [hd2, f1, tb_l, y1]
      obtain ⟨τ, hτ⟩ : ∃ τ, τ = vrs z s r σ := ⟨_, rfl⟩
      rw [← hτ] at y3 y4 y5
      show (∀ p, (if 4 < (vrs z s (nn - σ.2.1) σ).1 then (.inl n : Nat ⊕ VS) else .inr (vrs z s (nn - σ.2.1) σ)) = .inl p → _) ∧ (∀ σ', (if 4 < (vrs z s (nn - σ.2.1) σ).1 then (.inl n : Nat ⊕ VS) else .inr (vrs z s (nn - σ.2.1) σ)) = .inr σ' → _)
      rw [← hr, ← hτ, hd3]
      have hH0 := y2.1
      by_cases c4 : 4 < τ.1
      · rw [if_pos c4]
        refine ⟨fun p hp => ?_, fun σ' hs => by cases hs⟩
        cases hp
        refine ⟨eT H 20 (iw (n : Int)), ?_, y2, dH.trans ((eT_d2 H 20 _).mono (fun a i q => by unfold at1 at q; unfold pVw; omega) (fun _ _ q => q) (fun _ _ q => q.elim)), by show m_nx H = _; omega, by show m_sl H = _; omega, (eT_c H 20 _).2, τ.1, by omega, ?_⟩
        · obtain ⟨o1, o2, o3, o4, o5, o6, o7, o8, o9, o10⟩ := gH
          obtain ⟨a1, a2, a3, a4⟩ := y3
          have H58 : cI H 1006 258 = iw (n : Int) := by rw [y6.cI (by omega) (by unfold pVi; omega)]; exact f9
          show F_X3_read_b38_st (F_X3_read_b38 N2) H 1006 own = _
          unfold F_X3_read_b38_st
          simp only [g1006_264, y2, a2, y5, gi_of o3 (show x_fi 22 1409 = true by decide), o5, Option.bind_some]
          rw [if_neg (by rw [iw_le4 (by omega) (by omega)]; omega)]
          simp only [g1006_262, y2, a1, Option.bind_some]
          rw [if_pos (by rw [show (4 : Int32) = iw ((4 : Nat) : Int) from rfl, iw_le4 (by omega) (by omega)]; exact c4)]
          simp only [g1006_258, v1006, y2, H58, Option.bind_some]
          exact E_vwrong y2 n
        · unfold eT
          rw [cI_wI, if_neg (by decide), cI_wI, if_neg (by decide)]
          exact y3.1
      · rw [if_neg c4]
        refine ⟨fun p hp => (by cases hp), fun σ' hs => ?_⟩
        have hσ' : τ = σ' := Sum.inr.inj hs
        subst hσ'
        obtain ⟨M', u1, u2, u3, u4, u5, u6⟩ := E_vmk (N := N2) (by omega) y2 gH hnn y3 y5 (by omega) hp
        refine ⟨M', m_nx H + 2, u1, u2, by omega, u3, by omega, dH.trans (u4.mono (fun _ _ q => q.elim) (fun _ _ q => q) (fun _ _ q => q.elim)), by omega, by omega, ?_⟩
        rw [u4.cI (by omega) (fun q => q)]
        exact y3.1
