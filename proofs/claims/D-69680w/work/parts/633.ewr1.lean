/-! ===== FORMULAS, 58: the engine's words are written ===== -/
def ro (M : Mem) (c : Nat) : Nat := m_ln M (cR M c 2560)
/-- words so far, in cells from H on -/
def EW (M : Mem) (H c : Nat) (ws : List Int32) : Prop := (H ≤ c ∧ c < m_nx M ∧ m_tg M c = 40) ∧ cI M c 2561 = iw (ws.length : Int) ∧ (H ≤ cR M c 2560 ∧ cR M c 2560 < m_nx M ∧ m_tg M (cR M c 2560) = 1005) ∧ (ws.length ≤ ro M c ∧ 64 ≤ ro M c ∧ ro M c ≤ 2 * ws.length + 64) ∧ ∀ i, i < ws.length → cI M (cR M c 2560) i = ws.getD i 0
def pH (H : Nat) : Nat → Nat → Prop := fun x _ => H ≤ x
/-- from M to N words were written -/
def WF (M N : Mem) (H c : Nat) : Prop := Df (pH H) n2 (pH H) M N ∧ 64 * m_nx N + ro M c ≤ 64 * m_nx M + ro N c ∧ m_sl N + 2 * ro M c ≤ m_sl M + 2 * ro N c
theorem WF.refl (M : Mem) (H c : Nat) : WF M M H c := ⟨Df.refl _ _ _ _, Nat.le_refl _, Nat.le_refl _⟩
theorem WF.trans {M N O : Mem} {H c : Nat} (h : WF M N H c) (g : WF N O H c) : WF M O H c := ⟨h.1.trans g.1, by have := h.2.1; have := g.2.1; omega, by have := h.2.2; have := g.2.2; omega⟩
section
variable {M : Mem} {H c : Nat} {ws : List Int32}
theorem EW.v (h : EW M H c ws) : vg M c 40 = some () := vg_of h.1.2.2 (show x_isa 40 40 = true by decide)
theorem EW.sz (h : EW M H c ws) : gi M c 2561 = some (iw (ws.length : Int)) := by rw [gi_of h.1.2.2 (show x_fi 40 2561 = true by decide), h.2.1]
theorem EW.rw (h : EW M H c ws) : gr M c 2560 = some (cR M c 2560) := gr_of h.1.2.2 (show x_fr 40 2560 = true by decide)
/-- a word behind, where there is room -/
theorem E_add51 (h : EW M H c ws) (hl : ws.length < ro M c) (hn : ws.length ≤ 100000) (v : Int32) : ∃ N, F_X39_add_b51 M c v = some N ∧ EW N H c (ws ++ [v]) ∧ WF M N H c ∧ m_nx N = m_nx M ∧ m_sl N = m_sl M := by
  obtain ⟨⟨h1, h2, h3⟩, h4, ⟨h5, h6, h7⟩, ⟨h8, h9, h10⟩, h11⟩ := h
  have ne : cR M c 2560 ≠ c := fun q => by rw [q, h3] at h7; omega
  unfold ro at *
  obtain ⟨W1, e1⟩ : ∃ W1, W1 = wI M (cR M c 2560) ws.length v := ⟨_, rfl⟩
  have t1 : m_tg W1 c = 40 := by rw [e1]; exact h3
  have k1 : gi W1 c 2561 = some (iw (ws.length : Int)) := by rw [gi_of t1 (show x_fi 40 2561 = true by decide), e1, cI_wI, if_neg (fun q => ne q.1.symm), h4]
  obtain ⟨W2, e2⟩ : ∃ W2, W2 = wI W1 c 2561 (iw ((ws.length + 1 : Nat) : Int)) := ⟨_, rfl⟩
  have lw : (ws ++ [v]).length = ws.length + 1 := by rw [List.length_append, List.length_singleton]
  have r2 : cR W2 c 2560 = cR M c 2560 := by rw [e2, e1]; rfl
  have ln2 : m_ln W2 (cR M c 2560) = m_ln M (cR M c 2560) := by rw [e2, e1]; rfl
  refine ⟨W2, ?_, ⟨⟨h1, by rw [e2, e1]; exact h2, by rw [e2]; exact t1⟩, ?_, ⟨by rw [r2]; exact h5, by rw [r2, e2, e1]; exact h6, by rw [r2, e2, e1]; exact h7⟩, ⟨?_, ?_, ?_⟩, fun i hi => ?_⟩, ⟨?_, ?_, ?_⟩, by rw [e2, e1]; rfl, by rw [e2, e1]; rfl⟩
  · unfold F_X39_add_b51
    rw [gr_of h3 (show x_fr 40 2560 = true by decide), Option.bind_some, gi_of h3 (show x_fi 40 2561 = true by decide), h4, Option.bind_some, si_of v h7 rfl (show ws.length < _ from hl) (by omega), Option.bind_some, ← e1, k1, Option.bind_some, iw_succ, pi_of _ t1 (show x_wi 40 2561 = true by decide) rfl, Option.bind_some, ← e2]
  · rw [e2, cI_wI, if_pos ⟨rfl, rfl⟩, lw]
  · unfold ro; rw [r2, ln2, lw]; omega
  · unfold ro; rw [r2, ln2]; exact h9
  · unfold ro; rw [r2, ln2, lw]; omega
  · rw [r2, e2, cI_wI, if_neg (fun q => ne q.1), e1, cI_wI]
    rw [lw] at hi
    by_cases q : i = ws.length
    · rw [if_pos ⟨rfl, q⟩, q, List.getD_eq_getElem?_getD, List.getElem?_append_right (Nat.le_refl _), Nat.sub_self]; rfl
    · rw [if_neg (fun w => q w.2), h11 i (by omega), List.getD_eq_getElem?_getD, List.getD_eq_getElem?_getD, List.getElem?_append_left (by omega)]
  · rw [e2, e1]; exact (Df.wI (P := pH H) (Q := n2) (R := pH H) _ h5).trans (Df.wI (P := pH H) (Q := n2) (R := pH H) _ h1)
  · unfold ro; rw [r2, ln2, e2, e1]; exact Nat.le_refl _
  · unfold ro; rw [r2, ln2, e2, e1]; exact Nat.le_refl _
/-- the row is copied into one of double length -/
theorem E_add23 {M0 : Mem} {nr : Nat} (h : EW M0 H c ws) (hn : ws.length ≤ 100000) (hr : nr = m_nx M0) (v : Int32) : ∀ (e n i : Nat) (M : Mem), i + e = ws.length → e + 1 ≤ n → Df n2 n2 n2 M0 M → (m_nx M = m_nx M0 + 1 ∧ m_sl M = m_sl M0 + 2 * ws.length ∧ m_tg M nr = 1005 ∧ m_ln M nr = 2 * ws.length) → (∀ j, j < i → cI M nr j = ws.getD j 0) → ws.length = ro M0 c → ∃ N, F_X39_add_b23 n M c v nr (iw (i : Int)) = some N ∧ EW N H c (ws ++ [v]) ∧ WF M0 N H c := by
  obtain ⟨⟨h1, h2, h3⟩, h4, ⟨h5, h6, h7⟩, ⟨h8, h9, h10⟩, h11⟩ := h
  intro e
  induction e with
  | zero =>
    intro n i M hi hn' d hs hc hro
    obtain ⟨n', rfl⟩ : ∃ n', n = n' + 1 := ⟨n - 1, by omega⟩
    obtain rfl : i = ws.length := by omega
    have t1 : m_tg M c = 40 := (d.2.2 c h2).1.trans h3
    have s1 : cI M c 2561 = iw (ws.length : Int) := by rw [d.cI h2 (fun q => q)]; exact h4
    obtain ⟨W, eW⟩ : ∃ W, W = wR M c 2560 nr := ⟨_, rfl⟩
    have rW : cR W c 2560 = nr := by rw [eW, cR_wR, if_pos ⟨rfl, rfl⟩]
    have nn := d.1
    have EWW : EW W H c ws := ⟨⟨h1, by rw [eW]; show c < m_nx M; omega, by rw [eW]; exact t1⟩, by rw [eW, cI_wR]; exact s1, by rw [rW, eW]; exact ⟨by omega, by show nr < m_nx M; omega, hs.2.2.1⟩, by unfold ro; rw [rW, eW]; show ws.length ≤ m_ln M nr ∧ 64 ≤ m_ln M nr ∧ m_ln M nr ≤ _; rw [hs.2.2.2]; omega, fun j hj => by rw [rW, eW, cI_wR]; exact hc j hj⟩
    have lr : ro W c = 2 * ws.length := by unfold ro; rw [rW, eW]; exact hs.2.2.2
    obtain ⟨N, n1, n2', n3, n4, n5⟩ := E_add51 EWW (by omega) hn v
    refine ⟨N, ?_, n2', ?_, ?_, ?_⟩
    · show F_X39_add_b23_st (F_X39_add_b23 n') M c v nr _ = _
      unfold F_X39_add_b23_st
      rw [gi_of t1 (show x_fi 40 2561 = true by decide), s1, Option.bind_some, if_neg (by rw [iw_le4 (by omega) (by omega)]; omega), pr_of nr t1 (show x_wr 40 2560 = true by decide), Option.bind_some, ← eW]
      exact n1
    · have d2 : Df (pH H) n2 (pH H) M0 M := (Df.refl (pH H) n2 (pH H) M0).then d (fun _ _ _ q => q.elim) (fun _ _ _ q => q.elim) (fun _ _ _ q => q.elim)
      have d3 : Df (pH H) n2 (pH H) M W := by rw [eW]; exact Df.wR (P := pH H) (Q := n2) (R := pH H) _ h1
      exact (d2.trans d3).trans n3.1
    · have := n3.2.1
      have w1 : m_nx W = m_nx M := by rw [eW]; rfl
      omega
    · have := n3.2.2
      have w1 : m_sl W = m_sl M := by rw [eW]; rfl
      omega
  | succ e ih =>
    intro n i M hi hn' d hs hc hro
    obtain ⟨n', rfl⟩ : ∃ n', n = n' + 1 := ⟨n - 1, by omega⟩
    have t1 : m_tg M c = 40 := (d.2.2 c h2).1.trans h3
    have s1 : cI M c 2561 = iw (ws.length : Int) := by rw [d.cI h2 (fun q => q)]; exact h4
    have r1 : cR M c 2560 = cR M0 c 2560 := d.cR h2 (fun q => q)
    have tr : m_tg M (cR M0 c 2560) = 1005 := (d.2.2 _ h6).1.trans h7
    have lr : m_ln M (cR M0 c 2560) = ws.length := (d.2.2 _ h6).2.1.trans hro.symm
    have g1 : cI M (cR M0 c 2560) i = ws.getD i 0 := by rw [d.cI h6 (fun q => q)]; exact h11 i (by omega)
    obtain ⟨W, eW⟩ : ∃ W, W = wI M nr i (ws.getD i 0) := ⟨_, rfl⟩
    have dW : Df n2 n2 n2 M0 W := d.then (P' := fun x _ => x = nr) (Q' := n2) (R' := n2) (by rw [eW]; exact Df.wI _ rfl) (fun x j hx q => by omega) (fun _ _ _ q => q) (fun _ _ _ q => q)
    obtain ⟨N, n1, n2', n3⟩ := ih n' (i + 1) W (by omega) (by omega) dW (by rw [eW]; exact hs) (fun j hj => by
      rw [eW, cI_wI]
      by_cases q : j = i
      · rw [if_pos ⟨rfl, q⟩, q]
      · rw [if_neg (fun w => q w.2)]; exact hc j (by omega)) hro
    refine ⟨N, ?_, n2', n3⟩
    show F_X39_add_b23_st (F_X39_add_b23 n') M c v nr _ = _
    unfold F_X39_add_b23_st
    rw [gi_of t1 (show x_fi 40 2561 = true by decide), s1, Option.bind_some, if_pos (by rw [iw_le4 (by omega) (by omega)]; omega), gr_of t1 (show x_fr 40 2560 = true by decide), r1, Option.bind_some, ai_of tr lr (by omega) (by omega), g1, Option.bind_some, si_of _ hs.2.2.1 hs.2.2.2 (show i < 2 * ws.length by omega) (by omega), Option.bind_some, ← eW, iw_succ]
    exact n1
theorem E_addI (h : EW M H c ws) (hn : ws.length ≤ 100000) (v : Int32) : ∃ N, F_X39_add M c v = some N ∧ EW N H c (ws ++ [v]) ∧ WF M N H c := by
  have h' := h
  obtain ⟨⟨h1, h2, h3⟩, h4, ⟨h5, h6, h7⟩, ⟨h8, h9, h10⟩, h11⟩ := h
  unfold F_X39_add
  rw [gi_of h3 (show x_fi 40 2561 = true by decide), h4, Option.bind_some, gr_of h3 (show x_fr 40 2560 = true by decide), Option.bind_some, an_of h7 (by decide) rfl, Option.bind_some]
  have e0 : (iw (ws.length : Int) = iw (m_ln M (cR M c 2560) : Int)) ↔ ws.length = ro M c := by
    unfold ro at *
    rw [iw_eq (by omega) (by omega) (by omega) (by omega)]
    omega
  by_cases q : ws.length = ro M c
  · rw [if_pos (e0.mpr q), Option.bind_some, show (2 : Int32) = iw ((2 : Nat) : Int) from rfl, iw_mul, show ((2 : Nat) : Int) * (ws.length : Int) = ((2 * ws.length : Nat) : Int) by omega, mk_of (by omega), Option.bind_some]
    obtain ⟨N, n1, n2', n3⟩ := E_add23 h' hn rfl v ws.length xN 0 (m_new M 1005 (2 * ws.length)) (by omega) (by have : xN = 1099511627776 := rfl; omega) (Df.new _ _) ⟨rfl, rfl, by rw [tg_new, if_pos rfl], by rw [ln_new, if_pos rfl]⟩ (fun j hj => absurd hj (Nat.not_lt_zero _)) q
    exact ⟨N, n1, n2', n3⟩
  · rw [if_neg (fun w => q (e0.mp w))]
    obtain ⟨N, n1, n2', n3, -⟩ := E_add51 h' (by omega) hn v
    exact ⟨N, n1, n2', n3⟩
/-- a word is filled in -/
theorem E_fillW (h : EW M H c ws) {j : Nat} (hj : j < ws.length) (hn : ws.length ≤ 100000) : ∃ N, ((gr M c 2560).bind fun t8 => (gi M c 2561).bind fun t9 => (si M t8 (iw (j : Int)) t9).bind fun M10 => some M10) = some N ∧ EW N H c (ws.set j (iw (ws.length : Int))) ∧ WF M N H c := by
  obtain ⟨⟨h1, h2, h3⟩, h4, ⟨h5, h6, h7⟩, ⟨h8, h9, h10⟩, h11⟩ := h
  have ne : cR M c 2560 ≠ c := fun q => by rw [q, h3] at h7; omega
  unfold ro at *
  obtain ⟨W, eW⟩ : ∃ W, W = wI M (cR M c 2560) j (iw (ws.length : Int)) := ⟨_, rfl⟩
  have r2 : cR W c 2560 = cR M c 2560 := by rw [eW]; rfl
  refine ⟨W, ?_, ⟨⟨h1, by rw [eW]; exact h2, by rw [eW]; exact h3⟩, ?_, by rw [r2, eW]; exact ⟨h5, h6, h7⟩, ?_, fun i hi => ?_⟩, ⟨?_, ?_, ?_⟩⟩
  · rw [gr_of h3 (show x_fr 40 2560 = true by decide), Option.bind_some, gi_of h3 (show x_fi 40 2561 = true by decide), h4, Option.bind_some, si_of _ h7 rfl (show j < m_ln M (cR M c 2560) by omega) (by omega), Option.bind_some, ← eW]
  · rw [eW, cI_wI, if_neg (fun q => ne q.1.symm), h4, List.length_set]
  · unfold ro; rw [r2, List.length_set, eW]; exact ⟨h8, h9, h10⟩
  · rw [List.length_set] at hi
    rw [r2, eW, cI_wI, List.getD_eq_getElem?_getD, List.getElem?_set]
    by_cases q : i = j
    · rw [if_pos ⟨rfl, q⟩, if_pos q.symm, if_pos (by omega)]; rfl
    · rw [if_neg (fun w => q w.2), if_neg (fun w => q w.symm), h11 i hi, List.getD_eq_getElem?_getD]
  · rw [eW]; exact Df.wI (P := pH H) (Q := n2) (R := pH H) _ h5
  · unfold ro; rw [r2, eW]; exact Nat.le_refl _
  · unfold ro; rw [r2, eW]; exact Nat.le_refl _
end
