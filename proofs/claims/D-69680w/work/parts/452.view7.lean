/-! ===== VIEWS, 7: the engine reads a view, the items ===== -/
def vall (nn : Nat) (z : Nat → Nat) (s : Nat → Int32) : List (Nat → Int) → VS → Nat ⊕ VS
  | [], σ => .inr σ
  | it :: l, σ => match vap nn z s it σ with
    | .inl p => .inl p
    | .inr σ' => vall nn z s l σ'
def vrs (z : Nat → Nat) (s : Nat → Int32) : Nat → VS → VS
  | 0, σ => σ
  | r + 1, σ => vrs z s r (σ.1 + 1, σ.2.1 + 1, σ.2.2.1, putn σ.2.2.2.1 σ.1 (z σ.2.1), putn σ.2.2.2.2 σ.1 (s σ.2.1))
def vfin (n nn : Nat) (z : Nat → Nat) (s : Nat → Int32) (b0 : Int32) (l : List (Nat → Int)) : Nat ⊕ VS :=
  match vall nn z s l (0, 0, b0, fun _ => 0, fun _ => 0) with
  | .inl p => .inl p
  | .inr σ => if 4 < (vrs z s (nn - σ.2.1) σ).1 then .inl n else .inr (vrs z s (nn - σ.2.1) σ)
theorem vis_ok {f : Nat → Int32} {n : Nat} (hn : n ≤ 16000) : ∀ (e a : Nat) (l : List (Nat → Int)), a ≤ n → vis f n e a = .inr l → ∀ it, it ∈ l → IT it
  | 0, a, l, _, h => by cases h
  | e + 1, a, l, ha, h => by
    have ev : vis f n (e + 1) a = match vit f n a with
      | .inl p => .inl p
      | .inr ib => if skpa f n ib.2 < n then
        (if isC f n (skpa f n ib.2) 44 = true then
          (match vis f n e (skpa f n (skpa f n ib.2 + 1)) with
          | .inl p => .inl p
          | .inr l => .inr (ib.1 :: l))
        else .inl (skpa f n ib.2))
      else .inr [ib.1] := rfl
    rw [ev] at h
    cases hv : vit f n a with
    | inl p => rw [hv] at h; cases h
    | inr ib =>
      have hi : IT ib.1 := vit_ok (b := ib.2) hn ha hv
      rw [hv] at h
      have h' : (if skpa f n ib.2 < n then (if isC f n (skpa f n ib.2) 44 = true then (match vis f n e (skpa f n (skpa f n ib.2 + 1)) with | .inl p => (.inl p : Nat ⊕ List (Nat → Int)) | .inr l => .inr (ib.1 :: l)) else .inl (skpa f n ib.2)) else .inr [ib.1]) = .inr l := h
      by_cases c : skpa f n ib.2 < n
      · rw [if_pos c] at h'
        by_cases c4 : isC f n (skpa f n ib.2) 44 = true
        · rw [if_pos c4] at h'
          cases hw : vis f n e (skpa f n (skpa f n ib.2 + 1)) with
          | inl p => rw [hw] at h'; cases h'
          | inr l' =>
            rw [hw] at h'
            have hl : ib.1 :: l' = l := Sum.inr.inj h'
            rw [← hl]
            intro it hit
            rcases List.mem_cons.mp hit with e1 | e1
            · rw [e1]; exact hi
            · exact vis_ok hn e _ l' (skpa_le (by omega)) hw it e1
        · rw [if_neg c4] at h'; cases h'
      · rw [if_neg c] at h'
        have hl : [ib.1] = l := Sum.inr.inj h'
        rw [← hl]
        intro it hit
        rw [List.mem_singleton.mp hit]
        exact hi
theorem vis_step {f : Nat → Int32} {n e a : Nat} {l : List (Nat → Int)} (h : vis f n (e + 1) a = .inr l) : ∃ it b, vit f n a = .inr (it, b) ∧ ((skpa f n b < n ∧ isC f n (skpa f n b) 44 = true ∧ ∃ l', vis f n e (skpa f n (skpa f n b + 1)) = .inr l' ∧ l = it :: l') ∨ (¬ skpa f n b < n ∧ l = [it])) := by
  have ev : vis f n (e + 1) a = match vit f n a with
    | .inl p => .inl p
    | .inr ib => if skpa f n ib.2 < n then
      (if isC f n (skpa f n ib.2) 44 = true then
        (match vis f n e (skpa f n (skpa f n ib.2 + 1)) with
        | .inl p => .inl p
        | .inr l => .inr (ib.1 :: l))
      else .inl (skpa f n ib.2))
    else .inr [ib.1] := rfl
  rw [ev] at h
  cases hv : vit f n a with
  | inl p => rw [hv] at h; cases h
  | inr ib =>
    rw [hv] at h
    have h' : (if skpa f n ib.2 < n then (if isC f n (skpa f n ib.2) 44 = true then (match vis f n e (skpa f n (skpa f n ib.2 + 1)) with | .inl p => (.inl p : Nat ⊕ List (Nat → Int)) | .inr l => .inr (ib.1 :: l)) else .inl (skpa f n ib.2)) else .inr [ib.1]) = .inr l := h
    refine ⟨ib.1, ib.2, rfl, ?_⟩
    by_cases c : skpa f n ib.2 < n
    · rw [if_pos c] at h'
      by_cases c4 : isC f n (skpa f n ib.2) 44 = true
      · rw [if_pos c4] at h'
        cases hw : vis f n e (skpa f n (skpa f n ib.2 + 1)) with
        | inl p => rw [hw] at h'; cases h'
        | inr l' =>
          rw [hw] at h'
          exact Or.inl ⟨c, c4, l', rfl, (Sum.inr.inj h').symm⟩
      · rw [if_neg c4] at h'; cases h'
    · rw [if_neg c] at h'
      exact Or.inr ⟨c, (Sum.inr.inj h').symm⟩
def VF2 (M M' : Mem) (p x : Nat) : Prop := ST M' ∧ Df pVw n2 n2 M M' ∧ m_nx M' = m_nx M ∧ m_sl M' = m_sl M ∧ cI M' 1002 130 = iw (p : Int) ∧ ∃ x' : Nat, x' ≤ x ∧ cI M' 1006 262 = iw (x' : Int)
theorem pVi_v : ∀ a i, pVi a i → pVw a i := fun a i q => by unfold pVi at q; unfold pVw; omega
theorem qt_pVw : qt pVw := fun a i q1 q2 => by unfold pVw at q2; omega
theorem qt_s59 : qt (fun a i => a = 1006 ∧ i = 259) := fun a i q1 q2 => by omega
theorem qt_pVi : qt pVi := fun a i q1 q2 => by unfold pVi at q2; omega
theorem VE.sc {M M' : Mem} {a : Nat} {σ : VS} (h : ST M) (e : VE M σ) (s : SC M M' a) : VE M' σ := by
  have h0 := h.1
  obtain ⟨e1, e2, e3, e4⟩ := e
  exact ⟨by rw [s.2.1.cI (by omega) (by omega)]; exact e1, by rw [s.2.1.cI (by omega) (by omega)]; exact e2, by rw [s.2.1.cI (by omega) (by omega)]; exact e3, fun j hj h4 => by rw [s.2.1.cI (by omega) (by omega), s.2.1.cI (by omega) (by omega)]; exact e4 j hj h4⟩
theorem E_go2 {f : Nat → Int32} {n own c0 nn : Nat} {k x0 p0 : Int32} {z : Nat → Nat} {s : Nat → Int32} (hnn : nn ≤ 4) (hz : ∀ i, i < nn → z i ≤ 4096) : ∀ (e N a : Nat) (σ : VS) (M : Mem) (l : List (Nat → Int)), n + 1 ≤ a + e → TX M f n a → GE M own k nn z s x0 c0 p0 → VE M σ → σ.1 + e ≤ 100000000 → σ.2.1 ≤ nn → vis f n e a = .inr l →
    (∀ p, vall nn z s l σ = .inl p → ∃ M', F_X3_go_b22 (N + 1 + e) M 1006 own 1 = some (.inr (1003, M')) ∧ VF2 M M' p (σ.1 + e)) ∧
    (∀ σ', vall nn z s l σ = .inr σ' → ∃ M', F_X3_go_b22 (N + 1 + e) M 1006 own 1 = some (.inl M') ∧ ST M' ∧ VE M' σ' ∧ σ'.1 ≤ σ.1 + e ∧ σ'.2.1 ≤ nn ∧ Df pVw n2 n2 M M' ∧ m_nx M' = m_nx M ∧ m_sl M' = m_sl M ∧ cI M' 1006 258 = cI M 1006 258) := by
  intro e
  induction e with
  | zero => intro N a σ M l h1 t; have := t.2.2.2.2.2.1; omega
  | succ e ih =>
    intro N a σ M l h1 t g ve hb hd hl
    have h0 := t.1.1
    have hen := t.2.2.2.2.2.1
    have st : F_X3_go_b22 (N + 1 + (e + 1)) M 1006 own 1 = tb (F_X3_item M 1006 own) fun z => gor (F_X3_go_b22 (N + 1 + e)) z own := go_st t.1
    obtain ⟨it, b, hv, hcase⟩ := vis_step hl
    have hi : IT it := vit_ok t.2.2.2.1 hen hv
    obtain ⟨-, i2⟩ := E_item (own := own) t
    obtain ⟨o1, o2, A, s1, k1⟩ := i2 it b hv
    have tA := s1.tx t o2
    have gA := g.df s1.2.1 qt_s59 qt_n2
    have vA := ve.sc t.1 s1
    have dA : Df pVw n2 n2 M A := s1.2.1.mono (fun a i q => Or.inl q.1) (fun _ _ q => q) (fun _ _ q => q)
    obtain ⟨j1, j2⟩ := E_iap tA.1 gA hnn hz vA hi (by omega) hd
    rw [st, k1]
    have ev : ∀ l', vall nn z s (it :: l') σ = match vap nn z s it σ with | .inl p => .inl p | .inr σ' => vall nn z s l' σ' := fun _ => rfl
    have hl1 : ∃ l1, l = it :: l1 := by
      rcases hcase with ⟨-, -, l', -, e1⟩ | ⟨-, e1⟩
      · exact ⟨l', e1⟩
      · exact ⟨[], e1⟩
    obtain ⟨l1, hl1⟩ := hl1
    rw [hl1, ev]
    cases hp : vap nn z s it σ with
    | inl p =>
      refine ⟨fun q hq => ?_, fun σ' hs => by cases hs⟩
      cases hq
      obtain ⟨M', f1, f2⟩ := j1 p hp
      refine ⟨M', by rw [f1, tb_r], f2.1, dA.trans f2.2.1, f2.2.2.1.trans s1.2.2.2.1, f2.2.2.2.1.trans s1.2.2.2.2, f2.2.2.2.2.1, σ.1, by omega, ?_⟩
      rw [f2.2.2.2.2.2]
      exact vA.1
    | inr σ1 =>
      obtain ⟨B, f1, f2, f3, f4, f5, f6, f7, f8⟩ := j2 σ1 hp
      have tB := tA.df f2 f6 (by unfold pVi; omega) (by unfold pVi; omega) (fun i => by unfold pVi; omega)
      have gB := gA.df f6 qt_pVi qt_n2
      have dB : Df pVw n2 n2 M B := dA.trans (f6.mono pVi_v (fun _ _ q => q) (fun _ _ q => q))
      have nB : m_nx B = m_nx M ∧ m_sl B = m_sl M := ⟨f7.trans s1.2.2.2.1, f8.trans s1.2.2.2.2⟩
      have bB : cI B 1006 258 = cI M 1006 258 := by rw [f6.cI (by have := tA.1.1; omega) (by unfold pVi; omega), s1.2.1.cI (by omega) (by omega)]
      have hB0 := tB.1.1
      rw [f1, tb_l]
      obtain ⟨g1, g2, g3⟩ := go_or (k := F_X3_go_b22 (N + 1 + e)) (own := own) tB
      have ge1 := skpa_ge (f := f) (n := n) (a := b)
      rcases hcase with ⟨c, c4, l', hw, e1⟩ | ⟨c, e1⟩
      · have hll : l1 = l' := by
          have := hl1.symm.trans e1
          exact (List.cons.inj this).2
        subst hll
        obtain ⟨C, u1, u2⟩ := g1 c c4
        have ge2 := skpa_ge (f := f) (n := n) (a := skpa f n b + 1)
        have tC := u1.tx tB (skpa_le (by omega))
        have dC : Df pVw n2 n2 M C := dB.trans (u1.2.1.mono (fun a i q => Or.inl q.1) (fun _ _ q => q) (fun _ _ q => q))
        obtain ⟨w1, w2⟩ := ih N (skpa f n (skpa f n b + 1)) σ1 C l1 (by omega) tC (gB.df u1.2.1 qt_s59 qt_n2) (f3.sc tB.1 u1) (by omega) f5 hw
        rw [u2]
        refine ⟨fun q hq => ?_, fun σ' hs => ?_⟩
        · obtain ⟨M', y1, y2, y3, y4, y5, y6, x', y7, y8⟩ := w1 q hq
          exact ⟨M', y1, y2, dC.trans y3, by rw [y4, u1.2.2.2.1]; exact nB.1, by rw [y5, u1.2.2.2.2]; exact nB.2, y6, x', by omega, y8⟩
        · obtain ⟨M', y1, y2, y3, y4, y5, y6, y7, y8, y9⟩ := w2 σ' hs
          exact ⟨M', y1, y2, y3, by omega, y5, dC.trans y6, by rw [y7, u1.2.2.2.1]; exact nB.1, by rw [y8, u1.2.2.2.2]; exact nB.2, by rw [y9, u1.2.1.cI (by omega) (by omega)]; exact bB⟩
      · have hll : l1 = [] := by
          have := hl1.symm.trans e1
          exact (List.cons.inj this).2
        subst hll
        obtain ⟨C, u1, u2⟩ := g3 c
        refine ⟨fun q hq => (by cases hq), fun σ' hs => ?_⟩
        have hσ : σ1 = σ' := Sum.inr.inj hs
        subst hσ
        refine ⟨C, ?_, u1.1, f3.sc tB.1 u1, by omega, f5, dB.trans (u1.2.1.mono (fun a i q => Or.inl q.1) (fun _ _ q => q) (fun _ _ q => q)), u1.2.2.2.1.trans nB.1, u1.2.2.2.2.trans nB.2, by rw [u1.2.1.cI (by omega) (by omega)]; exact bB⟩
        rw [u2, show N + 1 + e = (N + e) + 1 by omega]
        show F_X3_go_b22_st (F_X3_go_b22 (N + e)) C 1006 own 0 = _
        unfold F_X3_go_b22_st
        rw [if_pos rfl]
