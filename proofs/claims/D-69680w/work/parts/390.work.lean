/-! ===== CALLS, 20: values are worked out, some of which may fail ===== -/
def pWk : Nat → Nat → Prop := fun a i => pp pFl a i ∨ pNE a i
def rWk : Nat → Nat → Prop := fun a i => rsc a i ∨ rE a i
theorem qt_pFm : qt pFm := fun a i q1 q2 => by unfold pFm at q2; omega
theorem pFm_l : ∀ a i, pp pFm a i → pp pFl a i := fun a i q => q.imp id (fun q => by unfold pFm at q; unfold pFl; omega)
theorem np94 : ∀ a i, ((a = 1000 ∧ (i = 94 ∨ i = 95 ∨ i = 96 ∨ i = 97 ∨ i = 98)) ∨ (a = 1068 ∧ (i = 1102 ∨ i = 1091 ∨ i = 1113 ∨ i = 1095 ∨ i = 1132))) → ¬ pg pFl a i := fun a i q1 q2 => by unfold pg psc pFl pGr at q2; omega
/-- both have worked a row of values out: they make it a grid, or both say where it failed -/
theorem CR.work {M : Mem} {m w : Nat} {K : Nat → Int32} {n : Nat → Nat} {Z : Nat → Nat → Nat} {S T : Nat → Nat → Int32} {X Y : Nat → Int32} {C D L : Nat → Nat} {P : Nat → Int32} (h : ST M) (h4 : I4 M) (h5 : I5w M m w K n Z S T X Y C D L P)
    {l : Int32} {n' : Nat} {z : Nat → Nat} {r : Nat → Option Int64} {cd : Nat → Int32} {f g : Mem → Option (Int32 × Mem)} (hl : Lk l) (hn : n' ≤ 4) (hz : ∀ i, i < n' → z i ≤ 4096)
    (hr : ∀ i v, i < prd z n' → r i = some v → vb l v)
    (hE : ∃ A, Df (pp pFl) qsc rsc M A ∧ m_nx A ≤ m_nx M + 4000 ∧ m_sl A ≤ m_sl M + 40000 ∧ (∀ i, i < n' → cI A 1062 i = iw (z i)) ∧ cI A 1000 89 = iw n' ∧ cI A 1000 91 = 0 ∧
      ((ff r 0 (prd z n') = none ∧ f M = F_X0_made A 1000 l 1057 ∧ ∀ x, x < prd z n' → cJ A 1057 x = (r x).getD 0) ∨
       (∃ q, ff r 0 (prd z n') = some q ∧ q < prd z n' ∧ q < 2147483648 ∧ f M = F_X0_failedAt A 1000 (iw (q : Int)) ∧ cI A 1002 129 = cd q)))
    (hM : ∀ M1, ST M1 → Df pWk qsc rWk M M1 → ∃ B, Df (pp pFm) qsc rsc M1 B ∧ m_nx B ≤ m_nx M1 + 4000 ∧ m_sl B ≤ m_sl M1 + 30000 ∧
      ((∃ sa, ff r 0 (prd z n') = none ∧ IRw B sa n' (fun i => iw (z i)) ∧ g M1 = F_X16_madeIfRoom B 1068 l sa 1073 ∧ cI B 1068 1117 = -1 ∧ ∀ x, x < prd z n' → cJ B 1073 x = (r x).getD 0) ∨
       (∃ q, ff r 0 (prd z n') = some q ∧ g M1 = F_X16_failsAt B 1068 (cd q) ∧ cI B 1068 1115 = iw n' ∧ ∀ i, i < n' → cI B 1082 i = iw (dg z n' q i : Nat)))) : CR (pg pFl) (rG M) I4 M f g := by
  have h0 := h.1
  obtain ⟨A, dA, nA, lA, zA, aA, fA, hA⟩ := hE
  have sA : ST A := h.sc dA
  have nA' := dA.1
  have h5x : I5 M := ⟨_, _, _, _, _, _, _, _, _, _, _, _, _, h5⟩
  rcases hA with ⟨fn, eE, rowA⟩ | ⟨q, fq, hq, hq2, eE, cA⟩
  · have hall := ff_all _ _ fn
    have hv2 : ∀ i, i < prd z n' → vb l ((r i).getD 0) := fun i hi => by
      obtain ⟨w, hw⟩ := hall i (Nat.zero_le _) (by omega)
      rw [hw]
      exact hr i w hi hw
    obtain ⟨ρ, M1, g1, g2, g3, g4, g5⟩ := mkCs (k := l) (n' := n') (z := z) (r := 1057) h h5 dA qt_pFl noGr_pFl (fun i => (r i).getD 0) hl hn (fun i hi => ⟨zA i hi, hz i hi⟩) aA (fun hp => ⟨by decide, by decide, by omega, t1057 sA, by rw [l1057 sA]; exact hp, by rw [l1057 sA]; decide⟩) (fun _ i hi => ⟨rowA i hi, hv2 i hi⟩)
    have dM1 : Df pWk qsc rWk M M1 := (dA.mono (fun _ _ q => Or.inl q) (fun _ _ q => q) (fun _ _ q => Or.inl q)).trans (g3.mono (fun _ _ q => Or.inr q) (fun _ _ q => q.elim) (fun _ _ q => Or.inr q))
    have nM1 := g3.1
    obtain ⟨B, dB, nB, lB, hB⟩ := hM M1 g2 dM1
    have nB' := dB.1
    have sB : ST B := g2.sc dB
    rcases hB with ⟨sa, -, irB, eM, fB, rowB⟩ | ⟨q, fq, -⟩
    · obtain ⟨M2, y1, y2, y3, y4, y6, y5⟩ := g5 B (dB.mono pFm_l (fun _ _ q => q) (fun _ _ q => q)) sa 1073 irB (fun hp => ⟨⟨by decide, by decide, by omega, t1073 sB, by rw [l1073 sB]; exact hp, by rw [l1073 sB]; decide⟩, rowB⟩)
      refine ⟨ρ, M1, M2, eE.trans g1, eM.trans y1, ?_, y2, y3, by omega, by omega⟩
      refine I4.fl h y3 h4 np94 ⟨0, -1, by omega, by omega, Or.inr ⟨rfl, rfl⟩, ?_, ?_, fun i hi => by omega⟩
      · rw [y6.cI (by omega) (by unfold pNM; omega), dB.cI (by omega) (fun q => by unfold pp psc pFm at q; omega), g3.cI (by omega) (by unfold pNE; omega), fA]
        rfl
      · rw [y6.cI (by omega) (by unfold pNM; omega), fB]
        rfl
    · rw [fn] at fq
      exact absurd fq (by simp)
  · have hp0 := (prd_pos n').mp (show prd z n' ≠ 0 by omega)
    obtain ⟨M1, f1, f2, f3, f4, f5, f6⟩ := E_failedAt (x := q) sA hn (fun i hi => ⟨hp0 i hi, hz i hi⟩) aA zA (by omega)
    rw [cA] at f1
    have sM1 : ST M1 := sA.n f4
    have dM1' : Df (pp pFl) qsc rsc M M1 := dA.trans (f4.mono (fun a i q => Or.inr (by unfold pFl; omega)) (fun _ _ q => q.elim) (fun _ _ q => q.elim))
    obtain ⟨B, dB, nB, lB, hB⟩ := hM M1 sM1 (dM1'.mono (fun _ _ q => Or.inl q) (fun _ _ q => q) (fun _ _ q => Or.inl q))
    have nB' := dB.1
    have sB : ST B := sM1.sc dB
    rcases hB with ⟨sa, fn, -⟩ | ⟨q', fq', eM, c15, spB⟩
    · rw [fq] at fn
      exact absurd fn (by simp)
    · have hqq : q' = q := by rw [fq] at fq'; injection fq' with fq'; exact fq'.symm
      subst hqq
      obtain ⟨M2, k1, k2, k3, k4, k5, k6⟩ := M_failsAt (c := cd q') sB hn c15
      have dM2 : Df (pp pFl) qsc rsc M M2 := (dM1'.trans (dB.mono pFm_l (fun _ _ q => q) (fun _ _ q => q))).trans (k4.mono (fun a i q => Or.inr (by unfold pFl; omega)) (fun _ _ q => q.elim) (fun _ _ q => q.elim))
      refine CR.nos h h5x (-(cd q')) M1 M2 (eE.trans f1) (eM.trans k1) (I4.fl h dM2 h4 (fun a i q1 q2 => np94 a i q1 (pp_pg a i q2)) ⟨n', n', hn, by omega, Or.inl rfl, ?_, k5, fun i hi => ?_⟩) dM2 pp_pg (qt_pp qt_pFl) (noGr_pp noGr_pFl) (by omega) (by omega)
      · rw [k4.cI (by omega) (by omega), dB.cI (by omega) (fun q => by unfold pp psc pFm at q; omega), f5]
      · rw [k6 i hi, spB i hi, k4.cI (by omega) (by omega), dB.cI (by omega) (fun q => by unfold pp psc pFm at q; omega), f6 i hi]
theorem CR.fine {M A B : Mem} {f g : Mem → Option (Int32 × Mem)} (h : ST M) (h4 : I4 M) (h5x : I5 M) (r : Int32) (e1 : f M = some (r, A)) (e2 : g A = some (r, B)) (dA : Df (pp pFl) qsc n2 M A) (c91 : cI A 1000 91 = 0) (dB : Df (pp pFm) qsc n2 A B) (c17 : cI B 1068 1117 = -1) (n1 : m_nx B ≤ m_nx M + 9000) (s1 : m_sl B ≤ m_sl M + 80000) : CR (pg pFl) (rG M) I4 M f g := by
  have h0 := h.1
  have nA := dA.1
  have dM : Df (pp pFl) qsc n2 M B := dA.trans (dB.mono pFm_l (fun _ _ q => q) (fun _ _ q => q))
  refine CR.no h h5x r A B e1 e2 (I4.fl h dM h4 (fun a i q1 q2 => np94 a i q1 (pp_pg a i q2)) ⟨0, -1, by omega, by omega, Or.inr ⟨rfl, rfl⟩, ?_, ?_, fun i hi => by omega⟩) dM pp_pg (qt_pp qt_pFl) (noGr_pp noGr_pFl) n1 s1
  · rw [dB.cI (by omega) (fun q => by unfold pp psc pFm at q; omega), c91]
    rfl
  · rw [c17]
    rfl
theorem bse {α β : Type} (x : Option (α × β)) : (x.bind fun z => some (z.1, z.2)) = x := by cases x <;> rfl
theorem qt_pWk : qt pWk := fun a i q1 q2 => q2.elim (qt_pp qt_pFl a i q1) (qt_pNE a i q1)
theorem qt_rWk : qt rWk := fun a i q1 q2 => q2.elim (qt_rsc a i q1) (qt_rE a i q1)
theorem rWk_st : ∀ p ∈ stR, ¬ rWk p.1 p.2.1 := fun p hp q => q.elim (rsc_st p hp) (stR_na p hp).1
/-- what the model sees when it begins -/
theorem M_seeW {M M1 : Mem} (h : ST M) (d : Df pWk qsc rWk M M1) (g : Int32) : ∃ B, B = wI M1 1068 1117 (-1) ∧ pi M1 1068 1117 (-1) = some B ∧ ST B ∧ Df pWk qsc rWk M B ∧ Df (pp pFm) qsc n2 M1 B ∧ cI B 1068 1117 = -1 ∧ cI B 1068 1095 = cI M 1068 1095 ∧ F_X16_codeOf B 1068 g = F_X16_codeOf M 1068 g ∧ F_X16_isGrid B 1068 g = F_X16_isGrid M 1068 g ∧ ar B 1070 g = ar M 1070 g := by
  have h0 := h.1
  obtain ⟨B, hB⟩ : ∃ B, B = wI M1 1068 1117 (-1) := ⟨_, rfl⟩
  have s1 : ST M1 := h.df d rWk_st
  have d1 : Df (pp pFm) qsc n2 M1 B := by rw [hB]; exact Df.wI _ (Or.inr (by unfold pFm; omega))
  have sB : ST B := s1.n d1
  have dB : Df pWk qsc rWk M B := d.trans (d1.mono (fun a i q => Or.inl (pFm_l a i q)) (fun _ _ q => q) (fun _ _ q => q.elim))
  have npn : ∀ i, i ≠ 1115 → i ≠ 1117 → i ≠ 1093 ∨ True → ¬ pWk 1068 i := fun i h1 h2 _ q => q.elim (fun q => q.elim (nsc i) (fun q => by unfold pFl at q; omega)) (fun q => by unfold pNE at q; omega)
  obtain ⟨w1, w2, w3⟩ := M_see h dB sB (npn _ (by decide) (by decide) (Or.inr trivial)) (npn _ (by decide) (by decide) (Or.inr trivial)) (fun i q => q.elim (rsc_5 i).2 (fun q => by unfold rE at q; omega)) g
  exact ⟨B, hB, by rw [hB]; exact p1068_1117 s1 _, sB, dB, d1, by rw [hB, cI_wI, if_pos ⟨rfl, rfl⟩], dB.cI (by omega) (npn _ (by decide) (by decide) (Or.inr trivial)), w1, w2, w3⟩
/-- what the engine sees when it begins -/
theorem E_seeW {M : Mem} (h : ST M) (g : Int32) : ∃ A, A = wI M 1000 91 0 ∧ F_X0_fine M 1000 = some A ∧ ST A ∧ Df (pp pFl) qsc n2 M A ∧ m_nx A = m_nx M ∧ m_sl A = m_sl M ∧ cI A 1000 91 = 0 ∧ F_X0_find A 1000 g = F_X0_find M 1000 g ∧ F_X0_gone A 1000 = F_X0_gone M 1000 := by
  obtain ⟨A0, hA0⟩ : ∃ A0, A0 = wI M 1000 91 0 := ⟨_, rfl⟩
  have fi : F_X0_fine M 1000 = some A0 := by rw [hA0]; simp only [F_X0_fine, p1000_91, h, Option.bind_some]
  have dA0 : Df (pp pFl) qsc n2 M A0 := by rw [hA0]; exact Df.wI _ (Or.inr (Or.inl ⟨rfl, rfl⟩))
  have sA0 : ST A0 := h.n dA0
  obtain ⟨x1, x2⟩ := E_see h dA0 sA0 (fun q => by unfold pp psc pFl at q; omega) (fun q => by unfold pp psc pFl at q; omega) (fun i q => q) g
  exact ⟨A0, hA0, fi, sA0, dA0, by rw [hA0]; rfl, by rw [hA0]; rfl, by rw [hA0, cI_wI, if_pos ⟨rfl, rfl⟩], x1, x2⟩
/-- a loop that works values out; of a failure it is known where -/
theorem wloop2 {β : Type} (B : Nat → Mem → Int32 → Option β) (fl : Mem → Nat → Option β) (arr n : Nat) (r : Nat → Option Int64) (J : Mem → Prop) (Jf : Nat → Mem → Prop)
    (ok : ∀ N M i v, J M → i < n → r i = some v → ∃ M', B (N + 1) M (iw (i : Int)) = B N M' (iw ((i + 1 : Nat) : Int)) ∧ J M' ∧ cJ M' arr i = v ∧ ∀ x, x < i → cJ M' arr x = cJ M arr x)
    (no : ∀ N M i, J M → i < n → r i = none → ∃ M', B (N + 1) M (iw (i : Int)) = fl M' i ∧ Jf i M') :
    ∀ (e N i : Nat) (M : Mem), i + e = n → J M → (∀ x, x < i → cJ M arr x = (r x).getD 0) →
      (ff r i e = none ∧ ∃ M', J M' ∧ B (N + e) M (iw (i : Int)) = B N M' (iw (n : Int)) ∧ ∀ x, x < n → cJ M' arr x = (r x).getD 0) ∨ (∃ q M', ff r i e = some q ∧ q < n ∧ r q = none ∧ Jf q M' ∧ B (N + e) M (iw (i : Int)) = fl M' q) := by
  intro e
  induction e with
  | zero =>
    intro N i M hi hJ hx
    have : i = n := by omega
    subst this
    exact Or.inl ⟨rfl, M, hJ, rfl, hx⟩
  | succ e ih =>
    intro N i M hi hJ hx
    cases hr : r i with
    | none =>
      right
      obtain ⟨M', f1, f2⟩ := no (N + e) M i hJ (by omega) hr
      exact ⟨i, M', ff_none hr, by omega, hr, f2, f1⟩
    | some v =>
      obtain ⟨M', f1, f2, f3, f4⟩ := ok (N + e) M i v hJ (by omega) hr
      rw [ff_some hr, show N + (e + 1) = N + e + 1 from rfl, f1]
      exact ih N (i + 1) M' (by omega) f2 (fun x hx' => by
        by_cases c : x = i
        · rw [c, f3, hr]; rfl
        · rw [f4 x (by omega)]; exact hx x (by omega))
