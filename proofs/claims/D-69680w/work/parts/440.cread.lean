/-! ===== CALLS: read ===== -/
theorem rRd_sc : ∀ a i, rRd a i → rsc a i := fun a i q => ⟨by unfold rRd at q; omega, fun p hp hh => rRd_st p hp (by
  unfold rRd at q ⊢
  omega)⟩
theorem rMd_sc : ∀ a i, rMd a i → rsc a i := fun a i q => ⟨by unfold rMd at q; omega, fun p hp hh => rMd_st p hp (by
  unfold rMd at q ⊢
  omega)⟩
theorem pRd_sc : ∀ a i, pRd a i → psc a i := fun a i q => by unfold pRd at q; unfold psc; omega
theorem qRd_sc : ∀ a i, qRd a i → qsc a i := fun a i q => by unfold qRd at q; unfold qsc; omega
theorem qMd_sc : ∀ a i, qMd a i → qsc a i := fun a i q => by unfold qMd at q; unfold qsc; omega
theorem pMd_sc {p : Nat → Nat → Prop} (hp : p 1068 1127) : ∀ a i, pMd a i → pp p a i := fun a i q => by
  rcases q with ⟨rfl, rfl⟩ | rfl
  · exact Or.inr hp
  · exact Or.inl (psc_1075 i)
theorem pShape_sc : ∀ a i, pShape a i → psc a i := fun a i q => by unfold pShape at q; unfold psc; omega
/-- the engine makes the grid that it has read; the model too -/
theorem rdMake {p : Nat → Nat → Prop} {M A1 E : Mem} {m w : Nat} {K : Nat → Int32} {n : Nat → Nat} {Z : Nat → Nat → Nat} {S T : Nat → Nat → Int32} {X Y : Nat → Int32} {C D L : Nat → Nat} {P : Nat → Int32} (h : ST M) (h5 : I5w M m w K n Z S T X Y C D L P)
    (d1 : Df (pp p) qsc rsc M A1) (pA : qt p) (gA : noGr p) (hp : p 1068 1127) {g : Nat → Int32} (G : RdG A1 E g) :
    ∃ (ρ : Int32) (M1 : Mem), F_X0_readGrid E 1000 = some (ρ, M1) ∧ ST M1 ∧ Df (fun a i => pShape a i ∨ pNE a i) n2 rE E M1 ∧ m_nx M1 ≤ m_nx E + 4 ∧
      ∀ (B B' : Mem), Df (pp p) qsc rsc M1 B → Mdr B B' (bn (g 3)) (iw (bn (g 2) : Nat)) → (∀ i, i < bn (g 3) → cI B' (m_nx B) i = iw (zRd g i : Nat)) → (∀ q, q < prd (zRd g) (bn (g 3)) → cJ B' 1073 q = cRd g (iw (bn (g 2) : Nat)) (4 + 2 * bn (g 3) + q * wdt (iw (bn (g 2) : Nat)))) →
        ∃ M2, F_X16_madeIfRoom B' 1068 (iw (bn (g 2) : Nat)) (m_nx B) 1073 = some (ρ, M2) ∧ I5 M2 ∧ Df (pg p) qsc (rG M) M M2 ∧ m_nx M2 ≤ m_nx B' + 3 ∧ Df pNM n2 rGr B' M2 ∧ bud M2 + m_sl M + m_sl M1 ≤ bud M + m_sl E + m_sl B' + 100 := by
  obtain ⟨g1, g2, g3, g4, g5, g6, g7, g8, g9, g10, g11⟩ := G
  have h0 := h.1
  obtain ⟨A, a1, a2, a3, a4, a5, a6⟩ := E_shapeOf (src := 1049) (L := 4) (n := bn (g 3)) g1 g6 g6 (by decide) (by decide) (by decide) (t1049 g1) (l1049 g1)
  have sA : ST A := g1.df a4 n2_st
  have dA : Df (pp p) qsc rsc M A := (d1.trans (g2.mono (fun a i q => Or.inl (pRd_sc a i q)) qRd_sc rRd_sc)).trans (a4.mono (fun a i q => Or.inl (pShape_sc a i q)) (fun _ _ q => q.elim) (fun _ _ q => q.elim))
  have c902 : cI A 1048 902 = iw (bn (g 2) : Nat) := by rw [a4.cI (by have := g1.1; omega) (by unfold pShape; omega)]; exact g8
  have hk : Lk (iw (bn (g 2) : Nat)) := iw_Lk g5
  obtain ⟨ρ, M1, e1, e2, e3, e4, e5⟩ := mkCs (k := iw (bn (g 2) : Nat)) (n' := bn (g 3)) (z := zRd g) (r := 1050) h h5 dA pA gA (fun q => cRd g (iw (bn (g 2) : Nat)) (4 + 2 * bn (g 3) + q * wdt (iw (bn (g 2) : Nat)))) hk g6 (fun i hi => ⟨by rw [a6 i hi]; exact (g9 i hi).1, (g9 i hi).2⟩) a5 (fun _ => ⟨by decide, by decide, by have := sA.1; omega, t1050 sA, by rw [l1050 sA]; exact g10, by rw [l1050 sA]; decide⟩) (fun _ i hi => ⟨by rw [a4.cJ (by have := g1.1; omega) (fun q => q)]; exact (g11 i hi).1, (g11 i hi).2⟩)
  refine ⟨ρ, M1, ?_, e2, (a4.mono (fun _ _ q => Or.inl q) (fun _ _ q => q) (fun _ _ q => q.elim)).trans (e3.mono (fun _ _ q => Or.inr q) (fun _ _ q => q) (fun _ _ q => q)), by omega, fun B B' dB mB hs hv => ?_⟩
  · unfold F_X0_readGrid
    simp only [g1000_78, g1048_900, g1048_901, v1000, g1, g7, a1, Option.bind_some]
    simp only [g1000_78, g1048_902, g1048_903, v1000, sA, c902, e1, Option.bind_some]
  · obtain ⟨k1, k2, k3, k4, k5, k6, k7, k8, k9⟩ := mB
    have hB : ST B := e2.sc dB
    obtain ⟨M2, f1, f2, f3, f4, f5, f6⟩ := e5 B' (dB.trans (k2.mono (pMd_sc hp) qMd_sc rMd_sc)) (m_nx B) 1073 ⟨hB.1, by omega, k7, k8, hs⟩ (fun _ => ⟨⟨by decide, by decide, by have := k1.1; omega, t1073 k1, by rw [l1073 k1]; omega, by rw [l1073 k1]; decide⟩, hv⟩)
    exact ⟨M2, f1, f2, f3, f4, f5, by rw [a3] at f6; exact f6⟩
def pRc : Nat → Nat → Prop := fun a i => (a = 1000 ∧ (i = 95 ∨ i = 65)) ∨ (a = 1068 ∧ (i = 1091 ∨ i = 1089 ∨ i = 1127))
theorem qt_pRc : qt pRc := fun a i q1 q2 => by unfold pRc at q2; omega
theorem noGr_pRc : noGr pRc := fun a i q1 q2 => by unfold pGr at q1; unfold pRc at q2; omega
/-- the place told anew -/
theorem I4.pl {P Q R : Nat → Nat → Prop} {M M' : Mem} (h : ST M) (d : Df P Q R M M') (h4 : I4 M) (hc : cI M' 1000 95 = cI M' 1068 1091) (hp : ∀ a i, ((a = 1000 ∧ (i = 94 ∨ i = 96 ∨ i = 97 ∨ i = 98 ∨ i = 91)) ∨ (a = 1068 ∧ (i = 1102 ∨ i = 1113 ∨ i = 1095 ∨ i = 1132 ∨ i = 1117)) ∨ a = 1063 ∨ a = 1083) → ¬ P a i) : I4 M' := by
  have h0 := h.1
  obtain ⟨q1, -, q3, q4, q5, ⟨x, x1, x2, x3⟩, n, m, n1, n2, n3, n4, n5, n6⟩ := h4
  have e := fun i (hi : i = 94 ∨ i = 96 ∨ i = 97 ∨ i = 98 ∨ i = 91) => d.cI (a := 1000) (i := i) (by omega) (hp _ _ (Or.inl ⟨rfl, hi⟩))
  have f := fun i (hi : i = 1102 ∨ i = 1113 ∨ i = 1095 ∨ i = 1132 ∨ i = 1117) => d.cI (a := 1068) (i := i) (by omega) (hp _ _ (Or.inr (Or.inl ⟨rfl, hi⟩)))
  refine ⟨?_, hc, ?_, ?_, ?_, ⟨x, x1, ?_, ?_⟩, n, m, n1, n2, n3, ?_, ?_, fun i hi => ?_⟩
  · rw [e 94 (by simp), f 1102 (by simp)]; exact q1
  · rw [e 96 (by simp), f 1113 (by simp)]; exact q3
  · rw [e 97 (by simp)]; exact q4
  · rw [e 97 (by simp), f 1095 (by simp)]; exact q5
  · rw [e 98 (by simp)]; exact x2
  · rw [f 1132 (by simp)]; exact x3
  · rw [e 91 (by simp)]; exact n4
  · rw [f 1117 (by simp)]; exact n5
  · rw [d.cI (by omega) (hp _ _ (by simp)), d.cI (by omega) (hp _ _ (by simp))]; exact n6 i hi
theorem pg_pRc : ∀ a i, ((a = 1000 ∧ (i = 94 ∨ i = 96 ∨ i = 97 ∨ i = 98 ∨ i = 91)) ∨ (a = 1068 ∧ (i = 1102 ∨ i = 1113 ∨ i = 1095 ∨ i = 1132 ∨ i = 1117)) ∨ a = 1063 ∨ a = 1083) → ¬ pg pRc a i := fun a i q hh => by
  unfold pg psc pRc pGr at hh
  omega
theorem I1.emp {P Q R : Nat → Nat → Prop} {M M' : Mem} (h : ST M) (d : Df P Q R M M') (h1 : I1 M) (e : cI M' 1000 65 = 0) (f : cI M' 1068 1089 = 0) (p1 : ¬ P 1000 66) (p2 : ¬ P 1068 1090) : I1 M' := by
  have h0 := h.1
  obtain ⟨t, x, t1, t2, t3, t4, t5, t6, t7, t8⟩ := h1
  exact ⟨0, x, by omega, by omega, t3, e, f, by rw [d.cI (by omega) p1]; exact t6, by rw [d.cI (by omega) p2]; exact t7, fun i hi => by omega⟩
theorem neg20 : -(20 : Int32) = -20 := rfl
