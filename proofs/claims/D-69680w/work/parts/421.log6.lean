/-! ===== THE LOG, 6: the model's lists of records; the model keeps a grid, whole ===== -/
def rLs (d1 d2 : Nat) : Nat → Nat → Prop := fun x i => ((x = 1331 ∨ x = 1332) ∧ i = 4288) ∨ (1334 ≤ x ∧ (x = d1 ∨ x = d2))
theorem rLs_st (d1 d2 : Nat) : ∀ p ∈ stR, ¬ rLs d1 d2 p.1 p.2.1 := by
  have : ∀ p ∈ stR, p.1 ≠ 1331 ∧ p.1 ≠ 1332 ∧ p.1 < 1334 := by decide +kernel
  intro p hp q
  have := this p hp
  unfold rLs at q
  omega
def pLs : Nat → Nat → Prop := fun a _ => a = 1331 ∨ a = 1332
theorem AL.lt {M : Mem} {a d : Nat} {es : List Nat} (h : AL M a d es) : d = 4 ∨ d < m_nx M := by
  rcases h.2.2.2.2 with q | q
  · exact Or.inl q.2
  · exact Or.inr q.2.1
theorem M_kls {B : Mem} {d1 d2 fr to N : Nat} {e1 e2 : List Nat} (sB : ST B) (k0 : K0 B) (hto : to ≤ 60000) (hfr : fr ≤ to) (hc : cI B 1068 1131 = iw (to : Int)) (a1 : AL B 1331 d1 e1) (a2 : AL B 1332 d2 e2) (l1 : e1.length ≤ 5000) (l2 : e2.length ≤ 5000) (q1 : 4 ≤ d1 ∧ (d1 = 4 ∨ 1334 ≤ d1)) (q2 : 4 ≤ d2 ∧ (d2 = 4 ∨ 1334 ≤ d2)) (q3 : d1 = d2 → d1 = 4) :
    ∃ M' d1' d2' x1 x2, F_X16_keep_b279 (N + 1) B 1068 (iw (fr : Int)) (iw (to : Int)) = some (iw (to : Int), M') ∧ AL M' 1331 d1' (e1 ++ [x1]) ∧ AL M' 1332 d2' (e2 ++ [x2]) ∧ IB M' x1 (iw (fr : Int)) ∧ IB M' x2 (iw ((to - fr : Nat) : Int)) ∧ (x1 < 1000 ∨ m_nx B ≤ x1) ∧ (x2 < 1000 ∨ m_nx B ≤ x2) ∧ (d1' = d1 ∨ m_nx B ≤ d1') ∧ (d2' = d2 ∨ m_nx B ≤ d2') ∧ (d1' = d2' → d1' = 4) ∧ Df pLs n2 (rLs d1 d2) B M' ∧ m_nx M' ≤ m_nx B + 4 ∧ m_sl M' ≤ m_sl B + 20100 := by
  have h0 := sB.1
  obtain ⟨x1, B1, b1, b2, b3, b4, b5, b6⟩ := J_box (by omega) k0 (iw (fr : Int))
  have n1 := b3.1
  have sB1 : ST B1 := sB.n b3
  have kB1 : K0 B1 := k0.df sB b3 (fun _ _ _ q => q) (fun _ _ _ q => q)
  have a11 := a1.df b3 (fun q => q) (fun q => q) (fun _ _ q => q)
  have a21 := a2.df b3 (fun q => q) (fun q => q) (fun _ _ q => q)
  obtain ⟨B2, d1', c1, c2, c3, c4, c5, c6⟩ := a11.add (v := x1) (by omega) ⟨kB1.2.2.2.1, kB1.2.2.2.2.1⟩ (by omega) (Or.inr ⟨b2.1, b2.asg⟩)
  have n2' := c4.1
  have c4' : Df pLs n2 (rLs d1 d2) B1 B2 := c4.mono (fun a i q => Or.inl q) (fun _ _ q => q) (fun x i q => by unfold rLs; omega)
  have sB2 : ST B2 := sB1.df c4' (rLs_st d1 d2)
  have kB2 : K0 B2 := kB1.df sB1 c4' (fun a i q w => by unfold pLs at w; omega) (fun a i q w => by unfold rLs at w; omega)
  have a22 : AL B2 1332 d2 e2 := a21.df c4 (by unfold at1; omega) (by omega) (fun i hi q => by omega)
  have b22 := b2.df c4 (show ¬ at1 1331 x1 5120 by unfold at1; omega)
  obtain ⟨x2, B3, f1, f2, f3, f4, f5, f6⟩ := J_box (by omega) kB2 (iw ((to - fr : Nat) : Int))
  have n3 := f3.1
  have sB3 : ST B3 := sB2.n f3
  have kB3 : K0 B3 := kB2.df sB2 f3 (fun _ _ _ q => q) (fun _ _ _ q => q)
  have a23 := a22.df f3 (fun q => q) (fun q => q) (fun _ _ q => q)
  have a13 := c2.df f3 (fun q => q) (fun q => q) (fun _ _ q => q)
  have b23 := b22.df f3 (fun q => q)
  obtain ⟨B4, d2', g1, g2, g3, g4, g5, g6⟩ := a23.add (v := x2) (by omega) ⟨kB3.2.2.2.1, kB3.2.2.2.2.1⟩ (by omega) (Or.inr ⟨f2.1, f2.asg⟩)
  have n4 := g4.1
  have g4' : Df pLs n2 (rLs d1 d2) B3 B4 := g4.mono (fun a i q => Or.inr q) (fun _ _ q => q) (fun x i q => by unfold rLs; omega)
  have lt2 := a2.lt
  have a14 : AL B4 1331 d1' (e1 ++ [x1]) := a13.df g4 (by unfold at1; omega) (by omega) (fun i hi q => by omega)
  have b24 := b23.df g4 (show ¬ at1 1332 x1 5120 by unfold at1; omega)
  have f24 := f2.df g4 (show ¬ at1 1332 x2 5120 by unfold at1; omega)
  have sB4 : ST B4 := sB3.df g4' (rLs_st d1 d2)
  have cB2 : cI B2 1068 1131 = iw (to : Int) := by rw [c4.cI (by omega) (by unfold at1; omega), b3.cI (by omega) (fun q => q), hc]
  have cB4 : cI B4 1068 1131 = iw (to : Int) := by rw [g4.cI (by omega) (by unfold at1; omega), f3.cI (by omega) (fun q => q), cB2]
  refine ⟨B4, d1', d2', x1, x2, ?_, a14, g2, b24, f24, by omega, by omega, by omega, by omega, fun q => by have := c2.lt; omega, ((b3.mono (fun _ _ q => q.elim) (fun _ _ q => q) (fun _ _ q => q.elim)).trans (c4'.trans (f3.mono (fun _ _ q => q.elim) (fun _ _ q => q) (fun _ _ q => q.elim)))).trans g4', by omega, by omega⟩
  show F_X16_keep_b279_st (F_X16_keep_b279 N) B _ _ _ = _
  unfold F_X16_keep_b279_st
  simp only [g1068_1131, sB, hc, Option.bind_some]
  rw [if_neg (by rw [iw_le4 (by omega) (by omega)]; omega)]
  simp only [g1068_1133, sB, b1, v1331, sB1, c1, g1068_1134, g1068_1131, sB2, cB2, Option.bind_some]
  rw [iw_nsub hfr]
  simp only [f1, v1332, sB3, g1, g1068_1131, sB4, cB4, Option.bind_some]
