/-! ===== CALLS, 3: get, put ===== -/
def pGet : Nat → Nat → Prop := fun a i => (a = 1000 ∧ (i = 87 ∨ i = 94)) ∨ (a = 1068 ∧ (i = 1099 ∨ i = 1102))
theorem I3.zero {M : Mem} (h1 : cI M 1000 87 = 0) (h2 : cI M 1068 1099 = 0) : I3 M := ⟨0, by decide, h1, h2, fun i hi => absurd hi (by omega)⟩
/-- numbers that are told stay, but for the code -/
theorem I4.df {P Q R : Nat → Nat → Prop} {M M' : Mem} (h : ST M) (d : Df P Q R M M') (h4 : I4 M) (hc : cI M' 1000 94 = cI M' 1068 1102) (hp : ∀ a i, ((a = 1000 ∧ (i = 95 ∨ i = 96 ∨ i = 97 ∨ i = 98 ∨ i = 91)) ∨ (a = 1068 ∧ (i = 1091 ∨ i = 1113 ∨ i = 1095 ∨ i = 1132 ∨ i = 1117)) ∨ a = 1063 ∨ a = 1083) → ¬ P a i) : I4 M' := by
  have h0 := h.1
  obtain ⟨h1, h2, h3, h4, h5, h6, n, m, g1, g2, g3, g4, g5, g6⟩ := h4
  have e := fun i (hi : i = 95 ∨ i = 96 ∨ i = 97 ∨ i = 98 ∨ i = 91) => d.cI (a := 1000) (i := i) (by omega) (hp _ _ (Or.inl ⟨rfl, hi⟩))
  have f := fun i (hi : i = 1091 ∨ i = 1113 ∨ i = 1095 ∨ i = 1132 ∨ i = 1117) => d.cI (a := 1068) (i := i) (by omega) (hp _ _ (Or.inr (Or.inl ⟨rfl, hi⟩)))
  refine ⟨hc, ?_, ?_, ?_, ?_, ?_, n, m, g1, g2, g3, ?_, ?_, fun i hi => ?_⟩
  · rw [e 95 (by simp), f 1091 (by simp)]; exact h2
  · rw [e 96 (by simp), f 1113 (by simp)]; exact h3
  · rw [e 97 (by simp)]; exact h4
  · rw [e 97 (by simp), f 1095 (by simp)]; exact h5
  · rw [e 98 (by simp), f 1132 (by simp)]; exact h6
  · rw [e 91 (by simp)]; exact g4
  · rw [f 1117 (by simp)]; exact g5
  · rw [d.cI (a := 1063) (by omega) (hp _ _ (by simp)), d.cI (a := 1083) (by omega) (hp _ _ (by simp))]
    exact g6 i hi
theorem I4.get {M M' : Mem} (h : ST M) (d : Df pGet n2 n2 M M') (h4 : I4 M) (hc : cI M' 1000 94 = cI M' 1068 1102) : I4 M' := by
  refine I4.df h d h4 hc (fun a i hp hq => ?_)
  unfold pGet at hq
  omega
theorem c_get {M : Mem} {g : Int32} (h : ST M) (h3 : I3 M) (h4 : I4 M) (h5 : I5 M) : ∃ (r : Int64) (M1 M2 : Mem), F_X0_get M 1000 g = some (r, M1) ∧ F_X16_get M1 1068 g = some (r, M2) ∧ I3 M2 ∧ I4 M2 ∧ Df pGet n2 n2 M M2 ∧ m_nx M2 = m_nx M ∧ m_sl M2 = m_sl M := by
  obtain ⟨u, hu, k1, k2, k3⟩ := h3
  obtain ⟨m, w, K, n, Z, S, T, X, Y, C, D, L, P, h5⟩ := h5
  have z00 : ¬ (0 : Int32) < 0 := by decide
  have n10 : ¬ (1 : Int32) = 0 := by decide
  have i13 : (0 : Int32) < 13 := by decide
  have i14 : (0 : Int32) < 14 := by decide
  have l13 : (-13 : Int32) < 0 := by decide
  have l14 : (-14 : Int32) < 0 := by decide
  have l1 : (-1 : Int32) < 0 := by decide
  have l2 : (-2 : Int32) < 0 := by decide
  have m13 : -(-13 : Int32) = 13 := by decide
  have m14 : -(-14 : Int32) = 14 := by decide
  have m1 : -(-1 : Int32) = 1 := by decide
  have m2 : -(-2 : Int32) = 2 := by decide
  -- the engine's memory after the count is used up
  have hA : ST (wI M 1000 87 0) := h
  have h4A : I4 (wI M 1000 87 0) := I4.get h (Df.wI _ (Or.inl ⟨rfl, Or.inl rfl⟩)) h4 (by simp only [cI_wI, Nat.reduceEqDiff, and_false, false_and, if_false]; exact h4.1)
  have h5A : I5w (wI M 1000 87 0) m w K n Z S T X Y C D L P := h5.df h (Df.wI (P := pGet) (Q := n2) (R := n2) 0 (Or.inl ⟨rfl, Or.inl rfl⟩)) (fun a i h1 h2 => by unfold pGet at h2; omega) qt_n2 qt_n2 (fun a i h1 h2 => by unfold pGr at h1; unfold pGet at h2; omega) (fun i => ⟨id, id⟩)
  -- all in one: what both write
  have dd : ∀ x y : Int32, Df pGet n2 n2 M (wI (wI (wI (wI M 1000 87 0) 1000 94 x) 1068 1099 0) 1068 1102 y) := fun x y => ((Df.wI _ (Or.inl ⟨rfl, Or.inl rfl⟩)).trans (Df.wI _ (Or.inl ⟨rfl, Or.inr rfl⟩))).trans ((Df.wI _ (Or.inr ⟨rfl, Or.inl rfl⟩)).trans (Df.wI _ (Or.inr ⟨rfl, Or.inr rfl⟩)))
  have d3 : ∀ x y : Int32, I3 (wI (wI (wI (wI M 1000 87 0) 1000 94 x) 1068 1099 0) 1068 1102 y) := fun x y => I3.zero (by simp only [cI_wI, Nat.reduceEqDiff, and_self, and_false, false_and, if_true, if_false]) (by simp only [cI_wI, Nat.reduceEqDiff, and_self, and_false, false_and, if_true, if_false])
  have d4 : ∀ x : Int32, I4 (wI (wI (wI (wI M 1000 87 0) 1000 94 x) 1068 1099 0) 1068 1102 x) := fun x => I4.get h (dd x x) h4 (by simp only [cI_wI, Nat.reduceEqDiff, and_self, and_false, false_and, if_true, if_false])
  rcases look hA h4A h5A g with ⟨b1, b2, e1, e2, -⟩ | ⟨b1, b2, e1, e2, -, e3⟩ | ⟨b1, b2, j, j1, j2, hg, e1, e4, e5, -, e3, e6, gp⟩
  · refine ⟨0, wI (wI M 1000 87 0) 1000 94 13, wI (wI (wI (wI M 1000 87 0) 1000 94 13) 1068 1099 0) 1068 1102 13, ?_, ?_, d3 13 13, d4 13, dd 13 13, rfl, rfl⟩
    · simp only [F_X0_get, F_X0_get_b34, F_X0_get_b49, F_X0_get_b68, g1000_87, p1000_87, p1000_94, v1000, h, ST_wI, e1, e2, Option.bind_some, if_true, Nat.reduceEqDiff, if_false, l13, m13]
    · simp only [cI_wI, Nat.reduceEqDiff, and_false, false_and, if_false] at b2
      simp only [F_X16_get, F_X16_get_b37, g1068_1095, g1068_1099, g1068_1102, p1068_1099, p1068_1102, h, ST_wI, cI_wI, Nat.reduceEqDiff, and_false, false_and, if_false, b2, n10, Option.bind_some, and_self, if_true, i13]
  · refine ⟨0, wI (wI M 1000 87 0) 1000 94 14, wI (wI (wI (wI M 1000 87 0) 1000 94 14) 1068 1099 0) 1068 1102 14, ?_, ?_, d3 14 14, d4 14, dd 14 14, rfl, rfl⟩
    · simp only [F_X0_get, F_X0_get_b34, F_X0_get_b49, F_X0_get_b68, g1000_87, p1000_87, p1000_94, v1000, h, ST_wI, e1, e2, Option.bind_some, if_true, Nat.reduceEqDiff, if_false, l14, m14]
    · have e3' : F_X16_isGrid (wI (wI (wI M 1000 87 0) 1000 94 14) 1068 1099 0) 1068 g = some 0 := e3
      simp only [cI_wI, Nat.reduceEqDiff, and_false, false_and, if_false] at b2
      simp only [F_X16_get, F_X16_get_b37, g1068_1095, g1068_1099, g1068_1102, p1068_1099, p1068_1102, v1068, h, ST_wI, cI_wI, Nat.reduceEqDiff, and_false, false_and, if_false, b2, e3', Option.bind_some, and_self, if_true, i14]
  · -- the grid is there
    have hsp : ∀ N : Mem, (∀ i, i < u → cI N 1061 i = cI M 1061 i ∧ cI N 1072 i = cI M 1072 i) → ∀ i, i < u → cI N 1061 i = cI M 1061 i ∧ cI N 1072 i = cI M 1061 i := fun N hN i hi => ⟨(hN i hi).1, (hN i hi).2.trans (k3 i hi).symm⟩
    obtain ⟨s1, -, spot⟩ := gp.spot hA hu (fun i => cI M 1061 i) (hsp _ (fun i hi => by simp only [cI_wI, Nat.reduceEqDiff, false_and, if_false, and_self]))
    simp only [cI_wI, Nat.reduceEqDiff, and_false, false_and, if_false] at b2
    obtain ⟨at', hat⟩ : ∃ at', at' = spv (n j) (Z j) (S j) (X j) u (fun i => cI M 1061 i) := ⟨_, rfl⟩
    rw [← hat] at s1 spot
    obtain ⟨x, hx⟩ : ∃ x : Int32, x = if at' < 0 then -at' else 0 := ⟨_, rfl⟩
    have e3' : F_X16_isGrid (wI (wI (wI M 1000 87 0) 1000 94 x) 1068 1099 0) 1068 g = some 1 := e3
    have a0 : ar (wI (wI (wI (wI M 1000 87 0) 1000 94 x) 1068 1099 0) 1068 1102 0) 1070 g = some (cR M 1070 j) := e6
    have gp1 := gp_wI (i := 94) (v := x) (show 1000 < 1334 by decide) gp
    have gp2 := gp_wI (i := 1102) (v := 0) (show 1068 < 1334 by decide) (gp_wI (i := 1099) (v := 0) (show 1068 < 1334 by decide) gp1)
    have s2' : F_X16_spotIn (wI (wI (wI (wI M 1000 87 0) 1000 94 x) 1068 1099 0) 1068 1102 0) 1068 (cR M 1070 j) (iw (u : Int)) = some at' := by
      rw [hat]
      exact (gp2.spot (M := wI (wI (wI (wI M 1000 87 0) 1000 94 x) 1068 1099 0) 1068 1102 0) h hu (fun i => cI M 1061 i) (hsp _ (fun i hi => by simp only [cI_wI, Nat.reduceEqDiff, false_and, if_false, and_self]))).2.1
    have r13 : gr (wI (wI M 1000 87 0) 1000 94 x) (cR (wI M 1000 87 0) 1005 j) 1413 = some (C j) := by
      rw [gr_of gp1.1.2.2.1 (show x_fr 22 1413 = true by decide), gp1.1.2.2.2.2.2.2.2.2.1]
    have r76 : gr (wI (wI (wI (wI M 1000 87 0) 1000 94 x) 1068 1099 0) 1068 1102 0) (cR M 1070 j) 1476 = some (D j) :=
      (gr_of (M := wI (wI (wI (wI M 1000 87 0) 1000 94 x) 1068 1099 0) 1068 1102 0) (a := cR M 1070 j) (g := 1476) gp2.2.1.2.2.1 (by decide)).trans (congrArg some gp2.2.1.2.2.2.2.2.2.2.1)
    have hC := gp.2.2.2.2.2.2.2.1
    have hCL := hC.2.2.2.2.2.2.2.2.1
    by_cases c1 : at' < 0
    · rw [if_pos c1] at hx
      refine ⟨0, wI (wI M 1000 87 0) 1000 94 x, wI (wI (wI (wI M 1000 87 0) 1000 94 x) 1068 1099 0) 1068 1102 x, ?_, ?_, d3 x x, d4 x, dd x x, rfl, rfl⟩
      · simp only [F_X0_get, F_X0_get_b34, F_X0_get_b49, F_X0_get_b68, g1000_87, p1000_87, p1000_94, v1000, h, ST_wI, e1, e4, e5, k1, s1, Option.bind_some, if_true, if_false, c1, ← hx]
      · simp only [F_X16_get, F_X16_get_b37, F_X16_get_b71, F_X16_get_b90, g1068_1095, g1068_1099, g1068_1102, g1068_1092, p1068_1099, p1068_1102, v1068, h, ST_wI, cI_wI, Nat.reduceEqDiff, and_false, false_and, if_false, b2, e3', Option.bind_some, and_self, if_true, n10, z00, k2, a0, s2', c1, ← hx, wI_wI]
    · rw [if_neg c1] at hx
      subst hx
      obtain ⟨q, q1, q2, -⟩ : ∃ q : Nat, q < L j ∧ at' = iw (q : Int) ∧ u = n j := by
        rcases spot with ⟨t, -⟩ | ⟨t, -⟩ | t
        · rw [t] at c1; exact absurd (by decide) c1
        · rw [t] at c1; exact absurd (by decide) c1
        · exact t
      have cE : al (wI (wI M 1000 87 0) 1000 94 0) (C j) at' = some (cJ M (C j) q) := by rw [q2]; exact al_of (M := wI (wI M 1000 87 0) 1000 94 0) hC.2.2.2.2.1 hC.2.2.2.2.2.2.1 q1 (by omega)
      have cM : al (wI (wI (wI (wI M 1000 87 0) 1000 94 0) 1068 1099 0) 1068 1102 0) (D j) at' = some (cJ M (C j) q) := by
        rw [q2, al_of (M := wI (wI (wI (wI M 1000 87 0) 1000 94 0) 1068 1099 0) 1068 1102 0) hC.2.2.2.2.2.1 hC.2.2.2.2.2.2.2.1 q1 (by omega)]
        exact congrArg some (hC.2.2.2.2.2.2.2.2.2 q q1).1.symm
      refine ⟨cJ M (C j) q, wI (wI M 1000 87 0) 1000 94 0, wI (wI (wI (wI M 1000 87 0) 1000 94 0) 1068 1099 0) 1068 1102 0, ?_, ?_, d3 0 0, d4 0, dd 0 0, rfl, rfl⟩
      · simp only [F_X0_get, F_X0_get_b34, F_X0_get_b49, F_X0_get_b68, g1000_87, p1000_87, p1000_94, v1000, h, ST_wI, e1, e4, e5, k1, s1, Option.bind_some, if_false, c1, r13, cE]
      · simp only [F_X16_get, F_X16_get_b37, F_X16_get_b71, F_X16_get_b90, g1068_1095, g1068_1099, g1068_1102, g1068_1092, p1068_1099, p1068_1102, v1068, h, ST_wI, cI_wI, Nat.reduceEqDiff, and_false, false_and, if_false, b2, e3', Option.bind_some, and_self, if_true, n10, z00, k2, a0, s2', c1, r76, cM]
