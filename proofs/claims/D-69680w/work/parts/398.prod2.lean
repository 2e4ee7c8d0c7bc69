/-! ===== CALLS, 26: two grids; small rows of sizes; product ===== -/
theorem look2 {M : Mem} (h : ST M) (h4 : I4 M) {m w : Nat} {K : Nat → Int32} {n : Nat → Nat} {Z : Nat → Nat → Nat} {S T : Nat → Nat → Int32} {X Y : Nat → Int32} {C D L : Nat → Nat} {P : Nat → Int32} (h5 : I5w M m w K n Z S T X Y C D L P) (g g' : Int32) :
    (cI M 1000 97 = 1 ∧ cI M 1068 1095 = 1 ∧ F_X0_find M 1000 g = some 0 ∧ F_X0_find M 1000 g' = some 0 ∧ F_X0_gone M 1000 = some 13) ∨
    (cI M 1000 97 = 0 ∧ cI M 1068 1095 = 0 ∧ F_X0_gone M 1000 = some 14 ∧ F_X0_find M 1000 g = some 0 ∧ (∃ x, F_X0_find M 1000 g' = some x) ∧ F_X16_isGrid M 1068 g = some 0) ∨
    (cI M 1000 97 = 0 ∧ cI M 1068 1095 = 0 ∧ F_X0_gone M 1000 = some 14 ∧ (∃ o, F_X0_find M 1000 g = some o ∧ o ≠ 0 ∧ o ≠ 6) ∧ F_X0_find M 1000 g' = some 0 ∧ F_X16_isGrid M 1068 g = some 1 ∧ F_X16_isGrid M 1068 g' = some 0) ∨
    (cI M 1000 97 = 0 ∧ cI M 1068 1095 = 0 ∧ ∃ i j : Nat, 1 ≤ i ∧ i ≤ m ∧ 1 ≤ j ∧ j ≤ m ∧ g = iw (i : Int) ∧ g' = iw (j : Int) ∧ F_X0_find M 1000 g = some (cR M 1005 i) ∧ F_X0_find M 1000 g' = some (cR M 1005 j) ∧ cR M 1005 i ≠ 0 ∧ cR M 1005 i ≠ 6 ∧ cR M 1005 j ≠ 0 ∧ cR M 1005 j ≠ 6 ∧ F_X16_isGrid M 1068 g = some 1 ∧ F_X16_isGrid M 1068 g' = some 1 ∧ ar M 1070 g = some (cR M 1070 i) ∧ ar M 1070 g' = some (cR M 1070 j) ∧
      GP M (cR M 1005 i) (cR M 1070 i) (K i) (n i) (Z i) (S i) (T i) (X i) (Y i) (C i) (D i) (L i) (P i) ∧ GP M (cR M 1005 j) (cR M 1070 j) (K j) (n j) (Z j) (S j) (T j) (X j) (Y j) (C j) (D j) (L j) (P j)) := by
  have n10 : ¬ (1 : Int32) = 0 := by decide
  rcases look h h4 h5 g with ⟨b1, b2, e1, e2, e3⟩ | ⟨b1, b2, e1, e2, e3, e8⟩ | ⟨b1, b2, i, i1, i2, hg, e1, e4, e5, e3, e7, e6, gp⟩
  · rcases look h h4 h5 g' with ⟨-, -, x, -⟩ | ⟨y, -⟩ | ⟨y, -⟩
    · exact Or.inl ⟨b1, b2, e1, x, e2⟩
    · rw [b1] at y; exact absurd y n10
    · rw [b1] at y; exact absurd y n10
  · right; left
    refine ⟨b1, b2, e2, e1, ?_, e8⟩
    rcases look h h4 h5 g' with ⟨-, -, x, -⟩ | ⟨-, -, x, -⟩ | ⟨-, -, j, -, -, -, x, -⟩
    · exact ⟨_, x⟩
    · exact ⟨_, x⟩
    · exact ⟨_, x⟩
  · right; right
    rcases look h h4 h5 g' with ⟨y, -⟩ | ⟨-, -, x1, x2, x3, x8⟩ | ⟨-, -, j, j1, j2, hg', x1, x4, x5, x3, x7, x6, gp'⟩
    · rw [b1] at y; exact absurd y.symm n10
    · left
      exact ⟨b1, b2, x2, ⟨_, e1, e4, e5⟩, x1, e7, x8⟩
    · right
      exact ⟨b1, b2, i, j, i1, i2, j1, j2, hg, hg', e1, x1, e4, e5, x4, x5, e7, x7, e6, x6, gp, gp'⟩
theorem sizes_end {B B1 B2 B3 : Mem} {u v zz y0 y1 : Int32} (e1 : mk B 1005 zz = some B1) (e2 : si B1 (m_nx B) y0 u = some B2) (e3 : si B2 (m_nx B) y1 v = some B3) : ((mk B 1005 zz).bind fun M1 => (si M1 (m_nx B) y0 u).bind fun M3 => (si M3 (m_nx B) y1 v).bind fun M4 => some (m_nx B, M4)) = some (m_nx B, B3) := by
  simp only [e1, e2, e3, Option.bind_some]
theorem one_end {B B1 B2 : Mem} {u zz y0 : Int32} (e1 : mk B 1005 zz = some B1) (e2 : si B1 (m_nx B) y0 u = some B2) : ((mk B 1005 zz).bind fun M1 => (si M1 (m_nx B) y0 u).bind fun M3 => some (m_nx B, M3)) = some (m_nx B, B2) := by
  simp only [e1, e2, Option.bind_some]
theorem M_sizes2 {B : Mem} (h0 : 1334 ≤ m_nx B) (z : Nat → Nat) : ∃ B', F_X16_sizes B (iw (z 0)) (iw (z 1)) = some (m_nx B, B') ∧ m_nx B' = m_nx B + 1 ∧ m_sl B' = m_sl B + 2 ∧ Df n2 n2 n2 B B' ∧ IRw B' (m_nx B) 2 (fun i => iw (z i)) := by
  obtain ⟨B1, hB1⟩ : ∃ B1, B1 = m_new B 1005 2 := ⟨_, rfl⟩
  have t1 : m_tg B1 (m_nx B) = 1005 := by rw [hB1, tg_new, if_pos rfl]
  have l1 : m_ln B1 (m_nx B) = 2 := by rw [hB1, ln_new, if_pos rfl]
  have d1 : Df n2 n2 n2 B B1 := by rw [hB1]; exact Df.new _ _
  have e1 : mk B 1005 2 = some B1 := by rw [hB1]; exact mk_of (n := 2) (by decide)
  obtain ⟨B2, hB2⟩ : ∃ B2, B2 = wI B1 (m_nx B) 0 (iw (z 0)) := ⟨_, rfl⟩
  have e2 : si B1 (m_nx B) 0 (iw (z 0)) = some B2 := by rw [hB2]; exact si_of (j := 0) _ t1 l1 (by decide) (by decide)
  have t2 : m_tg B2 (m_nx B) = 1005 := by rw [hB2]; exact t1
  have l2 : m_ln B2 (m_nx B) = 2 := by rw [hB2]; exact l1
  obtain ⟨B3, hB3⟩ : ∃ B3, B3 = wI B2 (m_nx B) 1 (iw (z 1)) := ⟨_, rfl⟩
  have e3 : si B2 (m_nx B) 1 (iw (z 1)) = some B3 := by rw [hB3]; exact si_of (j := 1) _ t2 l2 (by decide) (by decide)
  have n3 : m_nx B3 = m_nx B + 1 := by rw [hB3, hB2, hB1]; rfl
  refine ⟨B3, ?_, n3, by rw [hB3, hB2, hB1]; rfl, ?_, ⟨h0, by omega, by rw [hB3]; exact t2, by rw [hB3]; exact l2, fun i hi => ?_⟩⟩
  · unfold F_X16_sizes
    exact sizes_end e1 e2 e3
  · refine d1.then (((Df.wI (P := at1 (m_nx B)) (Q := n2) (R := n2) (M := B1) (a := m_nx B) (i := 0) (iw (z 0)) rfl)).trans (by rw [← hB2, hB3]; exact Df.wI _ rfl)) (fun x i h1 h2 => by unfold at1 at h2; omega) (fun _ _ _ q => q) (fun _ _ _ q => q)
  · rcases (show i = 0 ∨ i = 1 by omega) with rfl | rfl
    · rw [hB3, cI_wI, if_neg (fun q => absurd q.2 (by decide)), hB2, cI_wI, if_pos ⟨rfl, rfl⟩]
    · rw [hB3, cI_wI, if_pos ⟨rfl, rfl⟩]
theorem M_oneSize {B : Mem} (h0 : 1334 ≤ m_nx B) (u : Int32) : ∃ B', F_X16_oneSize B u = some (m_nx B, B') ∧ m_nx B' = m_nx B + 1 ∧ m_sl B' = m_sl B + 1 ∧ Df n2 n2 n2 B B' ∧ IRw B' (m_nx B) 1 (fun _ => u) := by
  obtain ⟨B1, hB1⟩ : ∃ B1, B1 = m_new B 1005 1 := ⟨_, rfl⟩
  have t1 : m_tg B1 (m_nx B) = 1005 := by rw [hB1, tg_new, if_pos rfl]
  have l1 : m_ln B1 (m_nx B) = 1 := by rw [hB1, ln_new, if_pos rfl]
  have d1 : Df n2 n2 n2 B B1 := by rw [hB1]; exact Df.new _ _
  have e1 : mk B 1005 1 = some B1 := by rw [hB1]; exact mk_of (n := 1) (by decide)
  obtain ⟨B2, hB2⟩ : ∃ B2, B2 = wI B1 (m_nx B) 0 u := ⟨_, rfl⟩
  have e2 : si B1 (m_nx B) 0 u = some B2 := by rw [hB2]; exact si_of (j := 0) _ t1 l1 (by decide) (by decide)
  have n3 : m_nx B2 = m_nx B + 1 := by rw [hB2, hB1]; rfl
  refine ⟨B2, ?_, n3, by rw [hB2, hB1]; rfl, ?_, ⟨h0, by omega, by rw [hB2]; exact t1, by rw [hB2]; exact l1, fun i hi => ?_⟩⟩
  · unfold F_X16_oneSize
    exact one_end e1 e2
  · rw [hB2]
    exact d1.then (Df.wI (P := at1 (m_nx B)) (Q := n2) (R := n2) (M := B1) (a := m_nx B) (i := 0) u rfl) (fun x i h1 h2 => by unfold at1 at h2; omega) (fun _ _ _ q => q) (fun _ _ _ q => q)
  · have : i = 0 := by omega
    rw [this, hB2, cI_wI, if_pos ⟨rfl, rfl⟩]
/-- the engine's shape with two axes -/
theorem E_shape2 {A : Mem} (sA : ST A) (u v : Int32) : ∃ A1, A1 = wI (wI (wI A 1000 89 2) 1062 0 u) 1062 1 v ∧ pi A 1000 89 2 = some (wI A 1000 89 2) ∧ si (wI A 1000 89 2) 1062 0 u = some (wI (wI A 1000 89 2) 1062 0 u) ∧ si (wI (wI A 1000 89 2) 1062 0 u) 1062 1 v = some A1 ∧ ST A1 ∧ Df (pp n2) qsc n2 A A1 ∧ m_nx A1 = m_nx A ∧ m_sl A1 = m_sl A ∧ cI A1 1000 89 = 2 ∧ cI A1 1062 0 = u ∧ cI A1 1062 1 = v ∧ (∀ i, i ≠ 89 → cI A1 1000 i = cI A 1000 i) := by
  obtain ⟨A1, hA1⟩ : ∃ A1, A1 = wI (wI (wI A 1000 89 2) 1062 0 u) 1062 1 v := ⟨_, rfl⟩
  have s1 : ST (wI A 1000 89 2) := sA
  have s2 : ST (wI (wI A 1000 89 2) 1062 0 u) := sA
  have s3 : ST A1 := by rw [hA1]; exact sA
  refine ⟨A1, hA1, p1000_89 sA _, si_of (j := 0) _ (t1062 s1) (l1062 s1) (by decide) (by decide), by rw [hA1]; exact si_of (j := 1) _ (t1062 s2) (l1062 s2) (by decide) (by decide), s3, ?_, by rw [hA1]; rfl, by rw [hA1]; rfl, ?_, ?_, ?_, ?_⟩
  · rw [hA1]
    exact ((Df.wI (P := pp n2) (Q := qsc) (R := n2) (M := A) (a := 1000) (i := 89) 2 (Or.inl (by unfold psc; omega))).trans (Df.wI (a := 1062) (i := 0) u (Or.inl (by unfold psc; omega)))).trans (Df.wI (a := 1062) (i := 1) v (Or.inl (by unfold psc; omega)))
  · rw [hA1]; simp only [cI_wI, Nat.reduceEqDiff, false_and, if_false, and_self, if_true]
  · rw [hA1]; simp only [cI_wI, Nat.reduceEqDiff, and_false, if_false, and_self, if_true]
  · rw [hA1]; simp only [cI_wI, and_self, if_true]
  · intro i hi
    rw [hA1]
    simp only [cI_wI, Nat.reduceEqDiff, false_and, if_false, hi, and_false]
