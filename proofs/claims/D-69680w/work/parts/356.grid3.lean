/-! ===== GRIDS, 3: all grids; what only tells ===== -/
/-- all grids of both, alike -/
def I5w (M : Mem) (m w : Nat) (K : Nat → Int32) (n : Nat → Nat) (Z : Nat → Nat → Nat) (S T : Nat → Nat → Int32) (X Y : Nat → Int32) (C D L : Nat → Nat) (P : Nat → Int32) : Prop :=
  m ≤ 400 ∧ w ≤ 100000 ∧ cI M 1004 193 = iw m ∧ cI M 1068 1093 = iw m ∧ cI M 1004 194 = iw w ∧ cI M 1068 1094 = iw w ∧
  (∀ g, 1 ≤ g → g ≤ m → (cR M 1005 g = 0 ∧ cR M 1070 g = 0) ∨ GP M (cR M 1005 g) (cR M 1070 g) (K g) (n g) (Z g) (S g) (T g) (X g) (Y g) (C g) (D g) (L g) (P g)) ∧
  (∀ g h, 1 ≤ g → g ≤ m → 1 ≤ h → h ≤ m → cR M 1005 g ≠ 0 → cR M 1005 h ≠ 0 → (C g = C h ↔ D g = D h) ∧ (C g = C h → K g = K h) ∧ C g ≠ D h)
def I5 (M : Mem) : Prop := ∃ m w K n Z S T X Y C D L P, I5w M m w K n Z S T X Y C D L P
theorem i32_nat {v : Int32} (h : 0 ≤ v.toInt) : v = iw ((v.toInt.toNat : Nat) : Int) := by
  rw [show ((v.toInt.toNat : Nat) : Int) = v.toInt by omega, iw_of]
/-- a grid by its number -/
theorem look {M : Mem} (h : ST M) (h4 : I4 M) {m w : Nat} {K : Nat → Int32} {n : Nat → Nat} {Z : Nat → Nat → Nat} {S T : Nat → Nat → Int32} {X Y : Nat → Int32} {C D L : Nat → Nat} {P : Nat → Int32} (h5 : I5w M m w K n Z S T X Y C D L P) (g : Int32) :
    (cI M 1000 97 = 1 ∧ cI M 1068 1095 = 1 ∧ F_X0_find M 1000 g = some 0 ∧ F_X0_gone M 1000 = some 13 ∧ F_X16_codeOf M 1068 g = some 13) ∨
    (cI M 1000 97 = 0 ∧ cI M 1068 1095 = 0 ∧ F_X0_find M 1000 g = some 0 ∧ F_X0_gone M 1000 = some 14 ∧ F_X16_codeOf M 1068 g = some 14 ∧ F_X16_isGrid M 1068 g = some 0) ∨
    (cI M 1000 97 = 0 ∧ cI M 1068 1095 = 0 ∧ ∃ j : Nat, 1 ≤ j ∧ j ≤ m ∧ g = iw (j : Int) ∧ F_X0_find M 1000 g = some (cR M 1005 j) ∧ cR M 1005 j ≠ 0 ∧ cR M 1005 j ≠ 6 ∧ F_X16_codeOf M 1068 g = some 0 ∧ F_X16_isGrid M 1068 g = some 1 ∧ ar M 1070 g = some (cR M 1070 j) ∧
      GP M (cR M 1005 j) (cR M 1070 j) (K j) (n j) (Z j) (S j) (T j) (X j) (Y j) (C j) (D j) (L j) (P j)) := by
  obtain ⟨q1, q2, q3, q4, q5, q6, q7, q8⟩ := h5
  obtain ⟨-, -, -, hc, hcc, -, -⟩ := h4
  rcases hc with hc | hc
  · refine Or.inr ?_
    rw [hc] at hcc
    have ev : F_X0_find M 1000 g = F_X2_find M 1004 g := by
      simp only [F_X0_find, F_X0_find_b19, g1000_97, g1000_68, v1004, h, hc, Option.bind_some, if_true]
      cases F_X2_find M 1004 g <;> rfl
    have eg : F_X0_gone M 1000 = some 14 := by simp only [F_X0_gone, F_X0_gone_b14, g1000_97, h, hc, Option.bind_some, if_true]
    have ec : ∀ x, F_X16_isGrid M 1068 g = some x → F_X16_codeOf M 1068 g = some (if x = 0 then 14 else 0) := by
      intro x hx
      simp only [F_X16_codeOf, F_X16_codeOf_b26, g1068_1095, v1068, h, ← hcc, hx, Option.bind_some, if_true]
      split <;> rfl
    rw [ev]
    have hlt1 : g < 1 ↔ g.toInt < 1 := by rw [Int32.lt_iff_toInt_lt]; rfl
    have hltm : iw (m : Int) < g ↔ (m : Int) < g.toInt := by rw [Int32.lt_iff_toInt_lt, iw_toInt (by omega) (by omega)]
    by_cases c1 : g < 1
    · have e2 : F_X16_isGrid M 1068 g = some 0 := by simp only [F_X16_isGrid, F_X16_isGrid_b26, F_X16_isGrid_b27, c1, if_true]; rfl
      refine Or.inl ⟨hc, hcc.symm, ?_, eg, ec 0 e2, e2⟩
      simp only [F_X2_find, F_X2_find_b22, F_X2_find_b23, c1, if_true]
    · by_cases c2 : iw (m : Int) < g
      · have e2 : F_X16_isGrid M 1068 g = some 0 := by simp only [F_X16_isGrid, F_X16_isGrid_b26, F_X16_isGrid_b27, c1, c2, if_true, if_false, g1068_1093, h, q4, Option.bind_some]; rfl
        refine Or.inl ⟨hc, hcc.symm, ?_, eg, ec 0 e2, e2⟩
        simp only [F_X2_find, F_X2_find_b22, F_X2_find_b23, c1, c2, if_true, if_false, g1004_193, h, q3, Option.bind_some]
      · rw [hlt1] at c1
        rw [hltm] at c2
        have hgj := i32_nat (v := g) (by omega)
        obtain ⟨j, hj⟩ : ∃ j : Nat, g.toInt.toNat = j := ⟨_, rfl⟩
        rw [hj] at hgj
        have hj1 : 1 ≤ j ∧ j ≤ m := by omega
        have a1 : ar M 1005 (iw (j : Int)) = some (cR M 1005 j) := ar_of (by rw [t1005 h]; decide) (l1005 h) (by omega) (by decide)
        have a2 : ar M 1070 (iw (j : Int)) = some (cR M 1070 j) := ar_of (by rw [t1070 h]; decide) (l1070 h) (by omega) (by decide)
        have c1' : ¬ iw (j : Int) < 1 := by rw [← hgj, hlt1]; omega
        have c2' : ¬ iw (m : Int) < iw (j : Int) := by rw [← hgj, hltm]; omega
        rw [hgj] at ec ⊢
        have ef : F_X2_find M 1004 (iw (j : Int)) = some (cR M 1005 j) := by
          simp only [F_X2_find, F_X2_find_b22, F_X2_find_b23, c1', c2', if_false, g1004_193, g1004_192, h, q3, Option.bind_some, a1]
        rcases q7 j hj1.1 hj1.2 with ⟨z1, z2⟩ | gp
        · have e2 : F_X16_isGrid M 1068 (iw (j : Int)) = some 0 := by
            simp only [F_X16_isGrid, F_X16_isGrid_b26, F_X16_isGrid_b27, c1', c2', if_false, g1068_1093, g1068_1092, h, q4, Option.bind_some, a2, z2]
            rfl
          exact Or.inl ⟨hc, hcc.symm, by rw [ef, z1], eg, ec 0 e2, e2⟩
        · have n1 := gp.1.1
          have n2 := gp.2.1.1
          have b0 : ¬ cR M 1070 j = 0 := by omega
          have b6 : ¬ cR M 1070 j = 6 := by omega
          have e2 : F_X16_isGrid M 1068 (iw (j : Int)) = some 1 := by
            simp only [F_X16_isGrid, F_X16_isGrid_b26, F_X16_isGrid_b27, c1', c2', if_false, g1068_1093, g1068_1092, h, q4, Option.bind_some, a2, b0, b6]
            rfl
          exact Or.inr ⟨hc, hcc.symm, j, hj1.1, hj1.2, rfl, ef, by omega, by omega, ec 1 e2, e2, a2, gp⟩
  · refine Or.inl ?_
    rw [hc] at hcc
    have n10 : ¬ (1 : Int32) = 0 := by decide
    refine ⟨hc, hcc.symm, ?_, ?_, ?_⟩
    · simp only [F_X0_find, F_X0_find_b19, g1000_97, h, hc, Option.bind_some, n10, if_false]
    · simp only [F_X0_gone, F_X0_gone_b14, g1000_97, h, hc, Option.bind_some, n10, if_false]
    · simp only [F_X16_codeOf, F_X16_codeOf_b26, g1068_1095, h, ← hcc, Option.bind_some, n10, if_false]
theorem c_lane {M : Mem} {g : Int32} (h : ST M) (h4 : I4 M) (h5 : I5 M) : ∃ r, F_X0_lane M 1000 g = some r ∧ F_X16_lane M 1068 g = some r := by
  obtain ⟨m, w, K, n, Z, S, T, X, Y, C, D, L, P, h5⟩ := h5
  unfold F_X0_lane F_X0_lane_b22 F_X16_lane F_X16_lane_b26
  rcases look h h4 h5 g with ⟨-, -, e1, e2, e3⟩ | ⟨-, -, e1, e2, e3, -⟩ | ⟨-, -, j, j1, j2, -, e1, e4, e5, e3, -, e6, gp⟩
  · exact ⟨-13, by simp only [v1000, h, e1, e2, Option.bind_some]; rfl, by simp only [v1068, h, e3, Option.bind_some]; rfl⟩
  · exact ⟨-14, by simp only [v1000, h, e1, e2, Option.bind_some]; rfl, by simp only [v1068, h, e3, Option.bind_some]; rfl⟩
  · have z00 : ¬ (0 : Int32) < 0 := by decide
    refine ⟨K j, ?_, ?_⟩
    · simp only [v1000, h, e1, Option.bind_some, e4, e5, if_false, gi_of gp.1.2.2.1 (show x_fi 22 1408 = true by decide), gp.1.2.2.2.1]
    · simp only [v1068, h, e3, Option.bind_some, z00, if_false, g1068_1092, e6, gi_of gp.2.1.2.2.1 (show x_fi 23 1472 = true by decide), gp.2.1.2.2.2.1]
theorem M_axes {M : Mem} {a : Nat} {k : Int32} {n : Nat} {z : Nat → Nat} {s : Nat → Int32} {b : Int32} {c : Nat} {p : Int32} (g : GM M a k n z s b c p) : F_X22_axes M a = some (iw (n : Int)) := by
  unfold F_X22_axes
  simp only [gr_of g.2.2.1 (show x_fr 23 1473 = true by decide), an_of g.2.2.2.2.1.2.2.1 (by decide) g.2.2.2.2.1.2.2.2.1, Option.bind_some]
theorem c_axes {M : Mem} {g : Int32} (h : ST M) (h4 : I4 M) (h5 : I5 M) : ∃ r, F_X0_axes M 1000 g = some r ∧ F_X16_axes M 1068 g = some r := by
  obtain ⟨m, w, K, n, Z, S, T, X, Y, C, D, L, P, h5⟩ := h5
  unfold F_X0_axes F_X0_axes_b22 F_X16_axes F_X16_axes_b26
  rcases look h h4 h5 g with ⟨-, -, e1, e2, e3⟩ | ⟨-, -, e1, e2, e3, -⟩ | ⟨-, -, j, j1, j2, -, e1, e4, e5, e3, -, e6, gp⟩
  · exact ⟨-13, by simp only [v1000, h, e1, e2, Option.bind_some]; rfl, by simp only [v1068, h, e3, Option.bind_some]; rfl⟩
  · exact ⟨-14, by simp only [v1000, h, e1, e2, Option.bind_some]; rfl, by simp only [v1068, h, e3, Option.bind_some]; rfl⟩
  · have z00 : ¬ (0 : Int32) < 0 := by decide
    refine ⟨iw (n j : Int), ?_, ?_⟩
    · simp only [v1000, h, e1, Option.bind_some, e4, e5, if_false, gi_of gp.1.2.2.1 (show x_fi 22 1409 = true by decide), gp.1.2.2.2.2.1]
    · simp only [v1068, h, e3, Option.bind_some, z00, if_false, g1068_1092, e6, vg_of gp.2.1.2.2.1 (show x_isa 23 23 = true by decide), M_axes gp.2.1]
theorem c_cells {M : Mem} {g : Int32} (h : ST M) (h4 : I4 M) (h5 : I5 M) : ∃ r, F_X0_cells M 1000 g = some r ∧ F_X16_cells M 1068 g = some r := by
  obtain ⟨m, w, K, n, Z, S, T, X, Y, C, D, L, P, h5⟩ := h5
  unfold F_X0_cells F_X0_cells_b22 F_X16_cells F_X16_cells_b26
  rcases look h h4 h5 g with ⟨-, -, e1, e2, e3⟩ | ⟨-, -, e1, e2, e3, -⟩ | ⟨-, -, j, j1, j2, -, e1, e4, e5, e3, -, e6, gp⟩
  · exact ⟨-13, by simp only [v1000, h, e1, e2, Option.bind_some]; rfl, by simp only [v1068, h, e3, Option.bind_some]; rfl⟩
  · exact ⟨-14, by simp only [v1000, h, e1, e2, Option.bind_some]; rfl, by simp only [v1068, h, e3, Option.bind_some]; rfl⟩
  · have z00 : ¬ (0 : Int32) < 0 := by decide
    obtain ⟨gE, gM, hk, hn, hz, hc, hp, hC, hv⟩ := gp
    refine ⟨iw (prd (Z j) (n j) : Nat), ?_, ?_⟩
    · simp only [v1000, h, e1, Option.bind_some, e4, e5, if_false, vg_of gE.2.2.1 (show x_isa 22 22 = true by decide), E_count gE hn]
    · simp only [v1068, h, e3, Option.bind_some, z00, if_false, g1068_1092, e6, vg_of gM.2.2.1 (show x_isa 23 23 = true by decide), M_count gM hn hz]
theorem c_size {M : Mem} {g v : Int32} (h : ST M) (h4 : I4 M) (h5 : I5 M) : ∃ r, F_X0_size M 1000 g v = some r ∧ F_X16_size M 1068 g v = some r := by
  obtain ⟨m, w, K, n, Z, S, T, X, Y, C, D, L, P, h5⟩ := h5
  unfold F_X0_size F_X0_size_b37 F_X0_size_b39 F_X16_size F_X16_size_b32 F_X16_size_b48
  rcases look h h4 h5 g with ⟨-, -, e1, e2, e3⟩ | ⟨-, -, e1, e2, e3, -⟩ | ⟨-, -, j, j1, j2, -, e1, e4, e5, e3, -, e6, gp⟩
  · exact ⟨-13, by simp only [v1000, h, e1, e2, Option.bind_some]; rfl, by simp only [v1068, h, e3, Option.bind_some]; rfl⟩
  · exact ⟨-14, by simp only [v1000, h, e1, e2, Option.bind_some]; rfl, by simp only [v1068, h, e3, Option.bind_some]; rfl⟩
  · have z00 : ¬ (0 : Int32) < 0 := by decide
    obtain ⟨gE, gM, hk, hn, hz, hc, hp, hC, hv⟩ := gp
    by_cases c1 : v < 0
    · exact ⟨-2, by simp only [v1000, h, e1, Option.bind_some, e4, e5, if_false, c1, if_true], by simp only [v1068, h, e3, Option.bind_some, z00, if_false, c1, if_true]⟩
    · have r1 : 0 ≤ v.toInt := by
        rw [Int32.lt_iff_toInt_lt] at c1
        have : (0 : Int32).toInt = 0 := rfl
        omega
      have hv1 := i32_nat r1
      have hv2 := Int32.toInt_lt v
      obtain ⟨i, hi⟩ : ∃ i : Nat, v.toInt.toNat = i := ⟨_, rfl⟩
      rw [hi] at hv1
      rw [hv1] at c1 ⊢
      have q : iw (i : Int) < iw (n j : Int) ↔ i < n j := iw_le4 (by omega) (by omega)
      by_cases c2 : i < n j
      · refine ⟨iw (Z j i : Nat), ?_, ?_⟩
        · simp only [v1000, h, e1, Option.bind_some, e4, e5, if_false, c1, gi_of gE.2.2.1 (show x_fi 22 1409 = true by decide), gr_of gE.2.2.1 (show x_fr 22 1410 = true by decide), gE.2.2.2.2.1, q, c2, if_true, gE.2.2.2.2.2.1.ai hn c2]
        · simp only [v1068, h, e3, Option.bind_some, z00, if_false, c1, g1068_1092, e6, vg_of gM.2.2.1 (show x_isa 23 23 = true by decide), M_axes gM, q, c2, if_true, gr_of gM.2.2.1 (show x_fr 23 1473 = true by decide), gM.2.2.2.2.1.ai hn c2]
      · refine ⟨-2, ?_, ?_⟩
        · simp only [v1000, h, e1, Option.bind_some, e4, e5, if_false, c1, gi_of gE.2.2.1 (show x_fi 22 1409 = true by decide), gE.2.2.2.2.1, q, c2]
        · simp only [v1068, h, e3, Option.bind_some, z00, if_false, c1, g1068_1092, e6, vg_of gM.2.2.1 (show x_isa 23 23 = true by decide), M_axes gM, q, c2]
