/-! ===== GRIDS, 4: what leaves grids as they are; cell, get, put ===== -/
/-- nothing that the run has made later changes -/
def qt (P : Nat → Nat → Prop) : Prop := ∀ a i, 1334 ≤ a → ¬ P a i
theorem qt_n2 : qt n2 := fun _ _ _ h => h
theorem IRw.df {P Q R : Nat → Nat → Prop} {M M' : Mem} (d : Df P Q R M M') (hP : qt P) {a n : Nat} {f : Nat → Int32} (h : IRw M a n f) : IRw M' a n f := by
  obtain ⟨h1, h2, h3, h4, h5⟩ := h
  obtain ⟨d1, d2, d3⟩ := d.2.2 a h2
  exact ⟨h1, Nat.lt_of_lt_of_le h2 d.1, d1.trans h3, d2.trans h4, fun i hi => ((d3 i).1 (hP a i h1)).trans (h5 i hi)⟩
theorem GE.df {P Q R : Nat → Nat → Prop} {M M' : Mem} (d : Df P Q R M M') (hP : qt P) (hR : qt R) {a : Nat} {k : Int32} {n : Nat} {z : Nat → Nat} {s : Nat → Int32} {b : Int32} {c : Nat} {p : Int32} (g : GE M a k n z s b c p) : GE M' a k n z s b c p := by
  obtain ⟨g1, g2, g3, g4, g5, g6, g7, g8, g9, g10⟩ := g
  obtain ⟨d1, d2, d3⟩ := d.2.2 a g2
  have cr : ∀ i, cR M' a i = cR M a i := fun i => (d3 i).2.2 (hR a i g1)
  have ci : ∀ i, cI M' a i = cI M a i := fun i => (d3 i).1 (hP a i g1)
  refine ⟨g1, Nat.lt_of_lt_of_le g2 d.1, d1.trans g3, (ci _).trans g4, (ci _).trans g5, ?_, ?_, (ci _).trans g8, (cr _).trans g9, (ci _).trans g10⟩
  · rw [cr]; exact g6.df d hP
  · rw [cr]; exact g7.df d hP
theorem GM.df {P Q R : Nat → Nat → Prop} {M M' : Mem} (d : Df P Q R M M') (hP : qt P) (hR : qt R) {a : Nat} {k : Int32} {n : Nat} {z : Nat → Nat} {s : Nat → Int32} {b : Int32} {c : Nat} {p : Int32} (g : GM M a k n z s b c p) : GM M' a k n z s b c p := by
  obtain ⟨g1, g2, g3, g4, g6, g7, g8, g9, g10⟩ := g
  obtain ⟨d1, d2, d3⟩ := d.2.2 a g2
  have cr : ∀ i, cR M' a i = cR M a i := fun i => (d3 i).2.2 (hR a i g1)
  have ci : ∀ i, cI M' a i = cI M a i := fun i => (d3 i).1 (hP a i g1)
  refine ⟨g1, Nat.lt_of_lt_of_le g2 d.1, d1.trans g3, (ci _).trans g4, ?_, ?_, (ci _).trans g8, (cr _).trans g9, (ci _).trans g10⟩
  · rw [cr]; exact g6.df d hP
  · rw [cr]; exact g7.df d hP
theorem CP.df {P Q R : Nat → Nat → Prop} {M M' : Mem} (d : Df P Q R M M') (hQ : qt Q) {k : Int32} {c e L : Nat} (h : CP M k c e L) : CP M' k c e L := by
  obtain ⟨c1, c2, c3, c4, c5, c6, c7, c8, c9, c10⟩ := h
  obtain ⟨d1, d2, d3⟩ := d.2.2 c c2
  obtain ⟨e1, e2, e3⟩ := d.2.2 e c4
  refine ⟨c1, Nat.lt_of_lt_of_le c2 d.1, c3, Nat.lt_of_lt_of_le c4 d.1, d1.trans c5, e1.trans c6, d2.trans c7, e2.trans c8, c9, fun i hi => ?_⟩
  rw [(d3 i).2.1 (hQ c i c1), (e3 i).2.1 (hQ e i c3)]
  exact c10 i hi
theorem GP.df {P Q R : Nat → Nat → Prop} {M M' : Mem} (d : Df P Q R M M') (hP : qt P) (hQ : qt Q) (hR : qt R) {a b : Nat} {k : Int32} {n : Nat} {z : Nat → Nat} {s t : Nat → Int32} {x y : Int32} {c e L : Nat} {p : Int32} (g : GP M a b k n z s t x y c e L p) : GP M' a b k n z s t x y c e L p := by
  obtain ⟨gE, gM, hk, hn, hz, hc, hp, hC, hv⟩ := g
  exact ⟨gE.df d hP hR, gM.df d hP hR, hk, hn, hz, hc, hp, hC.df d hQ, hv⟩
/-- grids stay -/
def pGr : Nat → Nat → Prop := fun a i => (a = 1004 ∧ (i = 193 ∨ i = 194)) ∨ (a = 1068 ∧ (i = 1093 ∨ i = 1094))
theorem I5w.df {P Q R : Nat → Nat → Prop} {M M' : Mem} (h : ST M) (d : Df P Q R M M') (hP : qt P) (hQ : qt Q) (hR : qt R) (hp : ∀ a i, pGr a i → ¬ P a i) (hr : ∀ i, ¬ R 1005 i ∧ ¬ R 1070 i)
    {m w : Nat} {K : Nat → Int32} {n : Nat → Nat} {Z : Nat → Nat → Nat} {S T : Nat → Nat → Int32} {X Y : Nat → Int32} {C D L : Nat → Nat} {Pp : Nat → Int32} (h5 : I5w M m w K n Z S T X Y C D L Pp) : I5w M' m w K n Z S T X Y C D L Pp := by
  obtain ⟨q1, q2, q3, q4, q5, q6, q7, q8⟩ := h5
  have h0 := h.1
  have r5 : ∀ g, cR M' 1005 g = cR M 1005 g := fun g => d.cR (by omega) (hr g).1
  have r7 : ∀ g, cR M' 1070 g = cR M 1070 g := fun g => d.cR (by omega) (hr g).2
  refine ⟨q1, q2, ?_, ?_, ?_, ?_, fun g a1 a2 => ?_, fun g g' a1 a2 a3 a4 a5 a6 => ?_⟩
  · rw [d.cI (by omega) (hp _ _ (Or.inl ⟨rfl, Or.inl rfl⟩))]; exact q3
  · rw [d.cI (by omega) (hp _ _ (Or.inr ⟨rfl, Or.inl rfl⟩))]; exact q4
  · rw [d.cI (by omega) (hp _ _ (Or.inl ⟨rfl, Or.inr rfl⟩))]; exact q5
  · rw [d.cI (by omega) (hp _ _ (Or.inr ⟨rfl, Or.inr rfl⟩))]; exact q6
  · rw [r5, r7]
    exact (q7 g a1 a2).imp id (fun gp => gp.df d hP hQ hR)
  · rw [r5] at a5 a6
    exact q8 g g' a1 a2 a3 a4 a5 a6
def pCode : Nat → Nat → Prop := fun a i => (a = 1000 ∧ i = 94) ∨ (a = 1068 ∧ i = 1102)
theorem qt_code : qt pCode := fun a i h p => by rcases p with ⟨rfl, -⟩ | ⟨rfl, -⟩ <;> omega
theorem gp_wI {M : Mem} {a i : Nat} {v : Int32} (h : a < 1334) {b c : Nat} {k : Int32} {n : Nat} {z : Nat → Nat} {s t : Nat → Int32} {x y : Int32} {e f L : Nat} {p : Int32} (g : GP M b c k n z s t x y e f L p) : GP (wI M a i v) b c k n z s t x y e f L p :=
  g.df (Df.wI (P := fun a' _ => a' = a) (Q := n2) (R := n2) v rfl) (fun a' i' h1 h2 => by have h2 : a' = a := h2; omega) qt_n2 qt_n2
theorem I4.code {M : Mem} (h : I4 M) (v : Int32) : I4 (wI (wI M 1000 94 v) 1068 1102 v) := by
  obtain ⟨h1, h2, h3, h4, h5, h6, n, m, g1, g2, g3, g4, g5, g6⟩ := h
  refine ⟨?_, ?_, ?_, ?_, ?_, ?_, n, m, g1, g2, g3, ?_, ?_, fun i hi => ?_⟩ <;> simp only [cI_wI, Nat.reduceEqDiff, and_self, and_false, false_and, if_true, if_false]
  · exact h2
  · exact h3
  · exact h4
  · exact h5
  · exact h6
  · exact g4
  · exact g5
  · exact g6 i hi
theorem c_cell {M : Mem} {g v : Int32} (h : ST M) (h4 : I4 M) (h5 : I5 M) : ∃ (r : Int64) (M1 M2 : Mem), F_X0_cell M 1000 g v = some (r, M1) ∧ F_X16_cell M1 1068 g v = some (r, M2) ∧ I4 M2 ∧ Df pCode n2 n2 M M2 ∧ m_nx M2 = m_nx M ∧ m_sl M2 = m_sl M := by
  obtain ⟨m, w, K, n, Z, S, T, X, Y, C, D, L, P, h5⟩ := h5
  have z00 : ¬ (0 : Int32) < 0 := by decide
  have n10 : ¬ (1 : Int32) = 0 := by decide
  have i13 : (0 : Int32) < 13 := by decide
  have i14 : (0 : Int32) < 14 := by decide
  have i2 : (0 : Int32) < 2 := by decide
  have dd : ∀ x y : Int32, Df pCode n2 n2 M (wI (wI M 1000 94 x) 1068 1102 y) := fun x y => (Df.wI _ (Or.inl ⟨rfl, rfl⟩)).trans (Df.wI _ (Or.inr ⟨rfl, rfl⟩))
  rcases look h h4 h5 g with ⟨b1, b2, e1, e2, -⟩ | ⟨b1, b2, e1, e2, -, e3⟩ | ⟨b1, b2, j, j1, j2, hg, e1, e4, e5, -, e3, e6, gp⟩
  · refine ⟨0, wI M 1000 94 13, _, ?_, ?_, h4.code 13, dd _ _, rfl, rfl⟩
    · simp only [F_X0_cell, F_X0_cell_b26, F_X0_cell_b27, F_X0_cell_b51, F_X0_cell_b68, v1000, h, e1, e2, Option.bind_some, p1000_94, if_true, Nat.reduceEqDiff, if_false]
    · simp only [F_X16_cell, F_X16_cell_b48, F_X16_cell_b72, g1068_1095, g1068_1102, p1068_1102, h, ST_wI, cI_wI, Nat.reduceEqDiff, false_and, if_false, b2, n10, Option.bind_some, and_self, if_true, i13]
  · have e3' : F_X16_isGrid (wI M 1000 94 14) 1068 g = some 0 := e3
    refine ⟨0, wI M 1000 94 14, _, ?_, ?_, h4.code 14, dd _ _, rfl, rfl⟩
    · simp only [F_X0_cell, F_X0_cell_b26, F_X0_cell_b27, F_X0_cell_b51, F_X0_cell_b68, v1000, h, e1, e2, Option.bind_some, p1000_94, if_true, Nat.reduceEqDiff, if_false]
    · simp only [F_X16_cell, F_X16_cell_b48, F_X16_cell_b72, g1068_1095, g1068_1102, p1068_1102, v1068, h, ST_wI, cI_wI, Nat.reduceEqDiff, false_and, if_false, b2, e3', Option.bind_some, and_self, if_true, i14]
  · have hE := gp.1
    have hn := gp.2.2.2.1
    have hcE := E_count hE hn
    have vE := vg_of hE.2.2.1 (show x_isa 22 22 = true by decide)
    have hprd := gp.2.2.2.2.2.1
    -- out of range
    have out : (v < 0 ∨ ¬ v < iw (prd (Z j) (n j) : Nat)) → ∃ (r : Int64) (M1 M2 : Mem), F_X0_cell M 1000 g v = some (r, M1) ∧ F_X16_cell M1 1068 g v = some (r, M2) ∧ I4 M2 ∧ Df pCode n2 n2 M M2 ∧ m_nx M2 = m_nx M ∧ m_sl M2 = m_sl M := by
      intro ho
      have e3' : F_X16_isGrid (wI M 1000 94 2) 1068 g = some 1 := e3
      have gp' := gp_wI (i := 94) (v := 2) (show 1000 < 1334 by decide) gp
      have a2 : ar (wI M 1000 94 2) 1070 g = some (cR M 1070 j) := e6
      have hcM := M_count gp'.2.1 hn gp.2.2.2.2.1
      have vM := vg_of gp'.2.1.2.2.1 (show x_isa 23 23 = true by decide)
      refine ⟨0, wI M 1000 94 2, wI (wI M 1000 94 2) 1068 1102 2, ?_, ?_, h4.code 2, dd _ _, rfl, rfl⟩
      · by_cases c1 : v < 0
        · simp only [F_X0_cell, F_X0_cell_b26, F_X0_cell_b27, F_X0_cell_b51, F_X0_cell_b68, v1000, h, e1, e4, e5, Option.bind_some, p1000_94, if_true, if_false, c1]
        · have c2 := ho.resolve_left c1
          simp only [F_X0_cell, F_X0_cell_b26, F_X0_cell_b27, F_X0_cell_b51, F_X0_cell_b68, v1000, h, e1, e4, e5, Option.bind_some, p1000_94, if_true, if_false, c1, c2, vE, hcE]
      · by_cases c1 : v < 0
        · simp only [F_X16_cell, F_X16_cell_b43, F_X16_cell_b48, F_X16_cell_b72, g1068_1095, g1068_1102, p1068_1102, v1068, h, ST_wI, cI_wI, Nat.reduceEqDiff, false_and, if_false, b2, e3', Option.bind_some, and_self, if_true, n10, c1, i2]
        · have c2 := ho.resolve_left c1
          simp only [F_X16_cell, F_X16_cell_b43, F_X16_cell_b48, F_X16_cell_b72, g1068_1095, g1068_1092, g1068_1102, p1068_1102, v1068, h, ST_wI, cI_wI, Nat.reduceEqDiff, false_and, if_false, b2, e3', Option.bind_some, and_self, if_true, n10, c1, c2, i2, a2, vM, hcM]
    by_cases c1 : v < 0
    · exact out (Or.inl c1)
    by_cases c2 : v < iw (prd (Z j) (n j) : Nat)
    · have r1 : 0 ≤ v.toInt := by
        rw [Int32.lt_iff_toInt_lt] at c1
        have : (0 : Int32).toInt = 0 := rfl
        omega
      have hv1 := i32_nat r1
      have hv2 := Int32.toInt_lt v
      obtain ⟨i, hi⟩ : ∃ i : Nat, v.toInt.toNat = i := ⟨_, rfl⟩
      rw [hi] at hv1
      have hi2 : i < prd (Z j) (n j) := by
        rw [hv1, iw_le4 (by omega) (by omega)] at c2
        exact c2
      have gp1 := gp_wI (i := 94) (v := 0) (show 1000 < 1334 by decide) gp
      have gp2 := gp_wI (i := 1102) (v := 0) (show 1068 < 1334 by decide) gp1
      obtain ⟨y1, y2, y3⟩ := gp1.get hi2
      obtain ⟨y1', y2', y3'⟩ := gp2.get hi2
      simp only [cJ_wI] at y2 y3'
      have e3' : F_X16_isGrid (wI M 1000 94 0) 1068 g = some 1 := e3
      have a2 : ar (wI M 1000 94 0) 1070 g = some (cR M 1070 j) := e6
      have a3 : ar (wI (wI M 1000 94 0) 1068 1102 0) 1070 g = some (cR M 1070 j) := e6
      have hcM := M_count gp1.2.1 hn gp.2.2.2.2.1
      have vM := vg_of gp1.2.1.2.2.1 (show x_isa 23 23 = true by decide)
      have vM2 := vg_of gp2.2.1.2.2.1 (show x_isa 23 23 = true by decide)
      have vE1 := vg_of gp1.1.2.2.1 (show x_isa 22 22 = true by decide)
      rw [hv1] at c1 c2 ⊢
      refine ⟨cJ M (C j) (gpos (n j) (Z j) (S j) (X j) i), wI M 1000 94 0, wI (wI M 1000 94 0) 1068 1102 0, ?_, ?_, h4.code 0, dd _ _, rfl, rfl⟩
      · simp only [F_X0_cell, F_X0_cell_b26, F_X0_cell_b27, F_X0_cell_b51, F_X0_cell_b68, v1000, h, e1, e4, e5, Option.bind_some, p1000_94, if_true, if_false, c1, c2, vE, hcE, n10, vE1, y2]
      · simp only [F_X16_cell, F_X16_cell_b43, F_X16_cell_b48, F_X16_cell_b72, g1068_1095, g1068_1092, g1068_1102, p1068_1102, v1068, h, ST_wI, cI_wI, Nat.reduceEqDiff, false_and, if_false, b2, e3', Option.bind_some, and_self, if_true, n10, c1, c2, z00, a2, a3, vM, vM2, hcM, y3']
    · exact out (Or.inr c2)
