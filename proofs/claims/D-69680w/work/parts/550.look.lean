/-! ===== CALLS: rows, columnLane ===== -/
/-- what both sides see under a number -/
def LkT (M : Mem) (Z : Nat → Prop) (v : Int32) : Prop :=
  (cI M 1000 97 = 1 ∧ cI M 1068 1095 = 1 ∧ F_X0_findTable M 1000 v = some 0 ∧ F_X16_codeOfTable M 1068 v = some 13 ∧ F_X0_gone M 1000 = some 13) ∨
  (cI M 1000 97 = 0 ∧ cI M 1068 1095 = 0 ∧ F_X0_findTable M 1000 v = some 0 ∧ F_X16_isTable M 1068 v = some 0 ∧ F_X16_codeOfTable M 1068 v = some 14 ∧ F_X0_gone M 1000 = some 14) ∨
  (cI M 1000 97 = 0 ∧ cI M 1068 1095 = 0 ∧ ∃ (d : TD) (W k m : Nat), v = iw (k : Int) ∧ 1 ≤ k ∧ k ≤ m ∧ m ≤ 40 ∧ cI M 1037 771 = iw (m : Int) ∧ cI M 1068 1123 = iw (m : Int) ∧ W ≤ 65536 ∧ cI M 1038 833 = iw (W : Int) ∧ cI M 1068 1124 = iw (W : Int) ∧ GT d ∧ TE M Z W (cR M 1040 k) d ∧ TMt M Z (cR M 1324 k) d ∧ F_X0_findTable M 1000 v = some (cR M 1040 k) ∧ 1334 ≤ cR M 1040 k ∧ 1334 ≤ cR M 1324 k ∧ F_X16_isTable M 1068 v = some 1 ∧ F_X16_codeOfTable M 1068 v = some 0 ∧ ar M 1324 v = some (cR M 1324 k))
theorem lookT {M : Mem} {Z : Nat → Prop} (h : ST M) (h4 : I4 M) (h6 : I6 M Z) (v : Int32) : LkT M Z v := by
  obtain ⟨hZ, m, W, D, m40, w65, e71, e23, e33, e24, hD⟩ := h6
  have n1 : ¬ (1 : Int32) = 0 := by decide
  by_cases c97 : cI M 1000 97 = 1
  · have c95 : cI M 1068 1095 = 1 := by rw [← h4.2.2.2.2.1]; exact c97
    refine Or.inl ⟨c97, c95, ?_, ?_, ?_⟩
    · simp only [F_X0_findTable, F_X0_findTable_b19, g1000_97, h, c97, n1, if_false, Option.bind_some]
    · simp only [F_X16_codeOfTable, F_X16_codeOfTable_b26, g1068_1095, h, c95, n1, if_false, Option.bind_some]
    · simp only [F_X0_gone, F_X0_gone_b14, g1000_97, h, c97, n1, if_false, Option.bind_some]
  have z97 : cI M 1000 97 = 0 := h4.2.2.2.1.resolve_right c97
  have z95 : cI M 1068 1095 = 0 := by rw [← h4.2.2.2.2.1]; exact z97
  have gone : F_X0_gone M 1000 = some 14 := by simp only [F_X0_gone, F_X0_gone_b14, g1000_97, h, z97, if_true, Option.bind_some]
  have fT : F_X0_findTable M 1000 v = F_X11_find M 1037 v := by
    simp only [F_X0_findTable, F_X0_findTable_b19, g1000_97, g1000_77, v1037, h, z97, if_true, Option.bind_some]
    cases F_X11_find M 1037 v <;> rfl
  have cT : ∀ r : Int32, F_X16_isTable M 1068 v = some r → F_X16_codeOfTable M 1068 v = some (if r = 0 then 14 else 0) := fun r hr => by
    simp only [F_X16_codeOfTable, F_X16_codeOfTable_b26, g1068_1095, v1068, h, z95, hr, if_true, Option.bind_some]
    by_cases q : r = 0
    · rw [if_pos q, if_pos q]
    · rw [if_neg q, if_neg q]
  have no : F_X11_find M 1037 v = some 0 → F_X16_isTable M 1068 v = some 0 → LkT M Z v := fun a b => Or.inr (Or.inl ⟨z97, z95, fT.trans a, b, by rw [cT 0 b, if_pos rfl], gone⟩)
  by_cases c1 : v < 1
  · refine no ?_ ?_
    · simp only [F_X11_find, F_X11_find_b22, F_X11_find_b23, c1, if_true]
    · simp only [F_X16_isTable, F_X16_isTable_b26, F_X16_isTable_b27, c1, if_true]
      rfl
  · by_cases c2 : iw (m : Int) < v
    · refine no ?_ ?_
      · simp only [F_X11_find, F_X11_find_b22, F_X11_find_b23, c1, g1037_771, h, e71, c2, if_true, if_false, Option.bind_some]
      · simp only [F_X16_isTable, F_X16_isTable_b26, F_X16_isTable_b27, c1, g1068_1123, h, e23, c2, if_true, if_false, Option.bind_some]
        rfl
    · have hv : 0 ≤ v.toInt := by
        rw [Int32.lt_iff_toInt_lt] at c1
        have : (1 : Int32).toInt = 1 := by decide
        omega
      obtain ⟨k, hk⟩ : ∃ k : Nat, v.toInt.toNat = k := ⟨_, rfl⟩
      have ev : v = iw (k : Int) := by rw [← hk]; exact i32_nat hv
      have kb : k < 2147483648 := by have := Int32.toInt_lt v; omega
      have k1 : 1 ≤ k := by
        rw [ev, show (1 : Int32) = iw ((1 : Nat) : Int) from rfl, iw_le4 (by omega) (by omega)] at c1
        omega
      have k2 : k ≤ m := by
        rw [ev, iw_le4 (by omega) (by omega)] at c2
        omega
      have ar1 : ar M 1040 v = some (cR M 1040 k) := by rw [ev]; exact ar_of (by rw [t1040 h]; decide) (l1040 h) (by omega) (by decide)
      have ar2 : ar M 1324 v = some (cR M 1324 k) := by rw [ev]; exact ar_of (by rw [t1324 h]; decide) (l1324 h) (by omega) (by decide)
      have f1 : F_X11_find M 1037 v = some (cR M 1040 k) := by
        simp only [F_X11_find, F_X11_find_b22, F_X11_find_b23, c1, g1037_771, g1037_770, h, e71, c2, ar1, if_false, Option.bind_some]
      have f2 : ∀ t : Nat, cR M 1324 k = t → t ≠ 6 → F_X16_isTable M 1068 v = some (if t = 0 then 0 else 1) := fun t ht t6 => by
        simp only [F_X16_isTable, F_X16_isTable_b26, F_X16_isTable_b27, c1, g1068_1123, g1068_1122, h, e23, c2, ar2, ht, if_false, Option.bind_some]
        rw [if_neg t6]
        by_cases q : t = 0
        · rw [if_pos q, if_pos q]; rfl
        · rw [if_neg q, if_neg q]; rfl
      have hd := hD k k1 k2
      cases hDk : D k with
      | none =>
        rw [hDk] at hd
        refine no (by rw [f1, hd.1]) (by rw [f2 0 hd.2 (by decide), if_pos rfl])
      | some d =>
        rw [hDk] at hd
        obtain ⟨g, te, tm⟩ := hd
        have z1 := (hZ _ te.1.1).1
        have z2 : 1334 ≤ cR M 1324 k := by
          obtain ⟨⟨ln, dn, en, lc, dc, ec, q⟩, -⟩ := tm
          exact (hZ _ q.1.1).1
        have it : F_X16_isTable M 1068 v = some 1 := by rw [f2 _ rfl (by omega), if_neg (by omega)]
        exact Or.inr (Or.inr ⟨z97, z95, d, W, k, m, ev, k1, k2, m40, e71, e23, w65, e33, e24, g, te, tm, fT.trans f1, z1, z2, it, by rw [cT 1 it, if_neg n1], ar2⟩)
theorem TMt.rows {M : Mem} {Z : Nat → Prop} {t : Nat} {d : TD} (h : TMt M Z t d) (g : GT d) (k0 : K0 M) (hZ : ∀ x, Z x → 1334 ≤ x ∧ x < m_nx M) : F_X54_rows M t = some (iw (d.2.1 : Int)) ∧ vg M t 55 = some () ∧ ∃ ln, gr M t 3520 = some ln ∧ vg M ln 67 = some () ∧ F_J6_size M ln = some (iw (d.1 : Int)) := by
  obtain ⟨⟨ln, dn, en, lc, dc, ec, q⟩, -⟩ := h
  have c := q.c g k0 hZ
  exact ⟨M_rows c, c.g.2.2.2.2.2.2, ln, c.g.1, c.g.2.2.1, c.g.2.2.2.2.1⟩
theorem c_rows {M : Mem} {Z : Nat → Prop} (h : ST M) (k0 : K0 M) (h4 : I4 M) (h6 : I6 M Z) (v : Int32) : ∃ r, F_X0_rows M 1000 v = some r ∧ F_X16_rows M 1068 v = some r := by
  have p13 : (0 : Int32) < 13 := by decide
  have p14 : (0 : Int32) < 14 := by decide
  have p0 : ¬ (0 : Int32) < 0 := by decide
  have n06 : ¬ (0 : Nat) = 6 := by decide
  rcases lookT h h4 h6 v with ⟨a1, a2, a3, a4, a5⟩ | ⟨a1, a2, a3, a4, a5, a6⟩ | ⟨a1, a2, d, W, k, m, ev, k1, k2, m40, e71, e23, w65, e33, e24, g, te, tm, fT, z1, z2, it, cT, ar2⟩
  · refine ⟨-13, ?_, ?_⟩
    · simp only [F_X0_rows, F_X0_rows_b22, v1000, h, a3, a5, n06, if_false, if_true, Option.bind_some]
    · simp only [F_X16_rows, F_X16_rows_b26, v1068, h, a4, p13, if_true, Option.bind_some]
  · refine ⟨-14, ?_, ?_⟩
    · simp only [F_X0_rows, F_X0_rows_b22, v1000, h, a3, a6, n06, if_false, if_true, Option.bind_some]
    · simp only [F_X16_rows, F_X16_rows_b26, v1068, h, a5, p14, if_true, Option.bind_some]
  · obtain ⟨r1, r2, -⟩ := tm.rows g k0 h6.1
    have te2 : gi M (cR M 1040 k) 3393 = some (iw (d.2.1 : Int)) := by rw [gi_of te.1.2 (show x_fi 53 3393 = true by decide), te.2.2.1]
    have e6 : ¬ cR M 1040 k = 6 := by omega
    have e0 : ¬ cR M 1040 k = 0 := by omega
    refine ⟨iw (d.2.1 : Int), ?_, ?_⟩
    · simp only [F_X0_rows, F_X0_rows_b22, v1000, h, fT, e6, e0, te2, if_false, Option.bind_some]
    · simp only [F_X16_rows, F_X16_rows_b26, v1068, h, cT, p0, g1068_1122, ar2, r2, r1, if_false, Option.bind_some]
/-- both look for a column -/
theorem colT {M : Mem} {Z : Nat → Prop} (h : ST M) (k0 : K0 M) (h4 : I4 M) (h6 : I6 M Z) (v c : Int32) : (∃ (q e : Int32) (z : Nat), e = q ∧ (0 : Int32) < q ∧ F_X0_findTable M 1000 v = some z ∧ F_X0_columnRefusal M 1000 z c = some q ∧ F_X16_codeOfColumn M 1068 v c = some q ∧ (q = 13 ∨ q = 14 ∨ q = 2)) ∨ (cI M 1000 97 = 0 ∧ cI M 1068 1095 = 0 ∧ ∃ (d : TD) (W k j : Nat), c = iw (j : Int) ∧ j < d.1 ∧ W ≤ 65536 ∧ GT d ∧ TE M Z W (cR M 1040 k) d ∧ TMt M Z (cR M 1324 k) d ∧ F_X0_findTable M 1000 v = some (cR M 1040 k) ∧ 1334 ≤ cR M 1040 k ∧ 1334 ≤ cR M 1324 k ∧ F_X0_columnRefusal M 1000 (cR M 1040 k) c = some 0 ∧ F_X16_codeOfColumn M 1068 v c = some 0 ∧ ar M 1324 v = some (cR M 1324 k) ∧ ∃ m : Nat, v = iw (k : Int) ∧ 1 ≤ k ∧ k ≤ m ∧ m ≤ 40 ∧ cI M 1068 1123 = iw (m : Int)) := by
  have p13 : (0 : Int32) < 13 := by decide
  have p14 : (0 : Int32) < 14 := by decide
  have p2 : (0 : Int32) < 2 := by decide
  have p0 : ¬ (0 : Int32) < 0 := by decide
  have n06 : ¬ (0 : Nat) = 6 := by decide
  rcases lookT h h4 h6 v with ⟨a1, a2, a3, a4, a5⟩ | ⟨a1, a2, a3, a4, a5, a6⟩ | ⟨a1, a2, d, W, k, m, ev, k1, k2, m40, e71, e23, w65, e33, e24, g, te, tm, fT, z1, z2, it, cT, ar2⟩
  · refine Or.inl ⟨13, 13, 0, rfl, p13, a3, ?_, ?_, Or.inl rfl⟩
    · simp only [F_X0_columnRefusal, F_X0_columnRefusal_b28, v1000, h, a5, n06, if_false, if_true, Option.bind_some]
    · simp only [F_X16_codeOfColumn, F_X16_codeOfColumn_b39, v1068, h, a4, p13, if_true, Option.bind_some]
  · refine Or.inl ⟨14, 14, 0, rfl, p14, a3, ?_, ?_, Or.inr (Or.inl rfl)⟩
    · simp only [F_X0_columnRefusal, F_X0_columnRefusal_b28, v1000, h, a6, n06, if_false, if_true, Option.bind_some]
    · simp only [F_X16_codeOfColumn, F_X16_codeOfColumn_b39, v1068, h, a5, p14, if_true, Option.bind_some]
  · obtain ⟨r1, r2, ln, r3, r4, r5⟩ := tm.rows g k0 h6.1
    have te1 : gi M (cR M 1040 k) 3392 = some (iw (d.1 : Int)) := by rw [gi_of te.1.2 (show x_fi 53 3392 = true by decide), te.2.1]
    have e6 : ¬ cR M 1040 k = 6 := by omega
    have e0 : ¬ cR M 1040 k = 0 := by omega
    have g2 := g.2.1
    by_cases c0 : c < 0
    · refine Or.inl ⟨2, 2, _, rfl, p2, fT, ?_, ?_, Or.inr (Or.inr rfl)⟩
      · simp only [F_X0_columnRefusal, F_X0_columnRefusal_b28, F_X0_columnRefusal_b23, e6, e0, c0, if_false, if_true]
      · simp only [F_X16_codeOfColumn, F_X16_codeOfColumn_b39, F_X16_codeOfColumn_b34, v1068, h, cT, p0, c0, if_false, if_true, Option.bind_some]
    · by_cases c1 : c < iw (d.1 : Int)
      · have hv : 0 ≤ c.toInt := by
          rw [Int32.lt_iff_toInt_lt] at c0
          have : (0 : Int32).toInt = 0 := by decide
          omega
        obtain ⟨j, hj⟩ : ∃ j : Nat, c.toInt.toNat = j := ⟨_, rfl⟩
        have ec : c = iw (j : Int) := by rw [← hj]; exact i32_nat hv
        have kb : j < 2147483648 := by have := Int32.toInt_lt c; omega
        have j1 : j < d.1 := by
          rw [ec, iw_le4 (by omega) (by omega)] at c1
          exact c1
        refine Or.inr ⟨a1, a2, d, W, k, j, ec, j1, w65, g, te, tm, fT, z1, z2, ?_, ?_, ar2, m, ev, k1, k2, m40, e23⟩
        · simp only [F_X0_columnRefusal, F_X0_columnRefusal_b28, F_X0_columnRefusal_b23, e6, e0, c0, te1, c1, if_false, if_true, Option.bind_some]
        · simp only [F_X16_codeOfColumn, F_X16_codeOfColumn_b39, F_X16_codeOfColumn_b34, v1068, h, cT, p0, c0, g1068_1122, ar2, r3, r4, r5, c1, if_false, if_true, Option.bind_some]
      · refine Or.inl ⟨2, 2, _, rfl, p2, fT, ?_, ?_, Or.inr (Or.inr rfl)⟩
        · simp only [F_X0_columnRefusal, F_X0_columnRefusal_b28, F_X0_columnRefusal_b23, e6, e0, c0, te1, c1, if_false, Option.bind_some]
        · simp only [F_X16_codeOfColumn, F_X16_codeOfColumn_b39, F_X16_codeOfColumn_b34, v1068, h, cT, p0, c0, g1068_1122, ar2, r3, r4, r5, c1, if_false, Option.bind_some]
theorem c_columnLane {M : Mem} {Z : Nat → Prop} (h : ST M) (k0 : K0 M) (h4 : I4 M) (h6 : I6 M Z) (v c : Int32) : ∃ r, F_X0_columnLane M 1000 v c = some r ∧ F_X16_columnLane M 1068 v c = some r := by
  have p0 : ¬ (0 : Int32) < 0 := by decide
  rcases colT h k0 h4 h6 v c with ⟨q, e, z, -, q1, q2, q3, q4, -⟩ | ⟨a1, a2, d, W, k, j, ec, j1, w65, g, te, tm, fT, z1, z2, cr, cc', ar2, -⟩
  · refine ⟨-q, ?_, ?_⟩
    · simp only [F_X0_columnLane, F_X0_columnLane_b31, v1000, h, q2, q3, q1, if_true, Option.bind_some]
    · simp only [F_X16_columnLane, F_X16_columnLane_b30, v1068, h, q4, q1, if_true, Option.bind_some]
  · have g2 := g.2.1
    obtain ⟨b1, b2, b3, b4, b5, ⟨b6, b7, b8⟩, b9⟩ := te
    have x1 : gr M (cR M 1040 k) 3398 = some (cR M (cR M 1040 k) 3398) := gr_of b1.2 (by decide)
    have x2 : ai M (cR M (cR M 1040 k) 3398) c = some (lan d.1 d.2.1 d.2.2.2 j) := by rw [ec, ai_of b7 b8 j1 (by omega), b9 j j1]
    obtain ⟨⟨ln, dn, en, lc, dc, ec', tq⟩, ⟨m6, m7, m8⟩, m9⟩ := tm
    have y1 : gr M (cR M 1324 k) 3522 = some (cR M (cR M 1324 k) 3522) := gr_of tq.1.2 (by decide)
    have y2 : ai M (cR M (cR M 1324 k) 3522) c = some (lan d.1 d.2.1 d.2.2.2 j) := by rw [ec, ai_of m7 m8 j1 (by omega), m9 j j1]
    refine ⟨lan d.1 d.2.1 d.2.2.2 j, ?_, ?_⟩
    · simp only [F_X0_columnLane, F_X0_columnLane_b31, v1000, h, fT, cr, p0, x1, x2, if_false, Option.bind_some]
    · simp only [F_X16_columnLane, F_X16_columnLane_b30, v1068, h, cc', p0, g1068_1122, ar2, y1, y2, if_false, Option.bind_some]
/-- the model sees a table and its column -/
theorem codeM {N : Mem} {Z : Nat → Prop} {v c : Int32} {k m j T : Nat} {d : TD} (s : ST N) (k0 : K0 N) (z95 : cI N 1068 1095 = 0) (e23 : cI N 1068 1123 = iw (m : Int)) (ev : v = iw (k : Int)) (k1 : 1 ≤ k) (k2 : k ≤ m) (m40 : m ≤ 40) (hT : cR N 1324 k = T) (z2 : 1334 ≤ T) (g : GT d) (tm : TMt N Z T d) (hZ : ∀ x, Z x → 1334 ≤ x ∧ x < m_nx N) (ec : c = iw (j : Int)) (j1 : j < d.1) : F_X16_isTable N 1068 v = some 1 ∧ F_X16_codeOfTable N 1068 v = some 0 ∧ F_X16_codeOfColumn N 1068 v c = some 0 ∧ ar N 1324 v = some T := by
  have n1 : ¬ (1 : Int32) = 0 := by decide
  have p0 : ¬ (0 : Int32) < 0 := by decide
  have g2 := g.2.1
  have ar2 : ar N 1324 v = some T := by rw [ev, ar_of (by rw [t1324 s]; decide) (l1324 s) (show k < 41 by omega) (by decide), hT]
  have c1 : ¬ v < 1 := by rw [ev, show (1 : Int32) = iw ((1 : Nat) : Int) from rfl, iw_le4 (by omega) (by omega)]; omega
  have c2 : ¬ iw (m : Int) < v := by rw [ev, iw_le4 (by omega) (by omega)]; omega
  have it : F_X16_isTable N 1068 v = some 1 := by
    simp only [F_X16_isTable, F_X16_isTable_b26, F_X16_isTable_b27, c1, g1068_1123, g1068_1122, s, e23, c2, ar2, if_false, Option.bind_some]
    rw [if_neg (show ¬ T = 6 by omega), if_neg (show ¬ T = 0 by omega)]
    rfl
  have cT : F_X16_codeOfTable N 1068 v = some 0 := by simp only [F_X16_codeOfTable, F_X16_codeOfTable_b26, g1068_1095, v1068, s, z95, it, n1, if_true, if_false, Option.bind_some]
  obtain ⟨r1, r2, ln, r3, r4, r5⟩ := tm.rows g k0 hZ
  have c0 : ¬ c < 0 := by rw [ec, iw_lt0 (by omega) (by omega)]; omega
  have c3 : c < iw (d.1 : Int) := by rw [ec, iw_le4 (by omega) (by omega)]; exact j1
  exact ⟨it, cT, by simp only [F_X16_codeOfColumn, F_X16_codeOfColumn_b39, F_X16_codeOfColumn_b34, v1068, s, cT, p0, c0, g1068_1122, ar2, r3, r4, r5, c3, if_false, if_true, Option.bind_some], ar2⟩
