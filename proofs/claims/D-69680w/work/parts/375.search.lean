/-! ===== CALLS, 11: search ===== -/
/-- how many from i on, of so many -/
def num (q : Nat → Bool) : Nat → Nat → Nat
  | _, 0 => 0
  | i, e + 1 => (if q i = true then 1 else 0) + num q (i + 1) e
theorem num_le (q : Nat → Bool) : ∀ e i, num q i e ≤ e
  | 0, _ => Nat.le_refl _
  | e + 1, i => by
    have := num_le q e (i + 1)
    show (if q i = true then 1 else 0) + num q (i + 1) e ≤ e + 1
    split <;> omega
theorem iw_succ (i : Nat) : iw (i : Int) + 1 = iw ((i + 1 : Nat) : Int) := by rw [show (1 : Int32) = iw 1 from rfl, iw_add]; rfl
theorem E_row {M : Mem} {a b : Nat} {k : Int32} {n : Nat} {z : Nat → Nat} {s t : Nat → Int32} {x y : Int32} {c d L : Nat} {p : Int32} (g : GP M a b k n z s t x y c d L p) : F_X21_isRow M a = some (if n = 1 then 1 else 0) ∧ F_X16_isRow M b = some (if n = 1 then 1 else 0) := by
  have hn := g.2.2.2.1
  have q : iw (n : Int) = 1 ↔ n = 1 := by rw [show (1 : Int32) = iw ((1 : Nat) : Int) from rfl, iw_eq (by omega) (by omega) (by omega) (by omega)]; omega
  constructor
  · simp only [F_X21_isRow, F_X21_isRow_b13, gi_of g.1.2.2.1 (show x_fi 22 1409 = true by decide), g.1.2.2.2.2.1, Option.bind_some, q]
    split <;> rfl
  · simp only [F_X16_isRow, F_X16_isRow_b13, vg_of g.2.1.2.2.1 (show x_isa 23 23 = true by decide), M_axes g.2.1, Option.bind_some, q]
    split <;> rfl
theorem E_search_loop {M : Mem} {a b : Nat} {k : Int32} {n : Nat} {z : Nat → Nat} {s t : Nat → Int32} {x y : Int32} {c d L : Nat} {p : Int32} (g : GP M a b k n z s t x y c d L p) {v : Int64} (hv : vb k v) : ∀ (e N i w : Nat), i + e = prd z n → e + 1 ≤ N →
    F_X0_search_b53 N M v a (iw (prd z n : Nat)) (iw (w : Int)) (iw (i : Int)) = some (iw ((w + num (fun j => decide (lnT k (cJ M c (gpos n z s x j)) < lnT k v)) i e : Nat) : Int)) := by
  have hp := g.2.2.2.2.2.1
  intro e
  induction e with
  | zero =>
    intro N i w hi hN
    obtain ⟨N, rfl⟩ : ∃ x, N = x + 1 := ⟨N - 1, by omega⟩
    show F_X0_search_b53_st (F_X0_search_b53 N) M _ _ _ _ _ = _
    unfold F_X0_search_b53_st
    rw [if_neg (by rw [iw_le4 (by omega) (by omega)]; omega)]
    rfl
  | succ e ih =>
    intro N i w hi hN
    obtain ⟨N, rfl⟩ : ∃ x, N = x + 1 := ⟨N - 1, by omega⟩
    show F_X0_search_b53_st (F_X0_search_b53 N) M _ _ _ _ _ = _
    unfold F_X0_search_b53_st F_X0_search_b82
    obtain ⟨g1, g2, g3⟩ := g.get (show i < prd z n by omega)
    rw [if_pos (by rw [iw_le4 (by omega) (by omega)]; omega)]
    simp only [gi_of g.1.2.2.1 (show x_fi 22 1408 = true by decide), g.1.2.2.2.1, vg_of g.1.2.2.1 (show x_isa 22 22 = true by decide), g2, E_order g.2.2.1 g1 hv, ordi_lt, iw_succ, Option.bind_some]
    show _ = some (iw ((w + ((if decide _ = true then 1 else 0) + num _ (i + 1) e) : Nat) : Int))
    by_cases q : lnT k (cJ M c (gpos n z s x i)) < lnT k v
    · rw [if_pos q, ih N (i + 1) (w + 1) (by omega) (by omega), if_pos (decide_eq_true q), Nat.add_assoc]
    · rw [if_neg q, ih N (i + 1) w (by omega) (by omega), if_neg (by rw [decide_eq_false q]; decide), Nat.zero_add]
theorem M_search_loop {M : Mem} {a b : Nat} {k : Int32} {n : Nat} {z : Nat → Nat} {s t : Nat → Int32} {x y : Int32} {c d L : Nat} {p : Int32} (g : GP M a b k n z s t x y c d L p) {v : Int64} (hv : vb k v) : ∀ (e N i w : Nat), i + e = prd z n → e + 1 ≤ N →
    F_X16_search_b51 N M v b (iw (w : Int)) (iw (i : Int)) = some (iw ((w + num (fun j => decide (lnT k (cJ M c (gpos n z s x j)) < lnT k v)) i e : Nat) : Int)) := by
  have hp := g.2.2.2.2.2.1
  have cM := M_count g.2.1 g.2.2.2.1 g.2.2.2.2.1
  have vM := vg_of g.2.1.2.2.1 (show x_isa 23 23 = true by decide)
  obtain ⟨rv, r1, r2⟩ := M_ranked hv
  intro e
  induction e with
  | zero =>
    intro N i w hi hN
    obtain ⟨N, rfl⟩ : ∃ x, N = x + 1 := ⟨N - 1, by omega⟩
    show F_X16_search_b51_st (F_X16_search_b51 N) M _ _ _ _ = _
    unfold F_X16_search_b51_st
    simp only [vM, cM, Option.bind_some]
    rw [if_neg (by rw [iw_le4 (by omega) (by omega)]; omega)]
    rfl
  | succ e ih =>
    intro N i w hi hN
    obtain ⟨N, rfl⟩ : ∃ x, N = x + 1 := ⟨N - 1, by omega⟩
    show F_X16_search_b51_st (F_X16_search_b51 N) M _ _ _ _ = _
    unfold F_X16_search_b51_st F_X16_search_b92
    obtain ⟨g1, g2, g3⟩ := g.get (show i < prd z n by omega)
    obtain ⟨ru, r3, r4⟩ := M_ranked g1
    simp only [vM, cM, Option.bind_some]
    rw [if_pos (by rw [iw_le4 (by omega) (by omega)]; omega)]
    have q2 : ru < rv ↔ lnT k (cJ M c (gpos n z s x i)) < lnT k v := by rw [Int64.lt_iff_toInt_lt, r2, r4]
    simp only [gi_of g.2.1.2.2.1 (show x_fi 23 1472 = true by decide), g.2.1.2.2.2.1, g3, r1, r3, q2, iw_succ, Option.bind_some]
    show _ = some (iw ((w + ((if decide _ = true then 1 else 0) + num _ (i + 1) e) : Nat) : Int))
    by_cases q : lnT k (cJ M c (gpos n z s x i)) < lnT k v
    · rw [if_pos q, ih N (i + 1) (w + 1) (by omega) (by omega), if_pos (decide_eq_true q), Nat.add_assoc]
    · rw [if_neg q, ih N (i + 1) w (by omega) (by omega), if_neg (by rw [decide_eq_false q]; decide), Nat.zero_add]
theorem c_search {M : Mem} {g : Int32} {v : Int64} (h : ST M) (h4 : I4 M) (h5 : I5 M) : ∃ r, F_X0_search M 1000 g v = some r ∧ F_X16_search M 1068 g v = some r := by
  obtain ⟨m, w, K, n, Z, S, T, X, Y, C, D, L, P, h5⟩ := h5
  have n10 : ¬ (1 : Int32) = 0 := by decide
  have z00 : ¬ (0 : Int32) < 0 := by decide
  have l13 : (0 : Int32) < 13 := by decide
  have l14 : (0 : Int32) < 14 := by decide
  rcases look h h4 h5 g with ⟨-, -, e1, e2, e3⟩ | ⟨-, -, e1, e2, e3, -⟩ | ⟨-, -, j, j1, j2, -, e1, e4, e5, e3, -, e6, gp⟩
  · exact ⟨-13, by simp only [F_X0_search, v1000, h, e1, e2, Option.bind_some, Nat.reduceEqDiff, if_false, if_true], by simp only [F_X16_search, v1068, h, e3, l13, Option.bind_some, if_true]⟩
  · exact ⟨-14, by simp only [F_X0_search, v1000, h, e1, e2, Option.bind_some, Nat.reduceEqDiff, if_false, if_true], by simp only [F_X16_search, v1068, h, e3, l14, Option.bind_some, if_true]⟩
  · obtain ⟨rE, rM⟩ := E_row gp
    obtain ⟨zb, y1, y2, y3, y4⟩ := bits_eq gp.2.2.1 v
    have vE := vg_of gp.1.2.2.1 (show x_isa 22 22 = true by decide)
    have k1 : gi M (cR M 1005 j) 1408 = some (K j) := by rw [gi_of gp.1.2.2.1 (by decide), gp.1.2.2.2.1]
    have k2 : gi M (cR M 1070 j) 1472 = some (K j) := by rw [gi_of gp.2.1.2.2.1 (by decide), gp.2.1.2.2.2.1]
    by_cases c1 : n j = 1
    · rw [if_pos c1] at rE rM
      rcases y3 with c2 | c2
      · exact ⟨-1, by simp only [F_X0_search, F_X0_search_b38, v1000, h, e1, e4, e5, vE, rE, n10, k1, y1, c2, Option.bind_some, if_false, if_true], by simp only [F_X16_search, F_X16_search_b43, v1068, h, e3, z00, g1068_1092, e6, rM, n10, k2, y2, c2, Option.bind_some, if_false, if_true]⟩
      · have hv := y4.mp c2
        have hx : xN = 1099511627776 := rfl
        have hp := gp.2.2.2.2.2.1
        have cE := E_count gp.1 gp.2.2.2.1
        have lE := E_search_loop gp hv (prd (Z j) (n j)) xN 0 0 (by omega) (by omega)
        have lM := M_search_loop gp hv (prd (Z j) (n j)) xN 0 0 (by omega) (by omega)
        generalize iw ((0 + num (fun i => decide (lnT (K j) (cJ M (C j) (gpos (n j) (Z j) (S j) (X j) i)) < lnT (K j) v)) 0 (prd (Z j) (n j)) : Nat) : Int) = r at lE lM
        refine ⟨r, ?_, ?_⟩
        rotate_left
        · simp only [F_X16_search, v1068, h, e3, z00, g1068_1092, e6, rM, n10, k2, y2, c2, Option.bind_some, if_false]
          exact lM
        · simp only [F_X0_search, v1000, h, e1, e4, e5, vE, rE, n10, k1, y1, c2, cE, Option.bind_some, if_false]
          exact lE
    · rw [if_neg c1] at rE rM
      exact ⟨-1, by simp only [F_X0_search, F_X0_search_b38, v1000, h, e1, e4, e5, vE, rE, Option.bind_some, if_false, if_true], by simp only [F_X16_search, F_X16_search_b43, v1068, h, e3, z00, g1068_1092, e6, rM, Option.bind_some, if_false, if_true]⟩
