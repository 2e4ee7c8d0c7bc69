/-! ===== GRIDS, 1: a grid in memory; counting, places ===== -/
/-- the product of the first sizes -/
def prd (z : Nat → Nat) : Nat → Nat
  | 0 => 1
  | m + 1 => prd z m * z m
/-- what the digits of a number in row order add, for the first axes -/
def plc (z : Nat → Nat) (s : Nat → Int32) : Nat → Nat → Int
  | 0, _ => 0
  | m + 1, x => ((x % z m : Nat) : Int) * (s m).toInt + plc z s m (x / z m)
/-- a row of ints among the cells that the run has made -/
def IRw (M : Mem) (a n : Nat) (f : Nat → Int32) : Prop := 1334 ≤ a ∧ a < m_nx M ∧ m_tg M a = 1005 ∧ m_ln M a = n ∧ ∀ i, i < n → cI M a i = f i
/-- a grid of the engine: lane, axes, sizes, strides, base, cells, whether it is spread -/
def GE (M : Mem) (a : Nat) (k : Int32) (n : Nat) (z : Nat → Nat) (s : Nat → Int32) (b : Int32) (c : Nat) (p : Int32) : Prop :=
  1334 ≤ a ∧ a < m_nx M ∧ m_tg M a = 22 ∧ cI M a 1408 = k ∧ cI M a 1409 = iw n ∧ IRw M (cR M a 1410) n (fun i => iw (z i)) ∧ IRw M (cR M a 1411) n s ∧ cI M a 1412 = b ∧ cR M a 1413 = c ∧ cI M a 1414 = p
/-- a grid of the model -/
def GM (M : Mem) (a : Nat) (k : Int32) (n : Nat) (z : Nat → Nat) (s : Nat → Int32) (b : Int32) (c : Nat) (p : Int32) : Prop :=
  1334 ≤ a ∧ a < m_nx M ∧ m_tg M a = 23 ∧ cI M a 1472 = k ∧ IRw M (cR M a 1473) n (fun i => iw (z i)) ∧ IRw M (cR M a 1474) n s ∧ cI M a 1475 = b ∧ cR M a 1476 = c ∧ cI M a 1477 = p
theorem gi_of {M : Mem} {a t g : Nat} (ht : m_tg M a = t) (hf : x_fi t g = true) : gi M a g = some (cI M a g) := by
  unfold gi
  rw [ht, if_pos hf]
theorem gr_of {M : Mem} {a t g : Nat} (ht : m_tg M a = t) (hf : x_fr t g = true) : gr M a g = some (cR M a g) := by
  unfold gr
  rw [ht, if_pos hf]
theorem vg_of {M : Mem} {a t : Nat} (ht : m_tg M a = t) {u : Nat} (hf : x_isa t u = true) : vg M a u = some () := by
  unfold vg
  rw [ht, if_pos hf]
theorem an_of {M : Mem} {a t n : Nat} (ht : m_tg M a = t) (hf : 1001 ≤ t) (hl : m_ln M a = n) : an M a = some (iw (n : Int)) := by
  unfold an
  rw [ht, if_pos hf, hl, iw_nat]
theorem IRw.ai {M : Mem} {a n : Nat} {f : Nat → Int32} (h : IRw M a n f) (hn : n ≤ 4) {i : Nat} (hi : i < n) : ai M a (iw (i : Int)) = some (f i) := by
  rw [ai_of h.2.2.1 h.2.2.2.1 hi (by omega), h.2.2.2.2 i hi]
theorem iw_le4 {n m : Nat} (hn : n ≤ 2147483647) (hm : m ≤ 2147483647) : iw (n : Int) < iw (m : Int) ↔ n < m := by
  rw [iw_lt (by omega) (by omega) (by omega) (by omega)]
  omega
theorem E_count_loop {M : Mem} {a : Nat} {k : Int32} {n : Nat} {z : Nat → Nat} {s : Nat → Int32} {b : Int32} {c : Nat} {p : Int32} (g : GE M a k n z s b c p) (hn : n ≤ 4) : ∀ (j N m : Nat), m + j = n → j + 1 ≤ N → F_X21_count_b4 N M a (iw (prd z m : Nat)) (iw (m : Int)) = some (iw (prd z n : Nat)) := by
  obtain ⟨g1, g2, g3, g4, g5, g6, g7, g8, g9, g10⟩ := g
  intro j
  induction j with
  | zero =>
    intro N m hm hN
    obtain ⟨N, rfl⟩ : ∃ x, N = x + 1 := ⟨N - 1, by omega⟩
    show F_X21_count_b4_st (F_X21_count_b4 N) M a _ _ = _
    unfold F_X21_count_b4_st
    have : m = n := by omega
    subst this
    simp only [gi_of g3 (show x_fi 22 1409 = true by decide), g5, Option.bind_some, iw_le4 (show m ≤ 2147483647 by omega) (show m ≤ 2147483647 by omega), Nat.lt_irrefl, if_false]
  | succ j ih =>
    intro N m hm hN
    obtain ⟨N, rfl⟩ : ∃ x, N = x + 1 := ⟨N - 1, by omega⟩
    show F_X21_count_b4_st (F_X21_count_b4 N) M a _ _ = _
    unfold F_X21_count_b4_st
    have hlt : m < n := by omega
    simp only [gi_of g3 (show x_fi 22 1409 = true by decide), gr_of g3 (show x_fr 22 1410 = true by decide), g5, Option.bind_some, iw_le4 (show m ≤ 2147483647 by omega) (show n ≤ 2147483647 by omega), hlt, if_true, g6.ai hn hlt]
    have e1 : iw (prd z m : Nat) * iw (z m : Nat) = iw (prd z (m + 1) : Nat) := by
      rw [iw_mul, ← Int.natCast_mul]
      rfl
    have e2 : iw (m : Int) + 1 = iw ((m + 1 : Nat) : Int) := by rw [show (1 : Int32) = iw 1 from rfl, iw_add]; rfl
    rw [e1, e2]
    exact ih N (m + 1) (by omega) (by omega)
theorem E_count {M : Mem} {a : Nat} {k : Int32} {n : Nat} {z : Nat → Nat} {s : Nat → Int32} {b : Int32} {c : Nat} {p : Int32} (g : GE M a k n z s b c p) (hn : n ≤ 4) : F_X21_count M a = some (iw (prd z n : Nat)) := by
  unfold F_X21_count
  exact E_count_loop g hn n xN 0 (by omega) (by have : xN = 1099511627776 := rfl; omega)
theorem prd_le {z : Nat → Nat} : ∀ m, (∀ i, i < m → z i ≤ 4096) → prd z m ≤ 4096 ^ m
  | 0, _ => Nat.le_refl _
  | m + 1, h => by
    show prd z m * z m ≤ 4096 ^ (m + 1)
    rw [Nat.pow_succ]
    exact Nat.mul_le_mul (prd_le m (fun i hi => h i (by omega))) (h m (by omega))
theorem i64_iw {x : Nat} (h : x < 2147483648) : (iw (x : Int)).toInt64 = nl x := by
  rw [iw_nat]
  exact i64_of h
/-- the model counts in longs -/
theorem M_count_loop {M : Mem} {a n w : Nat} {z : Nat → Nat} (ht : m_tg M a = 1005) (hl : m_ln M a = w) (hw : n ≤ w) (hw2 : w ≤ 4) (hz : ∀ i, i < n → cI M a i = iw (z i) ∧ z i ≤ 4096) : ∀ (j N m : Nat), m + j = n → j + 1 ≤ N → F_X16_count_b5 N M a (iw (n : Int)) (nl (prd z m)) (iw (m : Int)) = some (nl (prd z n)) := by
  intro j
  induction j with
  | zero =>
    intro N m hm hN
    obtain ⟨N, rfl⟩ : ∃ x, N = x + 1 := ⟨N - 1, by omega⟩
    show F_X16_count_b5_st (F_X16_count_b5 N) M a _ _ _ = _
    unfold F_X16_count_b5_st
    have : m = n := by omega
    subst this
    simp only [iw_le4 (show m ≤ 2147483647 by omega) (show m ≤ 2147483647 by omega), Nat.lt_irrefl, if_false]
  | succ j ih =>
    intro N m hm hN
    obtain ⟨N, rfl⟩ : ∃ x, N = x + 1 := ⟨N - 1, by omega⟩
    show F_X16_count_b5_st (F_X16_count_b5 N) M a _ _ _ = _
    unfold F_X16_count_b5_st
    have hlt : m < n := by omega
    have hzm := hz m hlt
    simp only [iw_le4 (show m ≤ 2147483647 by omega) (show n ≤ 2147483647 by omega), hlt, if_true, ai_of ht hl (show m < w by omega) (by omega), hzm.1, Option.bind_some]
    have e1 : nl (prd z m) * (iw (z m : Nat)).toInt64 = nl (prd z (m + 1)) := by
      rw [i64_iw (by omega), nl_mul]
      rfl
    have e2 : iw (m : Int) + 1 = iw ((m + 1 : Nat) : Int) := by rw [show (1 : Int32) = iw 1 from rfl, iw_add]; rfl
    rw [e1, e2]
    exact ih N (m + 1) (by omega) (by omega)
theorem M_count16 {M : Mem} {a n w : Nat} {z : Nat → Nat} (ht : m_tg M a = 1005) (hl : m_ln M a = w) (hw : n ≤ w) (hw2 : w ≤ 4) (hz : ∀ i, i < n → cI M a i = iw (z i) ∧ z i ≤ 4096) : F_X16_count M a (iw (n : Int)) = some (nl (prd z n)) := by
  unfold F_X16_count
  exact M_count_loop ht hl hw hw2 hz n xN 0 (by omega) (by have : xN = 1099511627776 := rfl; omega)
theorem nl_i32' (x : Nat) : (nl x).toInt32 = iw (x : Int) := by
  refine ui_inj ?_
  rw [un_i32, un_nl]
  have : ui (iw (x : Int)) = x % 2 ^ 32 := by
    rw [iw_nat]
    show (BitVec.ofNat 32 x).toNat = _
    rw [BitVec.toNat_ofNat]
  rw [this]
  omega
theorem M_count {M : Mem} {a : Nat} {k : Int32} {n : Nat} {z : Nat → Nat} {s : Nat → Int32} {b : Int32} {c : Nat} {p : Int32} (g : GM M a k n z s b c p) (hn : n ≤ 4) (hz : ∀ i, i < n → z i ≤ 4096) : F_X22_count M a = some (iw (prd z n : Nat)) := by
  obtain ⟨g1, g2, g3, g4, g6, g7, g8, g9, g10⟩ := g
  unfold F_X22_count
  have := M_count16 (n := n) (z := z) g6.2.2.1 g6.2.2.2.1 (Nat.le_refl _) hn (fun i hi => ⟨g6.2.2.2.2 i hi, hz i hi⟩)
  simp only [gr_of g3 (show x_fr 23 1473 = true by decide), an_of g6.2.2.1 (by decide) g6.2.2.2.1, Option.bind_some, this, nl_i32']
/-! places -/
theorem E_place_loop {M : Mem} {a : Nat} {k : Int32} {n : Nat} {z : Nat → Nat} {s : Nat → Int32} {b : Int32} {c : Nat} {p : Int32} (g : GE M a k n z s b c p) (hn : n ≤ 4) (hz : ∀ i, i < n → 0 < z i ∧ z i ≤ 4096) : ∀ (m N x : Nat) (t : Int32), m ≤ n → m + 1 ≤ N → x < 2147483648 → F_X21_place_b15 N M a (iw (x : Int)) t (iw ((m : Int) - 1)) = some (t + iw (plc z s m x)) := by
  obtain ⟨g1, g2, g3, g4, g5, g6, g7, g8, g9, g10⟩ := g
  intro m
  induction m with
  | zero =>
    intro N x t hm hN hx
    obtain ⟨N, rfl⟩ : ∃ y, N = y + 1 := ⟨N - 1, by omega⟩
    show F_X21_place_b15_st (F_X21_place_b15 N) M a _ _ _ = _
    unfold F_X21_place_b15_st
    rw [if_pos (by decide)]
    show some t = some (t + 0)
    rw [Int32.add_zero]
  | succ m ih =>
    intro N x t hm hN hx
    obtain ⟨N, rfl⟩ : ∃ y, N = y + 1 := ⟨N - 1, by omega⟩
    show F_X21_place_b15_st (F_X21_place_b15 N) M a _ _ _ = _
    unfold F_X21_place_b15_st
    have e : ((m + 1 : Nat) : Int) - 1 = (m : Int) := by omega
    have hlt : m < n := by omega
    have hzm := hz m hlt
    have hz0 : ¬ iw (z m : Nat) = 0 := by rw [iw_eq0 (by omega) (by omega)]; omega
    rw [e, if_neg (by rw [iw_lt0 (by omega) (by omega)]; omega)]
    simp only [gr_of g3 (show x_fr 22 1410 = true by decide), gr_of g3 (show x_fr 22 1411 = true by decide), Option.bind_some, g6.ai hn hlt, g7.ai hn hlt, hz0, if_false]
    have e1 : j_irem (iw (x : Int)) (iw (z m : Nat)) = iw ((x % z m : Nat) : Int) := by
      rw [iw_rem (by omega) (by omega) (by omega) (by omega)]
      rfl
    have e2 : iw (x : Int) / iw (z m : Nat) = iw ((x / z m : Nat) : Int) := by
      rw [iw_div (by omega) (by omega) (by omega) (by omega)]
      rfl
    have e3 : iw (m : Int) + -1 = iw ((m : Int) - 1) := by rw [show (-1 : Int32) = iw (-1) from rfl, iw_add]; rfl
    rw [e1, e2, e3]
    have hdiv := Nat.div_le_self x (z m)
    rw [ih N (x / z m) _ (by omega) (by omega) (by omega), Int32.add_assoc]
    refine congrArg (fun y => some (t + y)) ?_
    have e4 : s m = iw (s m).toInt := (iw_of _).symm
    rw [e4, iw_mul, iw_add]
    rfl
theorem E_place {M : Mem} {a : Nat} {k : Int32} {n : Nat} {z : Nat → Nat} {s : Nat → Int32} {b : Int32} {c : Nat} {p : Int32} (g : GE M a k n z s b c p) (hn : n ≤ 4) (hz : ∀ i, i < n → 0 < z i ∧ z i ≤ 4096) {x : Nat} (hx : x < 2147483648) : F_X21_place M a (iw (x : Int)) = some (iw (b.toInt + plc z s n x)) := by
  have g' := g
  obtain ⟨g1, g2, g3, g4, g5, g6, g7, g8, g9, g10⟩ := g
  unfold F_X21_place
  simp only [gi_of g3 (show x_fi 22 1412 = true by decide), gi_of g3 (show x_fi 22 1409 = true by decide), g5, g8, Option.bind_some]
  rw [show (1 : Int32) = iw 1 from rfl, iw_sub, E_place_loop g' hn hz n xN x b (Nat.le_refl _) (by have : xN = 1099511627776 := rfl; omega) hx]
  have : b = iw b.toInt := (iw_of _).symm
  rw [this, iw_add, ← this]
theorem M_place_loop {M : Mem} {a : Nat} {k : Int32} {n : Nat} {z : Nat → Nat} {s : Nat → Int32} {b : Int32} {c : Nat} {p : Int32} (g : GM M a k n z s b c p) (hn : n ≤ 4) (hz : ∀ i, i < n → 0 < z i ∧ z i ≤ 4096) : ∀ (m N x : Nat) (t : Int32), m ≤ n → m + 1 ≤ N → x < 2147483648 → F_X22_place_b16 N M a t (iw (x : Int)) (iw ((m : Int) - 1)) = some (t + iw (plc z s m x)) := by
  obtain ⟨g1, g2, g3, g4, g6, g7, g8, g9, g10⟩ := g
  intro m
  induction m with
  | zero =>
    intro N x t hm hN hx
    obtain ⟨N, rfl⟩ : ∃ y, N = y + 1 := ⟨N - 1, by omega⟩
    show F_X22_place_b16_st (F_X22_place_b16 N) M a _ _ _ = _
    unfold F_X22_place_b16_st
    rw [if_pos (by decide)]
    show some t = some (t + 0)
    rw [Int32.add_zero]
  | succ m ih =>
    intro N x t hm hN hx
    obtain ⟨N, rfl⟩ : ∃ y, N = y + 1 := ⟨N - 1, by omega⟩
    show F_X22_place_b16_st (F_X22_place_b16 N) M a _ _ _ = _
    unfold F_X22_place_b16_st
    have e : ((m + 1 : Nat) : Int) - 1 = (m : Int) := by omega
    have hlt : m < n := by omega
    have hzm := hz m hlt
    have hz0 : ¬ iw (z m : Nat) = 0 := by rw [iw_eq0 (by omega) (by omega)]; omega
    rw [e, if_neg (by rw [iw_lt0 (by omega) (by omega)]; omega)]
    simp only [gr_of g3 (show x_fr 23 1473 = true by decide), gr_of g3 (show x_fr 23 1474 = true by decide), Option.bind_some, g6.ai hn hlt, g7.ai hn hlt, hz0, if_false]
    have e1 : j_irem (iw (x : Int)) (iw (z m : Nat)) = iw ((x % z m : Nat) : Int) := by
      rw [iw_rem (by omega) (by omega) (by omega) (by omega)]
      rfl
    have e2 : iw (x : Int) / iw (z m : Nat) = iw ((x / z m : Nat) : Int) := by
      rw [iw_div (by omega) (by omega) (by omega) (by omega)]
      rfl
    have e3 : iw (m : Int) + -1 = iw ((m : Int) - 1) := by rw [show (-1 : Int32) = iw (-1) from rfl, iw_add]; rfl
    rw [e1, e2, e3]
    have hdiv := Nat.div_le_self x (z m)
    rw [ih N (x / z m) _ (by omega) (by omega) (by omega), Int32.add_assoc]
    refine congrArg (fun y => some (t + y)) ?_
    have e4 : s m = iw (s m).toInt := (iw_of _).symm
    rw [e4, iw_mul, iw_add]
    rfl
theorem M_place {M : Mem} {a : Nat} {k : Int32} {n : Nat} {z : Nat → Nat} {s : Nat → Int32} {b : Int32} {c : Nat} {p : Int32} (g : GM M a k n z s b c p) (hn : n ≤ 4) (hz : ∀ i, i < n → 0 < z i ∧ z i ≤ 4096) {x : Nat} (hx : x < 2147483648) : F_X22_place M a (iw (x : Int)) = some (iw (b.toInt + plc z s n x)) := by
  have g' := g
  obtain ⟨g1, g2, g3, g4, g6, g7, g8, g9, g10⟩ := g
  unfold F_X22_place
  simp only [gi_of g3 (show x_fi 23 1475 = true by decide), gr_of g3 (show x_fr 23 1473 = true by decide), an_of g6.2.2.1 (by decide) g6.2.2.2.1, g8, Option.bind_some]
  rw [show (1 : Int32) = iw 1 from rfl, iw_sub, M_place_loop g' hn hz n xN x b (Nat.le_refl _) (by have : xN = 1099511627776 := rfl; omega) hx]
  have : b = iw b.toInt := (iw_of _).symm
  rw [this, iw_add, ← this]
