/-! ===== GRIDS, 12: all cells into a row ===== -/
theorem E_gather_loop {a b : Nat} {k : Int32} {n : Nat} {z : Nat → Nat} {s t : Nat → Int32} {x y : Int32} {c d L W arr : Nat} {p : Int32} (ha : arr < 1334) (hW : prd z n ≤ W) (hW2 : W ≤ 100000) (v : Nat → Int64) : ∀ (e N i : Nat) (M : Mem), i + e = prd z n → e + 1 ≤ N → GP M a b k n z s t x y c d L p → (∀ x', x' < prd z n → cJ M c (gpos n z s x x') = v x') → m_tg M arr = 1006 → m_ln M arr = W → (∀ x', x' < i → cJ M arr x' = v x') →
    ∃ M', F_X0_gather_b8 N M a arr (iw (prd z n : Nat)) (iw (i : Int)) = some (iw (prd z n : Nat), M') ∧ m_nx M' = m_nx M ∧ m_sl M' = m_sl M ∧ Df n2 (fun a _ => a = arr) n2 M M' ∧ ∀ x', x' < prd z n → cJ M' arr x' = v x' := by
  intro e
  induction e with
  | zero =>
    intro N i M hi hN g hv t1 l1 hx
    obtain ⟨N, rfl⟩ : ∃ x, N = x + 1 := ⟨N - 1, by omega⟩
    have hi : i = prd z n := by omega
    subst hi
    refine ⟨M, ?_, rfl, rfl, Df.refl _ _ _ _, hx⟩
    show F_X0_gather_b8_st (F_X0_gather_b8 N) M _ _ _ _ = _
    unfold F_X0_gather_b8_st
    rw [if_neg (by rw [iw_le4 (by omega) (by omega)]; omega)]
  | succ e ih =>
    intro N i M hi hN g hv t1 l1 hx
    obtain ⟨N, rfl⟩ : ∃ x, N = x + 1 := ⟨N - 1, by omega⟩
    have hlt : i < prd z n := by omega
    have hg := g.get hlt
    have hca : c ≠ arr := by
      have := g.2.2.2.2.2.2.2.1.1
      omega
    have hd : Df n2 (fun a _ => a = arr) n2 M (wJ M arr i (v i)) := Df.wJ _ rfl
    have g2 := g.df hd qt_n2 (fun a' i' h1 h2 => by have h2 : a' = arr := h2; omega) qt_n2
    obtain ⟨M', f1, f2, f3, f4, f5⟩ := ih N (i + 1) (wJ M arr i (v i)) (by omega) (by omega) g2 (fun x' hx' => by rw [cJ_wJ, if_neg (fun hh => hca hh.1)]; exact hv x' hx') t1 l1 (fun x' hx' => by
      rw [cJ_wJ]
      by_cases e : x' = i
      · rw [if_pos ⟨rfl, e⟩, e]
      · rw [if_neg (fun hh => e hh.2)]
        exact hx x' (by omega))
    refine ⟨M', ?_, f2, f3, hd.trans f4, f5⟩
    rw [← f1]
    show F_X0_gather_b8_st (F_X0_gather_b8 N) M _ _ _ _ = _
    unfold F_X0_gather_b8_st
    rw [if_pos (by rw [iw_le4 (by omega) (by omega)]; exact hlt), vg_of g.1.2.2.1 (show x_isa 22 22 = true by decide)]
    simp only [Option.bind_some]
    rw [hg.2.1]
    simp only [Option.bind_some]
    rw [hv i hlt, sj_of (v i) t1 l1 (show i < W by omega) (by omega)]
    simp only [Option.bind_some]
    rw [show iw (i : Int) + 1 = iw ((i + 1 : Nat) : Int) by rw [show (1 : Int32) = iw 1 from rfl, iw_add]; rfl]
theorem E_gather {M : Mem} {a b : Nat} {k : Int32} {n : Nat} {z : Nat → Nat} {s t : Nat → Int32} {x y : Int32} {c d L W arr : Nat} {p : Int32} (g : GP M a b k n z s t x y c d L p) (ha : arr < 1334) (hW : prd z n ≤ W) (hW2 : W ≤ 100000) (t1 : m_tg M arr = 1006) (l1 : m_ln M arr = W) :
    ∃ M', F_X0_gather M 1000 a arr = some (iw (prd z n : Nat), M') ∧ m_nx M' = m_nx M ∧ m_sl M' = m_sl M ∧ Df n2 (fun a _ => a = arr) n2 M M' ∧ ∀ x', x' < prd z n → cJ M' arr x' = cJ M c (gpos n z s x x') := by
  obtain ⟨M', f1, f2⟩ := E_gather_loop ha hW hW2 (fun x' => cJ M c (gpos n z s x x')) (prd z n) xN 0 M (by omega) (by have : xN = 1099511627776 := rfl; omega) g (fun x' _ => rfl) t1 l1 (fun x' h => by omega)
  refine ⟨M', ?_, f2⟩
  unfold F_X0_gather
  rw [vg_of g.1.2.2.1 (show x_isa 22 22 = true by decide)]
  simp only [Option.bind_some]
  rw [E_count g.1 g.2.2.2.1]
  exact f1
theorem M_listed_loop {a b : Nat} {k : Int32} {n : Nat} {z : Nat → Nat} {s t : Nat → Int32} {x y : Int32} {c d L W arr : Nat} {p : Int32} (ha : arr < 1334) (hW : prd z n ≤ W) (hW2 : W ≤ 100000) (v : Nat → Int64) : ∀ (e N i : Nat) (M : Mem), i + e = prd z n → e + 1 ≤ N → GP M a b k n z s t x y c d L p → (∀ x', x' < prd z n → cJ M c (gpos n z s x x') = v x') → m_tg M arr = 1006 → m_ln M arr = W → (∀ x', x' < i → cJ M arr x' = v x') →
    ∃ M', F_X16_listed_b7 N M b arr (iw (prd z n : Nat)) (iw (i : Int)) = some M' ∧ m_nx M' = m_nx M ∧ m_sl M' = m_sl M ∧ Df n2 (fun a _ => a = arr) n2 M M' ∧ ∀ x', x' < prd z n → cJ M' arr x' = v x' := by
  intro e
  induction e with
  | zero =>
    intro N i M hi hN g hv t1 l1 hx
    obtain ⟨N, rfl⟩ : ∃ x, N = x + 1 := ⟨N - 1, by omega⟩
    have hi : i = prd z n := by omega
    subst hi
    refine ⟨M, ?_, rfl, rfl, Df.refl _ _ _ _, hx⟩
    show F_X16_listed_b7_st (F_X16_listed_b7 N) M _ _ _ _ = _
    unfold F_X16_listed_b7_st
    rw [if_neg (by rw [iw_le4 (by omega) (by omega)]; omega)]
  | succ e ih =>
    intro N i M hi hN g hv t1 l1 hx
    obtain ⟨N, rfl⟩ : ∃ x, N = x + 1 := ⟨N - 1, by omega⟩
    have hlt : i < prd z n := by omega
    have hg := g.get hlt
    have hca : c ≠ arr := by
      have := g.2.2.2.2.2.2.2.1.1
      omega
    have hd : Df n2 (fun a _ => a = arr) n2 M (wJ M arr i (v i)) := Df.wJ _ rfl
    have g2 := g.df hd qt_n2 (fun a' i' h1 h2 => by have h2 : a' = arr := h2; omega) qt_n2
    obtain ⟨M', f1, f2, f3, f4, f5⟩ := ih N (i + 1) (wJ M arr i (v i)) (by omega) (by omega) g2 (fun x' hx' => by rw [cJ_wJ, if_neg (fun hh => hca hh.1)]; exact hv x' hx') t1 l1 (fun x' hx' => by
      rw [cJ_wJ]
      by_cases e : x' = i
      · rw [if_pos ⟨rfl, e⟩, e]
      · rw [if_neg (fun hh => e hh.2)]
        exact hx x' (by omega))
    refine ⟨M', ?_, f2, f3, hd.trans f4, f5⟩
    rw [← f1]
    show F_X16_listed_b7_st (F_X16_listed_b7 N) M _ _ _ _ = _
    unfold F_X16_listed_b7_st
    rw [if_pos (by rw [iw_le4 (by omega) (by omega)]; exact hlt), vg_of g.2.1.2.2.1 (show x_isa 23 23 = true by decide)]
    simp only [Option.bind_some]
    rw [hg.2.2]
    simp only [Option.bind_some]
    rw [hv i hlt, sj_of (v i) t1 l1 (show i < W by omega) (by omega)]
    simp only [Option.bind_some]
    rw [show iw (i : Int) + 1 = iw ((i + 1 : Nat) : Int) by rw [show (1 : Int32) = iw 1 from rfl, iw_add]; rfl]
theorem M_listed {M : Mem} {a b : Nat} {k : Int32} {n : Nat} {z : Nat → Nat} {s t : Nat → Int32} {x y : Int32} {c d L W arr : Nat} {p : Int32} (g : GP M a b k n z s t x y c d L p) (ha : arr < 1334) (hW : prd z n ≤ W) (hW2 : W ≤ 100000) (t1 : m_tg M arr = 1006) (l1 : m_ln M arr = W) :
    ∃ M', F_X16_listed M b arr = some M' ∧ m_nx M' = m_nx M ∧ m_sl M' = m_sl M ∧ Df n2 (fun a _ => a = arr) n2 M M' ∧ ∀ x', x' < prd z n → cJ M' arr x' = cJ M c (gpos n z s x x') := by
  obtain ⟨M', f1, f2⟩ := M_listed_loop ha hW hW2 (fun x' => cJ M c (gpos n z s x x')) (prd z n) xN 0 M (by omega) (by have : xN = 1099511627776 := rfl; omega) g (fun x' _ => rfl) t1 l1 (fun x' h => by omega)
  refine ⟨M', ?_, f2⟩
  unfold F_X16_listed
  rw [vg_of g.2.1.2.2.1 (show x_isa 23 23 = true by decide)]
  simp only [Option.bind_some]
  rw [M_count g.2.1 g.2.2.2.1 g.2.2.2.2.1]
  exact f1
