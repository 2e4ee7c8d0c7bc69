/-! ===== LINES along an axis ===== -/
def sk (a j : Nat) : Nat := if j < a then j else j + 1
/-- which cell is the i-th of a line -/
def cn (z : Nat → Nat) (a i : Nat) : Nat → Nat → Nat
  | 0, _ => 0
  | m + 1, k => if m = a then cn z a i m k * z m + i else cn z a i m (k / z m) * z m + k % z m
def pw (z : Nat → Nat) (a : Nat) : Nat → Nat
  | 0 => 1
  | m + 1 => if m = a then pw z a m else pw z a m * z m
def plw (z : Nat → Nat) (s : Nat → Int32) (a : Nat) : Nat → Nat → Int
  | 0, _ => 0
  | m + 1, x => if m = a then plw z s a m x else ((x % z m : Nat) : Int) * (s m).toInt + plw z s a m (x / z m)
theorem pw_lo {z : Nat → Nat} {a : Nat} : ∀ m, m ≤ a → pw z a m = prd (fun j => z (sk a j)) m
  | 0, _ => rfl
  | m + 1, h => by
    show (if m = a then pw z a m else pw z a m * z m) = prd (fun j => z (sk a j)) m * z (sk a m)
    rw [if_neg (by omega), pw_lo m (by omega), show sk a m = m from if_pos (by omega)]
theorem pw_hi {z : Nat → Nat} {a : Nat} : ∀ m, a ≤ m → pw z a (m + 1) = prd (fun j => z (sk a j)) m
  | 0, h => by
    have : a = 0 := by omega
    subst this
    rfl
  | m + 1, h => by
    show (if m + 1 = a then pw z a (m + 1) else pw z a (m + 1) * z (m + 1)) = prd (fun j => z (sk a j)) m * z (sk a m)
    by_cases c : m + 1 = a
    · rw [if_pos c, pw_lo (m + 1) (by omega)]
      rfl
    · rw [if_neg c, pw_hi m (by omega), show sk a m = m + 1 from if_neg (by omega)]
theorem plw_lo {z : Nat → Nat} {s : Nat → Int32} {a : Nat} : ∀ m x, m ≤ a → plw z s a m x = plc (fun j => z (sk a j)) (fun j => s (sk a j)) m x
  | 0, _, _ => rfl
  | m + 1, x, h => by
    show (if m = a then plw z s a m x else ((x % z m : Nat) : Int) * (s m).toInt + plw z s a m (x / z m)) = ((x % z (sk a m) : Nat) : Int) * (s (sk a m)).toInt + plc (fun j => z (sk a j)) (fun j => s (sk a j)) m (x / z (sk a m))
    rw [if_neg (by omega), plw_lo m _ (by omega), show sk a m = m from if_pos (by omega)]
theorem plw_hi {z : Nat → Nat} {s : Nat → Int32} {a : Nat} : ∀ m x, a ≤ m → plw z s a (m + 1) x = plc (fun j => z (sk a j)) (fun j => s (sk a j)) m x
  | 0, x, h => by
    have : a = 0 := by omega
    subst this
    rfl
  | m + 1, x, h => by
    show (if m + 1 = a then plw z s a (m + 1) x else ((x % z (m + 1) : Nat) : Int) * (s (m + 1)).toInt + plw z s a (m + 1) (x / z (m + 1))) = ((x % z (sk a m) : Nat) : Int) * (s (sk a m)).toInt + plc (fun j => z (sk a j)) (fun j => s (sk a j)) m (x / z (sk a m))
    by_cases c : m + 1 = a
    · rw [if_pos c, plw_lo (m + 1) x (by omega)]
      rfl
    · rw [if_neg c, plw_hi m _ (by omega), show sk a m = m + 1 from if_neg (by omega)]
theorem cn_lt {z : Nat → Nat} {a i : Nat} (hi : i < z a) : ∀ m k, (∀ j, j < m → 0 < z j) → k < pw z a m → cn z a i m k < prd z m
  | 0, k, _, _ => by show 0 < 1; omega
  | m + 1, k, hz, hk => by
    show (if m = a then cn z a i m k * z m + i else cn z a i m (k / z m) * z m + k % z m) < prd z m * z m
    have hk' : k < (if m = a then pw z a m else pw z a m * z m) := hk
    have h0 := hz m (by omega)
    by_cases c : m = a
    · rw [if_pos c] at hk' ⊢
      have := cn_lt hi m k (fun j hj => hz j (by omega)) hk'
      have e := Nat.mul_le_mul_right (z m) (show cn z a i m k + 1 ≤ prd z m by omega)
      rw [Nat.add_mul] at e
      have : i < z m := by rw [c]; exact hi
      omega
    · rw [if_neg c] at hk' ⊢
      have := cn_lt hi m (k / z m) (fun j hj => hz j (by omega)) (Nat.div_lt_of_lt_mul (by rw [Nat.mul_comm]; exact hk'))
      have e := Nat.mul_le_mul_right (z m) (show cn z a i m (k / z m) + 1 ≤ prd z m by omega)
      rw [Nat.add_mul] at e
      have := Nat.mod_lt k h0
      omega
theorem md_add {q z i : Nat} (h : i < z) : (q * z + i) % z = i ∧ (q * z + i) / z = q := by
  refine ⟨?_, ?_⟩
  · rw [Nat.add_comm, Nat.add_mul_mod_self_right, Nat.mod_eq_of_lt h]
  · rw [Nat.add_comm, Nat.add_mul_div_right _ _ (by omega), Nat.div_eq_of_lt h, Nat.zero_add]
theorem cn_plc {z : Nat → Nat} {s : Nat → Int32} {a i : Nat} (hi : i < z a) : ∀ m k, (∀ j, j < m → 0 < z j) → plc z s m (cn z a i m k) = plw z s a m k + (if a < m then (i : Int) * (s a).toInt else 0)
  | 0, k, _ => by rw [if_neg (by omega)]; rfl
  | m + 1, k, hz => by
    show ((cn z a i (m + 1) k % z m : Nat) : Int) * (s m).toInt + plc z s m (cn z a i (m + 1) k / z m) = (if m = a then plw z s a m k else ((k % z m : Nat) : Int) * (s m).toInt + plw z s a m (k / z m)) + _
    have ec : cn z a i (m + 1) k = if m = a then cn z a i m k * z m + i else cn z a i m (k / z m) * z m + k % z m := rfl
    have h0 := hz m (by omega)
    by_cases c : m = a
    · rw [if_pos c] at ec ⊢
      rw [ec, (md_add (show i < z m by rw [c]; exact hi)).1, (md_add (show i < z m by rw [c]; exact hi)).2, cn_plc hi m k (fun j hj => hz j (by omega)), if_neg (by omega), if_pos (by omega), c]
      omega
    · rw [if_neg c] at ec ⊢
      rw [ec, (md_add (Nat.mod_lt k h0)).1, (md_add (Nat.mod_lt k h0)).2, cn_plc hi m (k / z m) (fun j hj => hz j (by omega))]
      by_cases c' : a < m
      · rw [if_pos c', if_pos (by omega)]
        omega
      · rw [if_neg c', if_neg (by omega)]
        omega
theorem GP.at {M : Mem} {a b : Nat} {k : Int32} {n : Nat} {z : Nat → Nat} {s t : Nat → Int32} {x y : Int32} {c d L : Nat} {p : Int32} (g : GP M a b k n z s t x y c d L p) {j : Nat} (hj : j < prd z n) : x.toInt + plc z s n j = (gpos n z s x j : Int) ∧ y.toInt + plc z t n j = (gpos n z s x j : Int) ∧ gpos n z s x j < L := by
  obtain ⟨gE, gM, hk, hn, hz, hc, hp, hC, hv⟩ := g
  have h0 : prd z n ≠ 0 := by omega
  have hz0 := (prd_pos n).mp h0
  obtain ⟨v1, v2, v3⟩ := hv h0
  have hd : ∀ i, i < n → dg z n j i < z i := fun i hi => dg_lt n j i hi (hz0 i hi)
  have hr := v3.pos hd
  have e3 : plc z t n j = plc z s n j := by rw [plc_sm, plc_sm, sm_ag n hd v2]
  rw [← plc_sm] at hr
  have hq : x.toInt + plc z s n j = (gpos n z s x j : Int) := by unfold gpos; omega
  exact ⟨hq, by rw [e3, ← v1, hq], by omega⟩
theorem E_line_loop {M : Mem} {o : Nat} {k : Int32} {n a : Nat} {z : Nat → Nat} {s : Nat → Int32} {b : Int32} {c : Nat} {p : Int32} (g : GE M o k n z s b c p) (hn : n ≤ 4) (ha : a < n) (hz : ∀ i, i < n → i ≠ a → 0 < z i) (hz2 : ∀ i, i < n → z i ≤ 4096) : ∀ (m N x : Nat) (t : Int32), m ≤ n → m + 1 ≤ N → x < 2147483648 → F_X0_lineOf_b31 N M 1000 o (iw (a : Int)) t (iw (x : Int)) (iw ((m : Int) - 1)) = F_X0_lineOf_b89 xN M 1000 o (iw (a : Int)) (t + iw (plw z s a m x)) 0 := by
  obtain ⟨g1, g2, g3, g4, g5, g6, g7, g8, g9, g10⟩ := g
  intro m
  induction m with
  | zero =>
    intro N x t hm hN hx
    obtain ⟨N, rfl⟩ : ∃ y, N = y + 1 := ⟨N - 1, by omega⟩
    show F_X0_lineOf_b31_st (F_X0_lineOf_b31 N) M 1000 o _ _ _ _ = _
    unfold F_X0_lineOf_b31_st
    rw [if_pos (by decide)]
    show F_X0_lineOf_b89 xN M 1000 o (iw (a : Int)) t 0 = F_X0_lineOf_b89 xN M 1000 o (iw (a : Int)) (t + 0) 0
    rw [Int32.add_zero]
  | succ m ih =>
    intro N x t hm hN hx
    obtain ⟨N, rfl⟩ : ∃ y, N = y + 1 := ⟨N - 1, by omega⟩
    show F_X0_lineOf_b31_st (F_X0_lineOf_b31 N) M 1000 o _ _ _ _ = _
    unfold F_X0_lineOf_b31_st F_X0_lineOf_b80
    have e : ((m + 1 : Nat) : Int) - 1 = (m : Int) := by omega
    have hlt : m < n := by omega
    have e3 : iw (m : Int) + -1 = iw ((m : Int) - 1) := by rw [show (-1 : Int32) = iw (-1) from rfl, iw_add]; rfl
    rw [e, if_neg (by rw [iw_lt0 (by omega) (by omega)]; omega), e3]
    have ep : plw z s a (m + 1) x = if m = a then plw z s a m x else ((x % z m : Nat) : Int) * (s m).toInt + plw z s a m (x / z m) := rfl
    by_cases ca : m = a
    · rw [if_pos (by rw [ca]), ep, if_pos ca]
      exact ih N x t (by omega) (by omega) hx
    · have h0 := hz m hlt ca
      have h1 := hz2 m hlt
      have hz0 : ¬ iw (z m : Nat) = 0 := by rw [iw_eq0 (by omega) (by omega)]; omega
      rw [if_neg (by rw [iw_eq (by omega) (by omega) (by omega) (by omega)]; omega)]
      simp only [gr_of g3 (show x_fr 22 1410 = true by decide), gr_of g3 (show x_fr 22 1411 = true by decide), Option.bind_some, g6.ai hn hlt, g7.ai hn hlt, hz0, if_false]
      have e1 : j_irem (iw (x : Int)) (iw (z m : Nat)) = iw ((x % z m : Nat) : Int) := by
        rw [iw_rem (by omega) (by omega) (by omega) (by omega)]
        rfl
      have e2 : iw (x : Int) / iw (z m : Nat) = iw ((x / z m : Nat) : Int) := by
        rw [iw_div (by omega) (by omega) (by omega) (by omega)]
        rfl
      rw [e1, e2]
      have hdiv := Nat.div_le_self x (z m)
      rw [ih N (x / z m) _ (by omega) (by omega) (by omega), Int32.add_assoc, ep, if_neg ca]
      refine congrArg (fun y => F_X0_lineOf_b89 xN M 1000 o (iw (a : Int)) (t + y) 0) ?_
      have e4 : s m = iw (s m).toInt := (iw_of _).symm
      rw [e4, iw_mul, iw_add, ← e4]
theorem E_lineput_loop {o b : Nat} {k : Int32} {n a : Nat} {z : Nat → Nat} {s t : Nat → Int32} {x y : Int32} {c d L : Nat} {p : Int32} (ha : a < n) (lk : Nat) (hk : lk < pw z a n) (hz : ∀ i, i < n → i ≠ a → 0 < z i) (v : Nat → Int64) : ∀ (e N i : Nat) (M : Mem), i + e = z a → e + 1 ≤ N → ST M → GP M o b k n z s t x y c d L p → (∀ i', i' < z a → cJ M c (gpos n z s x (cn z a i' n lk)) = v i') → (∀ i', i' < i → cJ M 1058 i' = v i') →
    ∃ M', F_X0_lineOf_b89 N M 1000 o (iw (a : Int)) (x + iw (plw z s a n lk)) (iw (i : Int)) = some (iw (z a : Nat), M') ∧ m_nx M' = m_nx M ∧ m_sl M' = m_sl M ∧ Df n2 (at1 1058) n2 M M' ∧ ∀ i', i' < z a → cJ M' 1058 i' = v i' := by
  intro e
  induction e with
  | zero =>
    intro N i M hi hN sM g hv hx
    obtain ⟨N, rfl⟩ : ∃ x, N = x + 1 := ⟨N - 1, by omega⟩
    have hn := g.2.2.2.1
    have hz2 := g.2.2.2.2.1
    have := hz2 a ha
    refine ⟨M, ?_, rfl, rfl, Df.refl _ _ _ _, fun i' h => hx i' (by omega)⟩
    show F_X0_lineOf_b89_st (F_X0_lineOf_b89 N) M _ _ _ _ _ = _
    unfold F_X0_lineOf_b89_st
    simp only [gr_of g.1.2.2.1 (show x_fr 22 1410 = true by decide), g.1.2.2.2.2.2.1.ai hn ha, Option.bind_some]
    rw [if_neg (by rw [iw_le4 (by omega) (by omega)]; omega)]
  | succ e ih =>
    intro N i M hi hN sM g hv hx
    obtain ⟨N, rfl⟩ : ∃ x, N = x + 1 := ⟨N - 1, by omega⟩
    have hn := g.2.2.2.1
    have hz2 := g.2.2.2.2.1
    have hza := hz2 a ha
    have hlt : i < z a := by omega
    have hz0 : ∀ j, j < n → 0 < z j := fun j hj => by
      by_cases c : j = a
      · rw [c]; omega
      · exact hz j hj c
    have hc := cn_lt hlt n lk hz0 hk
    obtain ⟨q1, q2, q3⟩ := g.at hc
    rw [cn_plc hlt n lk hz0, if_pos ha] at q1
    have cp := g.2.2.2.2.2.2.2.1
    have hd : Df n2 (at1 1058) n2 M (wJ M 1058 i (v i)) := Df.wJ _ rfl
    have hca : c ≠ 1058 := by have := cp.1; omega
    obtain ⟨M', f1, f2, f3, f4, f5⟩ := ih N (i + 1) (wJ M 1058 i (v i)) (by omega) (by omega) sM (g.df hd qt_n2 (qt_at1 (by decide)) qt_n2) (fun i' h' => by rw [cJ_wJ, if_neg (fun hh => hca hh.1)]; exact hv i' h') (fun i' h' => by
      rw [cJ_wJ]
      by_cases e : i' = i
      · rw [if_pos ⟨rfl, e⟩, e]
      · rw [if_neg (fun hh => e hh.2)]
        exact hx i' (by omega))
    refine ⟨M', ?_, f2, f3, hd.trans f4, f5⟩
    rw [← f1]
    show F_X0_lineOf_b89_st (F_X0_lineOf_b89 N) M _ _ _ _ _ = _
    unfold F_X0_lineOf_b89_st
    have e4 : s a = iw (s a).toInt := (iw_of _).symm
    have e5 : x = iw x.toInt := (iw_of _).symm
    have pos : x + iw (plw z s a n lk) + iw (i : Int) * s a = iw (gpos n z s x (cn z a i n lk) : Nat) := by
      rw [e4, iw_mul]
      rw [show x + iw (plw z s a n lk) = iw x.toInt + iw (plw z s a n lk) by rw [iw_of], iw_add, iw_add]
      congr 1
      omega
    simp only [gr_of g.1.2.2.1 (show x_fr 22 1410 = true by decide), gr_of g.1.2.2.1 (show x_fr 22 1411 = true by decide), gr_of g.1.2.2.1 (show x_fr 22 1413 = true by decide), g.1.2.2.2.2.2.1.ai hn ha, g.1.2.2.2.2.2.2.1.ai hn ha, g.1.2.2.2.2.2.2.2.2.1, g1000_82 sM, Option.bind_some]
    rw [if_pos (by rw [iw_le4 (by omega) (by omega)]; omega), pos, al_of cp.2.2.2.2.1 cp.2.2.2.2.2.2.1 q3 (by have := cp.2.2.2.2.2.2.2.2.1; omega), hv i hlt]
    simp only [Option.bind_some]
    rw [sj_of (v i) (t1058 sM) (l1058 sM) (show i < 100000 by omega) (by omega)]
    simp only [Option.bind_some, iw_succ]
theorem E_lineOf {M : Mem} {o b : Nat} {k : Int32} {n a : Nat} {z : Nat → Nat} {s t : Nat → Int32} {x y : Int32} {c d L : Nat} {p : Int32} (h : ST M) (g : GP M o b k n z s t x y c d L p) (ha : a < n) {lk : Nat} (hk : lk < pw z a n) (hk2 : lk < 2147483648) (hz : ∀ i, i < n → i ≠ a → 0 < z i) :
    ∃ M', F_X0_lineOf M 1000 o (iw (a : Int)) (iw (lk : Int)) = some (iw (z a : Nat), M') ∧ m_nx M' = m_nx M ∧ m_sl M' = m_sl M ∧ Df n2 (at1 1058) n2 M M' ∧ ∀ i', i' < z a → cJ M' 1058 i' = cJ M c (gpos n z s x (cn z a i' n lk)) := by
  have hxN : xN = 1099511627776 := rfl
  have hn := g.2.2.2.1
  have hza := g.2.2.2.2.1 a ha
  obtain ⟨M', f1, f2⟩ := E_lineput_loop ha lk hk hz (fun i' => cJ M c (gpos n z s x (cn z a i' n lk))) (z a) xN 0 M (by omega) (by omega) h g (fun i' _ => rfl) (fun i' h => by omega)
  refine ⟨M', ?_, f2⟩
  unfold F_X0_lineOf
  rw [if_neg (by rw [iw_lt0 (by omega) (by omega)]; omega), gi_of g.1.2.2.1 (show x_fi 22 1412 = true by decide), gi_of g.1.2.2.1 (show x_fi 22 1409 = true by decide), g.1.2.2.2.2.1, g.1.2.2.2.2.2.2.2.1]
  simp only [Option.bind_some]
  rw [show (1 : Int32) = iw 1 from rfl, iw_sub, E_line_loop g.1 hn ha hz g.2.2.2.2.1 n xN lk x (Nat.le_refl _) (by omega) hk2]
  exact f1
