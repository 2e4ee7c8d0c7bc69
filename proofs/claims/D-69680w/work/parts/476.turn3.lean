/-! ===== NUMBERS, 7: all places turned round ===== -/
theorem rev_0 : ∀ m, rev m 0 = 0
  | 0 => rfl
  | m + 1 => by
    show 0 % 2 * 2 ^ m + rev m (0 / 2) = 0
    rw [Nat.zero_mod, Nat.zero_mul, Nat.zero_div, rev_0 m]
theorem xch_j {M : Mem} {k j i : Nat} : cJ (xch M k j) 1036 i = if k < j then (if i = j then cJ M 1036 k else if i = k then cJ M 1036 j else cJ M 1036 i) else cJ M 1036 i := by
  unfold xch
  by_cases c : k < j
  · rw [if_pos c, if_pos c, cJ_wJ]
    by_cases e : i = j
    · rw [if_pos ⟨rfl, e⟩, if_pos e]
    · rw [if_neg (by omega), if_neg e, cJ_wJ]
      by_cases e2 : i = k
      · rw [if_pos ⟨rfl, e2⟩, if_pos e2]
      · rw [if_neg (by omega), if_neg e2]
  · rw [if_neg c, if_neg c]
theorem xch_f {M : Mem} {k j : Nat} (h : ST M) : ST (xch M k j) ∧ Df n2 (at1 1036) n2 M (xch M k j) ∧ m_nx (xch M k j) = m_nx M ∧ m_sl (xch M k j) = m_sl M := by
  unfold xch
  by_cases c : k < j
  · rw [if_pos c]
    exact ⟨h, (Df.wJ (P := n2) (Q := at1 1036) (R := n2) (M := M) (a := 1036) (i := k) _ rfl).trans (Df.wJ (P := n2) (Q := at1 1036) (R := n2) (a := 1036) (i := j) _ rfl), rfl, rfl⟩
  · rw [if_neg c]
    exact ⟨h, Df.refl _ _ _ _, rfl, rfl⟩
theorem turn_l {m n : Nat} {X : Nat → Int64} (hm : 1 ≤ m) (hm2 : m ≤ 10) (hn : n = 2 ^ m) : ∀ (e N k : Nat) (M : Mem), k + e = n → 1 ≤ k → ST M → (∀ i, i < n → cJ M 1036 i = if i < k ∨ rev m i < k then X (rev m i) else X i) → ∃ M', F_X10_turn_b4 (N + 1 + e) M 1035 (iw (n : Int)) (iw (rev m (k - 1) : Nat)) (iw (k : Int)) = some M' ∧ ST M' ∧ (∀ i, i < n → cJ M' 1036 i = X (rev m i)) ∧ Df n2 (at1 1036) n2 M M' ∧ m_nx M' = m_nx M ∧ m_sl M' = m_sl M := by
  have hxN : xN = 1099511627776 := rfl
  have n2 : ¬ (2 : Int32) = 0 := by decide
  have hn1024 : n ≤ 1024 := by
    rw [hn]
    exact Nat.pow_le_pow_right (n := 2) (by decide) hm2
  obtain ⟨t, ht⟩ : ∃ t, m = t + 1 := ⟨m - 1, by omega⟩
  have hhalf : iw (n : Int) / (2 : Int32) = iw ((2 ^ t : Nat) : Int) := by
    rw [show iw (n : Int) / (2 : Int32) = iw ((n / 2 : Nat) : Int) from idiv_n (b := 2) (by omega) (by decide) (by decide), hn, ht, Nat.pow_succ, Nat.mul_div_cancel _ (by decide)]
  intro e
  induction e with
  | zero =>
    intro N k M hk h1 h hinv
    refine ⟨M, ?_, h, fun i hi => by rw [hinv i hi, if_pos (Or.inl (by omega))], Df.refl _ _ _ _, rfl, rfl⟩
    show F_X10_turn_b4_st (F_X10_turn_b4 N) M 1035 _ _ _ = _
    unfold F_X10_turn_b4_st
    rw [if_neg (by rw [iw_le4 (by omega) (by omega)]; omega)]
  | succ e ih =>
    intro N k M hk h1 h hinv
    have s : F_X10_turn_b4 (N + 1 + (e + 1)) M 1035 (iw (n : Int)) (iw (rev m (k - 1) : Nat)) (iw (k : Int)) = F_X10_turn_b4_st (F_X10_turn_b4 (N + 1 + e)) M 1035 (iw (n : Int)) (iw (rev m (k - 1) : Nat)) (iw (k : Int)) := rfl
    obtain ⟨N', hN'⟩ : ∃ N', N' + 1 + t = xN := ⟨xN - 1 - t, by omega⟩
    have hrk : rinc m (rev m (k - 1)) = rev m k := by
      have := rinc_rev m (k - 1) (by omega)
      rw [show k - 1 + 1 = k by omega] at this
      exact this
    have hlt := rev_lt m (k - 1)
    have hkn : k < 2 ^ m := by omega
    have hne : rev m (k - 1) + 1 < 2 ^ m := by
      refine Classical.byContradiction (fun hh => ?_)
      have e1 : rev m (k - 1) = 2 ^ m - 1 := by omega
      -- the last place is turned into itself
      have allones : ∀ q, rev q (2 ^ q - 1) = 2 ^ q - 1 := fun q => by
        induction q with
        | zero => rfl
        | succ q ihq =>
          have p0 : 0 < 2 ^ q := Nat.pow_pos (by decide)
          show (2 ^ (q + 1) - 1) % 2 * 2 ^ q + rev q ((2 ^ (q + 1) - 1) / 2) = _
          rw [Nat.pow_succ, show (2 ^ q * 2 - 1) % 2 = 1 by omega, show (2 ^ q * 2 - 1) / 2 = 2 ^ q - 1 by omega, ihq]
          omega
      have e2 := rev_rev m (k - 1) (by omega)
      rw [e1, allones m] at e2
      omega
    obtain ⟨j, hj⟩ : ∃ j, j = rev m k := ⟨_, rfl⟩
    have hjr : rev m j = k := by rw [hj]; exact rev_rev m k hkn
    have hjn : j < n := by rw [hj, hn]; exact rev_lt m k
    obtain ⟨f1, f2, f3, f4⟩ := xch_f (k := k) (j := j) h
    have hstep : F_X10_turn_b4_st (F_X10_turn_b4 (N + 1 + e)) M 1035 (iw (n : Int)) (iw (rev m (k - 1) : Nat)) (iw (k : Int)) = F_X10_turn_b4 (N + 1 + e) (xch M k j) 1035 (iw (n : Int)) (iw (j : Nat)) (iw ((k + 1 : Nat) : Int)) := by
      unfold F_X10_turn_b4_st
      rw [if_pos (by rw [iw_le4 (by omega) (by omega)]; omega), if_neg n2, hhalf, ← hN']
      have := turn_in (k4 := F_X10_turn_b4 (N + 1 + e)) (n := n) h (show k < 1024 by omega) t N' (rev m (k - 1)) (by omega) (by rw [← ht]; exact hne)
      rw [← ht, hrk, ← hj] at this
      exact this
    obtain ⟨M', y1, y2, y3, y4, y5, y6⟩ := ih N (k + 1) (xch M k j) (by omega) (by omega) f1 (fun i hi => by
      have hri : rev m (rev m i) = i := rev_rev m i (by omega)
      have vk := hinv k (by omega)
      have vj := hinv j hjn
      have vi := hinv i hi
      rw [← hj] at vk
      rw [hjr] at vj
      rw [xch_j]
      by_cases c : k < j
      · rw [if_pos c]
        rw [if_neg (by omega)] at vk vj
        by_cases e1 : i = j
        · rw [if_pos e1, vk, e1, hjr, if_pos (Or.inr (by omega))]
        · rw [if_neg e1]
          by_cases e2 : i = k
          · rw [if_pos e2, vj, e2, ← hj, if_pos (Or.inl (by omega))]
          · have e3 : rev m i ≠ k := fun e => e1 (by rw [← hri, e, hj])
            rw [if_neg e2, vi]
            by_cases c2 : i < k ∨ rev m i < k
            · rw [if_pos c2, if_pos (by omega)]
            · rw [if_neg c2, if_neg (by omega)]
      · rw [if_neg c, vi]
        by_cases c2 : i < k ∨ rev m i < k
        · rw [if_pos c2, if_pos (by omega)]
        · rw [if_neg c2]
          by_cases c3 : i < k + 1 ∨ rev m i < k + 1
          · rw [if_pos c3]
            -- then i is k and turned into itself
            have : i = k ∨ rev m i = k := by omega
            rcases this with e1 | e1
            · have : rev m i = j := by rw [e1, hj]
              rw [show rev m i = i by omega]
            · have : i = j := by rw [← hri, e1, hj]
              rw [show rev m i = i by omega]
          · rw [if_neg c3])
    rw [show k + 1 - 1 = k by omega, ← hj] at y1
    rw [s, hstep]
    exact ⟨M', y1, y2, y3, f2.trans y4, y5.trans f3, y6.trans f4⟩
theorem E_turn {M : Mem} {m n : Nat} (h : ST M) (hm2 : m ≤ 10) (hn : n = 2 ^ m) : ∃ M', F_X10_turn M 1035 (iw (n : Int)) = some M' ∧ ST M' ∧ (∀ i, i < n → cJ M' 1036 i = cJ M 1036 (rev m i)) ∧ Df n2 (at1 1036) n2 M M' ∧ m_nx M' = m_nx M ∧ m_sl M' = m_sl M := by
  have hxN : xN = 1099511627776 := rfl
  by_cases c : m = 0
  · subst c
    have n1 : n = 1 := hn
    subst n1
    refine ⟨M, ?_, h, fun i hi => by rw [show i = 0 by omega]; rfl, Df.refl _ _ _ _, rfl, rfl⟩
    have hx1 : xN = (1099511627775 : Nat) + 1 := rfl
    unfold F_X10_turn
    rw [hx1]
    show F_X10_turn_b4_st (F_X10_turn_b4 1099511627775) M 1035 _ _ _ = _
    unfold F_X10_turn_b4_st
    rw [if_neg (by decide)]
  · have np : 2 ≤ n := by
      rw [hn]
      exact Nat.pow_le_pow_right (n := 2) (i := 1) (by decide) (show 1 ≤ m by omega)
    have hn1024 : n ≤ 1024 := by
      rw [hn]
      exact Nat.pow_le_pow_right (n := 2) (by decide) hm2
    obtain ⟨e, he⟩ : ∃ e, e = n - 1 := ⟨_, rfl⟩
    obtain ⟨N, hN⟩ : ∃ N, N + 1 + e = xN := ⟨xN - 1 - e, by omega⟩
    have := turn_l (X := fun i => cJ M 1036 i) (show 1 ≤ m by omega) hm2 hn e N 1 M (by omega) (Nat.le_refl _) h (fun i hi => by
      by_cases c0 : i = 0
      · rw [c0, rev_0, if_pos (Or.inl (by omega))]
      · have : rev m i ≠ 0 := fun e => by
          have e2 := rev_rev m i (by omega)
          rw [e, rev_0] at e2
          omega
        rw [if_neg (by omega)])
    rw [hN, show (1 : Nat) - 1 = 0 from rfl, rev_0] at this
    exact this
