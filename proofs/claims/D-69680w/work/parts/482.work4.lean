/-! ===== NUMBERS, 13: the way back: every cell times a number ===== -/
theorem back_l {p n U : Nat} {y : Nat → Nat} (h2 : 2 ≤ p) (hp : p ≤ 1000000007) (hU : U < p) (hn : n ≤ 1024) (hy : ∀ i, i < n → y i < p) : ∀ (e N k : Nat) (M : Mem), k + e = n → ST M → cJ M 1035 705 = nl p → (∀ i, k ≤ i → i < n → cJ M 1036 i = nl (y i)) →
    ∃ M', F_X10_work_b126 (N + 1 + e) M 1035 (iw (n : Int)) (nl U) (iw (k : Int)) = some M' ∧ ST M' ∧ (∀ i, k ≤ i → i < n → cJ M' 1036 i = nl (y i * U % p)) ∧ (∀ i, i < k → cJ M' 1036 i = cJ M 1036 i) ∧ Df n2 (at1 1036) n2 M M' ∧ m_nx M' = m_nx M ∧ m_sl M' = m_sl M := by
  have np : ¬ nl p = 0 := fun hh => by
    have := (nl_eq (m := p) (n := 0) (by omega) (by omega)).mp hh
    omega
  intro e
  induction e with
  | zero =>
    intro N k M hk h hP hr
    refine ⟨M, ?_, h, fun i h1 h2 => by omega, fun i _ => rfl, Df.refl _ _ _ _, rfl, rfl⟩
    show F_X10_work_b126_st (F_X10_work_b126 N) M 1035 _ _ _ = _
    unfold F_X10_work_b126_st
    rw [if_neg (by rw [iw_le4 (by omega) (by omega)]; omega)]
  | succ e ih =>
    intro N k M hk h hP hr
    have r := hr k (Nat.le_refl _) (by omega)
    have hyk := hy k (by omega)
    have bw : y k * U ≤ 1000000007 * 1000000007 := Nat.mul_le_mul (by omega) (by omega)
    obtain ⟨A, hA⟩ : ∃ A, A = wJ M 1036 k (nl (y k * U % p)) := ⟨_, rfl⟩
    have sA : ST A := hA ▸ h
    have PA : cJ A 1035 705 = nl p := by rw [hA, cJ_wJ, if_neg (by omega)]; exact hP
    have eA : ∀ i, i ≠ k → cJ A 1036 i = cJ M 1036 i := fun i hi => by rw [hA, cJ_wJ, if_neg (by omega)]
    have hd : F_X10_work_b126 (N + 1 + (e + 1)) M 1035 (iw (n : Int)) (nl U) (iw (k : Int)) = F_X10_work_b126 (N + 1 + e) A 1035 (iw (n : Int)) (nl U) (iw ((k + 1 : Nat) : Int)) := by
      show F_X10_work_b126_st (F_X10_work_b126 (N + 1 + e)) M 1035 _ _ _ = _
      unfold F_X10_work_b126_st
      rw [if_pos (by rw [iw_le4 (by omega) (by omega)]; omega)]
      simp only [g1035_704, g1035_705, h, hP, al_of (t1036 h) (l1036 h) (show k < 1024 by omega) (show (1024 : Nat) < 2147483648 by decide), r, np, if_false, Option.bind_some]
      rw [nl_mul, nl_rem (by omega) (by omega), sj_of _ (t1036 h) (l1036 h) (show k < 1024 by omega) (show (1024 : Nat) < 2147483648 by decide), ← hA, Option.bind_some, iw_succ]
    obtain ⟨M', y1, y2, y3, y4, y5, y6, y7⟩ := ih N (k + 1) A (by omega) sA PA (fun i h1 h2 => by rw [eA i (by omega)]; exact hr i (by omega) h2)
    refine ⟨M', by rw [hd, y1], y2, fun i h1 h2 => ?_, fun i hi => by rw [y4 i (by omega), eA i (by omega)], Df.trans (by rw [hA]; exact Df.wJ _ rfl) y5, y6.trans (by rw [hA]; rfl), y7.trans (by rw [hA]; rfl)⟩
    by_cases c : i = k
    · subst c
      rw [y4 i (by omega), hA, cJ_wJ, if_pos ⟨rfl, rfl⟩]
    · exact y3 i (by omega) h2
