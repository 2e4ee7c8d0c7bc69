/-! ===== NUMBERS, 17: powers of two; the model's last loop ===== -/
theorem pow2_10 : ∀ n, n < 1025 → (n = 0 ∨ n &&& (n - 1) ≠ 0 ∨ n = 2 ^ Nat.log2 n) := by decide +kernel
theorem pow2_of {n : Nat} (h1 : 1 ≤ n) (h2 : n ≤ 1024) (h : n &&& (n - 1) = 0) : ∃ m, m ≤ 10 ∧ n = 2 ^ m := by
  rcases pow2_10 n (by omega) with e | e | e
  · omega
  · exact absurd h e
  · refine ⟨Nat.log2 n, ?_, e⟩
    refine Classical.byContradiction (fun hh => ?_)
    have : 2 ^ 11 ≤ 2 ^ Nat.log2 n := Nat.pow_le_pow_right (by decide) (by omega)
    omega
theorem M_l296 {p n U : Nat} {y : Nat → Nat} (h2 : 2 ≤ p) (hp : p ≤ 1000000007) (hU : U < p) (hn : n ≤ 1024) (hy : ∀ i, i < n → y i < p) : ∀ (e N k : Nat) (M : Mem), k + e = n → ST M → (∀ i, k ≤ i → i < n → cJ M 1073 i = nl (y i)) →
    ∃ M', F_X16_residues_b296 (N + 1 + e) M 1068 (iw (p : Int)) (iw (n : Int)) (nl U) (iw (k : Int)) = F_X16_residues_b296 (N + 1) M' 1068 (iw (p : Int)) (iw (n : Int)) (nl U) (iw (n : Int)) ∧ ST M' ∧ (∀ i, k ≤ i → i < n → cJ M' 1073 i = nl (y i * U % p)) ∧ (∀ i, i < k → cJ M' 1073 i = cJ M 1073 i) ∧ Df n2 (at1 1073) n2 M M' ∧ m_nx M' = m_nx M ∧ m_sl M' = m_sl M := by
  have e64 : (iw (p : Int)).toInt64 = nl p := i64_iw (by omega)
  have np : ¬ nl p = 0 := fun hh => by
    have := (nl_eq (m := p) (n := 0) (by omega) (by omega)).mp hh
    omega
  intro e
  induction e with
  | zero =>
    intro N k M hk h hr
    have : k = n := by omega
    subst this
    exact ⟨M, rfl, h, fun i h1 h2 => by omega, fun i _ => rfl, Df.refl _ _ _ _, rfl, rfl⟩
  | succ e ih =>
    intro N k M hk h hr
    have r := hr k (Nat.le_refl _) (by omega)
    have hyk := hy k (by omega)
    have bw : y k * U ≤ 1000000007 * 1000000007 := Nat.mul_le_mul (by omega) (by omega)
    obtain ⟨A, hA⟩ : ∃ A, A = wJ M 1073 k (nl (y k * U % p)) := ⟨_, rfl⟩
    have sA : ST A := hA ▸ h
    have eA : ∀ i, i ≠ k → cJ A 1073 i = cJ M 1073 i := fun i hi => by rw [hA, cJ_wJ, if_neg (by omega)]
    have hd : F_X16_residues_b296 (N + 1 + (e + 1)) M 1068 (iw (p : Int)) (iw (n : Int)) (nl U) (iw (k : Int)) = F_X16_residues_b296 (N + 1 + e) A 1068 (iw (p : Int)) (iw (n : Int)) (nl U) (iw ((k + 1 : Nat) : Int)) := by
      show F_X16_residues_b296_st (F_X16_residues_b296 (N + 1 + e)) M 1068 _ _ _ _ = _
      unfold F_X16_residues_b296_st
      rw [if_pos (by rw [iw_le4 (by omega) (by omega)]; omega), e64]
      simp only [g1068_1100, h, al_of (t1073 h) (l1073 h) (show k < 100000 by omega) (show (100000 : Nat) < 2147483648 by decide), r, np, if_false, Option.bind_some]
      rw [nl_mul, nl_rem (by omega) (by omega), sj_of _ (t1073 h) (l1073 h) (show k < 100000 by omega) (show (100000 : Nat) < 2147483648 by decide), ← hA, Option.bind_some, iw_succ]
    obtain ⟨M', y1, y2, y3, y4, y5, y6, y7⟩ := ih N (k + 1) A (by omega) sA (fun i h1 h2 => by rw [eA i (by omega)]; exact hr i (by omega) h2)
    refine ⟨M', by rw [hd, y1], y2, fun i h1 h2 => ?_, fun i hi => by rw [y4 i (by omega), eA i (by omega)], Df.trans (by rw [hA]; exact Df.wJ _ rfl) y5, y6.trans (by rw [hA]; rfl), y7.trans (by rw [hA]; rfl)⟩
    by_cases c : i = k
    · subst c
      rw [y4 i (by omega), hA, cJ_wJ, if_pos ⟨rfl, rfl⟩]
    · exact y3 i (by omega) h2
