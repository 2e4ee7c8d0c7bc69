/-! ===== NUMBERS, 16: the model's sums, all of them ===== -/
theorem pw_sum {p n W k : Nat} {x : Nat → Nat} : ssum (fun i => x i * (W ^ k % p) ^ i) n % p = ssum (fun j => x j * W ^ (k * j)) n % p := by
  refine ssum_mod n (fun i _ => ?_)
  show x i * (W ^ k % p) ^ i % p = x i * W ^ (k * i) % p
  rw [Nat.pow_mul, ← Nat.mul_mod_mod, ← Nat.pow_mod, Nat.mul_mod_mod]
theorem M_out190 {p n W : Nat} {v3 : Int32} {x : Nat → Nat} (h2 : 2 ≤ p) (hp : p ≤ 1000000007) (hW : W < p) (hn : n ≤ 1024) : ∀ (e N k : Nat) (M : Mem), k + e = n → ST M → (∀ i, i < n → x i < p ∧ cJ M 1074 i = nl (x i)) → (∀ i, i < k → cJ M 1073 i = nl (ssum (fun j => x j * W ^ (i * j)) n % p)) →
    ∃ M', F_X16_residues_b190 (N + 1 + e) M 1068 (iw (p : Int)) v3 (iw (n : Int)) (nl W) (nl (W ^ k % p)) (iw (k : Int)) = F_X16_residues_b190 (N + 1) M' 1068 (iw (p : Int)) v3 (iw (n : Int)) (nl W) (nl (W ^ n % p)) (iw (n : Int)) ∧ ST M' ∧ (∀ i, i < n → cJ M' 1073 i = nl (ssum (fun j => x j * W ^ (i * j)) n % p)) ∧ Df n2 (at1 1073) n2 M M' ∧ m_nx M' = m_nx M ∧ m_sl M' = m_sl M := by
  have hxN : xN = 1099511627776 := rfl
  intro e
  induction e with
  | zero =>
    intro N k M hk h hx hr
    have : k = n := by omega
    subst this
    exact ⟨M, rfl, h, hr, Df.refl _ _ _ _, rfl, rfl⟩
  | succ e ih =>
    intro N k M hk h hx hr
    obtain ⟨N', hN'⟩ : ∃ N', N' + 1 + n = xN := ⟨xN - 1 - n, by omega⟩
    have slt := Nat.mod_lt (W ^ k) (show 0 < p by omega)
    have inn := M_in206 (k190 := F_X16_residues_b190 (N + 1 + e)) (v3 := v3) (S := W ^ k % p) (k := k) h h2 hp slt hW (by omega) hn hx n N' 0 (by omega)
    rw [hN', Nat.pow_zero, Nat.mod_eq_of_lt (show 1 < p by omega), show ssum (fun i => x i * (W ^ k % p) ^ i) 0 = 0 from rfl, Nat.zero_mod, pw_sum, Nat.mod_mul_mod, ← Nat.pow_succ] at inn
    obtain ⟨A, hA⟩ : ∃ A, A = wJ M 1073 k (nl (ssum (fun j => x j * W ^ (k * j)) n % p)) := ⟨_, rfl⟩
    have sA : ST A := hA ▸ h
    rw [← hA] at inn
    have hd : F_X16_residues_b190 (N + 1 + (e + 1)) M 1068 (iw (p : Int)) v3 (iw (n : Int)) (nl W) (nl (W ^ k % p)) (iw (k : Int)) = F_X16_residues_b190 (N + 1 + e) A 1068 (iw (p : Int)) v3 (iw (n : Int)) (nl W) (nl (W ^ (k + 1) % p)) (iw ((k + 1 : Nat) : Int)) := by
      show F_X16_residues_b190_st (F_X16_residues_b190 (N + 1 + e)) M 1068 _ _ _ _ _ _ = _
      unfold F_X16_residues_b190_st
      rw [if_pos (by rw [iw_le4 (by omega) (by omega)]; omega)]
      exact inn
    obtain ⟨M', y1, y2, y3, y4, y5, y6⟩ := ih N (k + 1) A (by omega) sA (fun i hi => ⟨(hx i hi).1, by rw [hA, cJ_wJ, if_neg (by omega)]; exact (hx i hi).2⟩) (fun i hi => by
      by_cases c : i = k
      · subst c
        rw [hA, cJ_wJ, if_pos ⟨rfl, rfl⟩]
      · rw [hA, cJ_wJ, if_neg (by omega)]
        exact hr i (by omega))
    exact ⟨M', by rw [hd, y1], y2, y3, Df.trans (by rw [hA]; exact Df.wJ _ rfl) y4, y5.trans (by rw [hA]; rfl), y6.trans (by rw [hA]; rfl)⟩
