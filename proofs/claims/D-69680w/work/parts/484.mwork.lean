/-! ===== NUMBERS, 15: the model's sums ===== -/
theorem M_in206 {k190 : Mem → Nat → Int32 → Int32 → Int32 → Int64 → Int64 → Int32 → Option (Int32 × Mem)} {M : Mem} {p n S W k : Nat} {v3 : Int32} {x : Nat → Nat} (h : ST M) (h2 : 2 ≤ p) (hp : p ≤ 1000000007) (hS : S < p) (hW : W < p) (hk : k < 1024) (hn : n ≤ 1024) (hx : ∀ i, i < n → x i < p ∧ cJ M 1074 i = nl (x i)) : ∀ (e N j : Nat), j + e = n →
    F_X16_residues_b206 k190 (N + 1 + e) M 1068 (iw (p : Int)) v3 (iw (n : Int)) (nl W) (nl S) (iw (k : Int)) (nl (ssum (fun i => x i * S ^ i) j % p)) (nl (S ^ j % p)) (iw (j : Int)) = k190 (wJ M 1073 k (nl (ssum (fun i => x i * S ^ i) n % p))) 1068 (iw (p : Int)) v3 (iw (n : Int)) (nl W) (nl (S * W % p)) (iw ((k + 1 : Nat) : Int)) := by
  have e64 : (iw (p : Int)).toInt64 = nl p := i64_iw (by omega)
  have np : ¬ nl p = 0 := fun hh => by
    have := (nl_eq (m := p) (n := 0) (by omega) (by omega)).mp hh
    omega
  have sw : S * W ≤ 1000000007 * 1000000007 := Nat.mul_le_mul (by omega) (by omega)
  intro e
  induction e with
  | zero =>
    intro N j hj
    have : j = n := by omega
    subst this
    show F_X16_residues_b206_st k190 (F_X16_residues_b206 k190 N) M 1068 _ _ _ _ _ _ _ _ _ = _
    unfold F_X16_residues_b206_st
    rw [if_neg (by rw [iw_le4 (by omega) (by omega)]; omega), e64]
    simp only [g1068_1100, h, sj_of _ (t1073 h) (l1073 h) (show k < 100000 by omega) (show (100000 : Nat) < 2147483648 by decide), np, if_false, Option.bind_some]
    rw [nl_mul, nl_rem (by omega) (by omega), iw_succ]
  | succ e ih =>
    intro N j hj
    obtain ⟨x1, x2⟩ := hx j (by omega)
    obtain ⟨b, hb⟩ : ∃ b, b = S ^ j % p := ⟨_, rfl⟩
    have blt : b < p := by rw [hb]; exact Nat.mod_lt _ (by omega)
    obtain ⟨a, ha⟩ : ∃ a, a = ssum (fun i => x i * S ^ i) j % p := ⟨_, rfl⟩
    have alt : a < p := by rw [ha]; exact Nat.mod_lt _ (by omega)
    have xb : x j * b ≤ 1000000007 * 1000000007 := Nat.mul_le_mul (by omega) (by omega)
    have bs : b * S ≤ 1000000007 * 1000000007 := Nat.mul_le_mul (by omega) (by omega)
    have e1 : (a + x j * b) % p = ssum (fun i => x i * S ^ i) (j + 1) % p := by
      show _ = (ssum (fun i => x i * S ^ i) j + x j * S ^ j) % p
      rw [ha, hb, Nat.mod_add_mod, ← Nat.add_mod_mod, Nat.mul_mod_mod, Nat.add_mod_mod]
    have e2 : b * S % p = S ^ (j + 1) % p := by rw [hb, Nat.pow_succ, Nat.mod_mul_mod]
    have ih' := ih N (j + 1) (by omega)
    rw [← ha, ← hb]
    show F_X16_residues_b206_st k190 (F_X16_residues_b206 k190 (N + 1 + e)) M 1068 _ _ _ _ _ _ _ _ _ = _
    unfold F_X16_residues_b206_st
    rw [if_pos (by rw [iw_le4 (by omega) (by omega)]; omega), e64]
    simp only [g1068_1101, h, al_of (t1074 h) (l1074 h) (show j < 100000 by omega) (show (100000 : Nat) < 2147483648 by decide), x2, np, if_false, Option.bind_some]
    rw [nl_mul, nl_mul, nl_add, nl_rem (by omega) (by omega), nl_rem (by omega) (by omega), e1, e2, iw_succ]
    exact ih'
