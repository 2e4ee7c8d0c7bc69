/-! ===== NUMBERS, 11: all stages ===== -/
theorem DFv_lt {p m W s q k : Nat} {x : Nat → Nat} (h : 2 ≤ p) : DFv p m x W s q k < p := Nat.mod_lt _ (by omega)
theorem E_stages {p m n W : Nat} {v3 : Int32} {x : Nat → Nat} (h2 : 2 ≤ p) (hp : p ≤ 1000000007) (hWp : W < p) (hm : m ≤ 10) (hn : n = 2 ^ m) (hW : 1 ≤ m → W ^ 2 ^ (m - 1) % p = p - 1) : ∀ (r N s : Nat) (M : Mem), s + r = m → ST M → cJ M 1035 705 = nl p → (∀ q k, q < 2 ^ (m - s) → k < 2 ^ s → cJ M 1036 (q * 2 ^ s + k) = nl (DFv p m x W s q k)) →
    ∃ M', F_X10_work_b41 (N + 1 + r) M 1035 (iw (n : Int)) v3 (nl W) (iw ((2 ^ s : Nat) : Int)) = F_X10_work_b41 (N + 1) M' 1035 (iw (n : Int)) v3 (nl W) (iw (n : Int)) ∧ ST M' ∧ cJ M' 1035 705 = nl p ∧ (∀ k, k < n → cJ M' 1036 k = nl (DFv p m x W m 0 k)) ∧ Df n2 (at1 1036) n2 M M' ∧ m_nx M' = m_nx M ∧ m_sl M' = m_sl M := by
  have hxN : xN = 1099511627776 := rfl
  have hn1024 : n ≤ 1024 := by
    rw [hn]
    exact Nat.pow_le_pow_right (n := 2) (by decide) hm
  intro r
  induction r with
  | zero =>
    intro N s M hs h hP hr
    have hsm : s = m := by omega
    subst hsm
    refine ⟨M, by rw [hn], h, hP, fun k hk => ?_, Df.refl _ _ _ _, rfl, rfl⟩
    have := hr 0 k (by rw [Nat.sub_self]; decide) (by omega)
    rw [Nat.zero_mul, Nat.zero_add] at this
    exact this
  | succ r ih =>
    intro N s M hs h hP hr
    obtain ⟨t, ht⟩ : ∃ t, t = r := ⟨_, rfl⟩
    have ms : m - s = t + 1 := by omega
    obtain ⟨hf, hhf⟩ : ∃ hf, hf = 2 ^ s := ⟨_, rfl⟩
    have hf0 : 0 < hf := by rw [hhf]; exact Nat.pow_pos (by decide)
    have t0 : 0 < 2 ^ t := Nat.pow_pos (by decide)
    have hnn : n = 2 ^ t * (2 * hf) := by
      rw [hn, hhf, show m = t + 1 + s by omega, Nat.pow_add, Nat.pow_succ, Nat.mul_assoc]
    have hle : 2 * hf ≤ n := by
      rw [hnn]
      have : 1 * (2 * hf) ≤ 2 ^ t * (2 * hf) := Nat.mul_le_mul_right _ t0
      omega
    have tle : 2 ^ t ≤ 1024 := by
      have : 2 ^ t * 1 ≤ 2 ^ t * (2 * hf) := Nat.mul_le_mul_left _ (by omega)
      omega
    have ediv : n / (2 * hf) = 2 ^ t := by rw [hnn]; exact Nat.mul_div_cancel _ (by omega)
    obtain ⟨V, hV⟩ : ∃ V, V = W ^ 2 ^ t % p := ⟨_, rfl⟩
    have hVp : V < p := by rw [hV]; exact Nat.mod_lt _ (by omega)
    have hd0 : F_X10_work_b41 (N + 1 + (r + 1)) M 1035 (iw (n : Int)) v3 (nl W) (iw ((2 ^ s : Nat) : Int)) = F_X10_work_b65 (F_X10_work_b41 (N + 1 + r)) xN M 1035 (iw (n : Int)) v3 (nl W) (iw (hf : Int)) (nl V) 0 := by
      show F_X10_work_b41_st (F_X10_work_b41 (N + 1 + r)) M 1035 _ _ _ _ = _
      unfold F_X10_work_b41_st
      rw [← hhf, if_pos (by rw [iw_le4 (by omega) (by omega)]; omega), show (2 : Int32) * iw (hf : Int) = iw ((2 * hf : Nat) : Int) by rw [Int32.mul_comm]; exact iw_mul2 hf, if_neg (by rw [iw_eq0 (by omega) (by omega)]; omega), idiv_n (by omega) (by omega) (by omega), ediv, i64_iw (by omega)]
      simp only [v1035, h, E_pw h hP h2 hp (show W < 2147483648 by omega) (show 2 ^ t < 2147483648 by omega), ← hV, Option.bind_some]
    obtain ⟨N', hN'⟩ : ∃ N', N' + 1 + 2 ^ t = xN := ⟨xN - 1 - 2 ^ t, by omega⟩
    obtain ⟨M1, y1, y2, y3, y4, y5, y6, y7, y8⟩ := blocks (k41 := F_X10_work_b41 (N + 1 + r)) (v3 := v3) (v4 := nl W) (A := fun q => DFv p m x W s (2 * q)) (B := fun q => DFv p m x W s (2 * q + 1)) h2 hp hVp (by omega) (by omega) hnn hn1024 (fun q i _ => ⟨DFv_lt h2, DFv_lt h2⟩) (2 ^ t) N' 0 M (by omega) h hP (fun q i _ hq hi => by
      have e1 := hr (2 * q) i (by rw [ms, Nat.pow_succ]; omega) (by rw [← hhf]; exact hi)
      have e2 := hr (2 * q + 1) i (by rw [ms, Nat.pow_succ]; omega) (by rw [← hhf]; exact hi)
      rw [← hhf] at e1 e2
      rw [show q * (2 * hf) = 2 * q * hf by rw [← Nat.mul_assoc, Nat.mul_comm q 2]]
      rw [Nat.add_mul, Nat.one_mul] at e2
      exact ⟨e1, e2⟩)
    rw [hN', Nat.zero_mul] at y1
    have hd : F_X10_work_b41 (N + 1 + (r + 1)) M 1035 (iw (n : Int)) v3 (nl W) (iw ((2 ^ s : Nat) : Int)) = F_X10_work_b41 (N + 1 + r) M1 1035 (iw (n : Int)) v3 (nl W) (iw ((2 ^ (s + 1) : Nat) : Int)) := by
      rw [hd0, show (2 ^ (s + 1) : Nat) = 2 * hf by rw [Nat.pow_succ, ← hhf, Nat.mul_comm]]
      exact y1
    obtain ⟨M', z1, z2, z3, z4, z5, z6, z7⟩ := ih N (s + 1) M1 (by omega) y2 y3 (fun q k hq hk => by
      have hq' : q < 2 ^ t := by rw [show m - (s + 1) = t by omega] at hq; exact hq
      rw [Nat.pow_succ, ← hhf] at hk
      rw [Nat.pow_succ, ← hhf, Nat.mul_comm hf 2]
      by_cases c : k < hf
      · have st := (stage (p := p) (m := m) (s := s) (t := t) (q := q) (k := k) (x := x) (W := W) h2 (by omega) (by rw [← hhf]; exact c) (hW (by omega))).1
        rw [st, ← hV]
        exact (y4 q k (Nat.zero_le _) hq' c).1
      · obtain ⟨i, hi⟩ : ∃ i, k = i + hf := ⟨k - hf, by omega⟩
        have st := (stage (p := p) (m := m) (s := s) (t := t) (q := q) (k := i) (x := x) (W := W) h2 (by omega) (by rw [← hhf]; omega) (hW (by omega))).2
        rw [← hhf, ← hV] at st
        rw [hi, st, show q * (2 * hf) + (i + hf) = q * (2 * hf) + hf + i by omega]
        exact (y4 q i (Nat.zero_le _) hq' (by omega)).2)
    exact ⟨M', by rw [hd, z1], z2, z3, z4, y6.trans z5, z6.trans y7, z7.trans y8⟩
