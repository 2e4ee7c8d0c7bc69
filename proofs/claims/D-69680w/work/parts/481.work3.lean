/-! ===== NUMBERS, 12: the transform, but for the way back ===== -/
theorem neg_odd {p : Nat} (h2 : 2 ≤ p) : ∀ k, (p - 1) ^ (2 * k + 1) % p = p - 1
  | 0 => by
    show (p - 1) ^ 1 % p = p - 1
    rw [Nat.pow_one, Nat.mod_eq_of_lt (by omega)]
  | k + 1 => by
    have ih := neg_odd h2 k
    have e : (p - 1) * (p - 1) % p = 1 % p := by
      obtain ⟨u, hu⟩ : ∃ u, p = u + 2 := ⟨p - 2, by omega⟩
      rw [hu, show u + 2 - 1 = u + 1 by omega, show (u + 1) * (u + 1) = 1 + (u + 2) * u by rw [Nat.add_mul, Nat.mul_add, Nat.add_mul]; omega, Nat.add_mul_mod_self_left]
    rw [show 2 * (k + 1) + 1 = 2 * k + 1 + 1 + 1 by omega, Nat.pow_succ, Nat.pow_succ, Nat.mul_assoc, Nat.mul_mod, ih, e, ← Nat.mul_mod_mod, Nat.mod_mod, Nat.mul_mod_mod, Nat.mul_one, Nat.mod_eq_of_lt (by omega)]
/-- the way back's root -/
theorem back_root {p W h : Nat} (h3 : 3 ≤ p) (hodd : p % 2 = 1) (hW : W ^ h % p = p - 1) : (W ^ (p - 2) % p) ^ h % p = p - 1 := by
  obtain ⟨k, hk⟩ : ∃ k, p - 2 = 2 * k + 1 := ⟨(p - 3) / 2, by omega⟩
  rw [← Nat.pow_mod, ← Nat.pow_mul, Nat.mul_comm (p - 2) h, Nat.pow_mul, Nat.pow_mod, hW, hk]
  exact neg_odd (by omega) k
/-- turned and put together -/
theorem E_work33 {M : Mem} {p m n W : Nat} {v3 : Int32} {x : Nat → Nat} (h : ST M) (hP : cJ M 1035 705 = nl p) (h2 : 2 ≤ p) (hp : p ≤ 1000000007) (hWp : W < p) (hm : m ≤ 10) (hn : n = 2 ^ m) (hW : 1 ≤ m → W ^ 2 ^ (m - 1) % p = p - 1) (hx : ∀ i, i < n → x i < p ∧ cJ M 1036 i = nl (x i)) :
    ∃ M' N, F_X10_work_b33 M 1035 (iw (n : Int)) v3 (nl W) = F_X10_work_b41 (N + 1) M' 1035 (iw (n : Int)) v3 (nl W) (iw (n : Int)) ∧ ST M' ∧ cJ M' 1035 705 = nl p ∧ (∀ k, k < n → cJ M' 1036 k = nl (ssum (fun j => x j * W ^ (k * j)) n % p)) ∧ Df n2 (at1 1036) n2 M M' ∧ m_nx M' = m_nx M ∧ m_sl M' = m_sl M := by
  have hxN : xN = 1099511627776 := rfl
  obtain ⟨A, a1, a2, a3, a4, a5, a6⟩ := E_turn h hm hn
  have h0 := h.1
  have PA : cJ A 1035 705 = nl p := by rw [a4.cJ (by omega) (by unfold at1; omega)]; exact hP
  obtain ⟨N, hN⟩ : ∃ N, N + 1 + m = xN := ⟨xN - 1 - m, by omega⟩
  obtain ⟨M', y1, y2, y3, y4, y5, y6, y7⟩ := E_stages (v3 := v3) (x := x) h2 hp hWp hm hn hW m N 0 A (by omega) a2 PA (fun q k hq hk => by
    have k0 : k = 0 := by have : k < 1 := hk; omega
    subst k0
    rw [Nat.sub_zero] at hq
    have hr := rev_lt m q
    have hx' := hx (rev m q) (by omega)
    rw [Nat.pow_zero, Nat.mul_one, Nat.add_zero, a3 q (by omega), hx'.2]
    unfold DFv
    show nl (x (rev m q)) = nl ((0 + x (rev m q + 0 * 2 ^ m) * (W ^ 2 ^ m) ^ (0 * 0)) % p)
    rw [Nat.zero_mul, Nat.add_zero, Nat.zero_mul, Nat.pow_zero, Nat.mul_one, Nat.zero_add, Nat.mod_eq_of_lt hx'.1])
  rw [hN] at y1
  refine ⟨M', N, ?_, y2, y3, fun k hk => ?_, a4.trans y5, y6.trans a5, y7.trans a6⟩
  · unfold F_X10_work_b33
    simp only [v1035, h, a1, Option.bind_some]
    exact y1
  · rw [y4 k hk]
    unfold DFv
    rw [Nat.sub_self, ← hn]
    refine congrArg (fun z => nl (z % p)) (ssum_cg _ (fun j _ => ?_))
    show x (0 + j * 2 ^ 0) * (W ^ 2 ^ 0) ^ (k * j) = x j * W ^ (k * j)
    rw [Nat.pow_zero, Nat.mul_one, Nat.zero_add, Nat.pow_one]
