/-! ===== FLOATS, 24: both roots alike ===== -/
theorem root_eq {x : Int64} (h3 : dE (un x) ≠ 2047) (h4 : dC (un x) ≠ 0) (hs : dS (un x) = false) : ∃ y : UInt64, F_X24_root x = some y.toInt64 ∧ F_X49_root x.toUInt64 = some y ∧ okd y.toNat := by
  obtain ⟨m, a, r, t, e, e0, m1, m2, hm, he, hsq, hroot⟩ := X24_root_val h3 h4
  have hC := dC_lt (un x)
  have hQ : -1074 ≤ dQ (un x) ∧ dQ (un x) ≤ 971 := by
    unfold dQ
    have : dE (un x) < 2048 := Nat.mod_lt _ (by decide)
    split <;> omega
  have hxd : x.toUInt64 = dv false (dC (un x)) (dQ (un x)) := by
    have e1 := enc_id (un_lt x) h3 h4
    rw [hs] at e1
    unfold dv bd
    rw [e1]
    exact (UInt64.ofNat_toNat (x := x.toUInt64)).symm
  have hst : F_X49_root x.toUInt64 = F_X49_root_b21 xN x.toUInt64 (iw 0) := by
    have hok : okd (un x) := by
      unfold okd
      have h5 : un x % 2 ^ 63 = dE (un x) * 2 ^ 52 + dT (un x) := by unfold dE dT; omega
      have h6 : dE (un x) < 2048 := Nat.mod_lt _ (by decide)
      have h7 : dT (un x) < 2 ^ 52 := Nat.mod_lt _ (by decide)
      omega
    have hmag : un x % 2 ^ 63 ≠ 0 ∧ un x % 2 ^ 63 < 2047 * 2 ^ 52 := by
      rcases okd_cases (un_lt x) hok with ⟨a1, a2, a3⟩ | ⟨a1, a2, a3⟩ | ⟨a1, a2, a3, a4⟩
      · omega
      · omega
      · unfold okd at hok; omega
    have c0 : FP.dcmp x.toUInt64 0 = some (compare (rk (un x)) (rk 0)) := order_ok (un_lt x) (by decide) hok (by unfold okd; decide)
    have c1 : FP.dcmp x.toUInt64 9218868437227405311 = some (compare (rk (un x)) (rk 9218868437227405311)) := order_ok (un_lt x) (by decide) hok (by unfold okd; decide)
    have k0 := (jd_lt c0 .l).2.2
    have k1 := (jd_lt c1 .l).2.1
    have hr : rk (un x) = ((un x % 2 ^ 63 : Nat) : Int) := by
      unfold rk
      rw [hs, if_neg (by decide)]
    have r0 : rk 0 = 0 := by decide
    have r1 : rk 9218868437227405311 = 9218868437227405311 := by decide
    rw [hr, r0] at k0
    rw [hr, r1] at k1
    unfold F_X49_root
    rw [if_neg (fun h => by have := k0.mp h; omega), if_neg (fun h => by have := k1.mp h; omega)]
    rfl
  rw [hxd] at hst
  generalize dC (un x) = c at *
  generalize dQ (un x) = q at *
  have hc0 : 0 < c := by omega
  have hvl1 : ∀ d : Int, -1074 ≤ d → 1 ≤ vl c d := fun d _ => Nat.mul_pos hc0 (Nat.two_pow_pos _)
  have hT : tT ≤ vl c q * 4 ^ 564 := by
    have e1 : tT = 4 ^ 564 := by
      unfold tT
      rw [show ((2 : Int) - -1074).toNat = 1076 from rfl, ← Nat.pow_add, show (4 : Nat) = 2 ^ 2 from rfl, ← Nat.pow_mul]
    rw [e1]
    have := Nat.mul_le_mul_right (4 ^ 564) (hvl1 q hQ.1)
    generalize 4 ^ 564 = Y at *
    omega
  have hlow : vl c q < tT → q ≤ 54 := by
    intro h
    rcases Int.lt_or_le 54 q with h6 | h6
    · exfalso
      have e1 : tT = 2 ^ 1128 := by
        unfold tT
        rw [show ((2 : Int) - -1074).toNat = 1076 from rfl, ← Nat.pow_add]
      have e2 : 2 ^ 1128 ≤ vl c q := by
        unfold vl
        have a1 : 2 ^ 1128 ≤ 2 ^ (q - -1074).toNat := Nat.pow_le_pow_right (by decide) (by omega)
        have a2 := Nat.mul_le_mul_right (2 ^ (q - -1074).toNat) hc0
        generalize 2 ^ (q - -1074).toNat = X at *
        generalize 2 ^ 1128 = Y at *
        omega
      rw [← e1] at e2
      omega
    · exact h6
  obtain ⟨k, k1, k2, k3, k4, k5⟩ := up_loop hC 564 xN q 0 (by decide) (by decide) hT hQ.1 hQ.2 (by decide) (by decide) hlow
  obtain ⟨l, l1, l2, l3, l4⟩ := down_loop hC 600 xN (q + 2 * k) (0 - k) (by decide) (by decide) (by omega) (by omega) k4 (by omega) (by omega) k2
  rw [k1, l1] at hst
  obtain ⟨n, hn⟩ : ∃ n : Int, n = 0 - (k : Int) + (l : Int) := ⟨_, rfl⟩
  have hq' : q + 2 * (k : Int) - 2 * (l : Int) = q - 2 * n := by omega
  rw [← hn, hq'] at hst
  rw [hq'] at l2 l3
  have hlo := vl_lo hC l2
  obtain ⟨b1, b2⟩ := vl_m hlo l2 l3
  obtain ⟨b, hb⟩ : ∃ b : Nat, q - 2 * n = (b : Int) := ⟨(q - 2 * n).toNat, by omega⟩
  rw [hb, show ((b : Int)).toNat = b by omega] at b1 b2
  rw [hb, show ((b : Int)).toNat = b by omega] at hst
  -- both normed alike
  have hab : b = a + 2 := by
    have hpar : (b : Int) % 2 = (a : Int) % 2 := by omega
    rcases Nat.lt_or_ge b (a + 2) with h | h
    · exfalso
      have h5 : b ≤ a := by omega
      have := Nat.mul_le_mul_left c (Nat.pow_le_pow_right (show 0 < 2 by decide) h5)
      omega
    · rcases Nat.lt_or_ge b (a + 4) with h5 | h5
      · omega
      · exfalso
        have := Nat.mul_le_mul_left c (Nat.pow_le_pow_right (show 0 < 2 by decide) h5)
        rw [Nat.pow_add, ← Nat.mul_assoc] at this
        omega
  have hm4 : c * 2 ^ b = 4 * m := by
    rw [hab, Nat.pow_add, ← Nat.mul_assoc, ← hm]
    omega
  rw [hm4] at hst b1 b2
  have hne : n = e / 2 - 1 := by omega
  have hs0 : sqOk 0 0 (dgP 28 (4 * m) 0) := by
    have : dgP 28 (4 * m) 0 = 0 := by
      unfold dgP
      rw [if_pos (by decide)]
      exact Nat.div_eq_of_lt (by show 4 * m < 4 ^ 28; omega)
    rw [this]
    exact ⟨rfl, Nat.le_refl _⟩
  obtain ⟨r', t', hs', hl'⟩ := root_loop2 (m := 4 * m) (e := iw n) b2 55 xN 0 0 0 (by decide) (by decide) hs0
  have hl' : F_X49_root_b75 xN (iw n) (nl (4 * m)) 0 0 27 = rootEnd (iw n) r' t' := hl'
  have e55 : dgP 28 (4 * m) 55 = 4 * (m * 4 ^ 27) := by
    unfold dgP
    rw [if_neg (by decide), show 55 - 28 = 27 from rfl, Nat.mul_assoc]
  rw [e55] at hs'
  have r1 : r < 2 ^ 54 := sq_lt hsq (by omega)
  have r2 : 2 ^ 53 ≤ r := sq_ge hsq (by omega)
  -- the engine's digits against the model's
  have hr' : r' = 2 * r ∨ r' = 2 * r + 1 := by
    have g1 : 2 * r ≤ r' := sq_ge hs' (by
      have := hsq.1
      rw [show 2 * r * (2 * r) = 4 * (r * r) by rw [show 2 * r * (2 * r) = 2 * 2 * (r * r) by ac_rfl]]
      omega)
    have g2 : r' < 2 * r + 2 := sq_lt hs' (by
      have i1 := hsq.1
      have i2 := hsq.2
      have i3 : (2 * r + 2) * (2 * r + 2) = 4 * (r * r) + 8 * r + 4 := by
        rw [Nat.add_mul, Nat.mul_add, show 2 * r * (2 * r) = 2 * 2 * (r * r) by ac_rfl]
        omega
      omega)
    omega
  have hzero : (r' = 2 * r ∧ t' = 0) ↔ t = 0 := by
    have i1 := hsq.1
    have i2 := hs'.1
    have i4 : 2 * r * (2 * r) = 4 * (r * r) := by rw [show 2 * r * (2 * r) = 2 * 2 * (r * r) by ac_rfl]
    have i5 : (2 * r + 1) * (2 * r + 1) = 4 * (r * r) + 4 * r + 1 := by
      rw [Nat.add_mul, Nat.mul_add, i4]
      omega
    constructor
    · rintro ⟨j1, j2⟩
      rw [j1, i4] at i2
      omega
    · intro j
      rcases hr' with h | h
      · refine ⟨h, ?_⟩
        rw [h, i4] at i2
        omega
      · exfalso
        rw [h, i5] at i2
        omega
  obtain ⟨w1, w2⟩ := rW_bd (t := t) r2 r1
  have hend : rootEnd (iw n) r' t' = F_X49_root_b219 (nl (rW r t)) (iw n) := by
    unfold rootEnd rW
    have j1 : r' / 4 = r / 2 := by omega
    rw [j1]
    by_cases hcnd : r % 2 = 1 ∧ (t ≠ 0 ∨ r / 2 % 2 = 1)
    · rw [if_pos hcnd, if_pos (by omega)]
    · rw [if_neg hcnd, if_neg (by omega)]
  refine ⟨dv false (rW r t) (n - 25), ?_, ?_, (dv_ok _ _ _).1⟩
  · rw [hroot, show e / 2 - 26 = n - 25 by omega]
    rfl
  · rw [hxd, hst, hl', hend, b219 w2 (by omega) (by omega)]
