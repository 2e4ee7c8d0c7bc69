/-! ===== NUMBERS, 14: the engine's transform, whole ===== -/
def qWk : Nat → Nat → Prop := fun a i => a = 1036 ∨ (a = 1035 ∧ i = 705)
theorem E_ntt {M : Mem} {p m n : Nat} {v3 : Int32} {x : Nat → Nat} (h : ST M) (hpr : Prm p) (h3 : 3 ≤ p) (hp : p ≤ 1000000007) (hm : m ≤ 10) (hn : n = 2 ^ m) (hd : (p - 1) % n = 0) (hx : ∀ i, i < n → x i < p ∧ cJ M 1036 i = nl (x i)) (hv : v3 = 0 ∨ v3 = 1) :
    ∃ W M', W < p ∧ F_X16_rootOf (iw (n : Int)) (iw (p : Int)) = some (nl W) ∧ F_X10_work M 1035 (iw (n : Int)) (iw (p : Int)) v3 = some M' ∧ ST M' ∧ (∀ k, k < n → cJ M' 1036 k = nl (if v3 = 0 then ssum (fun j => x j * W ^ (k * j)) n % p else ssum (fun j => x j * (W ^ (p - 2) % p) ^ (k * j)) n % p * (n ^ (p - 2) % p) % p)) ∧ Df n2 qWk n2 M M' ∧ m_nx M' = m_nx M ∧ m_sl M' = m_sl M := by
  have hxN : xN = 1099511627776 := rfl
  have h0 := h.1
  have hn1024 : n ≤ 1024 := by
    rw [hn]
    exact Nat.pow_le_pow_right (n := 2) (by decide) hm
  have npos : 0 < n := by rw [hn]; exact Nat.pow_pos (by decide)
  have hodd : p % 2 = 1 := by
    refine Classical.byContradiction (fun hh => ?_)
    rcases hpr.2 2 (Nat.dvd_of_mod_eq_zero (by omega)) with e | e
    · omega
    · omega
  have e64 : (iw (p : Int)).toInt64 = nl p := i64_iw (by omega)
  have en : (iw (n : Int)).toInt64 = nl n := i64_iw (by omega)
  obtain ⟨A, hA⟩ : ∃ A, A = wJ M 1035 705 (nl p) := ⟨_, rfl⟩
  have sA : ST A := hA ▸ h
  have PA : cJ A 1035 705 = nl p := by rw [hA, cJ_wJ, if_pos ⟨rfl, rfl⟩]
  have dA : Df n2 qWk n2 M A := hA ▸ Df.wJ _ (Or.inr ⟨rfl, rfl⟩)
  have nA : m_nx A = m_nx M ∧ m_sl A = m_sl M := by rw [hA]; exact ⟨rfl, rfl⟩
  have hxA : ∀ i, i < n → x i < p ∧ cJ A 1036 i = nl (x i) := fun i hi => ⟨(hx i hi).1, by rw [hA, cJ_wJ, if_neg (by omega)]; exact (hx i hi).2⟩
  have q6 : ∀ {B B' : Mem}, Df n2 (at1 1036) n2 B B' → Df n2 qWk n2 B B' := fun d => d.mono (fun _ _ q => q) (fun _ _ q => Or.inl q) (fun _ _ q => q)
  have hev : n = 1 ∨ n % 2 = 0 := by
    by_cases c : m = 0
    · left; rw [hn, c]
    · right
      obtain ⟨t, ht⟩ : ∃ t, m = t + 1 := ⟨m - 1, by omega⟩
      rw [hn, ht, Nat.pow_succ, Nat.mul_mod_left]
  obtain ⟨W, w1, w2, w3, w4, w5⟩ := roots sA PA hpr h3 hp npos hn1024 hev hd
  have hWn : 1 ≤ m → W ^ 2 ^ (m - 1) % p = p - 1 := fun h1 => by
    obtain ⟨t, ht⟩ : ∃ t, m = t + 1 := ⟨m - 1, by omega⟩
    have t0 : 0 < 2 ^ t := Nat.pow_pos (by decide)
    have e1 : n / 2 = 2 ^ (m - 1) := by rw [hn, ht, Nat.pow_succ, Nat.mul_div_cancel _ (by decide)]; rfl
    rw [← e1]
    refine w5 (fun e => ?_)
    rw [hn, ht, Nat.pow_succ] at e
    omega
  have hd0 : F_X10_work M 1035 (iw (n : Int)) (iw (p : Int)) v3 = if v3 = 0 then F_X10_work_b33 A 1035 (iw (n : Int)) v3 (nl W) else (F_X10_power A 1035 (nl W) (nl p - (2 : Int64))).bind fun z23 => F_X10_work_b33 A 1035 (iw (n : Int)) v3 z23 := by
    unfold F_X10_work
    rw [e64]
    simp only [p1035_705, h, ← hA, v1035, sA, w2, g1035_705, PA, Option.bind_some]
  have e2 : nl p - (2 : Int64) = nl (p - 2) := nl_sub (n := 2) (by omega) (by omega)
  have fin : ¬ iw (n : Int) < iw (n : Int) := by rw [iw_le4 (by omega) (by omega)]; omega
  rcases hv with hv | hv
  · subst hv
    obtain ⟨M', N, y1, y2, y3, y4, y5, y6, y7⟩ := E_work33 (v3 := 0) sA PA (by omega) hp w1 hm hn hWn hxA
    refine ⟨W, M', w1, w3, ?_, y2, fun k hk => by rw [if_pos rfl]; exact y4 k hk, dA.trans (q6 y5), y6.trans nA.1, y7.trans nA.2⟩
    rw [hd0, if_pos rfl, y1]
    show F_X10_work_b41_st (F_X10_work_b41 N) M' 1035 _ _ _ _ = _
    unfold F_X10_work_b41_st
    rw [if_neg fin, if_pos rfl]
  · subst hv
    have m1 := Nat.mod_lt (W ^ (p - 2)) (show 0 < p by omega)
    have m2 := Nat.mod_lt (n ^ (p - 2)) (show 0 < p by omega)
    obtain ⟨M1, N, y1, y2, y3, y4, y5, y6, y7⟩ := E_work33 (v3 := 1) (W := W ^ (p - 2) % p) sA PA (by omega) hp m1 hm hn (fun h1 => back_root h3 hodd (hWn h1)) hxA
    obtain ⟨N2, hN2⟩ : ∃ N2, N2 + 1 + n = xN := ⟨xN - 1 - n, by omega⟩
    obtain ⟨M', z1, z2, z3, z4, z5, z6, z7⟩ := back_l (U := n ^ (p - 2) % p) (y := fun k => ssum (fun j => x j * (W ^ (p - 2) % p) ^ (k * j)) n % p) (show 2 ≤ p by omega) hp m2 hn1024 (fun i _ => Nat.mod_lt _ (by omega)) n N2 0 M1 (by omega) y2 y3 (fun i _ hi => y4 i hi)
    rw [hN2] at z1
    refine ⟨W, M', w1, w3, ?_, z2, fun k hk => by rw [if_neg (by decide)]; exact z3 k (Nat.zero_le _) hk, (dA.trans (q6 y5)).trans (q6 z5), z6.trans (y6.trans nA.1), z7.trans (y7.trans nA.2)⟩
    rw [hd0, if_neg (by decide), e2, E_pw sA PA (by omega) hp (show W < 2147483648 by omega) (show p - 2 < 2147483648 by omega), Option.bind_some, y1]
    show F_X10_work_b41_st (F_X10_work_b41 N) M1 1035 _ _ _ _ = _
    unfold F_X10_work_b41_st
    rw [if_neg fin, if_neg (by decide), en]
    simp only [g1035_705, v1035, y2, y3, e2, E_pw y2 y3 (show 2 ≤ p by omega) hp (show n < 2147483648 by omega) (show p - 2 < 2147483648 by omega), Option.bind_some]
    exact z1
