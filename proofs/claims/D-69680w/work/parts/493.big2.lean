/-! ===== EXACT SOLUTIONS, 4: the engine's great numbers: copies, amounts compared, products, sums, differences ===== -/
def DR (M : Mem) (p n : Nat) (T : Nat → Nat) : Prop := ∀ k, k < n → cI M 1027 (60 * p + k) = iw (T k : Nat) ∧ T k < 65536
theorem E_isZero {M : Mem} (h : ST M) {p v : Nat} (e : EA M p v) : F_X9_isZero M 1026 (iw (p : Int)) = some (if v = 0 then 1 else 0) := by
  obtain ⟨hp, n, D, h1, h2, h3, h4, h5⟩ := e
  simp only [F_X9_isZero, g1026_641, h, ai28 h hp, h2, Option.bind_some, F_X9_isZero_b14]
  by_cases c : n = 0
  · subst c
    have hv : v = 0 := h4.symm
    rw [if_pos (by rw [iw_eq0 (by omega) (by omega)]; rfl), if_pos hv]
    rfl
  · have : v ≠ 0 := by
      have := Vl_ge (B := 65536) (show 0 < n by omega) (h5 (by omega))
      have : 0 < 65536 ^ (n - 1) := Nat.pow_pos (by decide)
      omega
    rw [if_neg (by rw [iw_eq0 (by omega) (by omega)]; omega), if_neg this]
    rfl
theorem E_isBelow {M : Mem} (h : ST M) {p : Nat} {x : Int} (e : EB M p x) : F_X9_isBelow M 1026 (iw (p : Int)) = some (if x < 0 then 1 else 0) := by
  obtain ⟨⟨hp, n, D, h1, h2, h3, h4, h5⟩, s1, s2⟩ := e
  simp only [F_X9_isBelow, g1026_641, g1026_642, h, ai28 h hp, ab29 h hp, h2, Option.bind_some, F_X9_isBelow_b22, F_X9_isBelow_b23]
  by_cases c : x = 0
  · subst c
    have n0 : n = 0 := by
      refine Classical.byContradiction (fun q => ?_)
      have := Vl_ge (B := 65536) (show 0 < n by omega) (h5 (by omega))
      have : 0 < 65536 ^ (n - 1) := Nat.pow_pos (by decide)
      have h4 : Vl 65536 D n = 0 := h4
      omega
    subst n0
    rw [if_neg (show ¬ (0 : Int) < 0 by decide)]
    split
    · rfl
    · rw [if_neg (by rw [iw_0lt (by omega) (by omega)]; omega)]
      rfl
  · have n0 : 0 < n := by
      refine Classical.byContradiction (fun q => ?_)
      have : n = 0 := by omega
      subst this
      have h4 : 0 = x.natAbs := h4
      omega
    rcases s1 with s1 | s1
    · rw [s1, if_pos rfl, if_neg (fun q => by have := (s2 c).mpr q; rw [s1] at this; exact absurd this (by decide))]
      rfl
    · rw [s1, if_neg (by decide), if_pos (by rw [iw_0lt (by omega) (by omega)]; omega), if_pos ((s2 c).mp s1)]
      rfl
theorem E_put {M : Mem} (h : ST M) {p q : Nat} {x : Int} (e : EB M p x) (hq : q < 130) (hpq : p ≠ q) : ∃ M', F_X9_put M 1026 (iw (p : Int)) (iw (q : Int)) = some M' ∧ EB M' q x ∧ Dw (pB q) M M' := by
  obtain ⟨⟨hp, n, D, h1, h2, h3, h4, h5⟩, s1, s2⟩ := e
  obtain ⟨K, A, -, e1, d1, r1⟩ := upl0 (σ := Unit) (fun N M _ i => F_X9_put_b2 N M 1026 (iw (p : Int)) (iw (q : Int)) i) (n := n) (by omega) (fun i A _ => Dw (pA q) M A ∧ DR A q i D)
    (fun N A _ i hi hJ => by
      obtain ⟨d, r⟩ := hJ
      have sA := d.st h
      refine ⟨wI A 1027 (60 * q + i) (iw (D i : Nat)), (), ?_, d.trans (Dw.w _ (Or.inl ⟨rfl, by omega, by omega⟩)), fun k hk => ?_⟩
      · show F_X9_put_b2_st (F_X9_put_b2 N) A 1026 _ _ _ = _
        unfold F_X9_put_b2_st
        simp only [g1026_641, g1026_640, sA, ai28 sA hp, Option.bind_some]
        rw [d.ci h (by decide) (by unfold pA; omega), h2, if_pos (by rw [iw_le4 (by omega) (by omega)]; exact hi), i60, i60, ai27 sA (by omega), Option.bind_some, d.ci h (by decide) (by unfold pA; omega), (h3 i hi).1, si27 sA (by omega), Option.bind_some, iw_succ]
      · by_cases c : k = i
        · subst c
          exact ⟨by rw [cI_wI, if_pos ⟨rfl, rfl⟩], (h3 k hi).2⟩
        · rw [cI_wI, if_neg (by omega)]
          exact r k (by omega)) (M := M) (s := ()) ⟨Dw.refl _ _, fun k hk => absurd hk (by omega)⟩
  have sA := d1.st h
  have l1 : cI A 1028 p = iw (n : Int) := by rw [d1.ci h (by decide) (by unfold pA; omega)]; exact h2
  have b1 : cI A 1029 p = cI M 1029 p := d1.ci h (by decide) (by unfold pA; omega)
  refine ⟨wI (wI A 1028 q (iw (n : Int))) 1029 q (cI M 1029 p), ?_, ⟨⟨hq, n, D, h1, ?_, fun k hk => ?_, h4, h5⟩, ?_⟩, ((d1.mono pA_B).trans (Dw.w _ (Or.inr (Or.inl ⟨rfl, rfl⟩)))).trans (Dw.w _ (Or.inr (Or.inr ⟨rfl, rfl⟩)))⟩
  · unfold F_X9_put
    rw [e1]
    show F_X9_put_b2_st (F_X9_put_b2 K) A 1026 _ _ _ = _
    unfold F_X9_put_b2_st
    have sB : ST (wI A 1028 q (iw (n : Int))) := sA
    have b2 : cI (wI A 1028 q (iw (n : Int))) 1029 p = cI M 1029 p := by rw [cI_wI, if_neg (by omega)]; exact b1
    simp only [g1026_641, sA, ai28 sA hp, l1, Option.bind_some]
    rw [if_neg (by rw [iw_le4 (by omega) (by omega)]; omega), si28 sA hq, Option.bind_some]
    simp only [g1026_642, sB, ab29 sB hp, b2, Option.bind_some, sb29 sB hq s1]
  · rw [cI_wI, if_neg (by omega), cI_wI, if_pos ⟨rfl, rfl⟩]
  · rw [cI_wI, if_neg (by omega), cI_wI, if_neg (by omega)]
    exact r1 k hk
  · unfold ES
    rw [cI_wI, if_pos ⟨rfl, rfl⟩]
    exact ⟨s1, s2⟩
/-- amounts compared -/
def cmn (u v : Nat) : Int := if u < v then -1 else if u = v then 0 else 1
theorem E_cmp {M : Mem} (h : ST M) {p q u v : Nat} (e : EA M p u) (f : EA M q v) : F_X9_compare M 1026 (iw (p : Int)) (iw (q : Int)) = some (iw (cmn u v)) := by
  obtain ⟨hp, n, D, h1, h2, h3, h4, h5⟩ := e
  obtain ⟨hq, m, E, k1, k2, k3, k4, k5⟩ := f
  simp only [F_X9_compare, g1026_641, h, ai28 h hp, ai28 h hq, h2, k2, Option.bind_some, F_X9_compare_b35]
  by_cases c : n = m
  · subst c
    rw [if_pos rfl]
    have lp : ∀ (i N : Nat), i ≤ n → F_X9_compare_b45 (N + 1 + i) M 1026 (iw (p : Int)) (iw (q : Int)) (iw ((i : Int) - 1)) = some (iw (cmpd D E i)) := by
      intro i
      induction i with
      | zero =>
        intro N _
        show F_X9_compare_b45_st (F_X9_compare_b45 N) M 1026 _ _ _ = _
        unfold F_X9_compare_b45_st
        rw [if_pos (by rw [iw_lt0 (by omega) (by omega)]; omega)]
        rfl
      | succ i ih =>
        intro N hi
        show F_X9_compare_b45_st (F_X9_compare_b45 (N + 1 + i)) M 1026 _ _ _ = _
        unfold F_X9_compare_b45_st
        have l1 := (h3 i (by omega)).2
        have l2 := (k3 i (by omega)).2
        rw [if_neg (by rw [iw_lt0 (by omega) (by omega)]; omega), show (((i + 1 : Nat) : Int) - 1) = (i : Int) by omega, i60, i60]
        simp only [g1026_640, h, ai27 h (show 60 * p + i < 7800 by omega), ai27 h (show 60 * q + i < 7800 by omega), (h3 i (by omega)).1, (k3 i (by omega)).1, Option.bind_some, F_X9_compare_b94, iw_p1]
        unfold cmpd
        by_cases c1 : D i = E i
        · rw [if_pos (by rw [c1]), if_pos c1, ih N (by omega)]
        · rw [if_neg (fun z => c1 (by have := (iw_eq (by omega) (by omega) (by omega) (by omega)).mp z; omega)), if_neg c1]
          by_cases c2 : D i < E i
          · rw [if_pos (by rw [iw_le4 (by omega) (by omega)]; exact c2), if_pos c2]; rfl
          · rw [if_neg (by rw [iw_le4 (by omega) (by omega)]; exact c2), if_neg c2]; rfl
    have hxN : xN = 1099511627776 := rfl
    obtain ⟨N, hN⟩ : ∃ N, N + 1 + n = xN := ⟨xN - 1 - n, by omega⟩
    have := lp n N (Nat.le_refl _)
    rw [hN, cmpd_ok (B := 65536) (fun k hk => (h3 k hk).2) (fun k hk => (k3 k hk).2), h4, k4] at this
    rw [show (1 : Int32) = iw 1 from rfl, iw_sub]
    exact this
  · rw [if_neg (fun z => c (by have := (iw_eq (by omega) (by omega) (by omega) (by omega)).mp z; omega))]
    unfold cmn
    by_cases c1 : n < m
    · have := Vl_more (B := 65536) (fun k hk => (h3 k hk).2) k5 c1 (by decide)
      rw [h4, k4] at this
      rw [if_pos (by rw [iw_le4 (by omega) (by omega)]; exact c1), if_pos this]
      rfl
    · have := Vl_more (B := 65536) (fun k hk => (k3 k hk).2) h5 (show m < n by omega) (by decide)
      rw [h4, k4] at this
      rw [if_neg (by rw [iw_le4 (by omega) (by omega)]; exact c1), if_neg (by omega), if_neg (by omega)]
      rfl
/-- one digit of a product -/
theorem mul1 {B P v Vt Vt' t a d c R : Nat} (hB : 0 < B) (hv : v = t + a * d + c) (e1 : Vt' + t * P = Vt + v % B * P) (e2 : Vt + c * P = R) : Vt' + v / B * (P * B) = R + a * d * P := by
  have e3 : v % B * P + v / B * (P * B) = v * P := by
    have := Nat.mod_add_div v B
    calc v % B * P + v / B * (P * B) = v % B * P + (B * (v / B)) * P := by rw [Nat.mul_comm P B, ← Nat.mul_assoc, Nat.mul_comm (v / B) B]
      _ = v * P := by rw [← Nat.add_mul, this]
  rw [hv, Nat.add_mul, Nat.add_mul, ← hv] at e3
  omega
theorem E_mul {M : Mem} (h : ST M) {p q to : Nat} {x y : Int} {a b : Nat} (e : EB M p x) (f : EB M q y) (hx : x.natAbs < 65536 ^ a) (hy : y.natAbs < 65536 ^ b) (hab : a + b ≤ 60) (ht : to < 130) (h1 : to ≠ p) (h2 : to ≠ q) : ∃ M', F_X9_multiply M 1026 (iw (p : Int)) (iw (q : Int)) (iw (to : Int)) = some M' ∧ EB M' to (x * y) ∧ Dw (pB to) M M' := by
  obtain ⟨⟨hp, n, D, n1, n2', n3, n4, n5⟩, s1, s2⟩ := e
  obtain ⟨⟨hq, m, E, m1, m2, m3, m4, m5⟩, t1, t2⟩ := f
  have na : n ≤ a := Vl_few (B := 65536) (by decide) n5 (by rw [n4]; exact hx)
  have mb : m ≤ b := Vl_few (B := 65536) (by decide) m5 (by rw [m4]; exact hy)
  obtain ⟨w, hw⟩ : ∃ w, w = n + m := ⟨_, rfl⟩
  have hwi : iw (n : Int) + iw (m : Int) = iw (w : Int) := by rw [iw_nadd, hw]
  -- zeros
  obtain ⟨K0, A0, -, e0, d0, r0⟩ := upl0 (σ := Unit) (fun N M _ i => F_X9_multiply_b18 N M 1026 (iw (p : Int)) (iw (q : Int)) (iw (to : Int)) (iw (w : Int)) i) (n := w) (by omega) (fun i A _ => Dw (pA to) M A ∧ DR A to i (fun _ => 0))
    (fun N A _ i hi hJ => by
      obtain ⟨d, r⟩ := hJ
      have sA := d.st h
      refine ⟨wI A 1027 (60 * to + i) 0, (), ?_, d.trans (Dw.w _ (Or.inl ⟨rfl, by omega, by omega⟩)), fun k hk => ?_⟩
      · show F_X9_multiply_b18_st (F_X9_multiply_b18 N) A 1026 _ _ _ _ _ = _
        unfold F_X9_multiply_b18_st
        rw [if_pos (by rw [iw_le4 (by omega) (by omega)]; exact hi), i60]
        simp only [g1026_640, sA, si27 sA (show 60 * to + i < 7800 by omega), Option.bind_some, iw_succ]
      · by_cases c : k = i
        · subst c
          exact ⟨by rw [cI_wI, if_pos ⟨rfl, rfl⟩]; rfl, show 0 < 65536 by decide⟩
        · rw [cI_wI, if_neg (by omega)]
          exact r k (by omega)) (M := M) (s := ()) ⟨Dw.refl _ _, fun k hk => absurd hk (by omega)⟩
  -- rows
  have row : ∀ (N0 : Nat) (A : Mem) (i : Nat) (T : Nat → Nat), i < n → Dw (pA to) M A → DR A to w T → (∀ k, i + m ≤ k → k < w → T k = 0) → ∃ (A' : Mem) (T' : Nat → Nat), F_X9_multiply_b47 (N0 + 1) A 1026 (iw (p : Int)) (iw (q : Int)) (iw (to : Int)) (iw (w : Int)) (iw (i : Int)) = F_X9_multiply_b47 N0 A' 1026 (iw (p : Int)) (iw (q : Int)) (iw (to : Int)) (iw (w : Int)) (iw ((i + 1 : Nat) : Int)) ∧ Dw (pA to) M A' ∧ DR A' to w T' ∧ (∀ k, i + 1 + m ≤ k → k < w → T' k = 0) ∧ Vl 65536 T' w = Vl 65536 T w + D i * Vl 65536 E m * 65536 ^ i := by
    intro N0 A i T hi d r z
    have sA := d.st h
    have li := (n3 i hi).2
    obtain ⟨K2, A2, c2, e2, d2, T2, cc, hc, hcl, r2, v2, z2⟩ := upl0 (σ := Int64) (fun N M c j => F_X9_multiply_b79 (F_X9_multiply_b47 N0) N M 1026 (iw (p : Int)) (iw (q : Int)) (iw (to : Int)) (iw (w : Int)) (iw (i : Int)) c (nl (D i)) j) (n := m) (by omega) (fun j B c => Dw (pA to) M B ∧ ∃ (T' : Nat → Nat) (cc : Nat), c = nl cc ∧ cc < 65536 ∧ DR B to w T' ∧ Vl 65536 T' w + cc * 65536 ^ (i + j) = Vl 65536 T w + D i * Vl 65536 E j * 65536 ^ i ∧ ∀ k, i + m ≤ k → k < w → T' k = 0)
      (fun N B c j hj hJ => by
        obtain ⟨dB, T', cc, hc, hcl, rB, vB, zB⟩ := hJ
        have sB := dB.st h
        have lj := (m3 j hj).2
        have lt := (rB (i + j) (by omega)).2
        obtain ⟨vv, hvv⟩ : ∃ vv, vv = T' (i + j) + D i * E j + cc := ⟨_, rfl⟩
        have hm : D i * E j ≤ 65535 * 65535 := Nat.mul_le_mul (by omega) (by omega)
        have hq1 : vv / 65536 < 65536 := Nat.div_lt_of_lt_mul (by omega)
        have hr1 : vv % 65536 < 65536 := Nat.mod_lt _ (by decide)
        refine ⟨wI B 1027 (60 * to + (i + j)) (iw ((vv % 65536 : Nat) : Int)), nl (vv / 65536), ?_, dB.trans (Dw.w _ (Or.inl ⟨rfl, by omega, by omega⟩)), fun k => if k = i + j then vv % 65536 else T' k, vv / 65536, rfl, hq1, fun k hk => ?_, ?_, fun k k1 k2 => ?_⟩
        · show F_X9_multiply_b79_st (F_X9_multiply_b47 N0) (F_X9_multiply_b79 (F_X9_multiply_b47 N0) N) B 1026 _ _ _ _ _ _ _ _ = _
          unfold F_X9_multiply_b79_st
          have l1 : cI B 1028 q = iw (m : Int) := by rw [dB.ci h (by decide) (by unfold pA; omega)]; exact m2
          have l2 : cI B 1027 (60 * q + j) = iw (E j : Nat) := by rw [dB.ci h (by decide) (by unfold pA; omega)]; exact (m3 j hj).1
          simp only [g1026_641, g1026_640, sB, ai28 sB hq, l1, Option.bind_some]
          rw [if_pos (by rw [iw_le4 (by omega) (by omega)]; exact hj), i60, i60, iw_nadd, Nat.add_assoc, ai27 sB (by omega), Option.bind_some, ai27 sB (by omega), Option.bind_some, l2, (rB (i + j) (by omega)).1, i64_iw (by omega), i64_iw (by omega), hc, nl_mul, nl_add, nl_add, ← hvv, lm16, nl_int (by omega), show ((vv : Int) % 65536) = ((vv % 65536 : Nat) : Int) from rfl, si27 sB (by omega), Option.bind_some, iw_succ]
          rw [show j_lshr (nl vv) 16 = nl (vv / 65536) from nl_sshr (n := vv) (k := 16) (by omega) (by decide)]
        · show cI (wI B 1027 (60 * to + (i + j)) (iw ((vv % 65536 : Nat) : Int))) 1027 (60 * to + k) = iw ((if k = i + j then vv % 65536 else T' k : Nat) : Int) ∧ (if k = i + j then vv % 65536 else T' k) < 65536
          by_cases c : k = i + j
          · subst c
            rw [if_pos rfl]
            exact ⟨by rw [cI_wI, if_pos ⟨rfl, rfl⟩], hr1⟩
          · rw [if_neg c, cI_wI, if_neg (by omega)]
            exact rB k hk
        · have s := Vl_set (B := 65536) (D := T') (i := i + j) (v := vv % 65536) (n := w) (by omega)
          have := mul1 (B := 65536) (P := 65536 ^ (i + j)) (by decide) hvv s vB
          rw [show i + (j + 1) = i + j + 1 by omega, Nat.pow_succ, this]
          show _ = Vl 65536 T w + D i * (Vl 65536 E j + E j * 65536 ^ j) * 65536 ^ i
          rw [Nat.mul_add, Nat.add_mul, Nat.pow_add, ← Nat.mul_assoc (D i), Nat.mul_assoc (D i * E j) (65536 ^ j), Nat.mul_comm (65536 ^ j), Nat.add_assoc]
        · show (if k = i + j then vv % 65536 else T' k) = 0
          rw [if_neg (by omega)]
          exact zB k k1 k2) (M := A) (s := 0) ⟨d, T, 0, rfl, by decide, r, by show _ + 0 * _ = Vl 65536 T w + D i * 0 * 65536 ^ i; rw [Nat.zero_mul, Nat.mul_zero, Nat.zero_mul], z⟩
    have s2' := d2.st h
    have zt := z2 (i + m) (Nat.le_refl _) (by omega)
    refine ⟨wI A2 1027 (60 * to + (i + m)) (iw (cc : Nat)), fun k => if k = i + m then cc else T2 k, ?_, d2.trans (Dw.w _ (Or.inl ⟨rfl, by omega, by omega⟩)), fun k hk => ?_, fun k k1 k2 => ?_, ?_⟩
    · show F_X9_multiply_b47_st (F_X9_multiply_b47 N0) A 1026 _ _ _ _ _ = _
      unfold F_X9_multiply_b47_st
      have l1 : cI A 1028 p = iw (n : Int) := by rw [d.ci h (by decide) (by unfold pA; omega)]; exact n2'
      have l2 : cI A 1027 (60 * p + i) = iw (D i : Nat) := by rw [d.ci h (by decide) (by unfold pA; omega)]; exact (n3 i hi).1
      simp only [g1026_641, g1026_640, sA, ai28 sA hp, l1, Option.bind_some]
      rw [if_pos (by rw [iw_le4 (by omega) (by omega)]; exact hi), i60, ai27 sA (by omega), Option.bind_some, l2, i64_iw (by omega)]
      refine Eq.trans e2 ?_
      show F_X9_multiply_b79_st (F_X9_multiply_b47 N0) (F_X9_multiply_b79 (F_X9_multiply_b47 N0) K2) A2 1026 _ _ _ _ _ _ _ _ = _
      unfold F_X9_multiply_b79_st
      have l3 : cI A2 1028 q = iw (m : Int) := by rw [d2.ci h (by decide) (by unfold pA; omega)]; exact m2
      simp only [g1026_641, g1026_640, s2', ai28 s2' hq, l3, Option.bind_some]
      rw [if_neg (by rw [iw_le4 (by omega) (by omega)]; omega), i60, iw_nadd, Nat.add_assoc, hc, nl_i32', si27 s2' (by omega), Option.bind_some, iw_succ]
    · show cI (wI A2 1027 (60 * to + (i + m)) (iw (cc : Nat))) 1027 (60 * to + k) = iw ((if k = i + m then cc else T2 k : Nat) : Int) ∧ (if k = i + m then cc else T2 k) < 65536
      by_cases c : k = i + m
      · subst c
        rw [if_pos rfl]
        exact ⟨by rw [cI_wI, if_pos ⟨rfl, rfl⟩], hcl⟩
      · rw [if_neg c, cI_wI, if_neg (by omega)]
        exact r2 k hk
    · show (if k = i + m then cc else T2 k) = 0
      rw [if_neg (by omega)]
      exact z2 k (by omega) k2
    · have s := Vl_set (B := 65536) (D := T2) (i := i + m) (v := cc) (n := w) (by omega)
      rw [zt, Nat.zero_mul, Nat.add_zero] at s
      rw [s, v2]
  obtain ⟨K1, A1, -, e1, d1, T1, r1, v1, z1⟩ := upl0 (σ := Unit) (fun N M _ i => F_X9_multiply_b47 N M 1026 (iw (p : Int)) (iw (q : Int)) (iw (to : Int)) (iw (w : Int)) i) (n := n) (by omega) (fun i A _ => Dw (pA to) M A ∧ ∃ T, DR A to w T ∧ Vl 65536 T w = Vl 65536 D i * y.natAbs ∧ ∀ k, i + m ≤ k → k < w → T k = 0)
    (fun N A _ i hi hJ => by
      obtain ⟨d, T, r, v, z⟩ := hJ
      obtain ⟨A', T', f1, f2, f3, f4, f5⟩ := row N A i T hi d r z
      refine ⟨A', (), f1, f2, T', f3, ?_, f4⟩
      rw [f5, v, m4]
      show _ = (Vl 65536 D i + D i * 65536 ^ i) * y.natAbs
      rw [Nat.add_mul, Nat.mul_right_comm]) (M := A0) (s := ()) ⟨d0, fun _ => 0, r0, by show _ = 0 * _; rw [Nat.zero_mul]; exact Vl_zero (fun _ _ => rfl), fun _ _ _ => rfl⟩
  have sA1 := d1.st h
  obtain ⟨bt, hbt⟩ : ∃ bt : Int32, bt = if cI M 1029 p = cI M 1029 q then 0 else 1 := ⟨_, rfl⟩
  have hb1 : bt = 0 ∨ bt = 1 := by rw [hbt]; split <;> simp
  obtain ⟨B, hB⟩ : ∃ B, B = wI A1 1029 to bt := ⟨_, rfl⟩
  have sB : ST B := hB ▸ sA1
  have rB : ∀ k, k < w → cI B 1027 (60 * to + k) = iw (T1 k : Nat) ∧ T1 k < 65536 := fun k hk => by rw [hB, cI_wI, if_neg (by omega)]; exact r1 k hk
  have tr := E_trim sB ht (show w ≤ 60 by omega) rB
  refine ⟨wI B 1028 to (iw (trl T1 w : Nat)), ?_, ⟨EA.trim ht (by omega) rB (by rw [v1, n4, Int.natAbs_mul]), ?_⟩, ((d1.mono pA_B).trans (hB ▸ Dw.w _ (Or.inr (Or.inr ⟨rfl, rfl⟩)))).trans (Dw.w _ (Or.inr (Or.inl ⟨rfl, rfl⟩)))⟩
  · simp only [F_X9_multiply, g1026_641, h, ai28 h hp, ai28 h hq, n2', m2, hwi, Option.bind_some]
    refine Eq.trans e0 ?_
    show F_X9_multiply_b18_st (F_X9_multiply_b18 K0) A0 1026 _ _ _ _ _ = _
    unfold F_X9_multiply_b18_st
    rw [if_neg (by rw [iw_le4 (by omega) (by omega)]; omega)]
    refine Eq.trans e1 ?_
    show F_X9_multiply_b47_st (F_X9_multiply_b47 K1) A1 1026 _ _ _ _ _ = _
    unfold F_X9_multiply_b47_st
    have l1 : cI A1 1028 p = iw (n : Int) := by rw [d1.ci h (by decide) (by unfold pA; omega)]; exact n2'
    have l2 : cI A1 1029 p = cI M 1029 p := d1.ci h (by decide) (by unfold pA; omega)
    have l3 : cI A1 1029 q = cI M 1029 q := d1.ci h (by decide) (by unfold pA; omega)
    simp only [g1026_641, g1026_642, sA1, ai28 sA1 hp, ab29 sA1 hp, ab29 sA1 hq, l1, l2, l3, Option.bind_some, F_X9_multiply_b216]
    rw [if_neg (by rw [iw_le4 (by omega) (by omega)]; omega)]
    by_cases c : cI M 1029 p = cI M 1029 q
    · rw [if_pos c] at hbt
      rw [if_pos c, sb29 sA1 ht (Or.inl rfl), ← hbt, ← hB]
      simp only [v1026, sB, tr, Option.bind_some]
    · rw [if_neg c] at hbt
      rw [if_neg c, sb29 sA1 ht (Or.inr rfl), ← hbt, ← hB]
      simp only [v1026, sB, tr, Option.bind_some]
  · have hbe : cI (wI B 1028 to (iw (trl T1 w : Nat))) 1029 to = bt := by rw [cI_wI, if_neg (by omega), hB, cI_wI, if_pos ⟨rfl, rfl⟩]
    unfold ES
    rw [hbe]
    refine ⟨hb1, fun hxy => ?_⟩
    have hx0 : x ≠ 0 := fun q => hxy (by rw [q, Int.zero_mul])
    have hy0 : y ≠ 0 := fun q => hxy (by rw [q, Int.mul_zero])
    have sx := s2 hx0
    have sy := t2 hy0
    rw [hbt]
    have pos : ∀ {a b : Int}, 0 < a → 0 < b → 0 < a * b := fun ha hb => Int.mul_pos ha hb
    have n01 : ¬ (0 : Int32) = 1 := by decide
    rcases s1 with s1 | s1 <;> rcases t1 with t1 | t1 <;> rw [s1] at sx <;> rw [t1] at sy <;> rw [s1, t1]
    · rw [if_pos rfl]
      have a1 : ¬ x < 0 := fun q => n01 (sx.mpr q)
      have a2 : ¬ y < 0 := fun q => n01 (sy.mpr q)
      have := pos (show 0 < x by omega) (show 0 < y by omega)
      exact ⟨fun q => absurd q n01, fun q => by omega⟩
    · rw [if_neg n01]
      have a1 : ¬ x < 0 := fun q => n01 (sx.mpr q)
      have a2 : y < 0 := sy.mp rfl
      have := pos (show 0 < x by omega) (show 0 < -y by omega)
      rw [Int.mul_neg] at this
      exact ⟨fun _ => by omega, fun _ => rfl⟩
    · rw [if_neg (fun q => n01 q.symm)]
      have a1 : x < 0 := sx.mp rfl
      have a2 : ¬ y < 0 := fun q => n01 (sy.mpr q)
      have := pos (show 0 < -x by omega) (show 0 < y by omega)
      rw [Int.neg_mul] at this
      exact ⟨fun _ => by omega, fun _ => rfl⟩
    · rw [if_pos rfl]
      have a1 : x < 0 := sx.mp rfl
      have a2 : y < 0 := sy.mp rfl
      have := pos (show 0 < -x by omega) (show 0 < -y by omega)
      rw [Int.neg_mul_neg] at this
      exact ⟨fun q => absurd q n01, fun q => by omega⟩
