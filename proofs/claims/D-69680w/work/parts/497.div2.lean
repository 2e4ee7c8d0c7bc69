/-! ===== EXACT SOLUTIONS, 8: the engine's division, whole ===== -/
theorem ishl_m {t u : Nat} (hu : u ≤ 16) (ht : t < 65536) : j_ishl (iw (t : Int)) (iw (u : Int)) &&& 65535 = iw ((t * 2 ^ u % 65536 : Nat) : Int) := by
  have e1 : ui (iw (u : Int)) = u := by have := ui_iw (u : Int); omega
  have e2 : ui (iw (t : Int)) = t := by have := ui_iw (t : Int); omega
  rw [ish_l, e1, e2, Nat.mod_eq_of_lt (show u < 32 by omega), ← iw_ni, im16]
  rfl
theorem shr_d {x s u : Nat} (hsu : s + u = 16) (t : Nat) (hx : x < 65536) : x / 2 ^ s + t * 2 ^ u % 65536 = x / 2 ^ s + t % 2 ^ s * 2 ^ u ∧ x / 2 ^ s < 2 ^ u := by
  have e : (65536 : Nat) = 2 ^ s * 2 ^ u := by rw [← Nat.pow_add, hsu]
  constructor
  · rw [e, Nat.mul_mod_mul_right]
  · exact Nat.div_lt_of_lt_mul (by rw [← e]; exact hx)
/-- back by as many bits -/
theorem E_shr {M : Mem} (h : ST M) {p to lf n s : Nat} {sg : Int32} {R : Nat → Nat} (hl : lf < 130) (hn0 : 0 < n) (hn : n ≤ 60) (hs : s ≤ 15) (hR : RR M 1030 0 n R) (hz : cI M 1030 n = 0) :
    ∃ (K : Nat) (A : Mem) (L : Nat → Nat), F_X9_divide_b169 xN M 1026 (iw (p : Int)) (iw (to : Int)) (iw (lf : Int)) (iw (n : Int)) sg (iw (s : Int)) 0 = F_X9_divide_b169 (K + 1) A 1026 (iw (p : Int)) (iw (to : Int)) (iw (lf : Int)) (iw (n : Int)) sg (iw (s : Int)) (iw (n : Int)) ∧ Dw (pA lf) M A ∧ DR A lf n L ∧ Vl 65536 L n = Vl 65536 R n / 2 ^ s := by
  have p0 : 0 < 2 ^ s := Nat.pow_pos (by decide)
  obtain ⟨Z, hZ⟩ : ∃ Z : Nat → Nat, Z = fun k => if k < n then R k else 0 := ⟨_, rfl⟩
  have zc : ∀ k, k ≤ n → cI M 1030 k = iw (Z k : Nat) ∧ Z k < 65536 := fun k hk => by
    rw [hZ]
    show cI M 1030 k = iw ((if k < n then R k else 0 : Nat) : Int) ∧ (if k < n then R k else 0) < 65536
    by_cases c : k < n
    · rw [if_pos c]
      have := hR k c
      rw [Nat.zero_add] at this
      exact this
    · have : k = n := by omega
      subst this
      rw [if_neg c, hz]
      exact ⟨rfl, by decide⟩
  have Zn : Z n = 0 := by rw [hZ]; exact if_neg (Nat.lt_irrefl n)
  obtain ⟨u, hu⟩ : ∃ u, s + u = 16 := ⟨16 - s, by omega⟩
  have e16 : 2 ^ s * 2 ^ u = 65536 := by rw [← Nat.pow_add, hu]
  obtain ⟨K, A, -, e1, d1, L, r1, v1⟩ := upl0 (σ := Unit) (fun N M _ k => F_X9_divide_b169 N M 1026 (iw (p : Int)) (iw (to : Int)) (iw (lf : Int)) (iw (n : Int)) sg (iw (s : Int)) k) (n := n) (by omega) (fun i A _ => Dw (pA lf) M A ∧ ∃ (L : Nat → Nat), DR A lf i L ∧ 2 ^ s * Vl 65536 L i + Z 0 % 2 ^ s = Vl 65536 Z i + Z i % 2 ^ s * 65536 ^ i)
    (fun N A _ i hi hJ => by
      obtain ⟨d, L, r, v⟩ := hJ
      have sA := d.st h
      obtain ⟨z1, z2⟩ := zc i (by omega)
      obtain ⟨z3, z4⟩ := zc (i + 1) (by omega)
      obtain ⟨f1, f2⟩ := shr_d hu (Z (i + 1)) z2
      have mm := Nat.mod_lt (Z (i + 1)) p0
      have f3 : (Z (i + 1) % 2 ^ s + 1) * 2 ^ u ≤ 2 ^ s * 2 ^ u := Nat.mul_le_mul_right _ mm
      rw [Nat.add_mul, Nat.one_mul, e16] at f3
      obtain ⟨l, hl'⟩ : ∃ l, l = Z (i + 1) % 2 ^ s * 2 ^ u + Z i / 2 ^ s := ⟨_, rfl⟩
      refine ⟨wI A 1027 (60 * lf + i) (iw (l : Nat)), (), ?_, d.trans (Dw.w _ (Or.inl ⟨rfl, by omega, by omega⟩)), _, r.put (v := l) (by omega) rfl, ?_⟩
      · show F_X9_divide_b169_st (F_X9_divide_b169 N) A 1026 _ _ _ _ _ _ _ = _
        unfold F_X9_divide_b169_st
        rw [if_pos (by rw [iw_le4 (by omega) (by omega)]; exact hi)]
        have a1 : cI A 1030 i = iw (Z i : Nat) := by rw [d.ci h (by decide) (by unfold pA; omega)]; exact z1
        have a2 : cI A 1030 (i + 1) = iw (Z (i + 1) : Nat) := by rw [d.ci h (by decide) (by unfold pA; omega)]; exact z3
        simp only [g1026_640, g1026_643, sA, iw_succ, ai30 sA (show i < 120 by omega), ai30 sA (show i + 1 < 120 by omega), a1, a2, Option.bind_some]
        rw [show (16 : Int32) - iw (s : Int) = iw (u : Int) by rw [show (16 : Int32) = iw ((16 : Nat) : Int) from rfl, iw_nsub (by omega)]; congr 2; omega, ishl_m (by omega) z4, ishr_n (by omega) (by omega) (by omega), i60]
        rw [show ((Z i : Int) / ((2 ^ s : Nat) : Int)) = ((Z i / 2 ^ s : Nat) : Int) from (Int.natCast_ediv _ _).symm, show Z (i + 1) * 2 ^ u % 65536 = Z (i + 1) % 2 ^ s * 2 ^ u by omega, Int32.or_comm, sh_or f2 (by omega), ← hl', si27 sA (by omega), Option.bind_some]
      · rw [Vl_put]
        show _ = Vl 65536 Z i + Z i * 65536 ^ i + Z (i + 1) % 2 ^ s * 65536 ^ (i + 1)
        have e2 : 2 ^ s * l = Z (i + 1) % 2 ^ s * 65536 + (Z i - Z i % 2 ^ s) := by
          rw [hl', Nat.mul_add, Nat.mul_left_comm, e16]
          have := Nat.div_add_mod (Z i) (2 ^ s)
          omega
        have e3 : 2 ^ s * (l * 65536 ^ i) + Z i % 2 ^ s * 65536 ^ i = Z i * 65536 ^ i + Z (i + 1) % 2 ^ s * 65536 ^ (i + 1) := by
          rw [← Nat.mul_assoc, e2, ← Nat.add_mul, Nat.pow_succ, Nat.mul_comm (65536 ^ i) 65536, ← Nat.mul_assoc, ← Nat.add_mul]
          congr 1
          have := Nat.mod_le (Z i) (2 ^ s)
          omega
        rw [Nat.mul_add]
        omega) (M := M) (s := ()) ⟨Dw.refl _ _, fun _ => 0, fun k hk => absurd hk (by omega), by show 2 ^ s * 0 + Z 0 % 2 ^ s = 0 + Z 0 % 2 ^ s * 65536 ^ 0; rw [Nat.mul_zero, Nat.pow_zero, Nat.mul_one]⟩
  rw [Zn, Nat.zero_mod, Nat.zero_mul, Nat.add_zero, Vl_congr (D := Z) (E := R) (fun k hk => by rw [hZ]; exact if_pos hk)] at v1
  refine ⟨K, A, L, e1, d1, r1, ?_⟩
  have mm := Nat.mod_lt (Z 0) p0
  rw [← v1, Nat.mul_add_div p0, Nat.div_eq_of_lt mm, Nat.add_zero]
theorem tdv {x y : Int} : (x.tdiv y).natAbs = x.natAbs / y.natAbs ∧ (x.tmod y).natAbs = x.natAbs % y.natAbs := ⟨Int.natAbs_tdiv x y, Int.natAbs_tmod x y⟩
/-- signs of quotient and rest -/
theorem tsg {x y : Int} (hy : y ≠ 0) : (x.tmod y ≠ 0 → (x.tmod y < 0 ↔ x < 0)) ∧ (x.tdiv y ≠ 0 → (x.tdiv y < 0 ↔ ¬ (x < 0 ↔ y < 0))) := by
  constructor
  · intro h
    by_cases c : x < 0
    · have := Int.tmod_nonneg y (a := -x) (by omega)
      rw [Int.neg_tmod] at this
      omega
    · have := Int.tmod_nonneg y (a := x) (by omega)
      omega
  · intro h
    by_cases c : x < 0 <;> by_cases c2 : y < 0
    · have := Int.tdiv_nonneg (a := -x) (b := -y) (by omega) (by omega)
      rw [Int.neg_tdiv_neg] at this
      simp only [c, c2, iff_self, not_true, iff_false]
      omega
    · have := Int.tdiv_nonneg (a := -x) (b := y) (by omega) (by omega)
      rw [Int.neg_tdiv] at this
      simp only [c, c2, true_iff, not_false_iff, iff_true]
      omega
    · have := Int.tdiv_nonneg (a := x) (b := -y) (by omega) (by omega)
      rw [Int.tdiv_neg] at this
      simp only [c, c2, iff_true, not_false_iff]
      omega
    · have := Int.tdiv_nonneg (a := x) (b := y) (by omega) (by omega)
      simp only [c, c2, iff_self, not_true, iff_false]
      omega
theorem E_div {M : Mem} (h : ST M) {p q to lf : Nat} {x y : Int} (e : EB M p x) (f : EB M q y) (hy : y ≠ 0) (ht : to < 130) (hl : lf < 130) (k1 : to ≠ p) (k2 : to ≠ q) (k3 : lf ≠ p) (k4 : lf ≠ q) (k5 : to ≠ lf) :
    ∃ M', F_X9_divide M 1026 (iw (p : Int)) (iw (q : Int)) (iw (to : Int)) (iw (lf : Int)) = some M' ∧ EB M' to (x.tdiv y) ∧ EB M' lf (x.tmod y) ∧ Dw (pD to lf) M M' := by
  have e' := e
  obtain ⟨⟨hp, w, D, n1, n2', n3, n4, n5⟩, s1, s2⟩ := e
  obtain ⟨⟨hq, n, E, m1, m2, m3, m4, m5⟩, t1, t2⟩ := f
  have n01 : ¬ (0 : Int32) = 1 := by decide
  have hn0 : 0 < n := by
    refine Nat.pos_of_ne_zero (fun c => ?_)
    subst c
    have m4 : 0 = y.natAbs := m4
    omega
  obtain ⟨sg, hsg⟩ : ∃ sg : Int32, sg = if cI M 1029 p = cI M 1029 q then 0 else 1 := ⟨_, rfl⟩
  have hsg1 : sg = 0 ∨ sg = 1 := by rw [hsg]; split <;> simp
  have head : F_X9_divide M 1026 (iw (p : Int)) (iw (q : Int)) (iw (to : Int)) (iw (lf : Int)) = F_X9_divide_b39 M sg 1026 (iw (p : Int)) (iw (q : Int)) (iw (to : Int)) (iw (lf : Int)) (iw (n : Int)) (iw ((w : Int) - n)) := by
    simp only [F_X9_divide, g1026_641, g1026_642, h, ai28 h hp, ai28 h hq, ab29 h hp, ab29 h hq, n2', m2, iw_sub, Option.bind_some]
    rw [hsg]
    split <;> rfl
  obtain ⟨aq, ar'⟩ := tdv (x := x) (y := y)
  obtain ⟨gr', gq⟩ := tsg (x := x) hy
  by_cases c : w < n
  · -- fewer digits: nothing goes
    have lt := Vl_more (B := 65536) (fun k hk => (n3 k hk).2) m5 c (by decide)
    rw [n4, m4] at lt
    have q0 : x.tdiv y = 0 := by rw [Nat.div_eq_of_lt lt] at aq; omega
    have r0 : x.tmod y = x := by
      have := Int.tmod_add_mul_tdiv x y
      rw [q0, Int.mul_zero] at this
      omega
    obtain ⟨A, a1, a2, a3⟩ := E_put h e' hl (fun z => k3 z.symm)
    have sA := a3.st h
    have sB : ST (wI A 1028 to 0) := sA
    have pt : Dw (pB to) A (wI (wI A 1028 to 0) 1029 to 0) := (Dw.w 0 (Or.inr (Or.inl ⟨rfl, rfl⟩))).trans (Dw.w 0 (Or.inr (Or.inr ⟨rfl, rfl⟩)))
    refine ⟨wI (wI A 1028 to 0) 1029 to 0, ?_, ⟨⟨ht, 0, fun _ => 0, by omega, ?_, fun k hk => absurd hk (by omega), ?_, fun q => absurd q (by omega)⟩, ?_⟩, ?_, (a3.mono (fun a i q => Or.inr (Or.inl q))).trans (pt.mono (fun a i q => Or.inl q))⟩
    · rw [head]
      unfold F_X9_divide_b39
      rw [if_pos (by rw [iw_lt0 (by omega) (by omega)]; omega)]
      simp only [v1026, h, a1, g1026_641, g1026_642, sA, si28 sA ht, sB, sb29 sB ht (Or.inl rfl), Option.bind_some]
    · rw [cI_wI, if_neg (by omega), cI_wI, if_pos ⟨rfl, rfl⟩]; rfl
    · rw [q0]; rfl
    · rw [q0]
      unfold ES
      rw [cI_wI, if_pos ⟨rfl, rfl⟩]
      exact ⟨Or.inl rfl, fun z => absurd rfl z⟩
    · rw [r0]
      exact a2.dw sA pt (fun a i q z => by unfold pB at *; omega)
  · obtain ⟨m, rfl⟩ : ∃ m, w = n + m := ⟨w - n, by omega⟩
    have em : (((n + m : Nat) : Int) - n) = (m : Int) := by omega
    rw [em] at head
    have et := (m3 (n - 1) (by omega)).1
    obtain ⟨K0, s, hs, hs1, hs2, b0⟩ := E_nrm (p := p) (to := to) (lf := lf) (m := iw (m : Int)) (sg := sg) h hq hn0 m1 et (Nat.pos_of_ne_zero (m5 hn0)) (m3 (n - 1) (by omega)).2
    have p0 : 0 < 2 ^ s := Nat.pow_pos (by decide)
    have p15 : 2 ^ s ≤ 2 ^ 15 := Nat.pow_le_pow_right (by decide) hs
    -- both are shifted
    obtain ⟨K1, A1, c1, R1, f1, f2, f3, f4, f5⟩ := E_shl h hp n1 n2' n3 hs (Or.inl rfl)
    have sA1 := f2.st h
    obtain ⟨A2, hA2⟩ : ∃ A2, A2 = wI A1 1030 (0 + (n + m)) (iw (c1 : Nat)) := ⟨_, rfl⟩
    have d2 : Dw (at1 1030) M A2 := f2.trans (hA2 ▸ Dw.w _ rfl)
    have sA2 := d2.st h
    have r2 : RR A2 1030 0 (n + m + 1) (fun k => if k = n + m then c1 else R1 k) := hA2 ▸ f3.put' (by omega) rfl
    have v2 : Vl 65536 (fun k => if k = n + m then c1 else R1 k) (n + m + 1) = x.natAbs * 2 ^ s := by rw [Vl_put, f5, n4]
    have g1 : F_X9_shifted M 1026 (iw (p : Int)) (iw (s : Int)) 1030 = some A2 := by
      rw [f1]
      show F_X9_shifted_b6_st (F_X9_shifted_b6 K1) A1 1026 _ _ _ _ _ = _
      unfold F_X9_shifted_b6_st
      have l1 : cI A1 1028 p = iw ((n + m : Nat) : Int) := by rw [f2.ci h (by decide) (by unfold at1; omega)]; exact n2'
      simp only [g1026_641, g1026_643, sA1, ai28 sA1 hp, l1, Option.bind_some]
      rw [if_neg (by rw [iw_le4 (by omega) (by omega)]; omega), if_pos (by decide), if_pos trivial, si30 sA1 (by omega), Option.bind_some, hA2, Nat.zero_add]
      rfl
    have q3 : DR A2 q n E := DR.dw (p := q) m3 h d2 m1 (fun a i z => by unfold pA at z; unfold at1; omega)
    have q2 : cI A2 1028 q = iw (n : Int) := by rw [d2.ci h (by decide) (by unfold at1; omega)]; exact m2
    obtain ⟨K3, A3, c3, R3, o1, o2, o3, o4, o5⟩ := E_shl sA2 hq m1 q2 q3 hs (Or.inr rfl)
    have sA3 := o2.st sA2
    rw [m4] at o5
    have c30 : c3 = 0 := by
      obtain ⟨n', rfl⟩ : ∃ n', n = n' + 1 := ⟨n - 1, by omega⟩
      rw [Nat.add_sub_cancel] at hs2
      have u1 : y.natAbs = Vl 65536 E n' + E n' * 65536 ^ n' := m4.symm
      have u2 := Vl_lt (B := 65536) (D := E) (n := n') (fun k hk => (m3 k (by omega)).2)
      obtain ⟨u, hu⟩ : ∃ u, s + u = 16 := ⟨16 - s, by omega⟩
      have e16 : 2 ^ s * 2 ^ u = 65536 := by rw [← Nat.pow_add, hu]
      have u3 : E n' < 2 ^ u := Nat.lt_of_mul_lt_mul_left (a := 2 ^ s) (by rw [e16, Nat.mul_comm]; exact hs2)
      have u4 : (E n' + 1) * 65536 ^ n' ≤ 2 ^ u * 65536 ^ n' := Nat.mul_le_mul_right _ u3
      rw [Nat.add_mul, Nat.one_mul] at u4
      have u5 : y.natAbs * 2 ^ s < 2 ^ u * 65536 ^ n' * 2 ^ s := Nat.mul_lt_mul_of_pos_right (by omega) p0
      have u6 : 2 ^ u * 65536 ^ n' * 2 ^ s = 65536 ^ (n' + 1) := by
        rw [Nat.mul_right_comm, Nat.mul_comm (2 ^ u), e16, Nat.pow_succ, Nat.mul_comm]
      refine Classical.byContradiction (fun z => ?_)
      have : 1 * 65536 ^ (n' + 1) ≤ c3 * 65536 ^ (n' + 1) := Nat.mul_le_mul_right _ (by omega)
      omega
    subst c30
    rw [Nat.zero_mul, Nat.add_zero] at o5
    have g2 : F_X9_shifted A2 1026 (iw (q : Int)) (iw (s : Int)) 1031 = some A3 := by
      rw [o1]
      show F_X9_shifted_b6_st (F_X9_shifted_b6 K3) A3 1026 _ _ _ _ _ = _
      unfold F_X9_shifted_b6_st
      have l1 : cI A3 1028 q = iw (n : Int) := by rw [o2.ci sA2 (by decide) (by unfold at1; omega)]; exact q2
      simp only [g1026_641, g1026_643, sA3, ai28 sA3 hq, l1, Option.bind_some]
      rw [if_neg (by rw [iw_le4 (by omega) (by omega)]; omega), if_pos (by decide), if_neg (by decide)]
      rfl
    have top : R3 (n - 1) ≠ 0 := by
      obtain ⟨n', rfl⟩ : ∃ n', n = n' + 1 := ⟨n - 1, by omega⟩
      rw [Nat.add_sub_cancel] at m5 ⊢
      intro z
      have u1 : Vl 65536 R3 (n' + 1) = Vl 65536 R3 n' + R3 n' * 65536 ^ n' := rfl
      rw [z, Nat.zero_mul, Nat.add_zero] at u1
      have u2 := Vl_lt (B := 65536) (D := R3) (n := n') (fun k hk => (o3 k (by omega)).2)
      have u3 := Vl_ge (B := 65536) (D := E) (n := n' + 1) (by omega) (by rw [Nat.add_sub_cancel]; exact m5 (by omega))
      rw [Nat.add_sub_cancel, m4] at u3
      have u4 : y.natAbs * 1 ≤ y.natAbs * 2 ^ s := Nat.mul_le_mul_left _ p0
      omega
    have r3 : RR A3 1030 0 (m + 1 + n) (fun k => if k = n + m then c1 else R1 k) := by
      have := r2.dw sA2 o2 (by decide) (fun i _ _ z => by unfold at1 at z; omega)
      rw [show n + m + 1 = m + 1 + n by omega] at this
      exact this
    have v3 : Vl 65536 (fun k => if k = n + m then c1 else R1 k) (m + 1 + n) = x.natAbs * 2 ^ s := by rw [show m + 1 + n = n + m + 1 by omega]; exact v2
    have xl := Vl_lt (B := 65536) (fun k hk => (n3 k hk).2)
    rw [n4] at xl
    have hX : x.natAbs * 2 ^ s < Vl 65536 R3 n * 65536 ^ (m + 1) := by
      rw [o5]
      have u3 := Vl_ge (B := 65536) (D := E) (n := n) hn0 (m5 hn0)
      rw [m4] at u3
      have u4 : 65536 ^ (n - 1) * 65536 ^ (m + 1) ≤ y.natAbs * 65536 ^ (m + 1) := Nat.mul_le_mul_right _ u3
      rw [← Nat.pow_add, show n - 1 + (m + 1) = n + m by omega] at u4
      rw [Nat.mul_right_comm]
      exact Nat.mul_lt_mul_of_pos_right (by omega) p0
    obtain ⟨K4, A4, R4, T, y1, y2, y3, y4, y5, y6, y7⟩ := E_qds (p := p) (lf := lf) (sg := sg) (s := s) (x2 := x.natAbs * 2 ^ s) sA3 ht hn0 (by omega) r3 o3 top v3.symm hX
    rw [o5, Nat.mul_mod_mul_right] at y6
    rw [o5, Nat.mul_div_mul_right _ _ p0] at y7
    have sA4 := y2.st sA3
    -- the quotient
    have tr := E_trim sA4 ht (show m + 1 ≤ 60 by omega) y5
    obtain ⟨A5, hA5⟩ : ∃ A5, A5 = wI A4 1028 to (iw (trl T (m + 1) : Nat)) := ⟨_, rfl⟩
    rw [← hA5] at tr
    have sA5 : ST A5 := hA5 ▸ sA4
    have eT : EA A5 to (x.natAbs / y.natAbs) := hA5 ▸ EA.trim ht (by omega) y5 y7
    have r5 : RR A5 1030 0 n R4 := fun k hk => by rw [hA5, cI_wI, if_neg (by omega)]; exact y3 k hk
    obtain ⟨K6, A6, L, w1, w2, w3, w4⟩ := E_shr (p := p) (to := to) (lf := lf) (sg := sg) (s := s) sA5 hl hn0 m1 hs r5 (by rw [hA5, cI_wI, if_neg (by omega)]; exact y4)
    have sA6 := w2.st sA5
    have trl' := E_trim sA6 hl m1 w3
    obtain ⟨A7, hA7⟩ : ∃ A7, A7 = wI A6 1028 lf (iw (trl L n : Nat)) := ⟨_, rfl⟩
    rw [← hA7] at trl'
    have sA7 : ST A7 := hA7 ▸ sA6
    have eL : EA A7 lf (x.natAbs % y.natAbs) := hA7 ▸ EA.trim hl m1 w3 (by rw [w4, y6, Nat.mul_div_cancel _ p0])
    have dT : Dw (fun a i => pA lf a i) A5 A7 := w2.trans (hA7 ▸ Dw.w _ (Or.inr ⟨rfl, rfl⟩))
    have eT7 : EA A7 to (x.natAbs / y.natAbs) := eT.dw sA5 dT (fun a i q z => by unfold pA at *; omega)
    have sA8 : ST (wI A7 1029 to sg) := sA7
    -- frames
    have dM7 : Dw (pD to lf) M A7 := ((((d2.mono (fun a i q => Or.inr (Or.inr (Or.inl q)))).trans (o2.mono (fun a i q => Or.inr (Or.inr (Or.inr q))))).trans (y2.mono (fun a i q => q.elim (fun q => Or.inl (pA_B a i q)) (fun q => Or.inr (Or.inr (Or.inl q)))))).trans (hA5 ▸ Dw.w _ (Or.inl (Or.inr (Or.inl ⟨rfl, rfl⟩))))).trans (dT.mono (fun a i q => Or.inr (Or.inl (pA_B a i q))))
    have b7 : cI A7 1029 p = cI M 1029 p := dM7.ci h (by decide) (by unfold pD pB; omega)
    have b8 : cI (wI A7 1029 to sg) 1029 p = cI M 1029 p := by rw [cI_wI, if_neg (by omega)]; exact b7
    refine ⟨wI (wI A7 1029 to sg) 1029 lf (cI M 1029 p), ?_, ⟨by rw [aq]; exact eT7.wB.wB, ?_⟩, ⟨by rw [ar']; exact eL.wB.wB, ?_⟩, (dM7.trans (Dw.w _ (Or.inl (Or.inr (Or.inr ⟨rfl, rfl⟩))))).trans (Dw.w _ (Or.inr (Or.inl (Or.inr (Or.inr ⟨rfl, rfl⟩)))))⟩
    · rw [head]
      unfold F_X9_divide_b39
      rw [if_neg (by rw [iw_lt0 (by omega) (by omega)]; omega), b0]
      show F_X9_divide_b71_st (F_X9_divide_b71 K0) M 1026 _ _ _ _ _ _ _ _ = _
      unfold F_X9_divide_b71_st
      have ix : (60 : Int32) * iw (q : Int) + iw (n : Int) - 1 = iw ((60 * q + (n - 1) : Nat) : Int) := by
        rw [i60, show 60 * q + n = 60 * q + (n - 1) + 1 by omega, iw_m1]
      rw [ix]
      simp only [g1026_640, h, ai27 h (show 60 * q + (n - 1) < 7800 by omega), et, Option.bind_some]
      have and0 : ¬ (E (n - 1) * 2 ^ s &&& 32768) = 0 := fun z => by have := (and15 hs2).mp z; omega
      have andl : (E (n - 1) * 2 ^ s &&& 32768) ≤ 32768 := Nat.and_le_right
      rw [ishl_n (m3 (n - 1) (by omega)).2 (by omega) (by omega), show (32768 : Int32) = iw ((32768 : Nat) : Int) from rfl, iw_nand (by omega) (by decide), if_neg (by rw [iw_eq0 (by omega) (by omega)]; omega)]
      simp only [g1026_643, g1026_644, v1026, h, g1, sA2, g2, Option.bind_some]
      rw [y1]
      show F_X9_divide_b126_st (F_X9_divide_b126 K4) A4 1026 _ _ _ _ _ _ _ _ = _
      unfold F_X9_divide_b126_st
      rw [if_pos (by decide)]
      simp only [v1026, sA4, iw_succ, tr, Option.bind_some]
      rw [w1]
      show F_X9_divide_b169_st (F_X9_divide_b169 K6) A6 1026 _ _ _ _ _ _ _ = _
      unfold F_X9_divide_b169_st
      rw [if_neg (by rw [iw_le4 (by omega) (by omega)]; omega)]
      simp only [v1026, sA6, trl', g1026_642, sA7, sb29 sA7 ht hsg1, sA8, ab29 sA8 hp, b8, sb29 sA8 hl s1, Option.bind_some]
    · unfold ES
      rw [cI_wI, if_neg (by omega), cI_wI, if_pos ⟨rfl, rfl⟩]
      refine ⟨hsg1, fun z => ?_⟩
      have hx0 : x ≠ 0 := fun z' => z (by rw [z', Int.zero_tdiv])
      have sx := s2 hx0
      have sy := t2 hy
      rw [gq z, ← sx, ← sy, hsg]
      rcases s1 with s1 | s1 <;> rcases t1 with t1 | t1 <;> rw [s1, t1] <;> simp
    · unfold ES
      rw [cI_wI, if_pos ⟨rfl, rfl⟩]
      refine ⟨s1, fun z => ?_⟩
      have hx0 : x ≠ 0 := fun z' => z (by rw [z', Int.zero_tmod])
      rw [gr' z]
      exact s2 hx0
