/-! ===== EXACT SOLUTIONS, 7: the engine's division ===== -/
theorem J_minL {a b : Nat} (ha : a < 2 ^ 63) (hb : b < 2 ^ 63) : F_J7_min (nl a) (nl b) = some (nl (min a b)) := by
  unfold F_J7_min F_J7_min_b11
  by_cases c : b < a
  · rw [if_pos ((nl_lt hb ha).mpr c), Nat.min_eq_right (by omega)]
  · rw [if_neg (fun q => c ((nl_lt hb ha).mp q)), Nat.min_eq_left (by omega)]
theorem E_step {M : Mem} (h : ST M) {j n : Nat} {R E : Nat → Nat} (hj : j + n < 120) (hn0 : 0 < n) (hn : n ≤ 60) (hR : RR M 1030 j (n + 1) R) (hE : RR M 1031 0 n E) (he : E (n - 1) ≠ 0) (hX : Vl 65536 R (n + 1) < 65536 * Vl 65536 E n) :
    ∃ (A : Mem) (R' : Nat → Nat), F_X9_step M 1026 (iw (j : Int)) (iw (n : Int)) = some (iw ((Vl 65536 R (n + 1) / Vl 65536 E n : Nat) : Int), A) ∧ Dw (fun a i => a = 1030 ∧ j ≤ i ∧ i ≤ j + n) M A ∧ RR A 1030 j (n + 1) R' ∧ Vl 65536 R' (n + 1) = Vl 65536 R (n + 1) % Vl 65536 E n := by
  obtain ⟨X, hXd⟩ : ∃ X, X = Vl 65536 R (n + 1) := ⟨_, rfl⟩
  obtain ⟨V, hV⟩ : ∃ V, V = Vl 65536 E n := ⟨_, rfl⟩
  rw [← hXd, ← hV] at hX ⊢
  have V0 : 0 < V := by
    have := Vl_ge (B := 65536) hn0 he
    have : 0 < 65536 ^ (n - 1) := Nat.pow_pos (by decide)
    omega
  obtain ⟨q, hq⟩ : ∃ q, q = X / V := ⟨_, rfl⟩
  have q1 : q < 65536 := by rw [hq]; exact Nat.div_lt_of_lt_mul (by rw [Nat.mul_comm]; exact hX)
  have qd := Nat.div_add_mod X V
  have qm := Nat.mod_lt X V0
  rw [← hq] at qd
  obtain ⟨n', rfl⟩ : ∃ n', n = n' + 1 := ⟨n - 1, by omega⟩
  rw [Nat.add_sub_cancel] at he
  have e0 := (hE n' (by omega)).2
  have r0 := (hR n' (by omega)).2
  have r1 := (hR (n' + 1) (by omega)).2
  obtain ⟨two, htwo⟩ : ∃ two, two = R (n' + 1) * 2 ^ 16 + R n' := ⟨_, rfl⟩
  have two32 : two < 2 ^ 32 := by omega
  -- the guess is not too small
  have gq : q ≤ two / E n' := by
    rw [Nat.le_div_iff_mul_le (by omega)]
    have s1 : X = Vl 65536 R n' + two * 65536 ^ n' := by
      rw [hXd]
      show Vl 65536 R n' + R n' * 65536 ^ n' + R (n' + 1) * 65536 ^ (n' + 1) = _
      rw [htwo, Nat.add_mul, Nat.pow_succ, Nat.mul_assoc, show (2 : Nat) ^ 16 = 65536 from rfl, Nat.mul_comm 65536 (65536 ^ n')]
      omega
    have s2 : V = Vl 65536 E n' + E n' * 65536 ^ n' := hV
    have s3 := Vl_lt (B := 65536) (D := R) (n := n') (fun k hk => (hR k (by omega)).2)
    have s4 : q * (E n' * 65536 ^ n') ≤ q * V := Nat.mul_le_mul_left _ (by omega)
    have s5 : q * E n' * 65536 ^ n' < (two + 1) * 65536 ^ n' := by
      rw [Nat.mul_assoc, Nat.add_mul, Nat.one_mul]
      rw [Nat.mul_comm V q] at qd
      omega
    have := Nat.lt_of_mul_lt_mul_right s5
    omega
  obtain ⟨g, hg⟩ : ∃ g, g = min (two / E n') 65535 := ⟨_, rfl⟩
  have g1 : q ≤ g := by rw [hg]; exact Nat.le_min.mpr ⟨gq, by omega⟩
  have g2 : g ≤ 65535 := by rw [hg]; exact Nat.min_le_right _ _
  obtain ⟨A1, R1, b, t1, t2, t3, t4, t5, t6⟩ := E_tt h g2 hj hn hR hE
  rw [← hXd, ← hV] at t6
  -- back, as often as the guess was too great
  have lp : ∀ (e N g : Nat) (A : Mem) (R' : Nat → Nat) (b : Int), g = q + e → g ≤ 65535 → Dw (fun a i => a = 1030 ∧ j ≤ i ∧ i ≤ j + (n' + 1)) M A → RR A 1030 j (n' + 1 + 1) R' → -1 ≤ b → b ≤ 0 → ((Vl 65536 R' (n' + 1 + 1) : Nat) : Int) + b * ((65536 ^ (n' + 1 + 1) : Nat) : Int) = (X : Int) - (g : Int) * (V : Int) →
      ∃ (A' : Mem) (R'' : Nat → Nat), F_X9_step_b54 (N + 1 + e) A 1026 (iw (j : Int)) (iw ((n' + 1 : Nat) : Int)) (nl g) (iw b) = some (iw (q : Int), A') ∧ Dw (fun a i => a = 1030 ∧ j ≤ i ∧ i ≤ j + (n' + 1)) M A' ∧ RR A' 1030 j (n' + 1 + 1) R'' ∧ Vl 65536 R'' (n' + 1 + 1) = X % V := by
    intro e
    induction e with
    | zero =>
      intro N g A R' b hge hg' d r b1 b2 ev
      have l := Vl_lt (B := 65536) (fun k hk => (r k hk).2)
      have hgq : g = q := hge
      subst hgq
      have e1 : (X : Int) - (g : Int) * (V : Int) = ((X % V : Nat) : Int) := by
        rw [← Int.natCast_mul]
        rw [Nat.mul_comm] at qd
        omega
      rw [e1] at ev
      have b0 : b = 0 := by
        refine Decidable.byContradiction (fun c => ?_)
        have : b = -1 := by omega
        subst this
        omega
      subst b0
      rw [Int.zero_mul, Int.add_zero] at ev
      refine ⟨A, R', ?_, d, r, by omega⟩
      show F_X9_step_b54_st (F_X9_step_b54 N) A 1026 _ _ _ _ = _
      unfold F_X9_step_b54_st
      rw [if_pos (show iw 0 = 0 from rfl), nl_i32']
    | succ e ih =>
      intro N g A R' b hge hg' d r b1 b2 ev
      have sA := d.st h
      have l := Vl_lt (B := 65536) (fun k hk => (r k hk).2)
      obtain ⟨g', rfl⟩ : ∃ g', g = g' + 1 := ⟨g - 1, by omega⟩
      have e1 : (g' + 1) * V ≥ (q + 1) * V := Nat.mul_le_mul_right _ (by omega)
      have e2 : (X : Int) - ((g' + 1 : Nat) : Int) * (V : Int) < 0 := by
        rw [← Int.natCast_mul]
        rw [Nat.mul_comm] at qd
        rw [Nat.add_mul q] at e1
        omega
      have b0 : b = -1 := by
        refine Decidable.byContradiction (fun c => ?_)
        have : b = 0 := by omega
        subst this
        rw [Int.zero_mul, Int.add_zero] at ev
        omega
      subst b0
      obtain ⟨A2, R2, c, a1, a2, a3, a4, a5⟩ := E_ab sA hj hn r (hE.dw h d (by decide) (fun i _ _ q => absurd q.1 (by decide)))
      rw [← hV] at a5
      obtain ⟨A', R'', f1, f2, f3, f4⟩ := ih N g' A2 R2 (-1 + (c : Int)) (by omega) (by omega) (d.trans a2) a3 (by omega) (by omega) (by
        have e3 : ((g' + 1 : Nat) : Int) * (V : Int) = (g' : Int) * (V : Int) + V := by rw [Int.natCast_add, Int.add_mul]; omega
        rw [e3] at ev
        rw [Int.add_mul, ← Int.natCast_mul c]
        omega)
      refine ⟨A', R'', ?_, f2, f3, f4⟩
      rw [← f1]
      show F_X9_step_b54_st (F_X9_step_b54 (N + 1 + e)) A 1026 _ _ _ _ = _
      unfold F_X9_step_b54_st
      rw [if_neg (by decide)]
      simp only [v1026, sA, a1, Option.bind_some]
      rw [show nl (g' + 1) - 1 = nl g' from (nl_sub (m := g' + 1) (n := 1) (by omega) (by omega)), iw_add]
  obtain ⟨e, hee⟩ : ∃ e, g = q + e := ⟨g - q, by omega⟩
  have hxN : xN = 1099511627776 := rfl
  obtain ⟨N, hN⟩ : ∃ N, N + 1 + e = xN := ⟨xN - 1 - e, by omega⟩
  obtain ⟨A', R'', f1, f2, f3, f4⟩ := lp e N g A1 R1 b hee g2 t2 t3 t4 t5 t6
  rw [hN] at f1
  refine ⟨A', R'', ?_, f2, f3, f4⟩
  unfold F_X9_step
  have i1 : iw (j : Int) + iw ((n' + 1 : Nat) : Int) - 1 = iw ((j + n' : Nat) : Int) := by rw [iw_nadd, show j + (n' + 1) = j + n' + 1 by omega, iw_m1]
  have e31 := (hE n' (by omega)).1
  rw [Nat.zero_add] at e31
  simp only [g1026_643, g1026_644, h, iw_nadd, iw_m1, ai30 h (show j + n' + 1 < 120 by omega), ai30 h (show j + n' < 120 by omega), show j + (n' + 1) = j + n' + 1 by omega, Option.bind_some]
  rw [show cI M 1030 (j + n' + 1) = iw (R (n' + 1) : Nat) from (hR (n' + 1) (by omega)).1, (hR n' (by omega)).1, ai31 h (by omega), Option.bind_some, e31, i64_iw (by omega), i64_iw (by omega), i64_iw (by omega)]
  rw [show j_lshl (nl (R (n' + 1))) 16 = nl (R (n' + 1) * 2 ^ 16) from nl_shl (k := 16) (by decide), nl_or (by omega) (by omega), ← htwo]
  have dl := Nat.div_le_self two (E n')
  rw [if_neg (fun z => he (by have := (nl_eq (m := E n') (n := 0) (by omega) (by omega)).mp z; exact this)), nl_div (by omega) (by omega), show (65535 : Int64) = nl 65535 from rfl, J_minL (by omega) (by omega), ← hg]
  simp only [v1026, h, t1, Option.bind_some]
  rw [← hq]
  exact f1
/-- how far to shift -/
theorem and15 {x : Nat} (h : x < 65536) : x &&& 32768 = 0 ↔ x < 32768 := by
  constructor
  · intro e
    refine Decidable.byContradiction (fun c => ?_)
    have h1 : x.testBit 15 = true := by
      rw [Nat.testBit_eq_decide_div_mod_eq]
      simp only [decide_eq_true_eq]
      omega
    have h2 : (x &&& 2 ^ 15).testBit 15 = true := by rw [Nat.testBit_and, h1, Nat.testBit_two_pow]; simp
    rw [show (2 : Nat) ^ 15 = 32768 from rfl, e, Nat.zero_testBit] at h2
    exact absurd h2 (by decide)
  · intro c
    apply Nat.eq_of_testBit_eq
    intro i
    rw [show (32768 : Nat) = 2 ^ 15 from rfl, Nat.testBit_and, Nat.zero_testBit, Nat.testBit_two_pow]
    by_cases hi : 15 = i
    · subst hi
      rw [Nat.testBit_lt_two_pow (show x < 2 ^ 15 from c)]
      rfl
    · simp [hi]
theorem E_nrm {M : Mem} (h : ST M) {p q to lf n t : Nat} {m sg : Int32} (hq : q < 130) (hn0 : 0 < n) (hn : n ≤ 60) (ht : cI M 1027 (60 * q + (n - 1)) = iw (t : Nat)) (t0 : 0 < t) (tl : t < 65536) :
    ∃ (K s : Nat), s ≤ 15 ∧ 32768 ≤ t * 2 ^ s ∧ t * 2 ^ s < 65536 ∧ F_X9_divide_b71 xN M 1026 (iw (p : Int)) (iw (q : Int)) (iw (to : Int)) (iw (lf : Int)) (iw (n : Int)) m sg 0 = F_X9_divide_b71 (K + 1) M 1026 (iw (p : Int)) (iw (q : Int)) (iw (to : Int)) (iw (lf : Int)) (iw (n : Int)) m sg (iw (s : Int)) := by
  have lp : ∀ (e N s : Nat), s + e = 15 → t * 2 ^ s < 65536 → ∃ (K s' : Nat), s' ≤ 15 ∧ 32768 ≤ t * 2 ^ s' ∧ t * 2 ^ s' < 65536 ∧ F_X9_divide_b71 (N + 1 + e) M 1026 (iw (p : Int)) (iw (q : Int)) (iw (to : Int)) (iw (lf : Int)) (iw (n : Int)) m sg (iw (s : Int)) = F_X9_divide_b71 (K + 1) M 1026 (iw (p : Int)) (iw (q : Int)) (iw (to : Int)) (iw (lf : Int)) (iw (n : Int)) m sg (iw (s' : Int)) := by
    intro e
    induction e with
    | zero =>
      intro N s hs hlt
      have : s = 15 := by omega
      subst this
      exact ⟨N, 15, by omega, by omega, hlt, rfl⟩
    | succ e ih =>
      intro N s hs hlt
      by_cases c : 32768 ≤ t * 2 ^ s
      · exact ⟨N + 1 + e, s, by omega, c, hlt, rfl⟩
      · obtain ⟨K, s', a1, a2, a3, a4⟩ := ih N (s + 1) (by omega) (by rw [Nat.pow_succ, ← Nat.mul_assoc]; omega)
        refine ⟨K, s', a1, a2, a3, Eq.trans ?_ a4⟩
        show F_X9_divide_b71_st (F_X9_divide_b71 (N + 1 + e)) M 1026 _ _ _ _ _ _ _ _ = _
        unfold F_X9_divide_b71_st
        have ix : (60 : Int32) * iw (q : Int) + iw (n : Int) - 1 = iw ((60 * q + (n - 1) : Nat) : Int) := by
          rw [i60, show 60 * q + n = 60 * q + (n - 1) + 1 by omega, iw_m1]
        rw [ix]
        simp only [g1026_640, h, ai27 h (show 60 * q + (n - 1) < 7800 by omega), ht, Option.bind_some]
        rw [ishl_n tl (by omega) (by omega), show (32768 : Int32) = iw ((32768 : Nat) : Int) from rfl, iw_nand (by omega) (by decide), (and15 hlt).mpr (by omega), if_pos (show iw ((0 : Nat) : Int) = 0 from rfl), iw_succ]
  have hxN : xN = 1099511627776 := rfl
  obtain ⟨N, hN⟩ : ∃ N, N + 1 + 15 = xN := ⟨xN - 16, by omega⟩
  have := lp 15 N 0 rfl (by omega)
  rw [hN] at this
  exact this

def pD (to lf : Nat) : Nat → Nat → Prop := fun a i => pB to a i ∨ pB lf a i ∨ a = 1030 ∨ a = 1031
/-- digit after digit -/
theorem E_qds {M : Mem} (h : ST M) {p to lf n m x2 : Nat} {sg : Int32} {s : Nat} {R E : Nat → Nat} (ht : to < 130) (hn0 : 0 < n) (hnm : n + m ≤ 60) (hR : RR M 1030 0 (m + 1 + n) R) (hE : RR M 1031 0 n E) (he : E (n - 1) ≠ 0) (hx : x2 = Vl 65536 R (m + 1 + n)) (hX : x2 < Vl 65536 E n * 65536 ^ (m + 1)) :
    ∃ (K : Nat) (A : Mem) (R' T : Nat → Nat), F_X9_divide_b126 xN M 1026 (iw (p : Int)) (iw (to : Int)) (iw (lf : Int)) (iw (n : Int)) (iw (m : Int)) sg (iw (s : Int)) (iw (m : Int)) = F_X9_divide_b126 (K + 1) A 1026 (iw (p : Int)) (iw (to : Int)) (iw (lf : Int)) (iw (n : Int)) (iw (m : Int)) sg (iw (s : Int)) (iw (-1)) ∧ Dw (fun a i => pA to a i ∨ a = 1030) M A ∧ RR A 1030 0 n R' ∧ cI A 1030 n = 0 ∧ DR A to (m + 1) T ∧ Vl 65536 R' n = x2 % Vl 65536 E n ∧ Vl 65536 T (m + 1) = x2 / Vl 65536 E n := by
  obtain ⟨V, hV⟩ : ∃ V, V = Vl 65536 E n := ⟨_, rfl⟩
  have V0 : 0 < V := by
    have := Vl_ge (B := 65536) hn0 he
    have : 0 < 65536 ^ (n - 1) := Nat.pow_pos (by decide)
    omega
  have Vn : V < 65536 ^ n := by rw [hV]; exact Vl_lt (fun k hk => (hE k hk).2)
  rw [← hV] at hX ⊢
  obtain ⟨K, A, -, e1, d1, R', T, r1, x1, x3, zt, dt, zr⟩ := dnl0 (σ := Unit) (fun N M _ j => F_X9_divide_b126 N M 1026 (iw (p : Int)) (iw (to : Int)) (iw (lf : Int)) (iw (n : Int)) (iw (m : Int)) sg (iw (s : Int)) j) (n := m + 1) (by omega) (fun i A _ => Dw (fun a i => pA to a i ∨ a = 1030) M A ∧ ∃ (R T : Nat → Nat), RR A 1030 0 (i + n) R ∧ Vl 65536 R (i + n) < V * 65536 ^ i ∧ x2 = Vl 65536 R (i + n) + V * Vl 65536 T (m + 1) ∧ (∀ k, k < i → T k = 0) ∧ (∀ k, i ≤ k → k < m + 1 → cI A 1027 (60 * to + k) = iw (T k : Nat) ∧ T k < 65536) ∧ (i ≤ m → cI A 1030 (i + n) = 0))
    (fun N A _ i hi hJ => by
      obtain ⟨d, R, T, r, x1, x3, zt, dt, -⟩ := hJ
      have sA := d.st h
      have rt : RR A 1030 i (n + 1) (fun k => R (i + k)) := fun k hk => by
        have := r (i + k) (by omega)
        rw [Nat.zero_add] at this
        exact this
      have sp := Vl_add (B := 65536) (D := R) (a := i) (n + 1)
      rw [show i + (n + 1) = i + 1 + n by omega] at sp
      obtain ⟨X, hX'⟩ : ∃ X, X = Vl 65536 (fun k => R (i + k)) (n + 1) := ⟨_, rfl⟩
      rw [← hX'] at sp
      have hXl : X < 65536 * V := by
        have q1 : 65536 ^ i * X < 65536 ^ i * (65536 * V) := by
          rw [Nat.pow_succ, Nat.mul_comm V, Nat.mul_assoc] at x1
          omega
        exact Nat.lt_of_mul_lt_mul_left q1
      obtain ⟨A1, R1, s1, s2, s3, s4⟩ := E_step sA (by omega) hn0 (by omega) rt (hE.dw h d (by decide) (fun i _ _ q => by unfold pA at q; omega)) he (by rw [← hX', ← hV]; exact hXl)
      rw [← hX', ← hV] at s1 s4
      have dA1 : Dw (fun a i => pA to a i ∨ a = 1030) M A1 := d.trans (s2.mono (fun a i q => Or.inr q.1))
      have sA1 := dA1.st h
      have ql : X / V < 65536 := Nat.div_lt_of_lt_mul (by rw [Nat.mul_comm]; exact hXl)
      have ml := Nat.mod_lt X V0
      have R1n : R1 n = 0 := by
        have e : Vl 65536 R1 n + R1 n * 65536 ^ n = X % V := s4
        refine Classical.byContradiction (fun c => ?_)
        have : 1 * 65536 ^ n ≤ R1 n * 65536 ^ n := Nat.mul_le_mul_right _ (by omega)
        omega
      have v1n : Vl 65536 R1 n = X % V := by
        have e : Vl 65536 R1 n + R1 n * 65536 ^ n = X % V := s4
        rw [R1n] at e
        omega
      obtain ⟨R2, hR2⟩ : ∃ R2 : Nat → Nat, R2 = fun k => if k < i then R k else R1 (k - i) := ⟨_, rfl⟩
      have v2 : Vl 65536 R2 (i + n) = Vl 65536 R i + 65536 ^ i * (X % V) := by
        rw [Vl_add, hR2, ← v1n]
        congr 1
        · exact Vl_congr (fun k hk => if_pos hk)
        · congr 1
          exact Vl_congr (fun k hk => by show (if i + k < i then R (i + k) else R1 (i + k - i)) = R1 k; rw [if_neg (by omega), Nat.add_sub_cancel_left])
      have ri := Vl_lt (B := 65536) (D := R) (n := i) (fun k hk => (r k (by omega)).2)
      have dm := Nat.div_add_mod X V
      refine ⟨wI A1 1027 (60 * to + i) (iw ((X / V : Nat) : Int)), (), ?_, dA1.trans (Dw.w _ (Or.inl (Or.inl ⟨rfl, by omega, by omega⟩))), R2, fun k => if k = i then X / V else T k, fun k hk => ?_, ?_, ?_, fun k hk => ?_, fun k k1 k2 => ?_, fun _ => ?_⟩
      · show F_X9_divide_b126_st (F_X9_divide_b126 N) A 1026 _ _ _ _ _ _ _ _ = _
        unfold F_X9_divide_b126_st
        rw [if_neg (by rw [iw_lt0 (by omega) (by omega)]; omega)]
        simp only [g1026_640, v1026, sA, s1, Option.bind_some, i60, si27 sA1 (show 60 * to + i < 7800 by omega), iw_p1]
      · rw [cI_wI, if_neg (by omega), hR2]
        show cI A1 1030 (0 + k) = iw ((if k < i then R k else R1 (k - i) : Nat) : Int) ∧ (if k < i then R k else R1 (k - i)) < 65536
        by_cases c : k < i
        · rw [if_pos c, s2.ci sA (by decide) (by omega)]
          exact r k (by omega)
        · rw [if_neg c]
          have := s3 (k - i) (by omega)
          rw [show i + (k - i) = k by omega] at this
          rw [Nat.zero_add]
          exact this
      · rw [v2]
        have : 65536 ^ i * (X % V + 1) ≤ 65536 ^ i * V := Nat.mul_le_mul_left _ ml
        rw [Nat.mul_add, Nat.mul_one] at this
        rw [Nat.mul_comm V]
        omega
      · have st := Vl_set (B := 65536) (D := T) (i := i) (v := X / V) (n := m + 1) hi
        rw [zt i (by omega), Nat.zero_mul, Nat.add_zero] at st
        rw [st, v2, x3, sp, Nat.mul_add, ← Nat.mul_assoc V]
        have e2 : 65536 ^ i * X = 65536 ^ i * (V * (X / V)) + 65536 ^ i * (X % V) := by rw [← Nat.mul_add, dm]
        have e3 : V * (X / V) * 65536 ^ i = 65536 ^ i * (V * (X / V)) := Nat.mul_comm _ _
        omega
      · show (if k = i then X / V else T k) = 0
        rw [if_neg (by omega)]
        exact zt k (by omega)
      · show cI (wI A1 1027 (60 * to + i) (iw ((X / V : Nat) : Int))) 1027 (60 * to + k) = iw ((if k = i then X / V else T k : Nat) : Int) ∧ (if k = i then X / V else T k) < 65536
        by_cases c : k = i
        · subst c
          rw [if_pos rfl]
          exact ⟨by rw [cI_wI, if_pos ⟨rfl, rfl⟩], ql⟩
        · rw [if_neg c, cI_wI, if_neg (by omega), s2.ci sA (by decide) (by omega)]
          exact dt k (by omega) k2
      · rw [cI_wI, if_neg (by omega)]
        have := (s3 n (by omega)).1
        rw [R1n] at this
        exact this) (M := M) (s := ()) ⟨Dw.refl _ _, R, fun _ => 0, hR, by rw [← hx]; exact hX, by rw [← hx, Vl_zero (fun _ _ => rfl)]; omega, fun _ _ => rfl, fun k k1 k2 => by omega, fun q => by omega⟩
  rw [show (((m + 1 : Nat) : Int) - 1) = (m : Int) by omega] at e1
  rw [Nat.zero_add] at r1 x1 x3 zr
  rw [Nat.pow_zero, Nat.mul_one] at x1
  refine ⟨K, A, R', T, e1, d1, r1, zr (by omega), fun k hk => dt k (by omega) hk, ?_, ?_⟩
  · rw [x3, Nat.add_mul_mod_self_left, Nat.mod_eq_of_lt x1]
  · rw [x3, Nat.add_mul_div_left _ _ V0, Nat.div_eq_of_lt x1, Nat.zero_add]
