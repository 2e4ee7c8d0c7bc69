/-! ===== EXACT SOLUTIONS, 15: the engine's fractions ===== -/
def nmr (x d : Int) : Int := (if d < 0 then -x else x).tdiv ((Nat.gcd x.natAbs d.natAbs : Nat) : Int)
def dnm (x d : Int) : Int := ((d.natAbs / Nat.gcd x.natAbs d.natAbs : Nat) : Int)
def isL (x : Int) : Prop := -9223372036854775808 ≤ x ∧ x ≤ 9223372036854775807
theorem E_trn {M : Mem} (h : ST M) {p : Nat} {x : Int} (e : EB M p x) : ∃ M', F_X9_turn M 1026 (iw (p : Int)) = some M' ∧ EB M' p (-x) ∧ Dw (pB p) M M' := by
  obtain ⟨ea, s1, s2⟩ := e
  have hp := ea.1
  have n01 : ¬ (0 : Int32) = 1 := by decide
  obtain ⟨b, hb⟩ : ∃ b : Int32, b = if cI M 1029 p = 0 then 1 else 0 := ⟨_, rfl⟩
  have hb1 : b = 0 ∨ b = 1 := by rw [hb]; split <;> simp
  refine ⟨wI M 1029 p b, ?_, ⟨?_, ?_⟩, Dw.w _ (Or.inr (Or.inr ⟨rfl, rfl⟩))⟩
  · simp only [F_X9_turn, g1026_642, h, ab29 h hp, Option.bind_some, F_X9_turn_b19]
    rw [hb]
    split
    · rw [sb29 h hp (Or.inr rfl)]; rfl
    · rw [sb29 h hp (Or.inl rfl)]; rfl
  · rw [Int.natAbs_neg]
    exact ea.wB
  · unfold ES
    rw [cI_wI, if_pos ⟨rfl, rfl⟩]
    refine ⟨hb1, fun hx => ?_⟩
    have := s2 (by omega)
    rw [hb]
    rcases s1 with s | s
    · rw [s] at this
      have : ¬ x < 0 := fun q => n01 (this.mpr q)
      rw [if_pos s]
      exact ⟨fun _ => by omega, fun _ => rfl⟩
    · rw [s] at this
      have : x < 0 := this.mp rfl
      rw [if_neg (by rw [s]; decide)]
      exact ⟨fun q => absurd q n01, fun q => by omega⟩
theorem E_isLong {M : Mem} (h : ST M) {p : Nat} {x : Int} (e : EB M p x) : F_X9_isLong M 1026 (iw (p : Int)) = some (if -9223372036854775808 ≤ x ∧ x ≤ 9223372036854775807 then 1 else 0) := by
  obtain ⟨⟨hp, n, D, h1, h2, h3, h4, h5⟩, s1, s2⟩ := e
  have lt := Vl_lt (B := 65536) (fun k hk => (h3 k hk).2)
  rw [h4] at lt
  simp only [F_X9_isLong, g1026_641, g1026_640, g1026_642, h, ai28 h hp, ab29 h hp, h2, Option.bind_some, F_X9_isLong_b95, F_X9_isLong_b96, F_X9_isLong_b107, F_X9_isLong_b112]
  by_cases c1 : n < 4
  · have : 65536 ^ n ≤ 65536 ^ 3 := Nat.pow_le_pow_right (by decide) (by omega)
    have e3 : (65536 : Nat) ^ 3 = 281474976710656 := by decide
    rw [if_pos (by rw [show (4 : Int32) = iw ((4 : Nat) : Int) from rfl, iw_le4 (by omega) (by omega)]; exact c1), if_pos (by omega)]
  · rw [if_neg (by rw [show (4 : Int32) = iw ((4 : Nat) : Int) from rfl, iw_le4 (by omega) (by omega)]; exact c1)]
    have top := h5 (by omega)
    have ge := Vl_ge (B := 65536) (show 0 < n by omega) top
    rw [h4] at ge
    by_cases c2 : 4 < n
    · have : 65536 ^ 4 ≤ 65536 ^ (n - 1) := Nat.pow_le_pow_right (by decide) (by omega)
      have e4 : (65536 : Nat) ^ 4 = 18446744073709551616 := by decide
      rw [if_pos (by rw [show (4 : Int32) = iw ((4 : Nat) : Int) from rfl, iw_le4 (by omega) (by omega)]; exact c2), if_neg (by omega)]
    · rw [if_neg (by rw [show (4 : Int32) = iw ((4 : Nat) : Int) from rfl, iw_le4 (by omega) (by omega)]; exact c2)]
      have n4 : n = 4 := by omega
      subst n4
      have v : D 0 + D 1 * 65536 + D 2 * 4294967296 + D 3 * 281474976710656 = x.natAbs := by
        have : Vl 65536 D 4 = 0 + D 0 * 65536 ^ 0 + D 1 * 65536 ^ 1 + D 2 * 65536 ^ 2 + D 3 * 65536 ^ 3 := rfl
        rw [← h4, this]
        omega
      have d0 := h3 0 (by omega)
      have d1 := h3 1 (by omega)
      have d2 := h3 2 (by omega)
      have d3 := h3 3 (by omega)
      rw [show (4 : Nat) - 1 = 3 from rfl] at top
      have hx0 : x ≠ 0 := by omega
      have sx := s2 hx0
      have i3 : iw ((60 * p : Nat) : Int) + 3 = iw ((60 * p + 3 : Nat) : Int) := iw_nadd (60 * p) 3
      have i2 : iw ((60 * p : Nat) : Int) + 2 = iw ((60 * p + 2 : Nat) : Int) := iw_nadd (60 * p) 2
      have i1 : iw ((60 * p : Nat) : Int) + 1 = iw ((60 * p + 1 : Nat) : Int) := iw_nadd (60 * p) 1
      have z0 : ∀ t : Nat, t < 65536 → (iw (t : Nat) = 0 ↔ t = 0) := fun t ht => by rw [iw_eq0 (by omega) (by omega)]; omega
      have z3 : iw (D 3 : Nat) = 32768 ↔ D 3 = 32768 := by
        rw [show (32768 : Int32) = iw ((32768 : Nat) : Int) from rfl, iw_eq (by omega) (by omega) (by omega) (by omega)]; omega
      have l3 : iw (D 3 : Nat) < 32768 ↔ D 3 < 32768 := by
        rw [show (32768 : Int32) = iw ((32768 : Nat) : Int) from rfl, iw_le4 (by omega) (by omega)]
      simp only [i60', i3, i2, i1, ai27 h (show 60 * p + 3 < 7800 by omega), ai27 h (show 60 * p + 2 < 7800 by omega), ai27 h (show 60 * p + 1 < 7800 by omega), ai27 h (show 60 * p < 7800 by omega), d3.1, d2.1, d1.1, Option.bind_some]
      have d0' : cI M 1027 (60 * p) = iw (D 0 : Nat) := d0.1
      rw [d0']
      by_cases cl : D 3 < 32768
      · rw [if_pos (show -9223372036854775808 ≤ x ∧ x ≤ 9223372036854775807 by omega)]
        simp only [l3, cl, if_true]
        split
        · rfl
        · split
          · rename_i q; have := z3.mp q; omega
          · rfl
      · simp only [l3, cl, if_false]
        rcases s1 with s | s
        · rw [s] at sx ⊢
          have : ¬ x < 0 := fun q => absurd (sx.mpr q) (by decide)
          have hn : ¬ (-9223372036854775808 ≤ x ∧ x ≤ 9223372036854775807) := by omega
          simp only [if_neg hn, if_true]
          rfl
        · rw [s] at sx ⊢
          have hx : x < 0 := sx.mp rfl
          rw [if_neg (by decide)]
          by_cases c3 : D 3 = 32768 ∧ D 0 = 0 ∧ D 1 = 0 ∧ D 2 = 0
          · obtain ⟨a3, a0, a1, a2⟩ := c3
            rw [a3, a0, a1, a2] at v
            rw [if_pos (z3.mpr a3), if_pos ((z0 _ d0.2).mpr a0), if_pos ((z0 _ d1.2).mpr a1), if_pos ((z0 _ d2.2).mpr a2), if_neg (by decide), if_pos (by omega)]
            rfl
          · rw [if_neg (show ¬ (-9223372036854775808 ≤ x ∧ x ≤ 9223372036854775807) by omega)]
            simp only [if_true]
            by_cases b3 : D 3 = 32768
            · rw [if_pos (z3.mpr b3)]
              by_cases b0 : D 0 = 0
              · rw [if_pos ((z0 _ d0.2).mpr b0)]
                by_cases b1 : D 1 = 0
                · rw [if_pos ((z0 _ d1.2).mpr b1), if_neg (fun q => c3 ⟨b3, b0, b1, (z0 _ d2.2).mp q⟩)]
                  rfl
                · rw [if_neg (fun q => b1 ((z0 _ d1.2).mp q))]
                  rfl
              · rw [if_neg (fun q => b0 ((z0 _ d0.2).mp q))]
                rfl
            · rw [if_neg (fun q => b3 (z3.mp q))]
              rfl
theorem E_worth {M : Mem} (h : ST M) {p : Nat} {x : Int} (e : EB M p x) (hx : x.natAbs < 2 ^ 64) : F_X9_worth M 1026 (iw (p : Int)) = some (Int64.ofInt x) := by
  obtain ⟨⟨hp, n, D, h1, h2, h3, h4, h5⟩, s1, s2⟩ := e
  have lp : ∀ (i N acc : Nat), i ≤ n → acc * 65536 ^ i + Vl 65536 D i = x.natAbs → F_X9_worth_b12 (N + 1 + i) M 1026 (iw (p : Int)) (nl acc) (iw ((i : Int) - 1)) = some (Int64.ofInt x) := by
    intro i
    induction i with
    | zero =>
      intro N acc _ ev
      have ev : acc * 65536 ^ 0 + 0 = x.natAbs := ev
      have ea : acc = x.natAbs := by omega
      show F_X9_worth_b12_st (F_X9_worth_b12 N) M 1026 _ _ _ = _
      unfold F_X9_worth_b12_st F_X9_worth_b57
      rw [if_pos (by decide), g1026_642 h, Option.bind_some, ab29 h hp, Option.bind_some, ea]
      by_cases c : x = 0
      · subst c
        split <;> rfl
      · rcases s1 with s | s
        · have : ¬ x < 0 := fun q => absurd ((s2 c).mpr q) (by rw [s]; decide)
          rw [s, if_pos rfl, nl_ofInt, show ((x.natAbs : Nat) : Int) = x by omega]
        · have : x < 0 := (s2 c).mp s
          rw [s, if_neg (by decide), nl_neg (by omega), show -((x.natAbs : Nat) : Int) = x by omega]
    | succ i ih =>
      intro N acc hi ev
      have x1 := (h3 i (by omega)).2
      have ev' : (acc * 65536 + D i) * 65536 ^ i + Vl 65536 D i = x.natAbs := by
        have : acc * 65536 ^ (i + 1) + (Vl 65536 D i + D i * 65536 ^ i) = x.natAbs := ev
        rw [Nat.pow_succ, Nat.mul_comm (65536 ^ i), ← Nat.mul_assoc] at this
        rw [Nat.add_mul]
        omega
      have big : acc * 65536 + D i < 2 ^ 64 := by
        have : (acc * 65536 + D i) * 1 ≤ (acc * 65536 + D i) * 65536 ^ i := Nat.mul_le_mul_left _ (Nat.pow_pos (by decide))
        omega
      show F_X9_worth_b12_st (F_X9_worth_b12 (N + 1 + i)) M 1026 _ _ _ = _
      unfold F_X9_worth_b12_st
      rw [if_neg (by rw [iw_lt0 (by omega) (by omega)]; omega), show (((i + 1 : Nat) : Int) - 1) = (i : Int) by omega, i60]
      have sh : j_lshl (nl acc) 16 ||| (iw (D i : Nat)).toInt64 = nl (acc * 65536 + D i) := by
        rw [show j_lshl (nl acc) 16 = nl (acc * 2 ^ 16) from nl_shl (k := 16) (by decide), i64_iw (by omega), nl_or (by omega) (by omega)]
      simp only [g1026_640, h, ai27 h (show 60 * p + i < 7800 by omega), (h3 i (by omega)).1, sh, iw_p1, Option.bind_some]
      exact ih N _ (by omega) ev'
  have hxN : xN = 1099511627776 := rfl
  obtain ⟨N, hN⟩ : ∃ N, N + 1 + n = xN := ⟨xN - 1 - n, by omega⟩
  have := lp n N 0 (Nat.le_refl _) (by omega)
  rw [hN] at this
  simp only [F_X9_worth, g1026_641, h, ai28 h hp, h2, Option.bind_some]
  rw [show (1 : Int32) = iw 1 from rfl, iw_sub]
  exact this
/-- the greatest common divisor, by rests -/
def sCm : Nat → Prop := fun s => 120 ≤ s ∧ s ≤ 124
theorem E_gcd : ∀ (L N u v : Nat) (M : Mem), v < 2 ^ L → ST M → EB M 124 (u : Int) → EB M 120 (v : Int) → ∃ M', F_X8_common_b41 (N + 1 + 2 * L) M 1025 = some M' ∧ EB M' 124 ((Nat.gcd u v : Nat) : Int) ∧ Dw (pT sCm) M M' := by
  have stop : ∀ (N u : Nat) (M : Mem), ST M → EB M 124 (u : Int) → EB M 120 ((0 : Nat) : Int) → F_X8_common_b41 (N + 1) M 1025 = some M := fun N u M h e f => by
    show F_X8_common_b41_st (F_X8_common_b41 N) M 1025 = _
    unfold F_X8_common_b41_st
    have iz := E_isZero h f.1
    have iz' : F_X9_isZero M 1026 120 = some 1 := iz
    simp only [g1025_576, v1026, h, iz', Option.bind_some]
    rw [if_neg (by decide)]
  have one : ∀ (N u v : Nat) (M : Mem), v ≠ 0 → ST M → EB M 124 (u : Int) → EB M 120 (v : Int) → ∃ M', F_X8_common_b41 (N + 1) M 1025 = F_X8_common_b41 N M' 1025 ∧ EB M' 124 (v : Int) ∧ EB M' 120 ((u % v : Nat) : Int) ∧ Dw (pT sCm) M M' := fun N u v M hv h e f => by
    obtain ⟨A, a1, a2, a3, a4⟩ := E_div (p := 124) (q := 120) (to := 121) (lf := 122) h e f (by omega) (by decide) (by decide) (by decide) (by decide) (by decide) (by decide) (by decide)
    have sA := a4.st h
    have fA := f.dw h a4 (fun a c z w => by unfold pD pB at *; omega)
    obtain ⟨B, b1, b2, b3⟩ := E_put (p := 120) (q := 124) sA fA (by decide) (by decide)
    have sB := b3.st sA
    have rB := a3.dw sA b3 (fun a c z w => by unfold pB at *; omega)
    obtain ⟨C, c1, c2, c3⟩ := E_put (p := 122) (q := 120) sB rB (by decide) (by decide)
    have em : (u : Int).tmod (v : Int) = ((u % v : Nat) : Int) := rfl
    rw [em] at c2
    refine ⟨C, ?_, b2.dw sB c3 (fun a c z w => by unfold pB at *; omega), c2, ((a4.mono (pD_T (by unfold sCm; omega) (by unfold sCm; omega))).trans (b3.mono (pB_T (by unfold sCm; omega)))).trans (c3.mono (pB_T (by unfold sCm; omega)))⟩
    show F_X8_common_b41_st (F_X8_common_b41 N) M 1025 = _
    unfold F_X8_common_b41_st
    have iz := E_isZero h f.1
    rw [if_neg (show ¬ ((v : Nat) : Int).natAbs = 0 by omega)] at iz
    have iz' : F_X9_isZero M 1026 120 = some 0 := iz
    have a1' : F_X9_divide M 1026 124 120 121 122 = some A := a1
    have b1' : F_X9_put A 1026 120 124 = some B := b1
    have c1' : F_X9_put B 1026 122 120 = some C := c1
    simp only [g1025_576, v1026, h, iz', a1', sA, b1', sB, c1', Option.bind_some, if_true]
  intro L
  induction L with
  | zero =>
    intro N u v M hv h e f
    have : v = 0 := by rw [Nat.pow_zero] at hv; omega
    subst this
    exact ⟨M, stop N u M h e f, by rw [Nat.gcd_zero_right]; exact e, Dw.refl _ _⟩
  | succ L ih =>
    intro N u v M hv h e f
    by_cases c : v = 0
    · subst c
      exact ⟨M, by rw [show N + 1 + 2 * (L + 1) = N + 2 * (L + 1) + 1 by omega]; exact stop (N + 2 * (L + 1)) u M h e f, by rw [Nat.gcd_zero_right]; exact e, Dw.refl _ _⟩
    · obtain ⟨A, a1, a2, a3, a4⟩ := one (N + 1 + 2 * L + 1) u v M c h e f
      have sA := a4.st h
      by_cases c2 : u % v = 0
      · rw [c2] at a3
        refine ⟨A, ?_, ?_, a4⟩
        · rw [show N + 1 + 2 * (L + 1) = N + 1 + 2 * L + 1 + 1 by omega, a1]
          exact stop (N + 1 + 2 * L) v A sA a2 a3
        · rw [Nat.gcd_comm, Nat.gcd_rec, c2, Nat.gcd_zero_left]
          exact a2
      · obtain ⟨B, b1, b2, b3, b4⟩ := one (N + 1 + 2 * L) v (u % v) A c2 sA a2 a3
        have l1 := Nat.mod_lt u (show 0 < v by omega)
        have l2 := Nat.mod_lt v (show 0 < u % v by omega)
        have half : v % (u % v) < 2 ^ L := by
          rw [Nat.pow_succ] at hv
          by_cases c3 : u % v ≤ v / 2
          · omega
          · have : v % (u % v) = v - u % v := by
              rw [Nat.mod_eq_sub_mod (by omega), Nat.mod_eq_of_lt (by omega)]
            omega
        obtain ⟨C, c1, c2', c3⟩ := ih N (u % v) (v % (u % v)) B half (b4.st sA) b2 b3
        refine ⟨C, ?_, ?_, (a4.trans b4).trans c3⟩
        · rw [show N + 1 + 2 * (L + 1) = N + 1 + 2 * L + 1 + 1 by omega, a1, b1]
          exact c1
        · have g1 : Nat.gcd u v = Nat.gcd (u % v) (v % (u % v)) := by
            rw [Nat.gcd_comm u v, Nat.gcd_rec v u, Nat.gcd_rec (u % v) v, Nat.gcd_comm]
          rw [g1]
          exact c2'
