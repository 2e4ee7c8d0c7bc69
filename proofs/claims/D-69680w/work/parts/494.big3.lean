/-! ===== EXACT SOLUTIONS, 5: the engine's sums and differences ===== -/
def xt (n : Nat) (D : Nat → Nat) : Nat → Nat := fun k => if k < n then D k else 0
theorem Vl_xt {B n m : Nat} {D : Nat → Nat} (h : n ≤ m) : Vl B (xt n D) m = Vl B D n := by
  obtain ⟨e, rfl⟩ : ∃ e, m = n + e := ⟨m - n, by omega⟩
  rw [Vl_add, Vl_congr (D := xt n D) (E := D) (fun k hk => if_pos hk), Vl_zero (D := fun k => xt n D (n + k)) (fun k _ => if_neg (by omega)), Nat.mul_zero, Nat.add_zero]
theorem xt_lt {B n : Nat} {D : Nat → Nat} (hB : 0 < B) (h : ∀ k, k < n → D k < B) (k : Nat) : xt n D k < B := by
  unfold xt
  split
  · exact h k (by assumption)
  · exact hB
theorem E_digit {M : Mem} (h : ST M) {p n : Nat} {D : Nat → Nat} (hp : p < 130) (hn : n ≤ 60) (h2 : cI M 1028 p = iw (n : Int)) (h3 : DR M p n D) (k : Nat) (hk : k < 1000) : F_X9_digit M 1026 (iw (p : Int)) (iw (k : Int)) = some (iw (xt n D k : Nat)) := by
  simp only [F_X9_digit, g1026_641, g1026_640, h, ai28 h hp, h2, Option.bind_some, F_X9_digit_b25]
  unfold xt
  by_cases c : k < n
  · rw [if_pos (by rw [iw_le4 (by omega) (by omega)]; exact c), if_pos c, i60, ai27 h (by omega), Option.bind_some, (h3 k c).1]
  · rw [if_neg (by rw [iw_le4 (by omega) (by omega)]; exact c), if_neg c]
    rfl
theorem DR.dw {P : Nat → Nat → Prop} {M A : Mem} {p n : Nat} {D : Nat → Nat} (r : DR M p n D) (h : ST M) (d : Dw P M A) (hn : n ≤ 60) (hP : ∀ a i, pA p a i → ¬ P a i) : DR A p n D := fun k hk => by
  rw [d.ci h (by decide) (hP _ _ (Or.inl ⟨rfl, by omega, by omega⟩))]
  exact r k hk
theorem DR.put {M : Mem} {p n : Nat} {T : Nat → Nat} {i v : Nat} (r : DR M p i T) (hv : v < 65536) (hn : n = i + 1) : DR (wI M 1027 (60 * p + i) (iw (v : Nat))) p n (fun k => if k = i then v else T k) := fun k hk => by
  show cI (wI M 1027 (60 * p + i) (iw (v : Nat))) 1027 (60 * p + k) = iw ((if k = i then v else T k : Nat) : Int) ∧ (if k = i then v else T k) < 65536
  by_cases c : k = i
  · subst c
    rw [if_pos rfl]
    exact ⟨by rw [cI_wI, if_pos ⟨rfl, rfl⟩], hv⟩
  · rw [if_neg c, cI_wI, if_neg (by omega)]
    exact r k (by omega)
theorem Vl_put {B i v : Nat} {T : Nat → Nat} : Vl B (fun k => if k = i then v else T k) (i + 1) = Vl B T i + v * B ^ i := by
  show Vl B (fun k => if k = i then v else T k) i + (if i = i then v else T i) * B ^ i = _
  rw [if_pos rfl, Vl_congr (D := fun k => if k = i then v else T k) (E := T) (fun k hk => if_neg (by omega))]
theorem E_add {M : Mem} (h : ST M) {p q to u v : Nat} (e : EA M p u) (f : EA M q v) (hu : u < 65536 ^ 59) (hv : v < 65536 ^ 59) (ht : to < 130) (h1 : to ≠ p) (h2 : to ≠ q) : ∃ M', F_X9_addAmounts M 1026 (iw (p : Int)) (iw (q : Int)) (iw (to : Int)) = some M' ∧ EA M' to (u + v) ∧ Dw (pA to) M M' := by
  obtain ⟨hp, n, D, n1, n2', n3, n4, n5⟩ := e
  obtain ⟨hq, m, E, m1, m2, m3, m4, m5⟩ := f
  have na : n ≤ 59 := Vl_few (B := 65536) (by decide) n5 (by rw [n4]; exact hu)
  have mb : m ≤ 59 := Vl_few (B := 65536) (by decide) m5 (by rw [m4]; exact hv)
  obtain ⟨w, hw⟩ : ∃ w, w = max n m := ⟨_, rfl⟩
  obtain ⟨K, A, c, e1, d1, T, cc, hc, hcl, r1, v1⟩ := upl0 (σ := Int32) (fun N M c i => F_X9_addAmounts_b23 N M 1026 (iw (p : Int)) (iw (q : Int)) (iw (to : Int)) (iw (w : Int)) c i) (n := w) (by omega) (fun i A c => Dw (pA to) M A ∧ ∃ (T : Nat → Nat) (cc : Nat), c = iw (cc : Nat) ∧ cc ≤ 1 ∧ DR A to i T ∧ Vl 65536 T i + cc * 65536 ^ i = Vl 65536 (xt n D) i + Vl 65536 (xt m E) i)
    (fun N A c i hi hJ => by
      obtain ⟨d, T, cc, hc, hcl, r, v⟩ := hJ
      have sA := d.st h
      have x1 := xt_lt (B := 65536) (by decide) (fun k hk => (n3 k hk).2) i
      have x2 := xt_lt (B := 65536) (by decide) (fun k hk => (m3 k hk).2) i
      obtain ⟨vv, hvv⟩ : ∃ vv, vv = xt n D i + xt m E i + cc := ⟨_, rfl⟩
      refine ⟨wI A 1027 (60 * to + i) (iw ((vv % 65536 : Nat) : Int)), iw ((vv / 65536 : Nat) : Int), ?_, d.trans (Dw.w _ (Or.inl ⟨rfl, by omega, by omega⟩)), _, vv / 65536, rfl, by omega, r.put (Nat.mod_lt _ (by decide)) rfl, ?_⟩
      · show F_X9_addAmounts_b23_st (F_X9_addAmounts_b23 N) A 1026 _ _ _ _ _ _ = _
        unfold F_X9_addAmounts_b23_st
        have g1 := E_digit sA hp n1 (by rw [d.ci h (by decide) (by unfold pA; omega)]; exact n2') (DR.dw (p := p) n3 h d n1 (fun a i q => by unfold pA at *; omega)) i (by omega)
        have g2 := E_digit sA hq m1 (by rw [d.ci h (by decide) (by unfold pA; omega)]; exact m2) (DR.dw (p := q) m3 h d m1 (fun a i q => by unfold pA at *; omega)) i (by omega)
        rw [if_pos (by rw [iw_le4 (by omega) (by omega)]; exact hi)]
        simp only [v1026, g1026_640, sA, g1, g2, Option.bind_some, hc, iw_nadd]
        rw [← hvv, im16, ishr16 (by omega) (by omega), i60, show ((vv : Int) % 65536) = ((vv % 65536 : Nat) : Int) from rfl, si27 sA (by omega), Option.bind_some, iw_succ]
        rfl
      · rw [Vl_put]
        show _ = Vl 65536 (xt n D) i + xt n D i * 65536 ^ i + (Vl 65536 (xt m E) i + xt m E i * 65536 ^ i)
        have := mul1 (B := 65536) (P := 65536 ^ i) (v := vv) (t := xt n D i) (a := xt m E i) (d := 1) (c := cc) (Vt := Vl 65536 T i + xt n D i * 65536 ^ i) (Vt' := Vl 65536 T i + vv % 65536 * 65536 ^ i) (R := Vl 65536 T i + xt n D i * 65536 ^ i + cc * 65536 ^ i) (by decide) (by omega) (by omega) rfl
        rw [Nat.mul_one] at this
        rw [Nat.pow_succ]
        omega) (M := M) (s := 0) ⟨Dw.refl _ _, fun _ => 0, 0, rfl, by decide, fun k hk => absurd hk (by omega), rfl⟩
  have sA := d1.st h
  obtain ⟨B, hB⟩ : ∃ B, B = wI A 1027 (60 * to + w) (iw (cc : Nat)) := ⟨_, rfl⟩
  have sB : ST B := hB ▸ sA
  have rB : DR B to (w + 1) (fun k => if k = w then cc else T k) := hB ▸ r1.put (by omega) rfl
  have tr := E_trim sB ht (show w + 1 ≤ 60 by omega) rB
  refine ⟨_, ?_, EA.trim ht (show w + 1 ≤ 60 by omega) rB (by rw [Vl_put, v1, Vl_xt (by omega), Vl_xt (by omega), n4, m4]), (d1.trans (hB ▸ Dw.w _ (Or.inl ⟨rfl, by omega, by omega⟩))).trans (Dw.w _ (Or.inr ⟨rfl, rfl⟩))⟩
  simp only [F_X9_addAmounts, g1026_641, h, ai28 h hp, ai28 h hq, n2', m2, J_max0 (show n ≤ 2147483647 by omega) (show m ≤ 2147483647 by omega), ← hw, Option.bind_some]
  refine Eq.trans e1 ?_
  show F_X9_addAmounts_b23_st (F_X9_addAmounts_b23 K) A 1026 _ _ _ _ _ _ = _
  unfold F_X9_addAmounts_b23_st
  rw [if_neg (by rw [iw_le4 (by omega) (by omega)]; omega), i60, hc]
  simp only [g1026_640, sA, si27 sA (show 60 * to + w < 7800 by omega), ← hB, v1026, sB, iw_succ, tr, Option.bind_some]
theorem E_take {M : Mem} (h : ST M) {p q to u v : Nat} (e : EA M p u) (f : EA M q v) (huv : v ≤ u) (ht : to < 130) (h1 : to ≠ p) (h2 : to ≠ q) : ∃ M', F_X9_takeAmounts M 1026 (iw (p : Int)) (iw (q : Int)) (iw (to : Int)) = some M' ∧ EA M' to (u - v) ∧ Dw (pA to) M M' := by
  obtain ⟨hp, n, D, n1, n2', n3, n4, n5⟩ := e
  obtain ⟨hq, m, E, m1, m2, m3, m4, m5⟩ := f
  have mn : m ≤ n := by
    refine Classical.byContradiction (fun c => ?_)
    have := Vl_more (B := 65536) (fun k hk => (n3 k hk).2) m5 (show n < m by omega) (by decide)
    omega
  obtain ⟨K, A, c, e1, d1, T, cc, hc, hcl, r1, v1⟩ := upl0 (σ := Int32) (fun N M c i => F_X9_takeAmounts_b14 N M 1026 (iw (p : Int)) (iw (q : Int)) (iw (to : Int)) (iw (n : Int)) c i) (n := n) (by omega) (fun i A c => Dw (pA to) M A ∧ ∃ (T : Nat → Nat) (cc : Nat), c = iw (cc : Nat) ∧ cc ≤ 1 ∧ DR A to i T ∧ Vl 65536 T i + Vl 65536 (xt m E) i = Vl 65536 D i + cc * 65536 ^ i)
    (fun N A c i hi hJ => by
      obtain ⟨d, T, cc, hc, hcl, r, v⟩ := hJ
      have sA := d.st h
      have x1 := (n3 i hi).2
      have x2 := xt_lt (B := 65536) (by decide) (fun k hk => (m3 k hk).2) i
      obtain ⟨vv, hvv⟩ : ∃ vv : Int, vv = (D i : Int) - xt m E i - cc := ⟨_, rfl⟩
      obtain ⟨b, hb⟩ : ∃ b : Nat, b = if vv < 0 then 1 else 0 := ⟨_, rfl⟩
      obtain ⟨t, ht'⟩ : ∃ t : Nat, (t : Int) = vv % 65536 := ⟨(vv % 65536).toNat, by have := Int.emod_nonneg vv (show (65536 : Int) ≠ 0 by decide); omega⟩
      have tb : (t : Int) = vv + b * 65536 ∧ t < 65536 ∧ b ≤ 1 := by
        rw [hb]
        by_cases c : vv < 0
        · rw [if_pos c]; omega
        · rw [if_neg c]; omega
      refine ⟨wI A 1027 (60 * to + i) (iw (t : Nat)), iw (b : Nat), ?_, d.trans (Dw.w _ (Or.inl ⟨rfl, by omega, by omega⟩)), _, b, rfl, tb.2.2, r.put tb.2.1 rfl, ?_⟩
      · show F_X9_takeAmounts_b14_st (F_X9_takeAmounts_b14 N) A 1026 _ _ _ _ _ _ = _
        unfold F_X9_takeAmounts_b14_st
        have g1 := E_digit sA hp n1 (by rw [d.ci h (by decide) (by unfold pA; omega)]; exact n2') (DR.dw (p := p) n3 h d n1 (fun a i q => by unfold pA at *; omega)) i (by omega)
        have g2 := E_digit sA hq m1 (by rw [d.ci h (by decide) (by unfold pA; omega)]; exact m2) (DR.dw (p := q) m3 h d m1 (fun a i q => by unfold pA at *; omega)) i (by omega)
        rw [show xt n D i = D i from if_pos hi] at g1
        rw [if_pos (by rw [iw_le4 (by omega) (by omega)]; exact hi)]
        simp only [v1026, sA, g1, g2, Option.bind_some, hc, iw_sub, F_X9_takeAmounts_b51, g1026_640]
        rw [← hvv, im16, ← ht', i60, si27 sA (by omega)]
        simp only [Option.bind_some, iw_succ]
        by_cases c : vv < 0
        · rw [if_pos (by rw [iw_lt0 (by omega) (by omega)]; exact c), hb, if_pos c]; rfl
        · rw [if_neg (by rw [iw_lt0 (by omega) (by omega)]; exact c), hb, if_neg c]; rfl
      · rw [Vl_put]
        show Vl 65536 T i + t * 65536 ^ i + (Vl 65536 (xt m E) i + xt m E i * 65536 ^ i) = Vl 65536 D i + D i * 65536 ^ i + b * 65536 ^ (i + 1)
        have k : t + xt m E i + cc = D i + b * 65536 := by omega
        have k2 := congrArg (· * 65536 ^ i) k
        simp only [Nat.add_mul, Nat.mul_assoc] at k2
        rw [Nat.pow_succ, Nat.mul_comm (65536 ^ i) 65536]
        omega) (M := M) (s := 0) ⟨Dw.refl _ _, fun _ => 0, 0, rfl, by decide, fun k hk => absurd hk (by omega), rfl⟩
  have sA := d1.st h
  have tr := E_trim sA ht n1 r1
  have val : Vl 65536 T n = u - v := by
    rw [Vl_xt mn, m4, n4] at v1
    have l := Vl_lt (B := 65536) (fun k hk => (r1 k hk).2)
    have : cc = 0 := by
      refine Classical.byContradiction (fun q => ?_)
      have : cc = 1 := by omega
      subst this
      omega
    subst this
    omega
  refine ⟨_, ?_, EA.trim ht n1 r1 val, d1.trans (Dw.w _ (Or.inr ⟨rfl, rfl⟩))⟩
  simp only [F_X9_takeAmounts, g1026_641, h, ai28 h hp, n2', Option.bind_some]
  refine Eq.trans e1 ?_
  show F_X9_takeAmounts_b14_st (F_X9_takeAmounts_b14 K) A 1026 _ _ _ _ _ _ = _
  unfold F_X9_takeAmounts_b14_st
  rw [if_neg (by rw [iw_le4 (by omega) (by omega)]; omega)]
  simp only [v1026, sA, tr, Option.bind_some]
theorem EA.wB {M : Mem} {p v q : Nat} {b : Int32} (e : EA M p v) : EA (wI M 1029 q b) p v := by
  obtain ⟨hp, n, D, h1, h2, h3, h4, h5⟩ := e
  refine ⟨hp, n, D, h1, ?_, fun k hk => ⟨?_, (h3 k hk).2⟩, h4, h5⟩
  · rw [cI_wI, if_neg (by omega)]; exact h2
  · rw [cI_wI, if_neg (by omega)]; exact (h3 k hk).1
theorem E_sub {M : Mem} (h : ST M) {p q to : Nat} {x y : Int} (e : EB M p x) (f : EB M q y) (hx : x.natAbs < 65536 ^ 59) (hy : y.natAbs < 65536 ^ 59) (ht : to < 130) (h1 : to ≠ p) (h2 : to ≠ q) : ∃ M', F_X9_subtract M 1026 (iw (p : Int)) (iw (q : Int)) (iw (to : Int)) = some M' ∧ EB M' to (x - y) ∧ Dw (pB to) M M' := by
  have bx := E_isBelow h e
  have by' := E_isBelow h f
  have n01 : ¬ (0 : Int32) = 1 := by decide
  have n10 : ¬ (1 : Int32) = 0 := by decide
  obtain ⟨ea, sx1, sx2⟩ := e
  obtain ⟨fa, sy1, sy2⟩ := f
  have hp := ea.1
  have hq := fa.1
  -- what remains when the amounts are there
  have fin : ∀ (A : Mem) (b : Int32) (v : Nat), EA A to v → Dw (pA to) M A → v = (x - y).natAbs → (b = 0 ∨ b = 1) → (x - y ≠ 0 → (b = 1 ↔ x - y < 0)) → EB (wI A 1029 to b) to (x - y) ∧ Dw (pB to) M (wI A 1029 to b) := fun A b v eA dA hv hb hs =>
    ⟨⟨hv ▸ eA.wB, by unfold ES; rw [cI_wI, if_pos ⟨rfl, rfl⟩]; exact ⟨hb, hs⟩⟩, (dA.mono pA_B).trans (Dw.w _ (Or.inr (Or.inr ⟨rfl, rfl⟩)))⟩
  have bit : ∀ A, Dw (pA to) M A → ST A ∧ cI A 1029 p = cI M 1029 p ∧ cI A 1029 q = cI M 1029 q := fun A d => ⟨d.st h, d.ci h (by decide) (by unfold pA; omega), d.ci h (by decide) (by unfold pA; omega)⟩
  by_cases c : (x < 0 ↔ y < 0)
  · have ce : (if x < 0 then (1 : Int32) else 0) = (if y < 0 then 1 else 0) := by
      by_cases c1 : x < 0
      · rw [if_pos c1, if_pos (c.mp c1)]
      · rw [if_neg c1, if_neg (fun q => c1 (c.mpr q))]
    have cm := E_cmp h ea fa
    by_cases c2 : x.natAbs < y.natAbs
    · obtain ⟨A, a1, a2, a3⟩ := E_take h fa ea (by omega) ht h2 h1
      obtain ⟨sA, b1, b2⟩ := bit A a3
      have cmv : iw (cmn x.natAbs y.natAbs) < 0 := by unfold cmn; rw [if_pos c2]; decide
      obtain ⟨b, hb⟩ : ∃ b : Int32, b = if cI M 1029 q = 0 then 1 else 0 := ⟨_, rfl⟩
      have hb1 : b = 0 ∨ b = 1 := by rw [hb]; split <;> simp
      obtain ⟨f1, f2⟩ := fin A b _ a2 a3 (by omega) hb1 (fun _ => by
        have := sy2 (by omega)
        rcases sy1 with s | s
        · rw [s] at this
          have hy : ¬ y < 0 := fun q => n01 (this.mpr q)
          rw [hb, if_pos s]
          exact ⟨fun _ => by omega, fun _ => rfl⟩
        · rw [s] at this
          have hy : y < 0 := this.mp rfl
          have := c.mpr hy
          rw [hb, if_neg (by rw [s]; decide)]
          exact ⟨fun q => absurd q n01, fun q => by omega⟩)
      refine ⟨_, ?_, f1, f2⟩
      simp only [F_X9_subtract, v1026, h, bx, by', ce, if_true, cm, cmv, a1, g1026_642, sA, ab29 sA hq, b2, Option.bind_some, F_X9_subtract_b117, F_X9_subtract_b118]
      by_cases c3 : cI M 1029 q = 0
      · rw [if_pos c3] at hb
        rw [if_pos c3, sb29 sA ht (Or.inr rfl), hb]; rfl
      · rw [if_neg c3] at hb
        rw [if_neg c3, sb29 sA ht (Or.inl rfl), hb]; rfl
    · obtain ⟨A, a1, a2, a3⟩ := E_take h ea fa (by omega) ht h1 h2
      obtain ⟨sA, b1, b2⟩ := bit A a3
      have cmv : ¬ iw (cmn x.natAbs y.natAbs) < 0 := by unfold cmn; rw [if_neg c2]; split <;> decide
      obtain ⟨f1, f2⟩ := fin A (cI M 1029 p) _ a2 a3 (by omega) sx1 (fun hxy => by
        have := sx2 (by omega)
        rw [this]
        omega)
      refine ⟨_, ?_, f1, f2⟩
      simp only [F_X9_subtract, v1026, h, bx, by', ce, if_true, cm, cmv, if_false, a1, g1026_642, sA, ab29 sA hp, b1, sb29 sA ht sx1, Option.bind_some, F_X9_subtract_b118]
  · have ce : ¬ (if x < 0 then (1 : Int32) else 0) = (if y < 0 then 1 else 0) := by
      by_cases c1 : x < 0
      · rw [if_pos c1, if_neg (fun q => c ⟨fun _ => q, fun _ => c1⟩)]; exact n10
      · rw [if_neg c1, if_pos (Decidable.byContradiction (fun q => c ⟨fun z => absurd z c1, fun z => absurd z q⟩))]; exact n01
    obtain ⟨A, a1, a2, a3⟩ := E_add h ea fa hx hy ht h1 h2
    obtain ⟨sA, b1, b2⟩ := bit A a3
    have z1 := E_isZero sA (ea.dw h a3 (fun a i q => by unfold pA at *; omega))
    by_cases c3 : x = 0
    · subst c3
      have hy : y < 0 := Decidable.byContradiction (fun q => c ⟨fun z => absurd z (by decide), fun z => absurd z q⟩)
      have hyb : cI M 1029 q = 1 := (sy2 (by omega)).mpr hy
      obtain ⟨f1, f2⟩ := fin A 0 _ a2 a3 (by omega) (Or.inl rfl) (fun _ => ⟨fun q => absurd q n01, fun q => by omega⟩)
      refine ⟨_, ?_, f1, f2⟩
      simp only [F_X9_subtract, v1026, h, bx, by', ce, if_false, a1, g1026_642, sA, z1, show Int.natAbs 0 = 0 from rfl, if_true, n10, ab29 sA hq, b2, hyb, sb29 sA ht (Or.inl rfl), Option.bind_some, F_X9_subtract_b56, F_X9_subtract_b118]
    · obtain ⟨f1, f2⟩ := fin A (cI M 1029 p) _ a2 a3 (by omega) sx1 (fun hxy => by
        rw [sx2 c3]
        omega)
      refine ⟨_, ?_, f1, f2⟩
      simp only [F_X9_subtract, v1026, h, bx, by', ce, if_false, a1, g1026_642, sA, z1, show ¬ x.natAbs = 0 by omega, if_true, ab29 sA hp, b1, sb29 sA ht sx1, Option.bind_some, F_X9_subtract_b56, F_X9_subtract_b118]
