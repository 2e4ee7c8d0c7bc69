/-! ===== EXACT SOLUTIONS, 11: the model's take ===== -/
theorem M_addA {M : Mem} (h : ST M) {to q u v : Nat} (e : MA M to u) (f : MA M q v) (hu : u < 268435456 ^ 39) (hv : v < 268435456 ^ 39) (hq : to ≠ q) : ∃ M', F_X18_addAmount_b23 M to q = some M' ∧ MA M' to (u + v) ∧ cI M' to 1218 = (if u + v = 0 then 0 else cI M to 1218) ∧ Dw (pG to) M M' := by
  obtain ⟨it, n, D, n1, n2', n3, n4, n5⟩ := e
  obtain ⟨iq, m, E, m1, m2, m3, m4, m5⟩ := f
  have lq := iq.lt
  have lt := it.lt
  have nq := it.ne iq
  have na : n ≤ 39 := Vl_few (B := 268435456) (by decide) n5 (by rw [n4]; exact hu)
  have mb : m ≤ 39 := Vl_few (B := 268435456) (by decide) m5 (by rw [m4]; exact hv)
  obtain ⟨w, hw⟩ : ∃ w, w = max n m := ⟨_, rfl⟩
  obtain ⟨K, A, c, e1, d1, T, cc, hc, hcl, r1, v1⟩ := upl0 (σ := Int32) (fun N M c i => F_X18_addAmount_b40 N M to q (iw (w : Int)) c i) (n := w + 1) (by omega) (fun i A c => Dw (fun a j => a = to + 1 ∧ j < i) M A ∧ ∃ (T : Nat → Nat) (cc : Nat), c = iw (cc : Nat) ∧ cc ≤ 1 ∧ GR A to i T ∧ Vl 268435456 T i + cc * 268435456 ^ i = Vl 268435456 (xt n D) i + Vl 268435456 (xt m E) i)
    (fun N A c i hi hJ => by
      obtain ⟨d, T, cc, hc, hcl, r, v⟩ := hJ
      have sA := d.st h
      have x1 := xt_lt (B := 268435456) (by decide) (fun k hk => (n3 k hk).2) i
      have x2 := xt_lt (B := 268435456) (by decide) (fun k hk => (m3 k hk).2) i
      obtain ⟨vv, hvv⟩ : ∃ vv, vv = xt n D i + xt m E i + cc := ⟨_, rfl⟩
      refine ⟨wI A (to + 1) i (iw ((vv % 268435456 : Nat) : Int)), iw ((vv / 268435456 : Nat) : Int), ?_, (d.mono (fun a j q => ⟨q.1, by omega⟩)).trans (Dw.w _ ⟨rfl, by omega⟩), _, vv / 268435456, rfl, by omega, r.put (Nat.mod_lt _ (by decide)) rfl, ?_⟩
      · show F_X18_addAmount_b40_st (F_X18_addAmount_b40 N) A to q _ _ _ = _
        unfold F_X18_addAmount_b40_st
        have l1 : cI A to 1217 = iw (n : Int) := by rw [d.ci h (by omega) (by omega)]; exact n2'
        have l2 : cI A q 1217 = iw (m : Int) := by rw [d.ci h (by omega) (by omega)]; exact m2
        have en : F_X18_addAmount_b86 (F_X18_addAmount_b40 N) A (iw (xt n D i : Nat)) (iw (xt m E i : Nat)) to q (iw (w : Int)) c (iw (i : Int)) = F_X18_addAmount_b40 N (wI A (to + 1) i (iw ((vv % 268435456 : Nat) : Int))) to q (iw (w : Int)) (iw ((vv / 268435456 : Nat) : Int)) (iw ((i + 1 : Nat) : Int)) := by
          have e1 : iw (xt n D i : Nat) + iw (xt m E i : Nat) + c = iw (vv : Nat) := by rw [hc, iw_nadd, iw_nadd, hvv]
          have e2 : iw (vv : Nat) &&& 268435455 = iw ((vv % 268435456 : Nat) : Int) := im28 _
          have e3 : j_ishr (iw (vv : Nat)) 28 = iw ((vv / 268435456 : Nat) : Int) := ishr28 (by omega) (by omega)
          unfold F_X18_addAmount_b86
          simp only [e1, e2, e3, it.gr sA, it.si sA (show i < 40 by omega), Option.bind_some, iw_succ]
        have en2 : F_X18_addAmount_b66 (F_X18_addAmount_b40 N) A (iw (xt n D i : Nat)) to q (iw (w : Int)) c (iw (i : Int)) = F_X18_addAmount_b40 N (wI A (to + 1) i (iw ((vv % 268435456 : Nat) : Int))) to q (iw (w : Int)) (iw ((vv / 268435456 : Nat) : Int)) (iw ((i + 1 : Nat) : Int)) := by
          unfold F_X18_addAmount_b66
          rw [iq.gn sA, Option.bind_some, l2]
          by_cases c : i < m
          · have l3 : cI A (q + 1) i = iw (E i : Nat) := by rw [d.ci h (by omega) (by omega)]; exact (m3 i c).1
            rw [show xt m E i = E i from if_pos c] at en
            rw [if_pos (by rw [iw_le4 (by omega) (by omega)]; exact c)]
            simp only [iq.gr sA, iq.ai sA (show i < 40 by omega), l3, Option.bind_some]
            exact en
          · rw [show xt m E i = 0 from if_neg c] at en
            rw [if_neg (by rw [iw_le4 (by omega) (by omega)]; exact c)]
            exact en
        rw [if_neg (by rw [iw_le4 (by omega) (by omega)]; omega), it.gn sA, Option.bind_some, l1]
        by_cases c : i < n
        · have l3 : cI A (to + 1) i = iw (D i : Nat) := by rw [d.ci h (by omega) (by omega)]; exact (n3 i c).1
          rw [show xt n D i = D i from if_pos c] at en2
          rw [if_pos (by rw [iw_le4 (by omega) (by omega)]; exact c)]
          simp only [it.gr sA, it.ai sA (show i < 40 by omega), l3, Option.bind_some]
          exact en2
        · rw [show xt n D i = 0 from if_neg c] at en2
          rw [if_neg (by rw [iw_le4 (by omega) (by omega)]; exact c)]
          exact en2
      · rw [Vl_put]
        show _ = Vl 268435456 (xt n D) i + xt n D i * 268435456 ^ i + (Vl 268435456 (xt m E) i + xt m E i * 268435456 ^ i)
        have := mul1 (B := 268435456) (P := 268435456 ^ i) (v := vv) (t := xt n D i) (a := xt m E i) (d := 1) (c := cc) (Vt := Vl 268435456 T i + xt n D i * 268435456 ^ i) (Vt' := Vl 268435456 T i + vv % 268435456 * 268435456 ^ i) (R := Vl 268435456 T i + xt n D i * 268435456 ^ i + cc * 268435456 ^ i) (by decide) (by omega) (by omega) rfl
        rw [Nat.mul_one] at this
        rw [Nat.pow_succ]
        omega) (M := M) (s := 0) ⟨Dw.refl _ _, fun _ => 0, 0, rfl, by decide, fun k hk => absurd hk (by omega), rfl⟩
  have sA := d1.st h
  have val : Vl 268435456 T (w + 1) = u + v := by
    rw [Vl_xt (show n ≤ w + 1 by omega), Vl_xt (show m ≤ w + 1 by omega), n4, m4] at v1
    have : cc = 0 := by
      refine Classical.byContradiction (fun q => ?_)
      have h1 : 1 * 268435456 ^ (w + 1) ≤ cc * 268435456 ^ (w + 1) := Nat.mul_le_mul_right _ (by omega)
      have l1 := Vl_lt (B := 268435456) (fun k hk => (n3 k hk).2)
      have l2 := Vl_lt (B := 268435456) (fun k hk => (m3 k hk).2)
      rw [n4] at l1
      rw [m4] at l2
      have h2 : 268435456 ^ n ≤ 268435456 ^ w := Nat.pow_le_pow_right (by decide) (by omega)
      have h3 : 268435456 ^ m ≤ 268435456 ^ w := Nat.pow_le_pow_right (by decide) (by omega)
      have h4 : 268435456 ^ (w + 1) = 268435456 ^ w * 268435456 := Nat.pow_succ _ _
      clear hu hv
      generalize 268435456 ^ (w + 1) = P1 at *
      generalize 268435456 ^ w = P0 at *
      omega
    subst this
    omega
  obtain ⟨M', w1, w2, w3, w4⟩ := M_trim sA it (show w + 1 ≤ 40 by omega) r1
  rw [val] at w2 w3
  have sg : cI A to 1218 = cI M to 1218 := d1.ci h (by omega) (by omega)
  refine ⟨M', ?_, w2, by rw [w3, sg], (d1.mono (fun a i q => Or.inr q.1)).trans (w4.mono pG_t)⟩
  simp only [F_X18_addAmount_b23, it.gn h, iq.gn h, n2', m2, J_max0 (show n ≤ 2147483647 by omega) (show m ≤ 2147483647 by omega), ← hw, Option.bind_some]
  refine Eq.trans e1 ?_
  show F_X18_addAmount_b40_st (F_X18_addAmount_b40 K) A to q _ _ _ = _
  unfold F_X18_addAmount_b40_st
  rw [if_pos (by rw [iw_le4 (by omega) (by omega)]; omega)]
  simp only [it.vg sA, iw_succ, w1, Option.bind_some]
theorem M_take {M : Mem} (h : ST M) {to q : Nat} {x y : Int} (e : MG M to x) (f : MG M q y) (hx : x.natAbs < 268435456 ^ 39) (hy : y.natAbs < 268435456 ^ 39) (hq : to ≠ q) : ∃ M', F_X18_take M to q = some M' ∧ MG M' to (x - y) ∧ Dw (pG to) M M' := by
  have n01 : ¬ (0 : Int32) = 1 := by decide
  have n10 : ¬ (1 : Int32) = 0 := by decide
  obtain ⟨ea, sx⟩ := e
  obtain ⟨fa, sy⟩ := f
  have it := ea.1
  have iq := fa.1
  have lt := it.lt
  have lq := iq.lt
  have nq := it.ne iq
  by_cases c : (x < 0 ↔ y < 0)
  · have ce : (if x < 0 then (1 : Int32) else 0) = (if y < 0 then 1 else 0) := by
      by_cases c1 : x < 0
      · rw [if_pos c1, if_pos (c.mp c1)]
      · rw [if_neg c1, if_neg (fun q => c1 (c.mpr q))]
    have cm := M_cmp h ea fa
    by_cases c2 : x.natAbs < y.natAbs
    · obtain ⟨A, a1, a2, a3, a4⟩ := M_takeA h fa ea (by omega) it
      have sA := a4.st h
      have cmv : iw (cmn x.natAbs y.natAbs) < 0 := by unfold cmn; rw [if_pos c2]; decide
      rw [if_neg (by omega), sx] at a3
      have mag : y.natAbs - x.natAbs = (x - y).natAbs := by omega
      rw [mag] at a2
      obtain ⟨_, nn, DD, z1, z2, z3, z4, z5⟩ := id a2
      have nz : ¬ nn = 0 := fun z => by
        subst z
        have z4 : 0 = (x - y).natAbs := z4
        omega
      obtain ⟨b, hb⟩ : ∃ b : Int32, b = if x < 0 then 0 else 1 := ⟨_, rfl⟩
      have hb1 : b = 0 ∨ b = 1 := by rw [hb]; split <;> simp
      have sB : ST (wI A to 1218 b) := sA
      refine ⟨wI A to 1218 b, ?_, ⟨a2.dw sA (Dw.w (P := fun a i => a = to ∧ i = 1218) b ⟨rfl, rfl⟩) (by omega) (fun k => by omega), ?_⟩, a4.trans (Dw.w _ (Or.inl ⟨rfl, Or.inr rfl⟩))⟩
      · have en : F_X18_take_b51 A to b to = some (wI A to 1218 b) := by
          unfold F_X18_take_b51 F_X18_take_b66
          have z2' : cI (wI A to 1218 b) to 1217 = iw (nn : Int) := by rw [cI_wI, if_neg (by omega)]; exact z2
          rw [it.ps sA hb1, Option.bind_some, it.gn sB, Option.bind_some, z2', if_neg (by rw [iw_eq0 (by omega) (by omega)]; omega)]
        simp only [F_X18_take, it.gs h, iq.gs h, sx, sy, ce, it.vg h, cm, cmv, a1, it.gs sA, a3, Option.bind_some, if_true]
        rw [← ce]
        by_cases c1 : x < 0
        · rw [if_pos c1] at hb ⊢
          rw [if_neg n10, ← hb]; exact en
        · rw [if_neg c1] at hb ⊢
          rw [if_pos rfl, ← hb]; exact en
      · rw [cI_wI, if_pos ⟨rfl, rfl⟩, hb]
        by_cases c1 : x < 0
        · have := c.mp c1
          rw [if_pos c1, if_neg (by omega)]
        · have : ¬ y < 0 := fun z => c1 (c.mpr z)
          rw [if_neg c1, if_pos (by omega)]
    · obtain ⟨A, a1, a2, a3, a4⟩ := M_takeA h ea fa (by omega) it
      have cmv : ¬ iw (cmn x.natAbs y.natAbs) < 0 := by unfold cmn; rw [if_neg c2]; split <;> decide
      have mag : x.natAbs - y.natAbs = (x - y).natAbs := by omega
      rw [mag] at a2 a3
      refine ⟨A, ?_, ⟨a2, ?_⟩, a4⟩
      · simp only [F_X18_take, it.gs h, iq.gs h, sx, sy, ce, it.vg h, cm, cmv, a1, Option.bind_some, if_true, if_false]
      · rw [a3, sx]
        by_cases c3 : (x - y).natAbs = 0
        · rw [if_pos c3, if_neg (by omega)]
        · rw [if_neg c3]
          by_cases c1 : x < 0
          · have := c.mp c1
            rw [if_pos c1, if_pos (by omega)]
          · rw [if_neg c1, if_neg (by omega)]
  · have ce : ¬ (if x < 0 then (1 : Int32) else 0) = (if y < 0 then 1 else 0) := by
      by_cases c1 : x < 0
      · rw [if_pos c1, if_neg (fun q => c ⟨fun _ => q, fun _ => c1⟩)]; exact n10
      · rw [if_neg c1, if_pos (Decidable.byContradiction (fun q => c ⟨fun z => absurd z c1, fun z => absurd z q⟩))]; exact n01
    obtain ⟨_, nn, DD, z1, z2, z3, z4, z5⟩ := id ea
    have nz : nn = 0 ↔ x = 0 := by
      constructor
      · intro z
        subst z
        have z4 : 0 = x.natAbs := z4
        omega
      · intro z
        subst z
        refine Classical.byContradiction (fun q => ?_)
        have z4 : Vl 268435456 DD nn = 0 := z4
        have := Vl_ge (B := 268435456) (show 0 < nn by omega) (z5 (by omega))
        have : 0 < 268435456 ^ (nn - 1) := Nat.pow_pos (by decide)
        omega
    have mag : x.natAbs + y.natAbs = (x - y).natAbs := by
      by_cases c1 : x < 0
      · have : ¬ y < 0 := fun q => c ⟨fun _ => q, fun _ => c1⟩
        omega
      · have : y < 0 := Decidable.byContradiction (fun q => c ⟨fun z => absurd z c1, fun z => absurd z q⟩)
        omega
    have hd : F_X18_take M to q = F_X18_addAmount M to q := by
      simp only [F_X18_take, it.gs h, iq.gs h, sx, sy, ce, it.vg h, Option.bind_some, if_false]
      cases F_X18_addAmount M to q <;> rfl
    by_cases c3 : x = 0
    · subst c3
      have hy0 : y < 0 := Decidable.byContradiction (fun q => c ⟨fun z => absurd z (by decide), fun z => absurd z q⟩)
      rw [if_pos hy0] at sy
      obtain ⟨B, hB⟩ : ∃ B, B = wI M to 1218 0 := ⟨_, rfl⟩
      have dB : Dw (fun a i => a = to ∧ i = 1218) M B := hB ▸ Dw.w 0 ⟨rfl, rfl⟩
      have sB := dB.st h
      obtain ⟨A, a1, a2, a3, a4⟩ := M_addA sB (ea.dw h dB (by omega) (fun k => by omega)) (fa.dw h dB (by omega) (fun k => by omega)) hx hy hq
      rw [mag] at a2 a3
      refine ⟨A, ?_, ⟨a2, ?_⟩, (dB.mono (fun a i q => Or.inl ⟨q.1, Or.inr q.2⟩)).trans a4⟩
      · rw [hd]
        unfold F_X18_addAmount
        rw [it.gn h, Option.bind_some, z2, if_pos (by rw [iw_eq0 (by omega) (by omega)]; have := nz.mpr rfl; omega), iq.gs h, Option.bind_some, sy, if_neg n10]
        unfold F_X18_addAmount_b20
        rw [it.ps h (Or.inl rfl), Option.bind_some, ← hB]
        exact a1
      · rw [a3, if_neg (by omega), if_neg (by omega), hB, cI_wI, if_pos ⟨rfl, rfl⟩]
    · obtain ⟨A, a1, a2, a3, a4⟩ := M_addA h ea fa hx hy hq
      rw [mag] at a2 a3
      refine ⟨A, ?_, ⟨a2, ?_⟩, a4⟩
      · rw [hd]
        unfold F_X18_addAmount
        rw [it.gn h, Option.bind_some, z2, if_neg (by rw [iw_eq0 (by omega) (by omega)]; intro z; exact c3 (nz.mp (by omega)))]
        exact a1
      · rw [a3, if_neg (by omega), sx]
        by_cases c1 : x < 0
        · have : ¬ y < 0 := fun q => c ⟨fun _ => q, fun _ => c1⟩
          rw [if_pos c1, if_pos (by omega)]
        · have : y < 0 := Decidable.byContradiction (fun q => c ⟨fun z => absurd z c1, fun z => absurd z q⟩)
          rw [if_neg c1, if_neg (by omega)]
