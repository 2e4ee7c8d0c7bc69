/-! ===== EXACT SOLUTIONS, 10: the model's products, sums, differences ===== -/
theorem upl02 {β σ : Type} (F : Nat → Mem → σ → Int32 → β) {n : Nat} (hn : n < 1000000) (J : Nat → Mem → σ → Prop) (st : ∀ N M s i, i < n → J i M s → ∃ M' s', F (N + 1) M s (iw (i : Int)) = F N M' s' (iw ((i + 1 : Nat) : Int)) ∧ J (i + 1) M' s') {M : Mem} {s : σ} (h : J 0 M s) : ∃ K M' s', F xN M s 0 = F (K + 2) M' s' (iw (n : Int)) ∧ J n M' s' := by
  have hxN : xN = 1099511627776 := rfl
  obtain ⟨K, hK⟩ : ∃ K, K + 2 + n = xN := ⟨xN - 2 - n, by omega⟩
  obtain ⟨M', s', e1, j1⟩ := upl F n J st n (K + 2) 0 M s (by omega) h
  rw [hK] at e1
  exact ⟨K, M', s', e1, j1⟩
theorem M_prod {M : Mem} (h : ST M) {p q to : Nat} {x y : Int} {a b : Nat} (e : MG M p x) (f : MG M q y) (hx : x.natAbs < 268435456 ^ a) (hy : y.natAbs < 268435456 ^ b) (hab : a + b ≤ 39) (it : isG to) (h1 : to ≠ p) (h2 : to ≠ q) : ∃ M', F_X18_product M to p q = some M' ∧ MG M' to (x * y) ∧ Dw (pG to) M M' := by
  obtain ⟨⟨ip, n, D, n1, n2', n3, n4, n5⟩, s1⟩ := e
  obtain ⟨⟨iq, m, E, m1, m2, m3, m4, m5⟩, t1⟩ := f
  have na : n ≤ a := Vl_few (B := 268435456) (by decide) n5 (by rw [n4]; exact hx)
  have mb : m ≤ b := Vl_few (B := 268435456) (by decide) m5 (by rw [m4]; exact hy)
  have np := it.ne ip
  have nq := it.ne iq
  have lp := ip.lt
  have lq := iq.lt
  have lt := it.lt
  -- zeros
  obtain ⟨K0, A0, -, e0, d0, r0⟩ := upl0 (σ := Unit) (fun N M _ i => F_X18_product_b2 N M to p q i) (n := 40) (by omega) (fun i A _ => Dw (at1 (to + 1)) M A ∧ GR A to i (fun _ => 0))
    (fun N A _ i hi hJ => by
      obtain ⟨d, r⟩ := hJ
      have sA := d.st h
      refine ⟨wI A (to + 1) i 0, (), ?_, d.trans (Dw.w _ rfl), fun k hk => ?_⟩
      · show F_X18_product_b2_st (F_X18_product_b2 N) A to p q _ = _
        unfold F_X18_product_b2_st
        rw [show (40 : Int32) = iw ((40 : Nat) : Int) from rfl, if_pos (by rw [iw_le4 (by omega) (by omega)]; exact hi)]
        simp only [it.gr sA, it.si sA (show i < 40 by omega), Option.bind_some, iw_succ]
      · by_cases c : k = i
        · subst c
          exact ⟨by rw [cI_wI, if_pos ⟨rfl, rfl⟩]; rfl, show 0 < 268435456 by decide⟩
        · rw [cI_wI, if_neg (by omega)]
          exact r k (by omega)) (M := M) (s := ()) ⟨Dw.refl _ _, fun k hk => absurd hk (by omega)⟩
  -- what stays of both
  have keep : ∀ A, Dw (at1 (to + 1)) M A → ST A ∧ cI A p 1217 = iw (n : Int) ∧ cI A q 1217 = iw (m : Int) ∧ GR A p n D ∧ GR A q m E := fun A d => by
    have sA := d.st h
    refine ⟨sA, ?_, ?_, n3.dw ip h d (fun k _ => by unfold at1; omega), m3.dw iq h d (fun k _ => by unfold at1; omega)⟩
    · rw [d.ci h (by omega) (by unfold at1; omega)]; exact n2'
    · rw [d.ci h (by omega) (by unfold at1; omega)]; exact m2
  -- one digit
  have dig : ∀ (N0 N : Nat) (B : Mem) (T : Nat → Nat) (i j cc : Nat), i < n → i + j < 40 → cc < 268435456 → (j < m ∨ 0 < cc) → Dw (at1 (to + 1)) M B → GR B to 40 T → ∃ vv, vv = T (i + j) + (if j < m then D i * E j else 0) + cc ∧ vv / 268435456 < 268435456 ∧ F_X18_product_b37 (F_X18_product_b23 N0) (N + 1) B to p q (iw (i : Int)) (nl cc) (iw (j : Int)) = F_X18_product_b37 (F_X18_product_b23 N0) N (wI B (to + 1) (i + j) (iw ((vv % 268435456 : Nat) : Int))) to p q (iw (i : Int)) (nl (vv / 268435456)) (iw ((j + 1 : Nat) : Int)) := by
    intro N0 N B T i j cc hi hij hcl hor d r
    obtain ⟨sB, b1, b2, b3, b4⟩ := keep B d
    have li := (n3 i hi).2
    have lt' := (r (i + j) hij).2
    obtain ⟨pr, hpr⟩ : ∃ pr, pr = if j < m then D i * E j else 0 := ⟨_, rfl⟩
    have hm : pr ≤ 268435455 * 268435455 := by
      rw [hpr]
      split
      · rename_i c
        have lj := (m3 j c).2
        exact Nat.mul_le_mul (by omega) (by omega)
      · omega
    obtain ⟨vv, hvv⟩ : ∃ vv, vv = T (i + j) + pr + cc := ⟨_, rfl⟩
    have hq : vv / 268435456 < 268435456 := Nat.div_lt_of_lt_mul (by omega)
    refine ⟨vv, by rw [hvv, hpr], hq, ?_⟩
    have mid : F_X18_product_b53 (F_X18_product_b23 N0) (F_X18_product_b37 (F_X18_product_b23 N0) N) B to p q (iw (i : Int)) (nl cc) (iw (j : Int)) = F_X18_product_b37 (F_X18_product_b23 N0) N (wI B (to + 1) (i + j) (iw ((vv % 268435456 : Nat) : Int))) to p q (iw (i : Int)) (nl (vv / 268435456)) (iw ((j + 1 : Nat) : Int)) := by
      have en : F_X18_product_b95 (F_X18_product_b23 N0) (F_X18_product_b37 (F_X18_product_b23 N0) N) B (nl (T (i + j)) + nl cc) (nl pr) to p q (iw (i : Int)) (iw (j : Int)) = F_X18_product_b37 (F_X18_product_b23 N0) N (wI B (to + 1) (i + j) (iw ((vv % 268435456 : Nat) : Int))) to p q (iw (i : Int)) (nl (vv / 268435456)) (iw ((j + 1 : Nat) : Int)) := by
        have e1 : nl (T (i + j)) + nl cc + nl pr = nl vv := by rw [nl_add, nl_add, show T (i + j) + cc + pr = vv by omega]
        have e2 : (nl vv &&& 268435455).toInt32 = iw ((vv % 268435456 : Nat) : Int) := by rw [lm28, nl_int (by omega)]; rfl
        have e3 : j_lshr (nl vv) 28 = nl (vv / 268435456) := nl_sshr (n := vv) (k := 28) (by omega) (by decide)
        unfold F_X18_product_b95
        simp only [e1, e2, e3, it.gr sB, iw_nadd, it.si sB hij, Option.bind_some, iw_succ]
      unfold F_X18_product_b53
      simp only [it.gr sB, iw_nadd, it.ai sB hij, (r (i + j) hij).1, i64_iw (show T (i + j) < 2147483648 by omega), iq.gn sB, b2, Option.bind_some]
      by_cases c : j < m
      · have lj := (m3 j c).2
        rw [if_pos c] at hpr
        rw [if_pos (by rw [iw_le4 (by omega) (by omega)]; exact c)]
        simp only [ip.gr sB, iq.gr sB, ip.ai sB (show i < 40 by omega), iq.ai sB (show j < 40 by omega), (b3 i hi).1, (b4 j c).1, i64_iw (show D i < 2147483648 by omega), i64_iw (show E j < 2147483648 by omega), nl_mul, ← hpr, Option.bind_some]
        exact en
      · rw [if_neg c] at hpr
        rw [if_neg (by rw [iw_le4 (by omega) (by omega)]; exact c)]
        rw [hpr] at en
        exact en
    show F_X18_product_b37_st (F_X18_product_b23 N0) (F_X18_product_b37 (F_X18_product_b23 N0) N) B to p q _ _ _ = _
    unfold F_X18_product_b37_st
    rw [iq.gn sB, Option.bind_some, b2]
    by_cases c : j < m
    · rw [if_pos (by rw [iw_le4 (by omega) (by omega)]; exact c)]
      exact mid
    · rw [if_neg (by rw [iw_le4 (by omega) (by omega)]; exact c), if_pos (by
        rw [show (0 : Int64) = nl 0 from rfl, nl_lt (by omega) (by omega)]
        omega)]
      exact mid
  -- one row
  have row : ∀ (N0 : Nat) (A : Mem) (i : Nat) (T : Nat → Nat), i < n → Dw (at1 (to + 1)) M A → GR A to 40 T → (∀ k, i + m ≤ k → k < 40 → T k = 0) → ∃ (A' : Mem) (T' : Nat → Nat), F_X18_product_b23 (N0 + 1) A to p q (iw (i : Int)) = F_X18_product_b23 N0 A' to p q (iw ((i + 1 : Nat) : Int)) ∧ Dw (at1 (to + 1)) M A' ∧ GR A' to 40 T' ∧ (∀ k, i + 1 + m ≤ k → k < 40 → T' k = 0) ∧ Vl 268435456 T' 40 = Vl 268435456 T 40 + D i * Vl 268435456 E m * 268435456 ^ i := by
    intro N0 A i T hi d r z
    obtain ⟨sA, b1, b2, b3, b4⟩ := keep A d
    obtain ⟨K2, A2, c2, e2, d2, T2, cc, hc, hcl, r2, v2, z2⟩ := upl02 (σ := Int64) (fun N M c j => F_X18_product_b37 (F_X18_product_b23 N0) N M to p q (iw (i : Int)) c j) (n := m) (by omega) (fun j B c => Dw (at1 (to + 1)) M B ∧ ∃ (T' : Nat → Nat) (cc : Nat), c = nl cc ∧ cc < 268435456 ∧ GR B to 40 T' ∧ Vl 268435456 T' 40 + cc * 268435456 ^ (i + j) = Vl 268435456 T 40 + D i * Vl 268435456 E j * 268435456 ^ i ∧ ∀ k, i + m ≤ k → k < 40 → T' k = 0)
      (fun N B c j hj hJ => by
        obtain ⟨dB, T', cc, hc, hcl, rB, vB, zB⟩ := hJ
        obtain ⟨vv, hvv, hq, ev⟩ := dig N0 N B T' i j cc hi (by omega) hcl (Or.inl hj) dB rB
        rw [if_pos hj] at hvv
        refine ⟨_, _, by rw [hc]; exact ev, dB.trans (Dw.w _ rfl), _, vv / 268435456, rfl, hq, rB.set (Nat.mod_lt _ (by decide)), ?_, fun k k1 k2 => ?_⟩
        · have s := Vl_set (B := 268435456) (D := T') (i := i + j) (v := vv % 268435456) (n := 40) (by omega)
          have := mul1 (B := 268435456) (P := 268435456 ^ (i + j)) (by decide) hvv s vB
          rw [show i + (j + 1) = i + j + 1 by omega, Nat.pow_succ, this]
          show _ = Vl 268435456 T 40 + D i * (Vl 268435456 E j + E j * 268435456 ^ j) * 268435456 ^ i
          rw [Nat.mul_add, Nat.add_mul, Nat.pow_add, ← Nat.mul_assoc (D i), Nat.mul_assoc (D i * E j) (268435456 ^ j), Nat.mul_comm (268435456 ^ j), Nat.add_assoc]
        · show (if k = i + j then vv % 268435456 else T' k) = 0
          rw [if_neg (by omega)]
          exact zB k k1 k2) (M := A) (s := 0) ⟨d, T, 0, rfl, by decide, r, by show _ + 0 * _ = Vl 268435456 T 40 + D i * 0 * 268435456 ^ i; rw [Nat.zero_mul, Nat.mul_zero, Nat.zero_mul], z⟩
    have hd : F_X18_product_b23 (N0 + 1) A to p q (iw (i : Int)) = F_X18_product_b37 (F_X18_product_b23 N0) (K2 + 2) A2 to p q (iw (i : Int)) (nl cc) (iw (m : Int)) := by
      show F_X18_product_b23_st (F_X18_product_b23 N0) A to p q _ = _
      unfold F_X18_product_b23_st
      rw [ip.gn sA, Option.bind_some, b1, if_pos (by rw [iw_le4 (by omega) (by omega)]; exact hi), ← hc]
      exact e2
    have fin : ∀ (B : Mem) (K j : Nat), Dw (at1 (to + 1)) M B → m ≤ j → j ≤ 40 → F_X18_product_b37 (F_X18_product_b23 N0) (K + 1) B to p q (iw (i : Int)) (nl 0) (iw (j : Int)) = F_X18_product_b23 N0 B to p q (iw ((i + 1 : Nat) : Int)) := fun B K j dB hj hj2 => by
      obtain ⟨sB, c1, c2, c3, c4⟩ := keep B dB
      show F_X18_product_b37_st (F_X18_product_b23 N0) (F_X18_product_b37 (F_X18_product_b23 N0) K) B to p q _ _ _ = _
      unfold F_X18_product_b37_st
      rw [iq.gn sB, Option.bind_some, c2, if_neg (by rw [iw_le4 (by omega) (by omega)]; omega), if_neg (by decide), iw_succ]
    have zt := z2 (i + m) (Nat.le_refl _) (by omega)
    by_cases c0 : cc = 0
    · subst c0
      refine ⟨A2, T2, ?_, d2, r2, fun k k1 k2 => z2 k (by omega) k2, by rw [← v2]; omega⟩
      rw [hd]
      exact fin A2 (K2 + 1) m d2 (Nat.le_refl _) (by omega)
    · obtain ⟨vv, hvv, hq, ev⟩ := dig N0 (K2 + 1) A2 T2 i m cc hi (by omega) hcl (Or.inr (by omega)) d2 r2
      rw [if_neg (Nat.lt_irrefl m), zt] at hvv
      have hv2 : vv = cc := by omega
      subst hv2
      have q0 : vv / 268435456 = 0 := Nat.div_eq_of_lt hcl
      have m0 : vv % 268435456 = vv := Nat.mod_eq_of_lt hcl
      rw [q0, m0] at ev
      have dB : Dw (at1 (to + 1)) M (wI A2 (to + 1) (i + m) (iw (vv : Nat))) := d2.trans (Dw.w _ rfl)
      refine ⟨_, _, ?_, dB, r2.set hcl, fun k k1 k2 => ?_, ?_⟩
      · rw [hd]
        exact ev.trans (fin _ K2 (m + 1) dB (by omega) (by omega))
      · show (if k = i + m then vv else T2 k) = 0
        rw [if_neg (by omega)]
        exact z2 k (by omega) k2
      · have s := Vl_set (B := 268435456) (D := T2) (i := i + m) (v := vv) (n := 40) (by omega)
        rw [zt, Nat.zero_mul, Nat.add_zero] at s
        rw [s, v2]
  obtain ⟨K1, A1, -, e1, d1, T1, r1, v1, z1⟩ := upl0 (σ := Unit) (fun N M _ i => F_X18_product_b23 N M to p q i) (n := n) (by omega) (fun i A _ => Dw (at1 (to + 1)) M A ∧ ∃ T, GR A to 40 T ∧ Vl 268435456 T 40 = Vl 268435456 D i * y.natAbs ∧ ∀ k, i + m ≤ k → k < 40 → T k = 0)
    (fun N A _ i hi hJ => by
      obtain ⟨d, T, r, v, z⟩ := hJ
      obtain ⟨A', T', f1, f2, f3, f4, f5⟩ := row N A i T hi d r z
      refine ⟨A', (), f1, f2, T', f3, ?_, f4⟩
      rw [f5, v, m4]
      show _ = (Vl 268435456 D i + D i * 268435456 ^ i) * y.natAbs
      rw [Nat.add_mul, Nat.mul_right_comm]) (M := A0) (s := ()) ⟨d0, fun _ => 0, r0, by show _ = 0 * _; rw [Nat.zero_mul]; exact Vl_zero (fun _ _ => rfl), fun _ _ _ => rfl⟩
  obtain ⟨sA1, b1, b2, b3, b4⟩ := keep A1 d1
  have g1 : cI A1 p 1218 = cI M p 1218 := d1.ci h (by omega) (by unfold at1; omega)
  have g2 : cI A1 q 1218 = cI M q 1218 := d1.ci h (by omega) (by unfold at1; omega)
  obtain ⟨bt, hbt⟩ : ∃ bt : Int32, bt = if cI M p 1218 = cI M q 1218 then 0 else 1 := ⟨_, rfl⟩
  have hb1 : bt = 0 ∨ bt = 1 := by rw [hbt]; split <;> simp
  obtain ⟨B, hB⟩ : ∃ B, B = wI A1 to 1218 bt := ⟨_, rfl⟩
  have sB : ST B := hB ▸ sA1
  have rB : GR B to (n + m + 1) T1 := fun k hk => by rw [hB, cI_wI, if_neg (by omega)]; exact r1 k (by omega)
  obtain ⟨M', w1, w2, w3, w4⟩ := M_trim sB it (show n + m + 1 ≤ 40 by omega) rB
  have vt : Vl 268435456 T1 (n + m + 1) = (x * y).natAbs := by
    have s := Vl_add (B := 268435456) (D := T1) (a := n + m + 1) (40 - (n + m + 1))
    rw [show n + m + 1 + (40 - (n + m + 1)) = 40 by omega, Vl_zero (D := fun k => T1 (n + m + 1 + k)) (fun k hk => z1 _ (by omega) (by omega)), Nat.mul_zero, Nat.add_zero] at s
    rw [← s, v1, n4, Int.natAbs_mul]
  rw [vt] at w2 w3
  refine ⟨M', ?_, ⟨w2, ?_⟩, ((d1.mono (fun a i q => Or.inr q)).trans (hB ▸ Dw.w _ (Or.inl ⟨rfl, Or.inr rfl⟩))).trans (w4.mono pG_t)⟩
  · unfold F_X18_product
    refine Eq.trans e0 ?_
    show F_X18_product_b2_st (F_X18_product_b2 K0) A0 to p q _ = _
    unfold F_X18_product_b2_st
    rw [if_neg (by decide)]
    refine Eq.trans e1 ?_
    show F_X18_product_b23_st (F_X18_product_b23 K1) A1 to p q _ = _
    unfold F_X18_product_b23_st
    rw [ip.gn sA1, Option.bind_some, b1, if_neg (by rw [iw_le4 (by omega) (by omega)]; omega)]
    have c1 : cI B p 1217 = iw (n : Int) := by rw [hB, cI_wI, if_neg (by omega)]; exact b1
    have c2 : cI B q 1217 = iw (m : Int) := by rw [hB, cI_wI, if_neg (by omega)]; exact b2
    have mn : F_J7_min_2 40 (iw (n : Int) + iw (m : Int) + 1) = some (iw ((n + m + 1 : Nat) : Int)) := by
      rw [iw_nadd, iw_succ, show (40 : Int32) = iw ((40 : Nat) : Int) from rfl, J_min2 (by omega) (by omega), Nat.min_eq_right (by omega)]
    simp only [ip.gs sA1, iq.gs sA1, g1, g2, Option.bind_some, F_X18_product_b150]
    by_cases c : cI M p 1218 = cI M q 1218
    · rw [if_pos c] at hbt
      subst hbt
      rw [if_pos c, it.ps sA1 (Or.inl rfl), ← hB]
      simp only [ip.gn sB, iq.gn sB, c1, c2, mn, it.vg sB, w1, Option.bind_some]
    · rw [if_neg c] at hbt
      subst hbt
      rw [if_neg c, it.ps sA1 (Or.inr rfl), ← hB]
      simp only [ip.gn sB, iq.gn sB, c1, c2, mn, it.vg sB, w1, Option.bind_some]
  · rw [w3, show cI B to 1218 = bt from by rw [hB, cI_wI, if_pos ⟨rfl, rfl⟩], hbt, s1, t1]
    have pos : ∀ {a b : Int}, 0 < a → 0 < b → 0 < a * b := fun ha hb => Int.mul_pos ha hb
    by_cases c0 : x * y = 0
    · rw [c0]; rfl
    have hx0 : x ≠ 0 := fun q => c0 (by rw [q, Int.zero_mul])
    have hy0 : y ≠ 0 := fun q => c0 (by rw [q, Int.mul_zero])
    rw [if_neg (show ¬ (x * y).natAbs = 0 by omega)]
    by_cases c1 : x < 0 <;> by_cases c2 : y < 0
    · have := pos (show 0 < -x by omega) (show 0 < -y by omega)
      rw [Int.neg_mul_neg] at this
      rw [if_pos c1, if_pos c2, if_pos rfl, if_neg (by omega)]
    · have := pos (show 0 < -x by omega) (show 0 < y by omega)
      rw [Int.neg_mul] at this
      rw [if_pos c1, if_neg c2, if_neg (by decide), if_pos (by omega)]
    · have := pos (show 0 < x by omega) (show 0 < -y by omega)
      rw [Int.mul_neg] at this
      rw [if_neg c1, if_pos c2, if_neg (by decide), if_pos (by omega)]
    · have := pos (show 0 < x by omega) (show 0 < y by omega)
      rw [if_neg c1, if_neg c2, if_pos rfl, if_neg (by omega)]
/-- the amount of one less that of another one; the place may be one of both -/
theorem M_takeA {M : Mem} (h : ST M) {p q to u v : Nat} (e : MA M p u) (f : MA M q v) (huv : v ≤ u) (it : isG to) : ∃ M', F_X18_takeAmount M to p q = some M' ∧ MA M' to (u - v) ∧ cI M' to 1218 = (if u - v = 0 then 0 else cI M to 1218) ∧ Dw (pG to) M M' := by
  obtain ⟨ip, n, D, n1, n2', n3, n4, n5⟩ := e
  obtain ⟨iq, m, E, m1, m2, m3, m4, m5⟩ := f
  have lp := ip.lt
  have lq := iq.lt
  have lt := it.lt
  have np := it.ne ip
  have nq := it.ne iq
  have mn : m ≤ n := by
    refine Classical.byContradiction (fun c => ?_)
    have := Vl_more (B := 268435456) (fun k hk => (n3 k hk).2) m5 (show n < m by omega) (by decide)
    omega
  obtain ⟨K, A, c, e1, d1, T, cc, hc, hcl, r1, v1⟩ := upl0 (σ := Int32) (fun N M c i => F_X18_takeAmount_b11 N M to p q (iw (n : Int)) c i) (n := n) (by omega) (fun i A c => Dw (fun a j => a = to + 1 ∧ j < i) M A ∧ ∃ (T : Nat → Nat) (cc : Nat), c = iw (cc : Nat) ∧ cc ≤ 1 ∧ GR A to i T ∧ Vl 268435456 T i + Vl 268435456 (xt m E) i = Vl 268435456 D i + cc * 268435456 ^ i)
    (fun N A c i hi hJ => by
      obtain ⟨d, T, cc, hc, hcl, r, v⟩ := hJ
      have sA := d.st h
      have x1 := (n3 i hi).2
      have x2 := xt_lt (B := 268435456) (by decide) (fun k hk => (m3 k hk).2) i
      obtain ⟨vv, hvv⟩ : ∃ vv : Int, vv = (D i : Int) - xt m E i - cc := ⟨_, rfl⟩
      obtain ⟨b, hb⟩ : ∃ b : Nat, b = if vv < 0 then 1 else 0 := ⟨_, rfl⟩
      obtain ⟨t, ht'⟩ : ∃ t : Nat, (t : Int) = vv % 268435456 := ⟨(vv % 268435456).toNat, by have := Int.emod_nonneg vv (show (268435456 : Int) ≠ 0 by decide); omega⟩
      have tb : (t : Int) = vv + b * 268435456 ∧ t < 268435456 ∧ b ≤ 1 := by
        rw [hb]
        by_cases c : vv < 0
        · rw [if_pos c]; omega
        · rw [if_neg c]; omega
      refine ⟨wI A (to + 1) i (iw (t : Nat)), iw (b : Nat), ?_, (d.mono (fun a j q => ⟨q.1, by omega⟩)).trans (Dw.w _ ⟨rfl, by omega⟩), _, b, rfl, tb.2.2, r.put tb.2.1 rfl, ?_⟩
      · show F_X18_takeAmount_b11_st (F_X18_takeAmount_b11 N) A to p q _ _ _ = _
        unfold F_X18_takeAmount_b11_st
        have l1 : cI A (p + 1) i = iw (D i : Nat) := by rw [d.ci h (by omega) (by omega)]; exact (n3 i hi).1
        have l2 : cI A q 1217 = iw (m : Int) := by rw [d.ci h (by omega) (by omega)]; exact m2
        rw [if_pos (by rw [iw_le4 (by omega) (by omega)]; exact hi)]
        have en : F_X18_takeAmount_b44 (F_X18_takeAmount_b11 N) A (iw (D i : Nat)) (iw (xt m E i : Nat)) to p q (iw (n : Int)) c (iw (i : Int)) = F_X18_takeAmount_b11 N (wI A (to + 1) i (iw (t : Nat))) to p q (iw (n : Int)) (iw (b : Nat)) (iw ((i + 1 : Nat) : Int)) := by
          unfold F_X18_takeAmount_b44
          simp only [hc, iw_sub, ← hvv, F_X18_takeAmount_b60, it.gr sA, im28, ← ht', it.si sA (show i < 40 by omega), Option.bind_some, iw_succ]
          by_cases c : vv < 0
          · rw [if_pos (by rw [iw_lt0 (by omega) (by omega)]; exact c), hb, if_pos c]; rfl
          · rw [if_neg (by rw [iw_lt0 (by omega) (by omega)]; exact c), hb, if_neg c]; rfl
        simp only [ip.gr sA, iq.gr sA, iq.gn sA, ip.ai sA (show i < 40 by omega), l1, l2, Option.bind_some]
        by_cases c : i < m
        · rw [if_pos (by rw [iw_le4 (by omega) (by omega)]; exact c)]
          have l3 : cI A (q + 1) i = iw (E i : Nat) := by rw [d.ci h (by omega) (by omega)]; exact (m3 i c).1
          rw [show xt m E i = E i from if_pos c] at en
          simp only [iq.ai sA (show i < 40 by omega), l3, Option.bind_some]
          exact en
        · rw [if_neg (by rw [iw_le4 (by omega) (by omega)]; exact c)]
          rw [show xt m E i = 0 from if_neg c] at en
          exact en
      · rw [Vl_put]
        show Vl 268435456 T i + t * 268435456 ^ i + (Vl 268435456 (xt m E) i + xt m E i * 268435456 ^ i) = Vl 268435456 D i + D i * 268435456 ^ i + b * 268435456 ^ (i + 1)
        have k : t + xt m E i + cc = D i + b * 268435456 := by omega
        have k2 := congrArg (· * 268435456 ^ i) k
        simp only [Nat.add_mul, Nat.mul_assoc] at k2
        rw [Nat.pow_succ, Nat.mul_comm (268435456 ^ i) 268435456]
        omega) (M := M) (s := 0) ⟨Dw.refl _ _, fun _ => 0, 0, rfl, by decide, fun k hk => absurd hk (by omega), rfl⟩
  have sA := d1.st h
  obtain ⟨M', w1, w2, w3, w4⟩ := M_trim sA it n1 r1
  have val : Vl 268435456 T n = u - v := by
    rw [Vl_xt mn, m4, n4] at v1
    have l := Vl_lt (B := 268435456) (fun k hk => (r1 k hk).2)
    have : cc = 0 := by
      refine Classical.byContradiction (fun q => ?_)
      have : cc = 1 := by omega
      subst this
      omega
    subst this
    omega
  rw [val] at w2 w3
  have sg : cI A to 1218 = cI M to 1218 := d1.ci h (by omega) (by omega)
  refine ⟨M', ?_, w2, by rw [w3, sg], (d1.mono (fun a i q => Or.inr q.1)).trans (w4.mono pG_t)⟩
  simp only [F_X18_takeAmount, ip.gn h, n2', Option.bind_some]
  refine Eq.trans e1 ?_
  show F_X18_takeAmount_b11_st (F_X18_takeAmount_b11 K) A to p q _ _ _ = _
  unfold F_X18_takeAmount_b11_st
  rw [if_neg (by rw [iw_le4 (by omega) (by omega)]; omega)]
  simp only [it.vg sA, w1, Option.bind_some]
