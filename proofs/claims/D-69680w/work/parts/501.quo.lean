/-! ===== EXACT SOLUTIONS, 12: the model's quotient, bit by bit ===== -/
theorem Vl_dig {B n : Nat} {D : Nat → Nat} (hB : 0 < B) (h : ∀ k, k < n → D k < B) {k : Nat} (hk : k < n) : D k = Vl B D n / B ^ k % B := by
  obtain ⟨e, rfl⟩ : ∃ e, n = k + (e + 1) := ⟨n - k - 1, by omega⟩
  have p0 : 0 < B ^ k := Nat.pow_pos hB
  have l := Vl_lt (B := B) (D := D) (n := k) (fun j hj => h j (by omega))
  rw [Vl_add, Nat.add_mul_div_left _ _ p0, Nat.div_eq_of_lt l, Nat.zero_add, Vl_head, Nat.add_mul_mod_self_left, Nat.mod_eq_of_lt (h _ (by omega))]
  rfl
theorem ishl1 {t : Nat} (ht : t < 268435456) : j_ishl (iw (t : Int)) 1 = iw ((t * 2 ^ 1 : Nat) : Int) := by
  have e1 : ui (1 : Int32) = 1 := by decide
  have e2 : ui (iw (t : Int)) = t := by have := ui_iw (t : Int); omega
  rw [ish_l, e1, e2, iw_ni]
theorem M_twice {M : Mem} (h : ST M) {g v : Nat} {b : Nat} (e : MA M g v) (hv : v < 268435456 ^ 39) (hb : b ≤ 1) : ∃ M', F_X18_twice M g (iw (b : Nat)) = some M' ∧ MA M' g (2 * v + b) ∧ Dw (fun a i => (a = g ∧ i = 1217) ∨ a = g + 1) M M' := by
  obtain ⟨ig, n, D, n1, n2', n3, n4, n5⟩ := e
  have lg := ig.lt
  have na : n ≤ 39 := Vl_few (B := 268435456) (by decide) n5 (by rw [n4]; exact hv)
  clear hv
  obtain ⟨K, A, c, e1, d1, T, cc, hc, hcl, r1, -, v1⟩ := upl0 (σ := Int32) (fun N M c i => F_X18_twice_b12 N M g c i) (n := n) (by omega) (fun i A c => Dw (fun a j => a = g + 1) M A ∧ ∃ (T : Nat → Nat) (cc : Nat), c = iw (cc : Nat) ∧ cc ≤ 1 ∧ GR A g n T ∧ (∀ k, i ≤ k → T k = D k) ∧ Vl 268435456 T i + cc * 268435456 ^ i = 2 * Vl 268435456 D i + b)
    (fun N A c i hi hJ => by
      obtain ⟨d, T, cc, hc, hcl, r, u, v⟩ := hJ
      have sA := d.st h
      have x1 := (n3 i hi).2
      obtain ⟨vv, hvv⟩ : ∃ vv, vv = D i * 2 ^ 1 + cc := ⟨_, rfl⟩
      have l1 : cI A g 1217 = iw (n : Int) := by rw [d.ci h (by omega) (by omega)]; exact n2'
      have l2 : cI A (g + 1) i = iw (D i : Nat) := by rw [(r i hi).1, u i (Nat.le_refl _)]
      refine ⟨wI A (g + 1) i (iw ((vv % 268435456 : Nat) : Int)), iw ((vv / 268435456 : Nat) : Int), ?_, d.trans (Dw.w _ rfl), _, vv / 268435456, rfl, by omega, r.set (Nat.mod_lt _ (by decide)), fun k hk => ?_, ?_⟩
      · show F_X18_twice_b12_st (F_X18_twice_b12 N) A g _ _ = _
        unfold F_X18_twice_b12_st
        have e1 : j_ishl (iw (D i : Nat)) 1 ||| c = iw (vv : Nat) := by rw [hc, ishl1 x1, sh_or (by omega) (by omega), hvv]
        have e2 : iw (vv : Nat) &&& 268435455 = iw ((vv % 268435456 : Nat) : Int) := im28 _
        have e3 : j_ishr (iw (vv : Nat)) 28 = iw ((vv / 268435456 : Nat) : Int) := ishr28 (by omega) (by omega)
        rw [ig.gn sA, Option.bind_some, l1, if_pos (by rw [iw_le4 (by omega) (by omega)]; exact hi)]
        simp only [ig.gr sA, ig.ai sA (show i < 40 by omega), l2, e1, e2, e3, ig.si sA (show i < 40 by omega), Option.bind_some, iw_succ]
      · show (if k = i then vv % 268435456 else T k) = D k
        rw [if_neg (by omega)]
        exact u k (by omega)
      · rw [Vl_put]
        show _ = 2 * (Vl 268435456 D i + D i * 268435456 ^ i) + b
        have := mul1 (B := 268435456) (P := 268435456 ^ i) (v := vv) (t := 0) (a := D i) (d := 2 ^ 1) (c := cc) (Vt := Vl 268435456 T i) (Vt' := Vl 268435456 T i + vv % 268435456 * 268435456 ^ i) (by decide) (by omega) (by omega) v
        rw [Nat.pow_succ, this, Nat.mul_right_comm]
        omega) (M := M) (s := iw (b : Nat)) ⟨Dw.refl _ _, D, b, rfl, hb, n3, fun _ _ => rfl, by show 0 + b * 268435456 ^ 0 = 2 * 0 + b; omega⟩
  have sA := d1.st h
  have l1 : cI A g 1217 = iw (n : Int) := by rw [d1.ci h (by omega) (by omega)]; exact n2'
  have hd : F_X18_twice M g (iw (b : Nat)) = F_X18_twice_b12 (K + 1) A g (iw (cc : Nat)) (iw (n : Int)) := by
    rw [← hc, ← e1]
    unfold F_X18_twice F_X18_twice_b9
    by_cases c : b = 0
    · subst c
      rw [if_pos (show iw ((0 : Nat) : Int) = 0 from rfl)]
      rfl
    · have : b = 1 := by omega
      subst this
      rw [if_neg (by decide)]
      rfl
  rw [n4] at v1
  have hs : F_X18_twice_b12 (K + 1) A g (iw (cc : Nat)) (iw (n : Int)) = if 0 < iw (cc : Nat) then some (wI (wI A (g + 1) n (iw (cc : Nat))) g 1217 (iw ((n + 1 : Nat) : Int))) else some A := by
    show F_X18_twice_b12_st (F_X18_twice_b12 K) A g _ _ = _
    unfold F_X18_twice_b12_st
    have sB : ST (wI A (g + 1) n (iw (cc : Nat))) := sA
    have l2 : cI (wI A (g + 1) n (iw (cc : Nat))) g 1217 = iw (n : Int) := by rw [cI_wI, if_neg (by omega)]; exact l1
    rw [ig.gn sA, Option.bind_some, l1, if_neg (by rw [iw_le4 (by omega) (by omega)]; omega)]
    simp only [ig.gr sA, ig.gn sA, l1, ig.si sA (show n < 40 by omega), ig.gn sB, l2, ig.pn sB, iw_succ, Option.bind_some, F_X18_twice_b79]
  by_cases c0 : cc = 0
  · subst c0
    rw [if_neg (by decide)] at hs
    rw [Nat.zero_mul, Nat.add_zero] at v1
    refine ⟨A, hd.trans hs, ⟨ig, n, T, by omega, l1, r1, v1, fun hn z => ?_⟩, d1.mono (fun a i q => Or.inr q)⟩
    have u3 := Vl_ge (B := 268435456) hn (n5 hn)
    rw [n4] at u3
    obtain ⟨n', rfl⟩ : ∃ n', n = n' + 1 := ⟨n - 1, by omega⟩
    rw [Nat.add_sub_cancel] at z u3
    have u1 : Vl 268435456 T (n' + 1) = Vl 268435456 T n' + T n' * 268435456 ^ n' := rfl
    rw [z, Nat.zero_mul, Nat.add_zero] at u1
    have u2 := Vl_lt (B := 268435456) (D := T) (n := n') (fun k hk => (r1 k (by omega)).2)
    omega
  · rw [if_pos (by rw [iw_0lt (by omega) (by omega)]; omega)] at hs
    refine ⟨_, hd.trans hs, ⟨ig, n + 1, fun k => if k = n then cc else T k, by omega, by rw [cI_wI, if_pos ⟨rfl, rfl⟩], fun k hk => ?_, by rw [Vl_put]; exact v1, fun _ => ?_⟩, ((d1.mono (fun a i q => Or.inr q)).trans (Dw.w _ (Or.inr rfl))).trans (Dw.w _ (Or.inl ⟨rfl, rfl⟩))⟩
    · rw [cI_wI, if_neg (by omega)]
      exact r1.put (show cc < 268435456 by omega) rfl k hk
    · show (if n + 1 - 1 = n then cc else T (n + 1 - 1)) ≠ 0
      rw [Nat.add_sub_cancel, if_pos rfl]
      exact c0
theorem M_isSet {M : Mem} (h : ST M) {g v t n : Nat} {D : Nat → Nat} (ig : isG g) (hn : n ≤ 40) (h2 : cI M g 1217 = iw (n : Int)) (h3 : GR M g n D) (h4 : Vl 268435456 D n = v) (ht : t < 28 * n) : F_X18_isSet M g (iw (t : Int)) = some (iw ((v / 2 ^ t % 2 : Nat) : Int)) := by
  have hd : t / 28 < n := by omega
  have x1 := (h3 (t / 28) hd).2
  have ed := Vl_dig (B := 268435456) (by decide) (fun k hk => (h3 k hk).2) hd
  rw [h4] at ed
  have bit : D (t / 28) / 2 ^ (t % 28) % 2 = v / 2 ^ t % 2 := by
    have e1 : (D (t / 28)).testBit (t % 28) = v.testBit t := by
      rw [ed, show (268435456 : Nat) ^ (t / 28) = 2 ^ (28 * (t / 28)) by rw [Nat.pow_mul], show (268435456 : Nat) = 2 ^ 28 from rfl, Nat.testBit_mod_two_pow, Nat.testBit_div_two_pow]
      rw [decide_eq_true (show t % 28 < 28 by omega), Bool.true_and]
      congr 1
      omega
    rw [Nat.testBit_eq_decide_div_mod_eq, Nat.testBit_eq_decide_div_mod_eq, decide_eq_decide] at e1
    omega
  have i28 : iw (t : Int) / 28 = iw ((t / 28 : Nat) : Int) := idiv_n (b := 28) (by omega) (by decide) (by decide)
  have r28 : j_irem (iw (t : Int)) 28 = iw ((t % 28 : Nat) : Int) := irem_n (b := 28) (by omega) (by decide) (by decide)
  have dl := Nat.div_le_self (D (t / 28)) (2 ^ (t % 28))
  have e2 : j_ishr (iw (D (t / 28) : Nat)) (iw ((t % 28 : Nat) : Int)) &&& 1 = iw ((v / 2 ^ t % 2 : Nat) : Int) := by
    rw [ishr_n (by omega) (by omega) (by omega)]
    have := imk (((D (t / 28) : Nat) : Int) / ((2 ^ (t % 28) : Nat) : Int)) (k := 1) (by decide)
    rw [← Int.natCast_ediv, show ((2 ^ 1 : Nat) : Int) = ((2 : Nat) : Int) from rfl, ← Int.natCast_emod, bit] at this
    rw [← Int.natCast_ediv]
    exact this
  unfold F_X18_isSet
  rw [if_neg (by decide), ig.gn h, Option.bind_some, h2, i28, if_pos (by rw [iw_le4 (by omega) (by omega)]; exact hd), ig.gr h, Option.bind_some, if_neg (by decide), ig.ai h (by omega), Option.bind_some, if_neg (by decide), (h3 _ hd).1, r28, e2]
  unfold F_X18_isSet_b35 F_X18_isSet_b36
  have hl := Nat.mod_lt (v / 2 ^ t) (show 0 < 2 by decide)
  by_cases c : v / 2 ^ t % 2 = 0
  · rw [c]; rfl
  · rw [show v / 2 ^ t % 2 = 1 by omega]; rfl
/-- a step of the division -/
theorem qst {X H bt : Nat} (hH : 0 < H) (hb : bt ≤ 1) : (2 * (X % H) + bt < H → (2 * X + bt) / H = 2 * (X / H) ∧ (2 * X + bt) % H = 2 * (X % H) + bt) ∧ (¬ 2 * (X % H) + bt < H → (2 * X + bt) / H = 2 * (X / H) + 1 ∧ (2 * X + bt) % H = 2 * (X % H) + bt - H) := by
  have h1 := Nat.div_add_mod X H
  have h2 := Nat.mod_lt X hH
  have e : 2 * X + bt = (2 * (X % H) + bt) + H * (2 * (X / H)) := by
    rw [Nat.mul_left_comm]
    omega
  constructor
  · intro c
    rw [e, Nat.add_mul_div_left _ _ hH, Nat.add_mul_mod_self_left, Nat.div_eq_of_lt c, Nat.mod_eq_of_lt c, Nat.zero_add]
    exact ⟨rfl, rfl⟩
  · intro c
    have e2 : 2 * X + bt = (2 * (X % H) + bt - H) + H * (2 * (X / H) + 1) := by
      rw [Nat.mul_add, Nat.mul_one]
      omega
    have c2 : 2 * (X % H) + bt - H < H := by omega
    rw [e2, Nat.add_mul_div_left _ _ hH, Nat.add_mul_mod_self_left, Nat.div_eq_of_lt c2, Nat.mod_eq_of_lt c2, Nat.zero_add]
    exact ⟨rfl, rfl⟩
theorem M_quo {M : Mem} (h : ST M) {p q to rs : Nat} {x y : Int} (e : MG M p x) (f : MG M q y) (hy : y ≠ 0) (hyl : y.natAbs < 268435456 ^ 39) (it : isG to) (ir : isG rs) (k1 : to ≠ p) (k2 : to ≠ q) (k3 : rs ≠ p) (k4 : rs ≠ q) (k5 : to ≠ rs) :
    ∃ M', F_X18_quotient M to p q rs = some M' ∧ MG M' to (x.tdiv y) ∧ MG M' rs ((x.natAbs % y.natAbs : Nat) : Int) ∧ Dw (fun a i => pG to a i ∨ pG rs a i) M M' := by
  obtain ⟨⟨ip, n, D, n1, n2', n3, n4, n5⟩, sx⟩ := e
  obtain ⟨fa, sy⟩ := f
  have iq := fa.1
  have lp := ip.lt
  have lq := iq.lt
  have lt := it.lt
  have lr := ir.lt
  have np := it.ne ip
  have nq := it.ne iq
  have rp := ir.ne ip
  have rq := ir.ne iq
  have tr := it.ne ir
  obtain ⟨G, hG⟩ : ∃ G, G = x.natAbs := ⟨_, rfl⟩
  obtain ⟨H, hH⟩ : ∃ H, H = y.natAbs := ⟨_, rfl⟩
  rw [← hG] at n4 ⊢
  rw [← hH] at fa hyl ⊢
  have H0 : 0 < H := by omega
  have Gl := Vl_lt (B := 268435456) (fun k hk => (n3 k hk).2)
  rw [n4] at Gl
  -- zeros
  obtain ⟨K0, A0, -, e0, d0, r0⟩ := upl0 (σ := Unit) (fun N M _ i => F_X18_quotient_b3 N M to p q rs i) (n := 40) (by omega) (fun i A _ => Dw (at1 (to + 1)) M A ∧ GR A to i (fun _ => 0))
    (fun N A _ i hi hJ => by
      obtain ⟨d, r⟩ := hJ
      have sA := d.st h
      refine ⟨wI A (to + 1) i 0, (), ?_, d.trans (Dw.w _ rfl), fun k hk => ?_⟩
      · show F_X18_quotient_b3_st (F_X18_quotient_b3 N) A to p q rs _ = _
        unfold F_X18_quotient_b3_st
        rw [show (40 : Int32) = iw ((40 : Nat) : Int) from rfl, if_pos (by rw [iw_le4 (by omega) (by omega)]; exact hi)]
        simp only [it.gr sA, it.si sA (show i < 40 by omega), Option.bind_some, iw_succ]
      · by_cases c : k = i
        · subst c
          exact ⟨by rw [cI_wI, if_pos ⟨rfl, rfl⟩]; rfl, show 0 < 268435456 by decide⟩
        · rw [cI_wI, if_neg (by omega)]
          exact r k (by omega)) (M := M) (s := ()) ⟨Dw.refl _ _, fun k hk => absurd hk (by omega)⟩
  have sA0 := d0.st h
  obtain ⟨A1, hA1⟩ : ∃ A1, A1 = wI (wI A0 rs 1217 0) rs 1218 0 := ⟨_, rfl⟩
  have dA1 : Dw (fun a i => a = to + 1 ∨ pG rs a i) M A1 := (d0.mono (fun a i q => Or.inl q)).trans (hA1 ▸ (Dw.w 0 (Or.inr (Or.inl ⟨rfl, Or.inl rfl⟩))).trans (Dw.w 0 (Or.inr (Or.inl ⟨rfl, Or.inr rfl⟩))))
  have sA1 := dA1.st h
  have r1 : GR A1 to 40 (fun _ => 0) := fun k hk => by rw [hA1, cI_wI, if_neg (by omega), cI_wI, if_neg (by omega)]; exact r0 k hk
  have z1 : MA A1 rs 0 := ⟨ir, 0, fun _ => 0, by omega, by rw [hA1, cI_wI, if_neg (by omega), cI_wI, if_pos ⟨rfl, rfl⟩]; rfl, fun k hk => absurd hk (by omega), rfl, fun q => absurd q (by omega)⟩
  have s1 : cI A1 rs 1218 = 0 := by rw [hA1, cI_wI, if_pos ⟨rfl, rfl⟩]
  have Gz : G / 2 ^ (28 * n) = 0 := by
    rw [Nat.pow_mul]
    exact Nat.div_eq_of_lt Gl
  obtain ⟨K, A, -, e1, d1, m1, s2, T, r2, v2⟩ := dnl0 (σ := Unit) (fun N M _ b => F_X18_quotient_b45 N M to p q rs b) (n := 28 * n) (by omega) (fun b A _ => Dw (fun a i => a = to + 1 ∨ pG rs a i) M A ∧ MA A rs (G / 2 ^ b % H) ∧ cI A rs 1218 = 0 ∧ ∃ T, GR A to 40 T ∧ Vl 268435456 T 40 = G / 2 ^ b / H * 2 ^ b)
    (fun N A _ b hb hJ => by
      obtain ⟨d, m, s, T, r, v⟩ := hJ
      have sA := d.st h
      have np' : ∀ k, ¬ ((p + 1) = to + 1 ∨ pG rs (p + 1) k) := fun k => by unfold pG; omega
      have a1 : cI A p 1217 = iw (n : Int) := by rw [d.ci h (by omega) (by unfold pG; omega)]; exact n2'
      have a2 : GR A p n D := n3.dw ip h d (fun k _ => np' k)
      have fA : MA A q H := fa.dw h d (by unfold pG; omega) (fun k => by unfold pG; omega)
      have is := M_isSet sA ip n1 a1 a2 n4 hb
      obtain ⟨bt, hbt⟩ : ∃ bt, bt = G / 2 ^ b % 2 := ⟨_, rfl⟩
      have bl : bt ≤ 1 := by have := Nat.mod_lt (G / 2 ^ b) (show 0 < 2 by decide); omega
      rw [← hbt] at is
      obtain ⟨X, hX⟩ : ∃ X, X = G / 2 ^ (b + 1) := ⟨_, rfl⟩
      have eX : G / 2 ^ b = 2 * X + bt := by
        have : G / 2 ^ (b + 1) = G / 2 ^ b / 2 := by rw [Nat.pow_succ, Nat.div_div_eq_div_mul]
        omega
      rw [← hX] at m v
      have rl := Nat.mod_lt X H0
      obtain ⟨B, b1, b2, b3⟩ := M_twice sA m (by omega) bl
      have dB : Dw (fun a i => a = to + 1 ∨ pG rs a i) M B := d.trans (b3.mono (fun a i q => Or.inr (q.elim (fun q => Or.inl ⟨q.1, Or.inl q.2⟩) Or.inr)))
      have sB := dB.st h
      have fB : MA B q H := fa.dw h dB (by unfold pG; omega) (fun k => by unfold pG; omega)
      have cm := M_cmp sB b2 fB
      have rB : GR B to 40 T := r.dw it sA b3 (fun k _ => by omega)
      have sgB : cI B rs 1218 = 0 := by rw [b3.ci sA (by omega) (by omega)]; exact s
      obtain ⟨q1, q2⟩ := qst (X := X) H0 bl
      by_cases c : 2 * (X % H) + bt < H
      · obtain ⟨q3, q4⟩ := q1 c
        refine ⟨B, (), ?_, dB, by rw [eX, q4]; exact b2, sgB, T, rB, ?_⟩
        · show F_X18_quotient_b45_st (F_X18_quotient_b45 N) A to p q rs _ = _
          unfold F_X18_quotient_b45_st
          have cmv : iw (cmn (2 * (X % H) + bt) H) < 0 := by unfold cmn; rw [if_pos c]; decide
          rw [if_neg (by rw [iw_lt0 (by omega) (by omega)]; omega)]
          simp only [ip.vg sA, is, ir.vg sA, b1, ir.vg sB, cm, Option.bind_some, if_pos cmv, F_X18_quotient_b94, iw_p1]
        · rw [v, eX, q3, Nat.pow_succ, Nat.mul_comm 2, Nat.mul_assoc, Nat.mul_comm (2 ^ b)]
      · obtain ⟨q3, q4⟩ := q2 c
        obtain ⟨C, c1, c2, c3, c4⟩ := M_takeA sB b2 fB (by omega) ir
        have dC : Dw (fun a i => a = to + 1 ∨ pG rs a i) M C := dB.trans (c4.mono (fun a i q => Or.inr q))
        have sC := dC.st h
        have rC : GR C to 40 T := rB.dw it sB c4 (fun k _ => by unfold pG; omega)
        have hd : b / 28 < 40 := by omega
        obtain ⟨rr, hrr⟩ : ∃ rr, rr = b % 28 := ⟨_, rfl⟩
        have hrl : rr ≤ 27 := by omega
        have ed := Vl_dig (B := 268435456) (by decide) (fun k hk => (rC k hk).2) hd
        obtain ⟨u, hu⟩ : ∃ u, u + (rr + 1) = 28 := ⟨27 - rr, by omega⟩
        obtain ⟨w, hw⟩ : ∃ w, w = X / H % 2 ^ u := ⟨_, rfl⟩
        have wl : w < 2 ^ u := by rw [hw]; exact Nat.mod_lt _ (Nat.pow_pos (by decide))
        have e28 : 2 ^ u * 2 ^ (rr + 1) = 268435456 := by rw [← Nat.pow_add, hu]
        have Td : T (b / 28) = w * 2 ^ (rr + 1) := by
          rw [ed, v, show (268435456 : Nat) ^ (b / 28) = 2 ^ (28 * (b / 28)) by rw [Nat.pow_mul], show b + 1 = (rr + 1) + 28 * (b / 28) by omega, Nat.pow_add 2 (rr + 1), ← Nat.mul_assoc, Nat.mul_div_cancel _ (Nat.pow_pos (by decide)), ← e28, Nat.mul_mod_mul_right, hw]
        have wl2 : (w + 1) * 2 ^ (rr + 1) ≤ 2 ^ u * 2 ^ (rr + 1) := Nat.mul_le_mul_right _ wl
        rw [e28, Nat.add_mul, Nat.one_mul] at wl2
        have pr : 2 ^ rr < 2 ^ (rr + 1) := Nat.pow_lt_pow_right (by decide) (by omega)
        have sum28 : w * 2 ^ (rr + 1) + 2 ^ rr < 268435456 := by omega
        obtain ⟨t, ht⟩ : ∃ t, t = w * 2 ^ (rr + 1) + 2 ^ rr := ⟨_, rfl⟩
        have i28 : iw (b : Int) / 28 = iw ((b / 28 : Nat) : Int) := idiv_n (b := 28) (by omega) (by decide) (by decide)
        have r28 : j_irem (iw (b : Int)) 28 = iw (rr : Nat) := by rw [hrr]; exact irem_n (b := 28) (by omega) (by decide) (by decide)
        have one : j_ishl 1 (iw (rr : Nat)) = iw ((2 ^ rr : Nat) : Int) := by
          have := ishl_n (t := 1) (s := rr) (by decide) (by omega) (by omega)
          rw [Nat.one_mul] at this
          exact this
        refine ⟨wI C (to + 1) (b / 28) (iw (t : Nat)), (), ?_, dC.trans (Dw.w _ (Or.inl rfl)), ?_, ?_, _, rC.set (i := b / 28) (v := t) (by omega), ?_⟩
        · show F_X18_quotient_b45_st (F_X18_quotient_b45 N) A to p q rs _ = _
          unfold F_X18_quotient_b45_st
          have cmv : ¬ iw (cmn (2 * (X % H) + bt) H) < 0 := by unfold cmn; rw [if_neg c]; split <;> decide
          rw [if_neg (by rw [iw_lt0 (by omega) (by omega)]; omega)]
          simp only [ip.vg sA, is, ir.vg sA, b1, ir.vg sB, cm, Option.bind_some, if_neg cmv, c1, it.gr sC, i28, r28, one, it.ai sC hd, (rC (b / 28) hd).1, Td, F_X18_quotient_b94, iw_p1]
          rw [if_neg (by decide), if_neg (by decide), sh_or pr (by omega), ← ht, it.si sC hd]
          rfl
        · rw [eX, q4]
          exact c2.dw sC (Dw.w (P := fun a i => a = to + 1) _ rfl) (by omega) (fun k => by omega)
        · rw [cI_wI, if_neg (by omega), c3]
          split
          · rfl
          · exact sgB
        · have sV := Vl_set (B := 268435456) (D := T) (i := b / 28) (v := t) (n := 40) hd
          rw [Td, v, ht, Nat.add_mul] at sV
          have pw : 2 ^ rr * 268435456 ^ (b / 28) = 2 ^ b := by
            rw [show (268435456 : Nat) ^ (b / 28) = 2 ^ (28 * (b / 28)) by rw [Nat.pow_mul], ← Nat.pow_add]
            congr 1
            omega
          rw [pw] at sV
          rw [ht, eX, q3, Nat.add_mul, Nat.one_mul]
          have e3 : X / H * 2 ^ (b + 1) = 2 * (X / H) * 2 ^ b := by rw [Nat.pow_succ, Nat.mul_comm 2, Nat.mul_assoc, Nat.mul_comm (2 ^ b)]
          omega) (M := A1) (s := ()) ⟨dA1, by rw [Gz, Nat.zero_mod]; exact z1, s1, fun _ => 0, r1, by rw [Gz, Nat.zero_div, Nat.zero_mul]; exact Vl_zero (fun _ _ => rfl)⟩
  rw [Nat.pow_zero, Nat.div_one] at m1 v2
  rw [Nat.mul_one] at v2
  have sA := d1.st h
  have gp : cI A p 1218 = (if x < 0 then 1 else 0) := by rw [d1.ci h (by omega) (by unfold pG; omega)]; exact sx
  have gq' : cI A q 1218 = (if y < 0 then 1 else 0) := by rw [d1.ci h (by omega) (by unfold pG; omega)]; exact sy
  have gn : cI A p 1217 = iw (n : Int) := by rw [d1.ci h (by omega) (by unfold pG; omega)]; exact n2'
  obtain ⟨bt, hbt⟩ : ∃ bt : Int32, bt = if (if x < 0 then (1 : Int32) else 0) = (if y < 0 then 1 else 0) then 0 else 1 := ⟨_, rfl⟩
  have hb1 : bt = 0 ∨ bt = 1 := by
    by_cases c : (if x < 0 then (1 : Int32) else 0) = (if y < 0 then 1 else 0)
    · rw [hbt, if_pos c]; exact Or.inl rfl
    · rw [hbt, if_neg c]; exact Or.inr rfl
  obtain ⟨B, hB⟩ : ∃ B, B = wI A to 1218 bt := ⟨_, rfl⟩
  have dB : Dw (fun a i => a = to ∧ i = 1218) A B := hB ▸ Dw.w _ ⟨rfl, rfl⟩
  have sB := dB.st sA
  have rB : GR B to n T := fun k hk => by rw [hB, cI_wI, if_neg (by omega)]; exact r2 k (by omega)
  have vn : Vl 268435456 T n = G / H := by
    have s := Vl_add (B := 268435456) (D := T) (a := n) (40 - n)
    rw [show n + (40 - n) = 40 by omega, v2] at s
    have l : G / H < 268435456 ^ n := Nat.lt_of_le_of_lt (Nat.div_le_self G H) Gl
    have z : Vl 268435456 (fun k => T (n + k)) (40 - n) = 0 := by
      refine Classical.byContradiction (fun c => ?_)
      have : 268435456 ^ n * 1 ≤ 268435456 ^ n * Vl 268435456 (fun k => T (n + k)) (40 - n) := Nat.mul_le_mul_left _ (by omega)
      omega
    rw [z, Nat.mul_zero, Nat.add_zero] at s
    exact s.symm
  obtain ⟨M', w1, w2, w3, w4⟩ := M_trim sB it n1 rB
  rw [vn] at w2 w3
  obtain ⟨aq, -⟩ := tdv (x := x) (y := y)
  obtain ⟨-, gq⟩ := tsg (x := x) hy
  rw [← hG, ← hH] at aq
  refine ⟨M', ?_, ⟨by rw [aq]; exact w2, ?_⟩, ⟨?_, ?_⟩, ((d1.mono (fun a i q => q.elim (fun q => Or.inl (Or.inr q)) Or.inr)).trans (dB.mono (fun a i q => Or.inl (Or.inl ⟨q.1, Or.inr q.2⟩)))).trans (w4.mono (fun a i q => Or.inl (Or.inl q)))⟩
  · unfold F_X18_quotient
    refine Eq.trans e0 ?_
    show F_X18_quotient_b3_st (F_X18_quotient_b3 K0) A0 to p q rs _ = _
    unfold F_X18_quotient_b3_st
    have sW : ST (wI A0 rs 1217 0) := sA0
    have g0 : cI A1 p 1217 = iw (n : Int) := by rw [dA1.ci h (by omega) (by unfold pG; omega)]; exact n2'
    have bits : (28 : Int32) * iw (n : Int) - 1 = iw (((28 * n : Nat) : Int) - 1) := by
      rw [show (28 : Int32) = iw ((28 : Nat) : Int) from rfl, iw_mul, show (1 : Int32) = iw 1 from rfl, iw_sub]
      rfl
    rw [if_neg (by decide)]
    simp only [ir.pn sA0, ir.ps sW (Or.inl rfl), ← hA1, ip.gn sA1, g0, bits, Option.bind_some]
    refine Eq.trans e1 ?_
    show F_X18_quotient_b45_st (F_X18_quotient_b45 K) A to p q rs _ = _
    unfold F_X18_quotient_b45_st
    have gnB : cI B p 1217 = iw (n : Int) := by rw [dB.ci sA (by omega) (by omega)]; exact gn
    rw [if_pos (by decide)]
    simp only [ip.gs sA, iq.gs sA, gp, gq', Option.bind_some, F_X18_quotient_b117]
    by_cases c : (if x < 0 then (1 : Int32) else 0) = (if y < 0 then 1 else 0)
    · rw [if_pos c] at hbt
      subst hbt
      rw [if_pos c, it.ps sA (Or.inl rfl), ← hB]
      simp only [ip.gn sB, gnB, it.vg sB, w1, Option.bind_some]
    · rw [if_neg c] at hbt
      subst hbt
      rw [if_neg c, it.ps sA (Or.inr rfl), ← hB]
      simp only [ip.gn sB, gnB, it.vg sB, w1, Option.bind_some]
  · rw [w3, show cI B to 1218 = bt from by rw [hB, cI_wI, if_pos ⟨rfl, rfl⟩]]
    by_cases c0 : x.tdiv y = 0
    · rw [c0] at aq ⊢
      rw [if_pos (by rw [← aq]; rfl), if_neg (by decide)]
    · rw [if_neg (by omega), hbt]
      have g := gq c0
      have n10 : ¬ (1 : Int32) = 0 := by decide
      by_cases c1 : x < 0 <;> by_cases c2 : y < 0
      · rw [if_pos c1, if_pos c2, if_pos rfl, if_neg (fun z => g.mp z ⟨fun _ => c2, fun _ => c1⟩)]
      · rw [if_pos c1, if_neg c2, if_neg n10, if_pos (g.mpr (fun z => c2 (z.mp c1)))]
      · rw [if_neg c1, if_pos c2, if_neg (fun z => n10 z.symm), if_pos (g.mpr (fun z => c1 (z.mpr c2)))]
      · rw [if_neg c1, if_neg c2, if_pos rfl, if_neg (fun z => g.mp z ⟨fun q => absurd q c1, fun q => absurd q c2⟩)]
  · rw [show (((G % H : Nat) : Int)).natAbs = G % H from rfl]
    exact (m1.dw sA dB (by omega) (fun k => by omega)).dw sB w4 (by omega) (fun k => by omega)
  · rw [if_neg (by omega), w4.ci sB (by omega) (by omega), dB.ci sA (by omega) (by omega)]
    exact s2
