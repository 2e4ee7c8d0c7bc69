/-! ===== EXACT SOLUTIONS, 21: the model, from the matrix to the answer ===== -/
theorem red_Ba {n : Nat} {q' : Int} {A' : Nat → Vc} : ∀ (e k : Nat) (q : Int) (A A0 : Nat → Vc), k + e = n → Ba n 2147483648 k q A A0 → red n e k q A = some (q', A') → ∃ A0', Ba n 2147483648 n q' A' A0' := by
  intro e
  induction e with
  | zero =>
    intro k q A A0 hk ba hr
    have : k = n := by omega
    subst this
    have h0 : (q, A) = (q', A') := Option.some.inj hr
    have h1 : q = q' := congrArg Prod.fst h0
    have h2 : A = A' := congrArg Prod.snd h0
    subst h1 h2
    exact ⟨A0, ba⟩
  | succ e ih =>
    intro k q A A0 hk ba hr
    unfold red at hr
    by_cases c : pvt A n k (n - k) = n
    · rw [if_pos c] at hr
      exact absurd hr (by simp)
    · rw [if_neg c] at hr
      obtain ⟨A0', b1, -⟩ := ba.stp (by decide) (show k < n by omega) c
      exact ih (k + 1) _ _ A0' (by omega) b1 hr
def pMs : Nat → Nat → Prop := fun a i => psc a i ∨ (a = 1068 ∧ i = 1115)
def DM (M B : Mem) : Prop := Df pMs qsc (at1 1086) M B ∧ m_nx B = m_nx M ∧ m_sl B = m_sl M
theorem DM.trans {M A B : Mem} (h : DM M A) (k : DM A B) : DM M B := ⟨h.1.trans k.1, k.2.1.trans h.2.1, k.2.2.trans h.2.2⟩
theorem Dr.m {M A : Mem} (d : Dr M A) : DM M A := ⟨d.1.mono (fun a i q => Or.inl (by unfold pMo at q; unfold psc; omega)) (fun _ _ q => q.elim) (fun _ _ q => q), d.2.1, d.2.2⟩
theorem Ds.m {M A : Mem} (d : Ds M A) : DM M A := ⟨d.1.mono (fun a i q => Or.inl (by unfold pSm at q; unfold psc; omega)) (fun a i q => by unfold qSm at q; unfold qsc; omega) (fun _ _ q => q.elim), d.2.1, d.2.2⟩
theorem GMx.cr {M A : Mem} (g : GMx M) (h1 : ∀ i, cR A 1086 i = cR M 1086 i) (h2 : ∀ i, cR A 1307 i = cR M 1307 i) : GMx A :=
  ⟨fun i hi => by rw [h1]; exact g.1 i hi, fun i j hi hj => by rw [h1, h1]; exact g.2.1 i j hi hj, fun u hu => by rw [h2]; exact g.2.2 u hu⟩
theorem M_sfil {M : Mem} (h : ST M) (gm : GMx M) {n x y : Nat} {u w : Nat → Int64} (n10 : n ≤ 10)
    (hg : ∀ U, Dw pMo M U → (∃ d bs st s0 s1, gr U x 1476 = some d ∧ gi U x 1475 = some bs ∧ gr U x 1474 = some st ∧ ai U st 0 = some s0 ∧ ai U st 1 = some s1 ∧ ∀ i j, i < n → j < n → al U d ((bs + (iw (i : Int) * s0)) + (iw (j : Int) * s1)) = some (u (n * i + j))) ∧ vg U y 23 = some () ∧ ∀ t, t < n → F_X22_cell U y (iw (t : Int)) = some (w t)) :
    ∃ K M', F_X16_solve_b178 xN M 1068 x y (iw (n : Int)) (iw ((n + 1 : Nat) : Int)) 0 = F_X16_solve_b178 (K + 1) M' 1068 x y (iw (n : Int)) (iw ((n + 1 : Nat) : Int)) (iw (n : Int)) ∧ Dw (pU (fun g => g ≤ 1305)) M M' ∧ ∀ i, i < n → ∀ j, j ≤ n → MG M' (gam M n i j) (mtx n u w i j) := by
  have mr := gm.mr n10
  have gl : ∀ x y, x < n → y ≤ n → isG (gam M n x y) ∧ gam M n x y ≤ 1305 := fun x y hx hy => (mr.2.1 x hx y hy).2
  have inj := mr.2.2
  obtain ⟨K, A, -, e1, d1, v1⟩ := upl0 (σ := Unit) (fun N M _ i => F_X16_solve_b178 N M 1068 x y (iw (n : Int)) (iw ((n + 1 : Nat) : Int)) i) (n := n) (by omega) (fun i A _ => Dw (pU (fun g => g ≤ 1305)) M A ∧ ∀ a, a < i → ∀ j, j ≤ n → MG A (gam M n a j) (mtx n u w a j))
    (fun N0 A _ i hi hJ => by
      obtain ⟨d, v⟩ := hJ
      have sA := d.st h
      obtain ⟨K2, B, -, e2, d2, v2a, v2b⟩ := upl0 (σ := Unit) (fun N M _ j => F_X16_solve_b188 (F_X16_solve_b178 N0) N M 1068 x y (iw (n : Int)) (iw ((n + 1 : Nat) : Int)) (iw (i : Int)) j) (n := n) (by omega) (fun c B _ => Dw (pU (fun g => g ≤ 1305)) M B ∧ (∀ a, a < i → ∀ j, j ≤ n → MG B (gam M n a j) (mtx n u w a j)) ∧ ∀ j, j < c → MG B (gam M n i j) (mtx n u w i j))
        (fun N B _ j hj hJ => by
          obtain ⟨dB, vB, wB⟩ := hJ
          have sB := dB.st h
          obtain ⟨⟨d', bs, st, s0, s1, g1, g2, g3, g4, g5, g6⟩, g7, g8⟩ := hg B (dB.mono pU_Mo)
          have gij := gl i j hi (by omega)
          obtain ⟨C, c1, c2, c3⟩ := M_set sB gij.1 (u (n * i + j))
          refine ⟨C, (), ?_, dB.trans (c3.mono (pG_U gij.1 gij.2)), fun a ha b hb => (vB a ha b hb).dg sB gij.1 c3 (fun z => by have := (inj i j a b hi (by omega) (by omega) hb z).1; omega), fun b hb => ?_⟩
          · show F_X16_solve_b188_st (F_X16_solve_b178 N0) (F_X16_solve_b188 (F_X16_solve_b178 N0) N) B 1068 _ _ _ _ _ _ = _
            unfold F_X16_solve_b188_st
            rw [if_pos (by rw [iw_le4 (by omega) (by omega)]; exact hj)]
            simp only [g1068_1120, sB, (mr.dw h dB).ar sB hi (show j ≤ n by omega), g1, g2, g3, g4, g5, g6 i j hi hj, gij.1.vg sB, c1, Option.bind_some, iw_succ]
          · by_cases c : b = j
            · subst c
              unfold mtx
              rw [if_neg (by omega)]
              exact c2
            · exact (wB b (by omega)).dg sB gij.1 c3 (fun z => c (inj i j i b hi (by omega) hi (by omega) z).2.symm)) (M := A) (s := ()) ⟨d, v, fun j hj => by omega⟩
      have sB := d2.st h
      obtain ⟨-, g7, g8⟩ := hg B (d2.mono pU_Mo)
      have gin := gl i n hi (Nat.le_refl n)
      obtain ⟨C, c1, c2, c3⟩ := M_set sB gin.1 (w i)
      refine ⟨C, (), ?_, d2.trans (c3.mono (pG_U gin.1 gin.2)), fun a ha b hb => ?_⟩
      · show F_X16_solve_b178_st (F_X16_solve_b178 N0) A 1068 _ _ _ _ _ = _
        unfold F_X16_solve_b178_st
        rw [if_pos (by rw [iw_le4 (by omega) (by omega)]; exact hi)]
        refine Eq.trans e2 ?_
        show F_X16_solve_b188_st (F_X16_solve_b178 N0) (F_X16_solve_b188 (F_X16_solve_b178 N0) K2) B 1068 _ _ _ _ _ _ = _
        unfold F_X16_solve_b188_st
        rw [if_neg (by rw [iw_le4 (by omega) (by omega)]; omega)]
        simp only [g1068_1120, sB, (mr.dw h d2).ar sB hi (Nat.le_refl n), g7, g8 i hi, gin.1.vg sB, c1, Option.bind_some, iw_succ]
      · by_cases cx : a = i
        · subst cx
          by_cases c : b = n
          · subst c
            unfold mtx
            rw [if_pos rfl]
            exact c2
          · exact (v2b b (by omega)).dg sB gin.1 c3 (fun z => c (inj a n a b hi (Nat.le_refl n) hi hb z).2.symm)
        · exact (v2a a (by omega) b hb).dg sB gin.1 c3 (fun z => cx (inj i n a b hi (Nat.le_refl n) (by omega) hb z).1.symm)) (M := M) (s := ()) ⟨Dw.refl _ _, fun a ha => by omega⟩
  exact ⟨K, A, e1, d1, v1⟩
/-- two rows are made, if there is room -/
noncomputable def twoM (B : Mem) (n : Nat) : Option (Int32 × Mem) := (F_X16_isRoom B 1068 ((2 : Int64) * (iw (n : Int)).toInt64) 2).bind fun z27 => if z27 = 0 then some (-12, B) else (F_X16_oneSize B (iw (n : Int))).bind fun z29 => (gr z29.2 1068 1100).bind fun t30 => (vg z29.2 1068 17).bind fun _ => (F_X16_made z29.2 1068 5 z29.1 t30).bind fun z32 => (F_X16_oneSize z32.2 (iw (n : Int))).bind fun z33 => (gr z33.2 1068 1101).bind fun t34 => (vg z33.2 1068 17).bind fun _ => (F_X16_made z33.2 1068 5 z33.1 t34).bind fun z36 => some (z32.1, z36.2)
theorem M_frac_l {n : Nat} {A : Nat → Vc} (n10 : n ≤ 10) (hA : ∀ i, i < n → A i i ≠ 0 ∧ (A i i).natAbs < 2 ^ 336) : ∀ (e N k : Nat) (M : Mem), k + e = n → ST M → GMx M → (∀ i, i < n → ∀ j, j ≤ n → MG M (gam M n i j) (A i j)) →
    (∃ r, k ≤ r ∧ r < n ∧ (∀ i, k ≤ i → i < r → gdf (A i n) (A i i)) ∧ ¬ gdf (A r n) (A r r) ∧ ∃ B, F_X16_solve_b290 (N + 1 + e) M 1068 (iw (n : Int)) (iw ((n + 1 : Nat) : Int)) (iw (k : Int)) = F_X16_failsAt B 1068 8 ∧ DM M B ∧ GMx B ∧ cI B 1068 1115 = iw ((1 : Nat) : Int) ∧ cI B 1082 0 = iw (r : Nat)) ∨
    ((∀ i, k ≤ i → i < n → gdf (A i n) (A i i)) ∧ ∃ B, F_X16_solve_b290 (N + 1 + e) M 1068 (iw (n : Int)) (iw ((n + 1 : Nat) : Int)) (iw (k : Int)) = twoM B n ∧ DM M B ∧ GMx B ∧ cI B 1068 1117 = cI M 1068 1117 ∧ (∀ i, k ≤ i → i < n → cJ B 1073 i = Int64.ofInt (nmr (A i n) (A i i)) ∧ cJ B 1074 i = Int64.ofInt (dnm (A i n) (A i i))) ∧ ∀ i, i < k → cJ B 1073 i = cJ M 1073 i ∧ cJ B 1074 i = cJ M 1074 i) := by
  intro e
  induction e with
  | zero =>
    intro N k M hk h gm mat
    have : k = n := by omega
    subst this
    right
    refine ⟨fun i h1 h2 => by omega, M, ?_, ⟨Df.refl _ _ _ _, rfl, rfl⟩, gm, rfl, fun i h1 h2 => by omega, fun i _ => ⟨rfl, rfl⟩⟩
    show F_X16_solve_b290_st (F_X16_solve_b290 N) M 1068 _ _ _ = _
    unfold F_X16_solve_b290_st
    rw [if_neg (by rw [iw_le4 (by omega) (by omega)]; omega), v1068 h]
    rfl
  | succ e ih =>
    intro N k M hk h gm mat
    have h0 := h.1
    have mr := gm.mr n10
    have gkn := (mr.2.1 k (by omega) n (Nat.le_refl n)).2
    have gkk := (mr.2.1 k (by omega) k (by omega)).2
    obtain ⟨B, ds, hB⟩ := M_frac (i := k) h gm.2.2 (mat k (by omega) n (Nat.le_refl n)) (mat k (by omega) k (by omega)) (hA k (by omega)).1 (hA k (by omega)).2 gkn.2 gkk.2 (by omega)
    have sB : ST B := h.n ds.1
    have gB : GMx B := gm.cr (fun i => ds.1.cR (by omega) (fun q => q)) (fun i => ds.1.cR (by omega) (fun q => q))
    have hd : F_X16_solve_b290 (N + 1 + (e + 1)) M 1068 (iw (n : Int)) (iw ((n + 1 : Nat) : Int)) (iw (k : Int)) = (F_X16_fraction M 1068 (gam M n k n) (gam M n k k) (iw (k : Int))).bind fun z6 => if z6.1 = 0 then (pi z6.2 1068 1115 1).bind fun M7 => (gr M7 1068 1114).bind fun t8 => (si M7 t8 0 (iw (k : Int))).bind fun M9 => (vg M9 1068 17).bind fun _ => (F_X16_failsAt M9 1068 8).bind fun z11 => some (z11.1, z11.2) else F_X16_solve_b290 (N + 1 + e) z6.2 1068 (iw (n : Int)) (iw ((n + 1 : Nat) : Int)) (iw ((k + 1 : Nat) : Int)) := by
      show F_X16_solve_b290_st (F_X16_solve_b290 (N + 1 + e)) M 1068 _ _ _ = _
      unfold F_X16_solve_b290_st
      rw [if_pos (by rw [iw_le4 (by omega) (by omega)]; omega)]
      simp only [g1068_1120, v1068, h, mr.ar h (show k < n by omega) (Nat.le_refl n), mr.ar h (show k < n by omega) (show k ≤ n by omega), Option.bind_some, iw_succ]
    rcases hB with ⟨b1, b2, b3, b4, b5⟩ | ⟨b1, b2⟩
    · rw [b2, Option.bind_some, if_neg (show ¬ (1 : Int32) = 0 by decide)] at hd
      have mat2 : ∀ i, i < n → ∀ j, j ≤ n → MG B (gam B n i j) (A i j) := fun i hi j hj => by
        have g := (mr.2.1 i hi j hj).2
        have eg : gam B n i j = gam M n i j := ds.1.cR (by omega) (fun q => q)
        rw [eg]
        have m := mat i hi j hj
        obtain ⟨⟨ig, nn, D, a1, a2, a3, a4, a5⟩, s⟩ := m
        have l := ig.lt
        refine ⟨⟨ig, nn, D, a1, by rw [ds.1.cI (by omega) (by unfold pSm; omega)]; exact a2, fun c hc => by rw [ds.1.cI (by omega) (by unfold pSm; omega)]; exact a3 c hc, a4, a5⟩, by rw [ds.1.cI (by omega) (by unfold pSm; omega)]; exact s⟩
      rcases ih N (k + 1) B (by omega) sB gB mat2 with ⟨r, r1, r2, r3, r4, C, r5, r6, r7, r8, r9⟩ | ⟨r3, C, r5, r6, r7, r8, r9, r10⟩
      · refine Or.inl ⟨r, by omega, r2, fun i g1 g2 => ?_, r4, C, hd.trans r5, ds.m.trans r6, r7, r8, r9⟩
        by_cases c : i = k
        · subst c; exact b1
        · exact r3 i (by omega) g2
      · refine Or.inr ⟨fun i g1 g2 => ?_, C, hd.trans r5, ds.m.trans r6, r7, by rw [r8]; exact ds.1.cI (by omega) (by unfold pSm; omega), fun i g1 g2 => ?_, fun i g => ?_⟩
        · by_cases c : i = k
          · subst c; exact b1
          · exact r3 i (by omega) g2
        · by_cases c : i = k
          · subst c
            obtain ⟨e1, e2⟩ := r10 i (by omega)
            rw [e1, e2]
            exact ⟨b3, b4⟩
          · exact r9 i (by omega) g2
        · obtain ⟨e1, e2⟩ := r10 i (by omega)
          rw [e1, e2]
          exact b5 i (by omega)
    · left
      obtain ⟨C, hC⟩ : ∃ C, C = wI (wI B 1068 1115 1) 1082 0 (iw (k : Int)) := ⟨_, rfl⟩
      have sW : ST (wI B 1068 1115 1) := sB
      have sC : ST C := hC ▸ sB
      have p1 : pi B 1068 1115 1 = some (wI B 1068 1115 1) := pi_of 1 (t1068 sB) (show x_wi 17 1115 = true by decide) rfl
      have w1 : si (wI B 1068 1115 1) 1082 0 (iw (k : Int)) = some C := by
        rw [hC]
        exact si_of (M := wI B 1068 1115 1) (j := 0) (iw (k : Int)) (t1082 sW) (l1082 sW) (by decide) (by decide)
      refine ⟨k, Nat.le_refl _, by omega, fun i g1 g2 => by omega, b1, C, ?_, ds.m.trans ⟨by rw [hC]; exact (Df.wI _ (Or.inr ⟨rfl, rfl⟩)).trans (Df.wI _ (Or.inl (by unfold psc; omega))), by rw [hC]; rfl, by rw [hC]; rfl⟩, by rw [hC]; exact gB, by rw [hC, cI_wI, if_neg (by omega), cI_wI, if_pos ⟨rfl, rfl⟩]; rfl, by rw [hC, cI_wI, if_pos ⟨rfl, rfl⟩]⟩
      rw [hd, b2, Option.bind_some, if_pos rfl]
      simp only [p1, g1068_1114, sW, w1, v1068, sC, Option.bind_some, bse]
theorem M_solveT {M : Mem} (h : ST M) (gm : GMx M) {n x y : Nat} {u w : Nat → Int64} (n10 : n ≤ 10)
    (hg : ∀ U, Dw pMo M U → (∃ d bs st s0 s1, gr U x 1476 = some d ∧ gi U x 1475 = some bs ∧ gr U x 1474 = some st ∧ ai U st 0 = some s0 ∧ ai U st 1 = some s1 ∧ ∀ i j, i < n → j < n → al U d ((bs + (iw (i : Int) * s0)) + (iw (j : Int) * s1)) = some (u (n * i + j))) ∧ vg U y 23 = some () ∧ ∀ t, t < n → F_X22_cell U y (iw (t : Int)) = some (w t)) (hb : ∀ i, i < n → ∀ j, j ≤ n → (mtx n u w i j).natAbs ≤ 2147483648) :
    (red n n 0 1 (mtx n u w) = none ∧ ∃ B, F_X16_solve_b178 xN M 1068 x y (iw (n : Int)) (iw ((n + 1 : Nat) : Int)) 0 = some (-6, B) ∧ DM M B ∧ GMx B ∧ cI B 1068 1117 = cI M 1068 1117) ∨
    (∃ q' A', red n n 0 1 (mtx n u w) = some (q', A') ∧
      ((∃ r, r < n ∧ (∀ i, i < r → gdf (A' i n) (A' i i)) ∧ ¬ gdf (A' r n) (A' r r) ∧ ∃ B, F_X16_solve_b178 xN M 1068 x y (iw (n : Int)) (iw ((n + 1 : Nat) : Int)) 0 = F_X16_failsAt B 1068 8 ∧ DM M B ∧ GMx B ∧ cI B 1068 1115 = iw ((1 : Nat) : Int) ∧ cI B 1082 0 = iw (r : Nat)) ∨
       ((∀ i, i < n → gdf (A' i n) (A' i i)) ∧ ∃ B, F_X16_solve_b178 xN M 1068 x y (iw (n : Int)) (iw ((n + 1 : Nat) : Int)) 0 = twoM B n ∧ DM M B ∧ GMx B ∧ cI B 1068 1117 = cI M 1068 1117 ∧ ∀ i, i < n → cJ B 1073 i = Int64.ofInt (nmr (A' i n) (A' i i)) ∧ cJ B 1074 i = Int64.ofInt (dnm (A' i n) (A' i i))))) := by
  have hxN : xN = 1099511627776 := rfl
  have h0 := h.1
  obtain ⟨K, M1, e1, d1, v1⟩ := M_sfil h gm n10 hg
  have s1 := d1.st h
  have i0 : isG 1308 := by unfold isG; omega
  obtain ⟨M2, f1, f2, f3⟩ := M_set s1 i0 1
  have s2 := f3.st s1
  have d2 : Dw (pU (fun _ => True)) M M2 := (d1.mono (pU_mono (fun _ _ => trivial))).trans (f3.mono (pG_U i0 trivial))
  have g2 := gm.dw h d2
  rw [show (1 : Int64).toInt = 1 by decide] at f2
  obtain ⟨N, hN⟩ : ∃ N, N + 1 + n = xN := ⟨xN - 1 - n, by omega⟩
  have eg : ∀ i j, gam M2 n i j = gam M n i j := fun i j => d2.1.cR (by omega) (fun q => q)
  have mr := gm.mr n10
  have st := Ba.start (n := n) (b := 2147483648) (by decide) hb
  have rd := M_red_l n10 n N 0 M2 (mtx n u w) (mtx n u w) 1 (by omega) s2 g2 (fun i hi j hj => by
    rw [eg]
    exact (v1 i hi j hj).dg s1 i0 f3 (by have := (mr.2.1 i hi j hj).2.2; omega)) f2 st (Nat.one_lt_two_pow (by decide))
  rw [hN] at rd
  have hend : F_X16_solve_b178 xN M 1068 x y (iw (n : Int)) (iw ((n + 1 : Nat) : Int)) 0 = (F_X16_isReduced_b19 xN M2 1068 (iw (n : Int)) (iw ((n + 1 : Nat) : Int)) 1308 0).bind fun z43 => if z43.1 = 0 then some ((-6 : Int32), z43.2) else F_X16_solve_b290 xN z43.2 1068 (iw (n : Int)) (iw ((n + 1 : Nat) : Int)) 0 := by
    rw [e1]
    show F_X16_solve_b178_st (F_X16_solve_b178 K) M1 1068 _ _ _ _ _ = _
    unfold F_X16_solve_b178_st
    have q0 : ar M1 1307 0 = some 1308 := (gm.dw h d1).2.2.ar (u := 0) s1 (by decide)
    rw [if_neg (by rw [iw_le4 (by omega) (by omega)]; omega)]
    simp only [v1068, s1, F_X16_isReduced, g1068_1121, q0, i0.vg s1, f1, Option.bind_some, iw_succ]
  have dm2 : DM M M2 := d2.r.m
  have n17 : ∀ {B : Mem}, Dr M2 B → cI B 1068 1117 = cI M 1068 1117 := fun d => by
    rw [d.1.cI (by have := s2.1; omega) (by unfold pMo; omega), d2.ci h (by decide) (fun q => by obtain ⟨g, i, -, p⟩ := q; have := i.lt; unfold isG at i; unfold pG at p; omega)]
  rcases rd with ⟨c1, M3, c2, c3, c4⟩ | ⟨q', A', M3, c1, c2, c3, s3, c4, c5⟩
  · left
    have c2' : F_X16_isReduced_b19 xN M2 1068 (iw (n : Int)) (iw ((n + 1 : Nat) : Int)) 1308 0 = some (0, M3) := c2
    exact ⟨c1, M3, by rw [hend, c2']; rfl, dm2.trans c3.m, c4, n17 c3⟩
  · right
    have c2' : F_X16_isReduced_b19 xN M2 1068 (iw (n : Int)) (iw ((n + 1 : Nat) : Int)) 1308 0 = some (1, M3) := c2
    rw [c2', Option.bind_some, if_neg (show ¬ (1 : Int32) = 0 by decide)] at hend
    obtain ⟨A0', ba⟩ := red_Ba n 0 1 _ _ (by omega) st c1
    have fl := M_frac_l (A := A') n10 (fun i hi => ⟨by rw [ba.d i hi]; exact ba.q0, Nat.lt_of_le_of_lt (ba.cc i hi i (by omega)) (fct10 n10)⟩) n N 0 M3 (by omega) s3 c4 c5
    rw [hN] at fl
    have dm3 := dm2.trans c3.m
    refine ⟨q', A', c1, ?_⟩
    rcases fl with ⟨r, -, r2, r3, r4, B, r5, r6, r7, r8, r9⟩ | ⟨r3, B, r5, r6, r7, r8, r9, -⟩
    · exact Or.inl ⟨r, r2, fun i hi => r3 i (by omega) hi, r4, B, hend.trans r5, dm3.trans r6, r7, r8, r9⟩
    · exact Or.inr ⟨fun i hi => r3 i (by omega) hi, B, hend.trans r5, dm3.trans r6, r7, by rw [r8]; exact n17 c3, fun i hi => r9 i (by omega) hi⟩
