/-! ===== CALLS, 7: bind ===== -/
/-- operands: the engine keeps grids, the model their numbers -/
def I7 (M : Mem) : Prop := ∀ i, i < 8 → (cR M 1056 i = 0 ∧ cI M 1078 i = 0) ∨ ∃ j : Nat, 1 ≤ j ∧ (j : Int) ≤ (cI M 1004 193).toInt ∧ cI M 1078 i = iw (j : Int) ∧ cR M 1056 i = cR M 1005 j ∧ cR M 1005 j ≠ 0
theorem I7.df {P Q R : Nat → Nat → Prop} {M M' : Mem} (h : ST M) (d : Df P Q R M M') (h7 : I7 M) (hr : ∀ i, ¬ R 1056 i ∧ (R 1005 i → (cI M 1004 193).toInt < (i : Int))) (hp : ∀ i, ¬ P 1078 i) (hc : (cI M 1004 193).toInt ≤ (cI M' 1004 193).toInt) : I7 M' := by
  have h0 := h.1
  intro i hi
  rw [d.cR (by omega) (hr i).1, d.cI (a := 1078) (by omega) (hp i)]
  rcases h7 i hi with q | ⟨j, a1, a2, a3, a4, a5⟩
  · exact Or.inl q
  · have e : cR M' 1005 j = cR M 1005 j := d.cR (by omega) (fun q => by have := (hr j).2 q; omega)
    exact Or.inr ⟨j, a1, by omega, a3, by rw [e]; exact a4, by rw [e]; exact a5⟩
def pBind : Nat → Nat → Prop := fun a _ => a = 1078
def rBind : Nat → Nat → Prop := fun a _ => a = 1056
theorem ST.bind {P Q : Nat → Nat → Prop} {M M' : Mem} (h : ST M) (d : Df P Q rBind M M') : ST M' := h.df d (fun p hp hr => (stR_na p hp).2.2.1 hr)
theorem c_bind {M : Mem} {v g : Int32} (h : ST M) (h4 : I4 M) (h5 : I5 M) (h7 : I7 M) : ∃ (r : Int32) (M1 M2 : Mem), F_X0_bind M 1000 v g = some (r, M1) ∧ F_X16_bind M1 1068 v g = some (r, M2) ∧ I7 M2 ∧ Df pBind n2 rBind M M2 ∧ m_nx M2 = m_nx M ∧ m_sl M2 = m_sl M := by
  have h0 := h.1
  obtain ⟨m, w, K, n, Z, S, T, X, Y, C, D, L, P, h5⟩ := h5
  have n10 : ¬ (1 : Int32) = 0 := by decide
  -- what both put
  have put : ∀ (b : Nat), (b = 0 ∧ g = 0 ∨ ∃ j : Nat, 1 ≤ j ∧ j ≤ m ∧ g = iw (j : Int) ∧ b = cR M 1005 j ∧ b ≠ 0) → (b = 0 ∨ m_tg M b = 22) → (∀ N : Mem, F_X0_bind M 1000 v g = F_X0_bind_b27 M 1000 v b) → (∀ N : Mem, Df n2 n2 rBind M N → F_X16_bind N 1068 v g = F_X16_bind_b25 N 1068 v g) →
      ∃ (r : Int32) (M1 M2 : Mem), F_X0_bind M 1000 v g = some (r, M1) ∧ F_X16_bind M1 1068 v g = some (r, M2) ∧ I7 M2 ∧ Df pBind n2 rBind M M2 ∧ m_nx M2 = m_nx M ∧ m_sl M2 = m_sl M := by
    intro b hb tb eE eM
    rw [eE M]
    unfold F_X0_bind_b27 F_X0_bind_b37
    by_cases c1 : v < 0
    · refine ⟨-2, M, M, by rw [if_pos c1], by rw [eM M (Df.refl _ _ _ _)]; unfold F_X16_bind_b25 F_X16_bind_b35; rw [if_pos c1], h7, Df.refl _ _ _ _, rfl, rfl⟩
    · by_cases c2 : (7 : Int32) < v
      · refine ⟨-2, M, M, by rw [if_neg c1, if_pos c2], by rw [eM M (Df.refl _ _ _ _)]; unfold F_X16_bind_b25 F_X16_bind_b35; rw [if_neg c1, if_pos c2], h7, Df.refl _ _ _ _, rfl, rfl⟩
      · have r1 : 0 ≤ v.toInt := by
          rw [Int32.lt_iff_toInt_lt] at c1
          have : (0 : Int32).toInt = 0 := rfl
          omega
        have r2 : v.toInt ≤ 7 := by
          rw [Int32.lt_iff_toInt_lt] at c2
          have : (7 : Int32).toInt = 7 := rfl
          omega
        have hv1 := i32_nat r1
        obtain ⟨i, hi⟩ : ∃ i : Nat, v.toInt.toNat = i := ⟨_, rfl⟩
        rw [hi] at hv1
        have hi8 : i < 8 := by omega
        have s1 : sr M 1056 v b = some (wR M 1056 i b) := by
          rw [hv1]
          refine sr_of (by rw [t1056 h]; decide) (l1056 h) hi8 (by decide) ?_
          rcases tb with q | q
          · exact Or.inl q
          · right; rw [q, t1056 h]; decide
        have dE : Df pBind n2 rBind M (wR M 1056 i b) := Df.wR _ rfl
        have hS : ST (wR M 1056 i b) := h.bind dE
        have s2 : si (wR M 1056 i b) 1078 v g = some (wI (wR M 1056 i b) 1078 i g) := by
          rw [hv1]
          exact si_of g (t1078 hS) (l1078 hS) hi8 (by decide)
        refine ⟨0, wR M 1056 i b, wI (wR M 1056 i b) 1078 i g, ?_, ?_, ?_, dE.trans (Df.wI _ rfl), rfl, rfl⟩
        · rw [if_neg c1, if_neg c2, g1000_80 h]
          simp only [Option.bind_some, s1]
        · rw [eM _ (Df.wR _ rfl)]
          unfold F_X16_bind_b25
          rw [if_neg c1, if_neg c2, g1068_1107 hS]
          simp only [Option.bind_some, s2]
        · intro i' hi'
          simp only [cI_wI, cR_wI, cR_wR, cI_wR, Nat.reduceEqDiff, false_and, if_false, true_and]
          by_cases e : i' = i
          · subst e
            simp only [if_true]
            rcases hb with q | ⟨j, j1, j2, j3, j4, j5⟩
            · exact Or.inl q
            · right
              refine ⟨j, j1, ?_, j3, j4, by rw [← j4]; exact j5⟩
              rw [h5.2.2.1, iw_toInt (by omega) (by have := h5.1; omega)]
              omega
          · simp only [e, if_false]
            exact h7 i' hi'
  rcases look h h4 h5 g with ⟨b1, b2, e1, e2, e3⟩ | ⟨b1, b2, e1, e2, e3, e8⟩ | ⟨b1, b2, j, j1, j2, hg, e1, e4, e5, e3, e7, e6, gp⟩
  · refine ⟨-13, M, M, ?_, ?_, h7, Df.refl _ _ _ _, rfl, rfl⟩
    · simp only [F_X0_bind, g1000_97, h, b1, n10, Option.bind_some, if_false]
    · simp only [F_X16_bind, g1068_1095, h, b2, n10, Option.bind_some, if_false]
  · by_cases g0 : g = 0
    · refine put 0 (Or.inl ⟨rfl, g0⟩) (Or.inl rfl) (fun _ => ?_) (fun N dN => ?_)
      · rw [g0] at e1
        simp only [F_X0_bind, g1000_97, v1000, h, b1, g0, e1, Option.bind_some, if_true, Nat.reduceEqDiff, if_false]
      · have hN := h.bind dN
        have c : cI N 1068 1095 = 0 := by rw [dN.cI (by omega) (fun q => q)]; exact b2
        simp only [F_X16_bind, g1068_1095, hN, c, g0, Option.bind_some, if_true]
    · refine ⟨-14, M, M, ?_, ?_, h7, Df.refl _ _ _ _, rfl, rfl⟩
      · simp only [F_X0_bind, g1000_97, v1000, h, b1, g0, e1, Option.bind_some, if_true, Nat.reduceEqDiff, if_false]
      · simp only [F_X16_bind, g1068_1095, v1068, h, b2, g0, e8, Option.bind_some, if_true, if_false]
  · have g0 : ¬ g = 0 := by
      have := h5.1
      rw [hg, iw_eq0 (by omega) (by omega)]
      omega
    refine put (cR M 1005 j) (Or.inr ⟨j, j1, j2, hg, rfl, e4⟩) (Or.inr gp.1.2.2.1) (fun _ => ?_) (fun N dN => ?_)
    · simp only [F_X0_bind, g1000_97, v1000, h, b1, e1, e4, e5, Option.bind_some, if_true, if_false]
    · have hN := h.bind dN
      have c : cI N 1068 1095 = 0 := by rw [dN.cI (by omega) (fun q => q)]; exact b2
      have y := (M_see h dN hN (fun q => q) (fun q => q) (fun i q => by unfold rBind at q; omega) g).2.1
      rw [e7] at y
      simp only [F_X16_bind, g1068_1095, v1068, hN, c, g0, y, n10, Option.bind_some, if_true, if_false]
