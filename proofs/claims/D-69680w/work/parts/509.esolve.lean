/-! ===== EXACT SOLUTIONS, 20: the engine, from the matrix to the answer ===== -/
def DE (M B : Mem) : Prop := Df psc qsc n2 M B ∧ m_nx B = m_nx M ∧ m_sl B = m_sl M
theorem DE.trans {M A B : Mem} (h : DE M A) (k : DE A B) : DE M B := ⟨h.1.trans k.1, k.2.1.trans h.2.1, k.2.2.trans h.2.2⟩
theorem Dw.e {P : Nat → Nat → Prop} {M A : Mem} (d : Dw P M A) (hp : ∀ a i, P a i → psc a i) : DE M A := ⟨d.1.mono hp (fun _ _ q => q.elim) (fun _ _ q => q), d.2.1, d.2.2⟩
theorem pW_sc : ∀ a i, pW a i → psc a i := fun a i q => by unfold pW at q; unfold psc; omega
/-- what the solver's books hold too -/
def pWn : Nat → Nat → Prop := fun a i => pW a i ∨ (a = 1025 ∧ i = 577)
theorem pWn_sc : ∀ a i, pWn a i → psc a i := fun a i q => by unfold pWn pW at q; unfold psc; omega
theorem E_sbeg {M : Mem} (h : ST M) {n : Nat} (hn : n ≤ 10) : ∃ M', F_X8_begin M 1025 (iw (n : Int)) = some M' ∧ ERr M' n (fun i => i) ∧ Dw pWn M M' := by
  obtain ⟨M0, hM0⟩ : ∃ M0, M0 = wI M 1025 577 (iw (n : Int)) := ⟨_, rfl⟩
  have d0 : Dw pWn M M0 := hM0 ▸ Dw.w _ (Or.inr ⟨rfl, rfl⟩)
  have s0 := d0.st h
  have c0 : cI M0 1025 577 = iw (n : Int) := by rw [hM0, cI_wI, if_pos ⟨rfl, rfl⟩]
  obtain ⟨K, A, -, e1, d1, r1⟩ := upl0 (σ := Unit) (fun N M _ i => F_X8_begin_b7 N M 1025 i) (n := n) (by omega) (fun i A _ => Dw (at1 1032) M0 A ∧ ∀ k, k < i → cI A 1032 k = iw (k : Nat))
    (fun N A _ i hi hJ => by
      obtain ⟨d, r⟩ := hJ
      have sA := d.st s0
      refine ⟨wI A 1032 i (iw (i : Int)), (), ?_, d.trans (Dw.w _ rfl), fun k hk => ?_⟩
      · show F_X8_begin_b7_st (F_X8_begin_b7 N) A 1025 _ = _
        unfold F_X8_begin_b7_st
        have l1 : cI A 1025 577 = iw (n : Int) := by rw [d.ci s0 (by decide) (by unfold at1; omega)]; exact c0
        rw [gi577 sA, Option.bind_some, l1, if_pos (by rw [iw_le4 (by omega) (by omega)]; exact hi)]
        simp only [g1025_578, sA, si_of (iw (i : Int)) (t1032 sA) (l1032 sA) (show i < 10 by omega) (by decide), Option.bind_some, iw_succ]
      · rw [cI_wI]
        by_cases c : k = i
        · rw [if_pos ⟨rfl, c⟩, c]
        · rw [if_neg (fun z => c z.2)]
          exact r k (by omega)) (M := M0) (s := ()) ⟨Dw.refl _ _, fun k hk => absurd hk (by omega)⟩
  have sA := d1.st s0
  have l1 : cI A 1025 577 = iw (n : Int) := by rw [d1.ci s0 (by decide) (by unfold at1; omega)]; exact c0
  refine ⟨A, ?_, ⟨hn, l1, fun i hi => ⟨r1 i hi, show i < 10 by omega⟩, fun i j _ _ z => z⟩, d0.trans (d1.mono (fun a i z => Or.inl (by unfold at1 at z; unfold pW; omega)))⟩
  unfold F_X8_begin
  rw [pi_of (iw (n : Int)) (t1025 h) (show x_wi 9 577 = true by decide) rfl, Option.bind_some, ← hM0]
  refine Eq.trans e1 ?_
  show F_X8_begin_b7_st (F_X8_begin_b7 K) A 1025 _ = _
  unfold F_X8_begin_b7_st
  rw [gi577 sA, Option.bind_some, l1, if_neg (by rw [iw_le4 (by omega) (by omega)]; omega)]
theorem E_sput {M : Mem} (h : ST M) {n i j : Nat} (er : ERr M n (fun i => i)) (hi : i < n) (hj : j ≤ n) (v : Int64) : ∃ M', F_X8_put M 1025 (iw (i : Int)) (iw (j : Int)) v = some M' ∧ EB M' (11 * i + j) v.toInt ∧ Dw (pB (11 * i + j)) M M' := by
  have n10 := er.1
  have pl := E_plc (n := n) (ρ := fun i => i) h j (show i < 10 by omega) (er.2.2.1 i hi).1
  obtain ⟨A, a1, a2, a3⟩ := E_set (p := 11 * i + j) h (by omega) v
  refine ⟨A, ?_, a2, a3⟩
  have pl' : F_X8_place M 1025 (iw (i : Int)) (iw (j : Int)) = some (iw ((11 * i + j : Nat) : Int)) := pl
  simp only [F_X8_put, g1025_576, v1025, v1026, h, pl', a1, Option.bind_some]
theorem ERr.dp {M A : Mem} {n t : Nat} {ρ : Nat → Nat} (er : ERr M n ρ) (h : ST M) (d : Dw (pB t) M A) : ERr A n ρ := ⟨er.1, by rw [d.ci h (by decide) (by unfold pB; omega)]; exact er.2.1, fun i hi => by rw [d.ci h (by decide) (by unfold pB; omega)]; exact er.2.2.1 i hi, er.2.2.2⟩
/-- the matrix and its right side -/
def mtx (n : Nat) (u w : Nat → Int64) : Nat → Vc := fun i j => if j = n then (w i).toInt else (u (n * i + j)).toInt
theorem E_sfil {M : Mem} (h : ST M) {n a b : Nat} {u w : Nat → Int64} (er : ERr M n (fun i => i)) (hget : ∀ U, Dw pW M U → vg U a 22 = some () ∧ vg U b 22 = some () ∧ (∀ t, t < n * n → F_X21_get U a (iw (t : Int)) = some (u t)) ∧ (∀ t, t < n → F_X21_get U b (iw (t : Int)) = some (w t))) :
    ∃ K M', F_X0_solve_b151 xN M 1000 a b (iw (n : Int)) 0 = F_X0_solve_b151 (K + 1) M' 1000 a b (iw (n : Int)) (iw (n : Int)) ∧ Dw pW M M' ∧ ERr M' n (fun i => i) ∧ ∀ i, i < n → ∀ j, j ≤ n → EB M' (11 * i + j) (mtx n u w i j) := by
  have n10 := er.1
  obtain ⟨K, A, -, e1, d1, er1, v1⟩ := upl0 (σ := Unit) (fun N M _ i => F_X0_solve_b151 N M 1000 a b (iw (n : Int)) i) (n := n) (by omega) (fun i A _ => Dw pW M A ∧ ERr A n (fun i => i) ∧ ∀ x, x < i → ∀ j, j ≤ n → EB A (11 * x + j) (mtx n u w x j))
    (fun N0 A _ i hi hJ => by
      obtain ⟨d, erA, v⟩ := hJ
      have sA := d.st h
      obtain ⟨K2, B, -, e2, d2, er2, v2⟩ := upl0 (σ := Unit) (fun N M _ j => F_X0_solve_b161 (F_X0_solve_b151 N0) N M 1000 a b (iw (n : Int)) (iw (i : Int)) j) (n := n) (by omega) (fun c B _ => Dw pW M B ∧ ERr B n (fun i => i) ∧ (∀ x, x < i → ∀ j, j ≤ n → EB B (11 * x + j) (mtx n u w x j)) ∧ ∀ j, j < c → EB B (11 * i + j) (mtx n u w i j))
        (fun N B _ j hj hJ => by
          obtain ⟨dB, erB, vB, wB⟩ := hJ
          have sB := dB.st h
          obtain ⟨g1, g2, g3, g4⟩ := hget B dB
          have lt : n * i + j < n * n := by
            have : n * (i + 1) ≤ n * n := Nat.mul_le_mul_left _ hi
            rw [Nat.mul_add] at this
            omega
          obtain ⟨C, c1, c2, c3⟩ := E_sput sB erB hi (show j ≤ n by omega) (u (n * i + j))
          refine ⟨C, (), ?_, dB.trans (c3.mono pB_W), erB.dp sB c3, fun x hx y hy => (vB x hx y hy).dw sB c3 (fun a c z z' => by unfold pB at *; omega), fun y hy => ?_⟩
          · show F_X0_solve_b161_st (F_X0_solve_b151 N0) (F_X0_solve_b161 (F_X0_solve_b151 N0) N) B 1000 _ _ _ _ _ = _
            unfold F_X0_solve_b161_st
            have ie : iw (n : Int) * iw (i : Int) + iw (j : Int) = iw ((n * i + j : Nat) : Int) := by rw [iw_mul, iw_add]; congr 1
            rw [if_pos (by rw [iw_le4 (by omega) (by omega)]; exact hj), ie]
            simp only [g1000_75, sB, g1, g3 _ lt, v1025, c1, Option.bind_some, iw_succ]
          · by_cases c : y = j
            · subst c
              unfold mtx
              rw [if_neg (by omega)]
              exact c2
            · exact (wB y (by omega)).dw sB c3 (fun a c z z' => by unfold pB at *; omega)) (M := A) (s := ()) ⟨d, erA, v, fun j hj => by omega⟩
      have sB := d2.st h
      obtain ⟨g1, g2, g3, g4⟩ := hget B d2
      obtain ⟨v2a, v2b⟩ := v2
      obtain ⟨C, c1, c2, c3⟩ := E_sput sB er2 hi (Nat.le_refl n) (w i)
      refine ⟨C, (), ?_, d2.trans (c3.mono pB_W), er2.dp sB c3, fun x hx y hy => ?_⟩
      · show F_X0_solve_b151_st (F_X0_solve_b151 N0) A 1000 _ _ _ _ = _
        unfold F_X0_solve_b151_st
        rw [if_pos (by rw [iw_le4 (by omega) (by omega)]; exact hi)]
        refine Eq.trans e2 ?_
        show F_X0_solve_b161_st (F_X0_solve_b151 N0) (F_X0_solve_b161 (F_X0_solve_b151 N0) K2) B 1000 _ _ _ _ _ = _
        unfold F_X0_solve_b161_st
        rw [if_neg (by rw [iw_le4 (by omega) (by omega)]; omega)]
        simp only [g1000_75, sB, g2, g4 i hi, v1025, c1, Option.bind_some, iw_succ]
      · by_cases cx : x = i
        · subst cx
          by_cases c : y = n
          · subst c
            unfold mtx
            rw [if_pos rfl]
            exact c2
          · exact (v2b y (by omega)).dw sB c3 (fun a c z z' => by unfold pB at *; omega)
        · exact (v2a x (by omega) y hy).dw sB c3 (fun a c z z' => by unfold pB at *; omega)) (M := M) (s := ()) ⟨Dw.refl _ _, er, fun x hx => by omega⟩
  exact ⟨K, A, e1, d1, er1, v1⟩
theorem mtx_b {n : Nat} {u w : Nat → Int64} (hu : ∀ t, t < n * n → -2147483648 ≤ (u t).toInt ∧ (u t).toInt ≤ 2147483647) (hw : ∀ t, t < n → -2147483648 ≤ (w t).toInt ∧ (w t).toInt ≤ 2147483647) : ∀ i, i < n → ∀ j, j ≤ n → (mtx n u w i j).natAbs ≤ 2147483648 := fun i hi j hj => by
  unfold mtx
  split
  · have := hw i hi; omega
  · have lt : n * i + j < n * n := by
      have : n * (i + 1) ≤ n * n := Nat.mul_le_mul_left _ hi
      rw [Nat.mul_add] at this
      omega
    have := hu _ lt; omega
theorem E_solveT {M : Mem} (h : ST M) {n a b : Nat} {u w : Nat → Int64} (er : ERr M n (fun i => i)) (hget : ∀ U, Dw pW M U → vg U a 22 = some () ∧ vg U b 22 = some () ∧ (∀ t, t < n * n → F_X21_get U a (iw (t : Int)) = some (u t)) ∧ (∀ t, t < n → F_X21_get U b (iw (t : Int)) = some (w t))) (hb : ∀ i, i < n → ∀ j, j ≤ n → (mtx n u w i j).natAbs ≤ 2147483648) :
    (red n n 0 1 (mtx n u w) = none ∧ ∃ B, F_X0_solve_b151 xN M 1000 a b (iw (n : Int)) 0 = some (-6, B) ∧ DE M B) ∨
    (∃ q' A', red n n 0 1 (mtx n u w) = some (q', A') ∧ (∀ i, i < n → A' i i ≠ 0 ∧ (A' i n).natAbs < 2 ^ 336 ∧ (A' i i).natAbs < 2 ^ 336) ∧
      ((∃ r, r < n ∧ (∀ i, i < r → gdf (A' i n) (A' i i)) ∧ ¬ gdf (A' r n) (A' r r) ∧ ∃ B, F_X0_solve_b151 xN M 1000 a b (iw (n : Int)) 0 = F_X0_failedAt B 1000 (iw (r : Nat)) ∧ DE M B ∧ cI B 1002 129 = 8 ∧ cI B 1000 89 = iw ((1 : Nat) : Int) ∧ cI B 1062 0 = iw (n : Int)) ∨
       ((∀ i, i < n → gdf (A' i n) (A' i i)) ∧ ∃ B, F_X0_solve_b151 xN M 1000 a b (iw (n : Int)) 0 = F_X0_two B 1000 5 5 (iw (n : Int)) ∧ DE M B ∧ ∀ i, i < n → cJ B 1057 i = Int64.ofInt (nmr (A' i n) (A' i i)) ∧ cJ B 1057 (4096 + i) = Int64.ofInt (dnm (A' i n) (A' i i))))) := by
  have hxN : xN = 1099511627776 := rfl
  have n10 := er.1
  obtain ⟨K, M1, e1, d1, er1, v1⟩ := E_sfil h er hget
  have s1 := d1.st h
  obtain ⟨M2, f1, f2, f3⟩ := E_set (p := 125) s1 (by decide) 1
  have s2 := f3.st s1
  have f1' : F_X9_set M1 1026 125 1 = some M2 := f1
  rw [show (1 : Int64).toInt = 1 by decide] at f2
  obtain ⟨N, hN⟩ : ∃ N, N + 1 + n = xN := ⟨xN - 1 - n, by omega⟩
  have hend : F_X0_solve_b151 xN M 1000 a b (iw (n : Int)) 0 = (F_X8_clear_b12 xN M2 1025 0).bind fun z30 => if z30.1 = 0 then some ((-6 : Int32), z30.2) else (gr z30.2 1000 75).bind fun t31 => (vg z30.2 t31 9).bind fun _ => (F_X8_tell z30.2 t31).bind fun z33 => (vg z33.2 1000 1).bind fun _ => (F_X0_rowShape z33.2 1000 (iw (n : Int))).bind fun z35 => if z33.1 < 0 then F_X0_solve_b273 xN z35 1000 (iw (n : Int)) 0 else (gr z35 1000 67).bind fun t36 => (pi z35 t36 129 8).bind fun M37 => (vg M37 1000 1).bind fun _ => (F_X0_failedAt M37 1000 z33.1).bind fun z39 => some (z39.1, z39.2) := by
    rw [e1]
    show F_X0_solve_b151_st (F_X0_solve_b151 K) M1 1000 _ _ _ _ = _
    unfold F_X0_solve_b151_st
    rw [if_neg (by rw [iw_le4 (by omega) (by omega)]; omega)]
    simp only [g1000_75, s1, v1025, F_X8_clear, g1025_576, v1026, f1', Option.bind_some]
  have cl := E_clear_l (n := n) n N 0 M2 (fun i => i) (mtx n u w) (mtx n u w) 1 (by omega) s2 (er1.dp s1 f3) (fun i hi j hj => (v1 i hi j hj).dw s1 f3 (fun a c z z' => by unfold pB at *; omega)) f2 (Ba.start (by decide) hb)
  rw [hN] at cl
  have d2 : Dw pW M M2 := d1.trans (f3.mono pB_W)
  rcases cl with ⟨c1, M3, c2, c3⟩ | ⟨q', A', A0', ρ', M3, c1, c2, c3, c4, c5, c6⟩
  · left
    refine ⟨c1, M3, ?_, (d2.trans c3).e pW_sc⟩
    have c2' : F_X8_clear_b12 xN M2 1025 0 = some (0, M3) := c2
    rw [hend, c2']
    rfl
  · right
    have c2' : F_X8_clear_b12 xN M2 1025 0 = some (1, M3) := c2
    have s3 := c3.st s2
    have hA : ∀ i, i < n → A' i i ≠ 0 ∧ (A' i n).natAbs < 2 ^ 336 ∧ (A' i i).natAbs < 2 ^ 336 := fun i hi => ⟨by rw [c6.d i hi]; exact c6.q0, Nat.lt_of_le_of_lt (c6.cc i hi n (Nat.le_refl _)) (fct10 n10), Nat.lt_of_le_of_lt (c6.cc i hi i (by omega)) (fct10 n10)⟩
    refine ⟨q', A', c1, hA, ?_⟩
    have tl := E_tell_l (ρ := ρ') (fun i hi => ⟨(hA i hi).1, (hA i hi).2.1⟩) n N 0 M3 (by omega) s3 c4 (fun i _ hi => ⟨c5 i hi n (Nat.le_refl _), c5 i hi i (by omega)⟩)
    rw [hN] at tl
    have dq : ∀ {A B : Mem}, Dq A B → DE A B := fun d => ⟨d.1.mono pW_sc (fun a i z => by unfold qsc; rcases z with z | z <;> omega) (fun _ _ q => q), d.2.1, d.2.2⟩
    rw [c2', Option.bind_some] at hend
    simp only [if_neg (show ¬ (1 : Int32) = 0 by decide), g1000_75, s3, v1025, F_X8_tell, Option.bind_some] at hend
    have dM3 : DE M M3 := (d2.trans c3).e pW_sc
    rcases tl with ⟨r, r1, r2, r3, r4, M4, r5, r6⟩ | ⟨r3, M4, r5, r6, r7, -⟩
    · left
      have s4 : ST M4 := s3.n r6.1
      obtain ⟨M5, w1, w2, w3, w4, w5, w6⟩ := E_rowShape (n := n) s4
      have s5 : ST M5 := s4.n w4
      obtain ⟨M6, hM6⟩ : ∃ M6, M6 = wI M5 1002 129 8 := ⟨_, rfl⟩
      have s6 : ST M6 := hM6 ▸ s5
      have r5' : F_X8_tell_b2 xN M3 1025 0 = some (iw (r : Nat), M4) := r5
      refine ⟨r, r2, fun i hi => r3 i (by omega) hi, r4, M6, ?_, (dM3.trans (dq r6)).trans ⟨(w4.mono (fun a i z => by unfold psc; rcases z with z | z <;> omega) (fun _ _ q => q.elim) (fun _ _ q => q)).trans (by rw [hM6]; exact Df.wI _ (by unfold psc; omega)), by rw [hM6]; exact w2, by rw [hM6]; exact w3⟩, by rw [hM6, cI_wI, if_pos ⟨rfl, rfl⟩], by rw [hM6, cI_wI, if_neg (by omega)]; exact w5, by rw [hM6, cI_wI, if_neg (by omega)]; exact w6⟩
      rw [hend, r5']
      simp only [v1000, s4, w1, Option.bind_some]
      rw [if_neg (by rw [iw_lt0 (by omega) (by omega)]; omega)]
      have p1 : pi M5 1002 129 8 = some M6 := by rw [hM6]; exact pi_of 8 (t1002 s5) (show x_wi 2 129 = true by decide) rfl
      simp only [g1000_67, s5, p1, v1000, s6, Option.bind_some, bse]
    · right
      have s4 : ST M4 := s3.n r6.1
      have h4 := s4.1
      obtain ⟨M5, w1, w2, w3, w4, w5, w6⟩ := E_rowShape (n := n) s4
      have s5 : ST M5 := s4.n w4
      have r5' : F_X8_tell_b2 xN M3 1025 0 = some (-1, M4) := r5
      -- both rows are laid together
      obtain ⟨K7, M7, -, g1, g2, g3, g4, g5⟩ := upl0 (σ := Unit) (fun N M _ i => F_X0_solve_b273 N M 1000 (iw (n : Int)) i) (n := n) (by omega) (fun i B _ => Df n2 (at1 1057) n2 M5 B ∧ m_nx B = m_nx M5 ∧ m_sl B = m_sl M5 ∧ ∀ k, k < i → cJ B 1057 k = cJ M5 1033 k ∧ cJ B 1057 (4096 + k) = cJ M5 1034 k)
        (fun N B _ i hi hJ => by
          obtain ⟨d, x1, x2, x3⟩ := hJ
          have sB : ST B := s5.n d
          have h5' := s5.1
          obtain ⟨B1, hB1⟩ : ∃ B1, B1 = wJ B 1057 i (cJ B 1033 i) := ⟨_, rfl⟩
          have sB1 : ST B1 := hB1 ▸ sB
          have e33 : cJ B 1033 i = cJ M5 1033 i := d.cJ (by omega) (by unfold at1; omega)
          have e34 : cJ B1 1034 i = cJ M5 1034 i := by rw [hB1, cJ_wJ, if_neg (by omega)]; exact d.cJ (by omega) (by unfold at1; omega)
          refine ⟨wJ B1 1057 (4096 + i) (cJ B1 1034 i), (), ?_, (d.trans (by rw [hB1]; exact Df.wJ _ rfl)).trans (Df.wJ _ rfl), by rw [hB1]; exact x1, by rw [hB1]; exact x2, fun k hk => ?_⟩
          · show F_X0_solve_b273_st (F_X0_solve_b273 N) B 1000 _ _ = _
            unfold F_X0_solve_b273_st
            rw [if_pos (by rw [iw_le4 (by omega) (by omega)]; exact hi)]
            simp only [g1000_81, g1000_75, g1025_579, g1025_580, sB, al_of (t1033 sB) (l1033 sB) (show i < 10 by omega) (by decide), sj_of (cJ B 1033 i) (t1057 sB) (l1057 sB) (show i < 100000 by omega) (by decide), ← hB1, sB1, al_of (t1034 sB1) (l1034 sB1) (show i < 10 by omega) (by decide), Option.bind_some]
            rw [show (4096 : Int32) = iw ((4096 : Nat) : Int) from rfl, iw_nadd, sj_of (cJ B1 1034 i) (t1057 sB1) (l1057 sB1) (show 4096 + i < 100000 by omega) (by decide), Option.bind_some, iw_succ]
          · by_cases c : k = i
            · subst c
              rw [cJ_wJ, if_neg (by omega), cJ_wJ, if_pos ⟨rfl, rfl⟩, e34, hB1, cJ_wJ, if_pos ⟨rfl, rfl⟩, e33]
              exact ⟨rfl, rfl⟩
            · rw [cJ_wJ, if_neg (by omega), cJ_wJ, if_neg (by omega), hB1, cJ_wJ, if_neg (by omega), cJ_wJ, if_neg (by omega)]
              exact x3 k (by omega)) (M := M5) (s := ()) ⟨Df.refl _ _ _ _, rfl, rfl, fun k hk => by omega⟩
      have s7 : ST M7 := s5.n g2
      refine ⟨fun i hi => r3 i (by omega) hi, M7, ?_, (dM3.trans (dq r6)).trans ⟨(w4.mono (fun a i z => by unfold psc; rcases z with z | z <;> omega) (fun _ _ q => q.elim) (fun _ _ q => q)).trans (g2.mono (fun _ _ q => q.elim) (fun a i z => by unfold at1 at z; unfold qsc; omega) (fun _ _ q => q)), g3.trans w2, g4.trans w3⟩, fun i hi => ?_⟩
      · rw [hend, r5']
        simp only [v1000, s4, w1, Option.bind_some]
        rw [if_pos (by decide)]
        refine Eq.trans g1 ?_
        show F_X0_solve_b273_st (F_X0_solve_b273 K7) M7 1000 _ _ = _
        unfold F_X0_solve_b273_st
        rw [if_neg (by rw [iw_le4 (by omega) (by omega)]; omega)]
        simp only [v1000, s7, Option.bind_some, bse]
      · obtain ⟨x1, x2⟩ := g5 i hi
        obtain ⟨y1, y2⟩ := r7 i (by omega) hi
        rw [x1, x2, w4.cJ (by omega) (fun q => q), w4.cJ (by omega) (fun q => q), y1, y2]
        exact ⟨rfl, rfl⟩
