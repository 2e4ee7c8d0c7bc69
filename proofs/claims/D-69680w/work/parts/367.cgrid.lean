/-! ===== CALLS, 5: grid ===== -/
/-- what is no part of the grids' books -/
def noGr (P : Nat → Nat → Prop) : Prop := ∀ a i, pGr a i → ¬ P a i
/-- references that are worked with and told nowhere -/
def rsc : Nat → Nat → Prop := fun a i => (a = 1006 ∨ a = 1012 ∨ a = 1013 ∨ a = 1015 ∨ a = 1020 ∨ a = 1022 ∨ a = 1037 ∨ a = 1044 ∨ a = 1048 ∨ (a = 1068 ∧ i = 1128)) ∧ ∀ p ∈ stR, ¬ (p.1 = a ∧ p.2.1 = i)
theorem qt_rsc : qt rsc := fun a i q1 q2 => by have := q2.1; omega
theorem rsc_5 (i : Nat) : ¬ rsc 1005 i ∧ ¬ rsc 1070 i := ⟨fun q => by have := q.1; omega, fun q => by have := q.1; omega⟩
theorem rsc_st : ∀ p ∈ stR, ¬ rsc p.1 p.2.1 := fun p hp q => q.2 p hp ⟨rfl, rfl⟩
theorem ST.sc {P Q : Nat → Nat → Prop} {M M' : Mem} (h : ST M) (d : Df P Q rsc M M') : ST M' := h.df d rsc_st
theorem Df.sc {P Q : Nat → Nat → Prop} {M M' : Mem} (d : Df P Q n2 M M') : Df P Q rsc M M' := d.mono (fun _ _ p => p) (fun _ _ p => p) (fun _ _ p => p.elim)
/-- both have made a grid: their grids are alike again -/
theorem mk2 {PA QA PB QB : Nat → Nat → Prop} {M A M1 B M2 : Mem} {m w : Nat} {K : Nat → Int32} {n : Nat → Nat} {Z : Nat → Nat → Nat} {S T : Nat → Nat → Int32} {X Y : Nat → Int32} {C D L : Nat → Nat} {P : Nat → Int32} (h : ST M) (h5 : I5w M m w K n Z S T X Y C D L P) (hm : m < 400)
    (dA : Df PA QA rsc M A) (pA : qt PA) (qA : qt QA) (gA : noGr PA)
    {k : Int32} {n' : Nat} {z : Nat → Nat} (hk : Lk k) (hn : n' ≤ 4) (hz : ∀ i, i < n' → z i ≤ 4096) (hp : prd z n' ≤ 100000) (hw : w + prd z n' ≤ 100000)
    (e1 : m_nx M1 = m_nx A + 4) (e2 : GE M1 (m_nx A + 3) k n' z (fun i => iw (sfx z n' (n' - 1 - i) : Nat)) 0 (m_nx A + 2) 0) (e3 : m_tg M1 (m_nx A + 2) = 1006) (e4 : m_ln M1 (m_nx A + 2) = prd z n') (e5 : cI M1 1004 193 = iw ((m + 1 : Nat) : Int)) (e6 : cI M1 1004 194 = iw ((w + prd z n' : Nat) : Int)) (e7 : cR M1 1005 (m + 1) = m_nx A + 3) (e8 : Df pNE n2 (rNE m) A M1)
    (dB : Df PB QB rsc M1 B) (pB : qt PB) (qB : qt QB) (gB : noGr PB)
    (f1 : m_nx M2 = m_nx B + 3) (f2 : GM M2 (m_nx B + 1) k n' z (fun i => iw (mfx z n' (n' - 1 - i) : Nat)) 0 (m_nx B) 0) (f3 : m_tg M2 (m_nx B) = 1006) (f4 : m_ln M2 (m_nx B) = prd z n') (f5 : cI M2 1068 1093 = iw ((m + 1 : Nat) : Int)) (f6 : cI M2 1068 1094 = iw ((w + prd z n' : Nat) : Int)) (f7 : cR M2 1070 (m + 1) = m_nx B + 1) (f8 : Df pNM n2 (rNM m) B M2)
    (cc : ∀ i, i < prd z n' → cJ M1 (m_nx A + 2) i = cJ M2 (m_nx B) i ∧ vb k (cJ M1 (m_nx A + 2) i)) :
    I5 M2 ∧ Df (fun a i => PA a i ∨ PB a i ∨ pGr a i) (fun a i => QA a i ∨ QB a i) (fun a i => (rNE m a i ∨ rNM m a i) ∨ rsc a i) M M2 := by
  have h0 := h.1
  have n1 := dA.1
  have n2' := dB.1
  have n3 := f8.1
  have u1 : Df (fun a i => PA a i ∨ PB a i ∨ pGr a i) (fun a i => QA a i ∨ QB a i) (fun a i => (rNE m a i ∨ rNM m a i) ∨ rsc a i) M A := dA.mono (fun _ _ p => Or.inl p) (fun _ _ p => Or.inl p) (fun _ _ p => Or.inr p)
  have u2 : Df (fun a i => PA a i ∨ PB a i ∨ pGr a i) (fun a i => QA a i ∨ QB a i) (fun a i => (rNE m a i ∨ rNM m a i) ∨ rsc a i) A M1 := e8.mono (fun _ _ p => Or.inr (Or.inr (Or.inl p))) (fun _ _ p => p.elim) (fun _ _ p => Or.inl (Or.inl p))
  have u3 : Df (fun a i => PA a i ∨ PB a i ∨ pGr a i) (fun a i => QA a i ∨ QB a i) (fun a i => (rNE m a i ∨ rNM m a i) ∨ rsc a i) M1 B := dB.mono (fun _ _ p => Or.inr (Or.inl p)) (fun _ _ p => Or.inr p) (fun _ _ p => Or.inr p)
  have u4 : Df (fun a i => PA a i ∨ PB a i ∨ pGr a i) (fun a i => QA a i ∨ QB a i) (fun a i => (rNE m a i ∨ rNM m a i) ∨ rsc a i) B M2 := f8.mono (fun _ _ p => Or.inr (Or.inr (Or.inr p))) (fun _ _ p => p.elim) (fun _ _ p => Or.inl (Or.inr p))
  have dd := (u1.trans u2).trans (u3.trans u4)
  refine ⟨?_, dd⟩
  have qn : qt pNM := fun a i q1 q2 => by unfold pNM at q2; omega
  have qr : qt (rNM m) := fun a i q1 q2 => by unfold rNM at q2; omega
  -- the engine's grid, later
  have gE : GE M2 (m_nx A + 3) k n' z (fun i => iw (sfx z n' (n' - 1 - i) : Nat)) 0 (m_nx A + 2) 0 := (e2.df dB pB qt_rsc).df f8 qn qr
  have cE5 : cI M2 1004 193 = iw ((m + 1 : Nat) : Int) := by rw [f8.cI (by omega) (by unfold pNM; omega), dB.cI (by omega) (gB _ _ (Or.inl ⟨rfl, Or.inl rfl⟩)), e5]
  have cE6 : cI M2 1004 194 = iw ((w + prd z n' : Nat) : Int) := by rw [f8.cI (by omega) (by unfold pNM; omega), dB.cI (by omega) (gB _ _ (Or.inl ⟨rfl, Or.inr rfl⟩)), e6]
  have cE7 : cR M2 1005 (m + 1) = m_nx A + 3 := by rw [f8.cR (by omega) (by unfold rNM; omega), dB.cR (by omega) (rsc_5 _).1, e7]
  have tE : m_tg M2 (m_nx A + 2) = 1006 := (f8.2.2 _ (by omega)).1.trans ((dB.2.2 _ (by omega)).1.trans e3)
  have lE : m_ln M2 (m_nx A + 2) = prd z n' := (f8.2.2 _ (by omega)).2.1.trans ((dB.2.2 _ (by omega)).2.1.trans e4)
  have jE : ∀ i, cJ M2 (m_nx A + 2) i = cJ M1 (m_nx A + 2) i := fun i => by rw [f8.cJ (by omega) (fun hh => hh), dB.cJ (by omega) (qB _ _ (by omega))]
  have gp : GP M2 (m_nx A + 3) (m_nx B + 1) k n' z _ _ 0 0 (m_nx A + 2) (m_nx B) (prd z n') 0 := GP.mk gE f2 hk hn hz hp (by omega) (by omega) (by omega) (by omega) tE f3 lE f4 (fun i hi => by rw [jE]; exact cc i hi)
  refine I5w.add h h5 hm hw dd (fun a i q1 q2 => ?_) (fun a i q1 q2 => ?_) (fun a i q1 q2 => ?_) (fun i hi => ⟨?_, ?_⟩) cE5 f5 cE6 f6 (by rw [cE7, f7]; exact gp) (h5.fresh (by omega) (by omega) k) (by omega)
  · rcases q2 with q | q | q
    · exact pA a i q1 q
    · exact pB a i q1 q
    · unfold pGr at q; omega
  · rcases q2 with q | q
    · exact qA a i q1 q
    · exact qB a i q1 q
  · rcases q2 with (q | q) | q
    · unfold rNE at q; omega
    · unfold rNM at q; omega
    · exact qt_rsc a i q1 q
  · rintro ((q | q) | q)
    · exact hi q.2
    · unfold rNM at q; omega
    · exact (rsc_5 _).1 q
  · rintro ((q | q) | q)
    · unfold rNE at q; omega
    · exact hi q.2
    · exact (rsc_5 _).2 q
/-- the books of grids -/
def rGr : Nat → Nat → Prop := fun a _ => a = 1005 ∨ a = 1070
/-- new places of them -/
def rG (M : Mem) : Nat → Nat → Prop := fun a i => (rGr a i ∧ (cI M 1004 193).toInt < (i : Int)) ∨ rsc a i
theorem rG_of {M : Mem} {m : Nat} (hm : m ≤ 400) (h : cI M 1004 193 = iw m) {a i : Nat} (q : (rNE m a i ∨ rNM m a i) ∨ rsc a i) : rG M a i := by
  rcases q with q | q
  · left
    unfold rGr
    rw [h, iw_toInt (by omega) (by omega)]
    unfold rNE rNM at q
    omega
  · exact Or.inr q
/-- what grid changes -/
def pGrid : Nat → Nat → Prop := fun a i => (a = 1000 ∧ (i = 85 ∨ i = 89)) ∨ a = 1062 ∨ (a = 1068 ∧ i = 1098) ∨ pGr a i
theorem I2.zero {M : Mem} (h1 : cI M 1000 85 = 0) (h2 : cI M 1068 1098 = 0) : I2 M := ⟨0, by decide, h1, h2, fun i hi => absurd hi (by omega)⟩
theorem I4.dfg {P Q R : Nat → Nat → Prop} {M M' : Mem} (h : ST M) (d : Df P Q R M M') (h4 : I4 M) (hp : ∀ a i, ((a = 1000 ∧ (i = 94 ∨ i = 95 ∨ i = 96 ∨ i = 97 ∨ i = 98 ∨ i = 91)) ∨ (a = 1068 ∧ (i = 1102 ∨ i = 1091 ∨ i = 1113 ∨ i = 1095 ∨ i = 1132 ∨ i = 1117)) ∨ a = 1063 ∨ a = 1083) → ¬ P a i) : I4 M' := by
  have h0 := h.1
  refine I4.df h d h4 ?_ (fun a i q => hp a i (by omega))
  rw [d.cI (by omega) (hp _ _ (by simp)), d.cI (by omega) (hp _ _ (by simp))]
  exact h4.1
/-- slots made, but for those of grids' cells -/
def bud (M : Mem) : Int := (m_sl M : Int) - 2 * (cI M 1004 194).toInt
theorem c_grid {M : Mem} {k : Int32} (h : ST M) (h2 : I2 M) (h4 : I4 M) (h5 : I5 M) : ∃ (r : Int32) (M1 M2 : Mem), F_X0_grid M 1000 k = some (r, M1) ∧ F_X16_grid M1 1068 k = some (r, M2) ∧ I2 M2 ∧ I4 M2 ∧ I5 M2 ∧ Df pGrid n2 (rG M) M M2 ∧ m_nx M2 ≤ m_nx M + 8 ∧ bud M2 ≤ bud M + 100 := by
  have h0 := h.1
  obtain ⟨u, hu, k1, k2, k3⟩ := h2
  obtain ⟨m, w, K, n, Z, S, T, X, Y, C, D, L, P, h5⟩ := h5
  have h5' := h5
  obtain ⟨q1, q2, q3, q4, q5, q6, q7, q8⟩ := h5'
  have n10 : ¬ (1 : Int32) = 0 := by decide
  have hA : ST (wI M 1000 85 0) := h
  have dA : Df pGrid n2 (rG M) M (wI M 1000 85 0) := Df.wI _ (Or.inl ⟨rfl, Or.inl rfl⟩)
  -- nothing but the counts
  have fin : ∀ r : Int32, F_X0_grid M 1000 k = some (r, wI M 1000 85 0) → F_X16_grid (wI M 1000 85 0) 1068 k = some (r, wI (wI M 1000 85 0) 1068 1098 0) → ∃ (r : Int32) (M1 M2 : Mem), F_X0_grid M 1000 k = some (r, M1) ∧ F_X16_grid M1 1068 k = some (r, M2) ∧ I2 M2 ∧ I4 M2 ∧ I5 M2 ∧ Df pGrid n2 (rG M) M M2 ∧ m_nx M2 ≤ m_nx M + 8 ∧ bud M2 ≤ bud M + 100 := by
    intro r a b
    have dB : Df pGrid n2 (rG M) M (wI (wI M 1000 85 0) 1068 1098 0) := dA.trans (Df.wI _ (Or.inr (Or.inr (Or.inl ⟨rfl, rfl⟩))))
    have dB' : Df (fun a i => (a = 1000 ∧ i = 85) ∨ (a = 1068 ∧ i = 1098)) n2 n2 M (wI (wI M 1000 85 0) 1068 1098 0) := (Df.wI _ (Or.inl ⟨rfl, rfl⟩)).trans (Df.wI _ (Or.inr ⟨rfl, rfl⟩))
    refine ⟨r, _, _, a, b, ?_, ?_, ?_, dB, by show m_nx M ≤ _; omega, by unfold bud; simp only [cI_wI, Nat.reduceEqDiff, false_and, if_false, sl_wI]; omega⟩
    · exact I2.zero (by simp only [cI_wI, Nat.reduceEqDiff, and_self, and_false, false_and, if_true, if_false]) (by simp only [cI_wI, and_self, if_true])
    · exact I4.dfg h dB' h4 (fun a i p q => by omega)
    · exact ⟨m, w, K, n, Z, S, T, X, Y, C, D, L, P, h5.df h dB' (fun a i q1 q2 => by omega) qt_n2 qt_n2 (fun a i q1 q2 => by unfold pGr at q1; omega) (fun i => ⟨fun hh => hh, fun hh => hh⟩)⟩
  have hcl := h4.2.2.2.1
  have hcl2 := h4.2.2.2.2.1
  have us : F_X0_usedSizes M 1000 = some (iw (u : Int), wI M 1000 85 0) := by simp only [F_X0_usedSizes, g1000_85, p1000_85, h, k1, Option.bind_some]
  have um : ∀ N : Mem, ST N → cI N 1068 1098 = iw (u : Int) → F_X16_usedSizes N 1068 = some (iw (u : Int), wI N 1068 1098 0) := fun N hN hc => by simp only [F_X16_usedSizes, g1068_1098, p1068_1098, hN, hc, Option.bind_some]
  have kA : cI (wI M 1000 85 0) 1068 1098 = iw (u : Int) := by simp only [cI_wI, Nat.reduceEqDiff, false_and, if_false]; exact k2
  rcases hcl with hcl | hcl
  · rw [hcl] at hcl2
    obtain ⟨zl, l1, l2, l3⟩ := lane_eq k
    rcases l3 with ⟨rfl, -⟩ | ⟨rfl, hk⟩
    · refine fin (-14) ?_ ?_
      · simp only [F_X0_grid, v1000, h, us, g1000_97, ST_wI, cI_wI, Nat.reduceEqDiff, and_false, if_false, hcl, l1, Option.bind_some, if_true]
      · simp only [F_X16_grid, v1068, h, ST_wI, um _ hA kA, g1068_1095, cI_wI, Nat.reduceEqDiff, and_false, false_and, if_false, ← hcl2, l2, Option.bind_some, if_true]
    · -- the shape
      obtain ⟨z, hz⟩ : ∃ z : Nat → Nat, ∀ i, i < u → cI M 1060 i = iw (z i : Nat) ∧ z i ≤ 4096 := ⟨fun i => (cI M 1060 i).toInt.toNat, fun i hi => ⟨i32_nat (k3 i hi).2.1, by have := (k3 i hi).2.2; show (cI M 1060 i).toInt.toNat ≤ 4096; omega⟩⟩
      obtain ⟨A, a1, a2, a3, a4, a5, a6⟩ := E_shapeOf (M := wI M 1000 85 0) (src := 1060) (L := 4) (n := u) hA hu hu (by decide) (by decide) (by decide) (t1060 h) (l1060 h)
      have hzA : ∀ i, i < u → cI A 1062 i = iw (z i) ∧ z i ≤ 4096 := fun i hi => ⟨by rw [a6 i hi]; simp only [cI_wI, Nat.reduceEqDiff, false_and, if_false]; exact (hz i hi).1, (hz i hi).2⟩
      have hAs : ST A := hA.n a4
      have dA2 : Df (fun a i => (a = 1000 ∧ (i = 85 ∨ i = 89)) ∨ a = 1062) n2 n2 M A := (Df.wI (P := fun a i => (a = 1000 ∧ (i = 85 ∨ i = 89)) ∨ a = 1062) (Q := n2) (R := n2) 0 (Or.inl ⟨rfl, Or.inl rfl⟩)).trans (a4.mono (fun a i p => p.elim Or.inr (fun q => Or.inl ⟨q.1, Or.inr q.2⟩)) (fun _ _ p => p) (fun _ _ p => p))
      have c193 : cI A 1004 193 = iw m := by rw [dA2.cI (by omega) (by omega)]; exact q3
      have c194 : cI A 1004 194 = iw w := by rw [dA2.cI (by omega) (by omega)]; exact q5
      have nA : m_nx A = m_nx M := a2
      have sA : m_sl A = m_sl M := a3
      have mdA := E_made (k := k) (r := 0) hAs hu hzA a5 q1 q2 c193 c194 (fun _ => Or.inl rfl)
      have eg : F_X0_grid M 1000 k = F_X0_made A 1000 k 0 := by
        simp only [F_X0_grid, v1000, h, us, g1000_97, g1000_84, ST_wI, cI_wI, Nat.reduceEqDiff, and_false, if_false, hcl, l1, n10, a1, hAs, Option.bind_some, if_true]
        cases F_X0_made A 1000 k 0 <;> rfl
      -- the model's head, in any memory that keeps its books
      have mg : ∀ N : Mem, ST N → cI N 1068 1098 = iw (u : Int) → cI N 1068 1095 = 0 → cI N 1068 1093 = iw m → cI N 1068 1094 = iw w → (∀ i, i < u → cI N 1071 i = iw (z i)) →
          F_X16_grid N 1068 k = if room m w 1 (prd z u) = true then (F_X16_first (wI N 1068 1098 0) 1071 (iw (u : Int))).bind fun z10 => (vg z10.2 1068 17).bind fun _ => (F_X16_made z10.2 1068 k z10.1 0).bind fun z12 => some (z12.1, z12.2) else some (-12, wI N 1068 1098 0) := by
        intro N hN m1 m2 m3 m4 m5
        have hN' : ST (wI N 1068 1098 0) := hN
        have ct : F_X16_count (wI N 1068 1098 0) 1071 (iw (u : Int)) = some (nl (prd z u)) := M_count16 (t1071 hN') (l1071 hN') hu (by decide) (fun i hi => ⟨by simp only [cI_wI, Nat.reduceEqDiff, false_and, if_false]; exact m5 i hi, (hz i hi).2⟩)
        have pl := prd_le (z := z) u (fun i hi => (hz i hi).2)
        have hp62 : prd z u < 2 ^ 62 := by
          have : 4096 ^ u ≤ 4096 ^ 4 := Nat.pow_le_pow_right (by decide) hu
          omega
        have rm : F_X16_isRoom (wI N 1068 1098 0) 1068 (nl (prd z u)) 1 = some (mr (room m w 1 (prd z u))) := M_room (g := 1) hN' q1 q2 (by decide) hp62 (by simp only [cI_wI, Nat.reduceEqDiff, and_false, if_false]; exact m3) (by simp only [cI_wI, Nat.reduceEqDiff, and_false, if_false]; exact m4)
        simp only [F_X16_grid, v1068, hN, ST_wI, um _ hN m1, g1068_1095, g1068_1096, cI_wI, Nat.reduceEqDiff, and_false, if_false, m2, l2, n10, ct, rm, Option.bind_some, if_true]
        cases room m w 1 (prd z u) <;> rfl
      rcases mdA with ⟨rm, md⟩ | ⟨rm, hp, hm, hwp, M1, e0, e1, eS, e2, e3, e4, eC, e5, e6, e7, e8⟩
      · -- no room
        have mA := mg A hAs (by rw [dA2.cI (by omega) (by omega)]; exact k2) (by rw [dA2.cI (by omega) (by omega)]; exact hcl2.symm) (by rw [dA2.cI (by omega) (by omega)]; exact q4) (by rw [dA2.cI (by omega) (by omega)]; exact q6) (fun i hi => by rw [dA2.cI (by omega) (by omega), ← (k3 i hi).1]; exact (hz i hi).1)
        rw [rm, if_neg (by decide)] at mA
        have dF : Df (fun a i => (a = 1000 ∧ (i = 85 ∨ i = 89)) ∨ a = 1062 ∨ (a = 1068 ∧ i = 1098)) n2 n2 M (wI A 1068 1098 0) := (dA2.mono (fun a i p => p.elim Or.inl (fun q => Or.inr (Or.inl q))) (fun _ _ p => p) (fun _ _ p => p)).trans (Df.wI _ (Or.inr (Or.inr ⟨rfl, rfl⟩)))
        refine ⟨-12, A, wI A 1068 1098 0, by rw [eg, md], mA, ?_, ?_, ?_, ?_, ?_, ?_⟩
        · refine I2.zero ?_ (by simp only [cI_wI, and_self, if_true])
          rw [cI_wI, if_neg (by decide), a4.cI (show 1000 < m_nx M by omega) (by unfold pShape; omega), cI_wI, if_pos ⟨rfl, rfl⟩]
        · exact I4.dfg h dF h4 (fun a i p q => by omega)
        · exact ⟨m, w, K, n, Z, S, T, X, Y, C, D, L, P, h5.df h dF (fun a i q1 q2 => by omega) qt_n2 qt_n2 (fun a i q1 q2 => by unfold pGr at q1; omega) (fun i => ⟨fun hh => hh, fun hh => hh⟩)⟩
        · exact dF.mono (fun a i p => by rcases p with p | p | p; exact Or.inl p; exact Or.inr (Or.inl p); exact Or.inr (Or.inr (Or.inl p))) (fun _ _ p => p) (fun _ _ p => p.elim)
        · show m_nx A ≤ _; omega
        · unfold bud
          rw [cI_wI, if_neg (by decide), c194, q5]
          show (m_sl A : Int) - _ ≤ _
          omega
      · -- made
        have h1 : ST M1 := hAs.df e8 (fun p hp hr => (stR_na p hp).1 hr.1)
        have k68 : ∀ i, cI M1 1068 i = cI M 1068 i := fun i => by rw [e8.cI (by omega) (by unfold pNE; omega), dA2.cI (by omega) (by omega)]
        have k71 : ∀ i, cI M1 1071 i = cI M 1071 i := fun i => by rw [e8.cI (by omega) (by unfold pNE; omega), dA2.cI (by omega) (by omega)]
        have mA := mg M1 h1 (by rw [k68]; exact k2) (by rw [k68]; exact hcl2.symm) (by rw [k68]; exact q4) (by rw [k68]; exact q6) (fun i hi => by rw [k71, ← (k3 i hi).1]; exact (hz i hi).1)
        rw [rm, if_pos rfl] at mA
        have h1' : ST (wI M1 1068 1098 0) := h1
        obtain ⟨B, b1, b2, b3, b4, b5⟩ := M_first (M := wI M1 1068 1098 0) (src := 1071) (L := 4) (n := u) (show 1334 ≤ m_nx M1 by omega) hu hu (by decide) (show 1071 < m_nx M1 by omega) (t1071 h1') (l1071 h1')
        have hBs : ST B := h1'.n b4
        have b2' : m_nx B = m_nx M1 + 1 := b2
        have b3' : m_sl B = m_sl M1 + u := b3
        have dB : Df (fun a i => a = 1068 ∧ i = 1098) n2 n2 M1 B := (Df.wI (P := fun a i => a = 1068 ∧ i = 1098) (Q := n2) (R := n2) 0 ⟨rfl, rfl⟩).trans (b4.mono (fun _ _ p => p.elim) (fun _ _ p => p) (fun _ _ p => p))
        have b5' : IRw B (m_nx M1) u (fun i => iw (z i)) := by
          obtain ⟨x1, x2, x3, x4, x5⟩ := b5
          refine ⟨x1, x2, x3, x4, fun i hi => ?_⟩
          show cI B (m_nx (wI M1 1068 1098 0)) i = _
          rw [x5 i hi]
          simp only [cI_wI, Nat.reduceEqDiff, false_and, if_false]
          rw [k71, ← (k3 i hi).1]
          exact (hz i hi).1
        obtain ⟨M2, f0, f1, fS, f2, f3, f4, fC, f5, f6, f7, f8⟩ := M_made (k := k) (r := 0) (z := z) hBs hu (fun i hi => (hz i hi).2) b5' hp hm hwp (by rw [dB.cI (by omega) (by omega), k68]; exact q4) (by rw [dB.cI (by omega) (by omega), k68]; exact q6) (Or.inl rfl)
        obtain ⟨g5, gD⟩ := mk2 h h5 hm dA2.sc (fun a i q1 q2 => by omega) qt_n2 (fun a i q1 q2 => by unfold pGr at q1; omega) hk hu (fun i hi => (hz i hi).2) hp hwp e1 e2 e3 e4 e5 e6 e7 e8 dB.sc (fun a i q1 q2 => by omega) qt_n2 (fun a i q1 q2 => by unfold pGr at q1; omega) f1 f2 f3 f4 f5 f6 f7 f8 (fun i hi => by rw [eC i hi, fC i hi]; exact ⟨rfl, vb_0 hk⟩)
        refine ⟨iw ((m + 1 : Nat) : Int), M1, M2, by rw [eg, e0], ?_, ?_, ?_, g5, ?_, ?_, ?_⟩
        · rw [mA, b1]
          simp only [Option.bind_some]
          rw [v1068 hBs]
          simp only [Option.bind_some]
          rw [show m_nx (wI M1 1068 1098 0) = m_nx M1 from rfl, f0]
          rfl
        · refine I2.zero ?_ ?_
          · rw [f8.cI (by omega) (by unfold pNM; omega), dB.cI (by omega) (by omega), e8.cI (by omega) (by unfold pNE; omega), a4.cI (show 1000 < m_nx M by omega) (by unfold pShape; omega), cI_wI, if_pos ⟨rfl, rfl⟩]
          · rw [f8.cI (by omega) (by unfold pNM; omega), b4.cI (show 1068 < m_nx M1 by omega) (fun hh => hh), cI_wI, if_pos ⟨rfl, rfl⟩]
        · exact I4.dfg h gD h4 (fun a i p q => by unfold pGr at q; omega)
        · exact gD.mono (fun a i p => by rcases p with (p | p) | p | p; exact Or.inl p; exact Or.inr (Or.inl p); exact Or.inr (Or.inr (Or.inl p)); exact Or.inr (Or.inr (Or.inr p))) (fun _ _ p => p.elim id id) (fun _ _ p => rG_of q1 q3 p)
        · omega
        · have x22 : x_cn 22 ≤ 20 := by decide
          have x23 : x_cn 23 ≤ 20 := by decide
          unfold bud
          rw [f8.cI (by omega) (by unfold pNM; omega), dB.cI (by omega) (by omega), e6, q5, iw_toInt (by omega) (by omega), iw_toInt (by omega) (by omega)]
          omega
  · rw [hcl] at hcl2
    refine fin (-13) ?_ ?_
    · simp only [F_X0_grid, v1000, h, us, g1000_97, ST_wI, cI_wI, Nat.reduceEqDiff, and_false, if_false, hcl, n10, Option.bind_some]
    · simp only [F_X16_grid, v1068, h, ST_wI, um _ hA kA, g1068_1095, cI_wI, Nat.reduceEqDiff, and_false, false_and, if_false, ← hcl2, n10, Option.bind_some]
