/-! ===== CALLS, 2: end, axis, at and what only tells ===== -/
theorem ST_wI {M : Mem} {a i : Nat} {v : Int32} : ST (wI M a i v) ↔ ST M := Iff.rfl
theorem ST_wJ {M : Mem} {a i : Nat} {v : Int64} : ST (wJ M a i v) ↔ ST M := Iff.rfl
/-- sizes that were collected: both alike -/
def I2 (M : Mem) : Prop := ∃ n : Nat, n ≤ 4 ∧ cI M 1000 85 = iw n ∧ cI M 1068 1098 = iw n ∧ ∀ i, i < n → cI M 1060 i = cI M 1071 i ∧ 0 ≤ (cI M 1060 i).toInt ∧ (cI M 1060 i).toInt ≤ 4096
def I3 (M : Mem) : Prop := ∃ n : Nat, n ≤ 4 ∧ cI M 1000 87 = iw n ∧ cI M 1068 1099 = iw n ∧ ∀ i, i < n → cI M 1061 i = cI M 1072 i
def pSize : Nat → Nat → Prop := fun a i => a = 1060 ∨ a = 1071 ∨ (a = 1000 ∧ i = 85) ∨ (a = 1068 ∧ i = 1098)
def pSpot : Nat → Nat → Prop := fun a i => a = 1061 ∨ a = 1072 ∨ (a = 1000 ∧ i = 87) ∨ (a = 1068 ∧ i = 1099)
theorem c_end {M : Mem} {n : Int32} (h : ST M) (hi : I1 M) : ∃ (r : Int32) (M1 M2 : Mem), F_X0_end M 1000 n = some (r, M1) ∧ F_X16_end M1 1068 n = some (r, M2) ∧ I1 M2 ∧ Df pTray n2 n2 M M2 ∧ m_nx M2 = m_nx M ∧ m_sl M2 = m_sl M := by
  have hi' := hi
  obtain ⟨t, f, ht, htf, hf, k1, k2, k3, k4, k5⟩ := hi
  unfold F_X0_end F_X0_end_b12 F_X16_end F_X16_end_b12
  by_cases c1 : n < 0
  · refine ⟨_, _, _, by rw [if_pos c1], by rw [if_pos c1], hi', Df.refl _ _ _ _, rfl, rfl⟩
  by_cases c2 : iw (t : Int) < n
  · refine ⟨-1, M, M, ?_, ?_, hi', Df.refl _ _ _ _, rfl, rfl⟩
    · simp only [c1, c2, if_false, if_true, g1000_65, h, k1, Option.bind_some]
    · simp only [c1, c2, if_false, if_true, g1068_1089, h, k2, Option.bind_some]
  · refine ⟨n, wI M 1000 65 n, wI (wI M 1000 65 n) 1068 1089 n, ?_, ?_, ?_, ?_, rfl, rfl⟩
    · simp only [c1, c2, if_false, g1000_65, p1000_65, h, k1, Option.bind_some]
    · simp only [c1, c2, if_false, g1068_1089, p1068_1089, ST_wI, h, cI_wI, k2, Option.bind_some, Nat.reduceEqDiff, false_and]
    · have r1 : 0 ≤ n.toInt := by
        rw [Int32.lt_iff_toInt_lt] at c1
        have : (0 : Int32).toInt = 0 := rfl
        omega
      have r2 : n.toInt ≤ t := by
        rw [Int32.lt_iff_toInt_lt, iw_toInt (by omega) (by omega)] at c2
        omega
      have en : n = iw ((n.toInt.toNat : Nat) : Int) := by
        rw [show ((n.toInt.toNat : Nat) : Int) = n.toInt by omega, iw_of]
      refine ⟨n.toInt.toNat, f, by omega, by omega, hf, ?_, ?_, ?_, ?_, fun i hi => ?_⟩
      · rw [cI_wI, if_neg (by decide), cI_wI, if_pos ⟨rfl, rfl⟩]; exact en
      · rw [cI_wI, if_pos ⟨rfl, rfl⟩]; exact en
      · rw [cI_wI, if_neg (by decide), cI_wI, if_neg (by decide)]; exact k3
      · rw [cI_wI, if_neg (by decide), cI_wI, if_neg (by decide)]; exact k4
      · simp only [cI_wI, Nat.reduceEqDiff, false_and, if_false]
        exact k5 i (by omega)
    · exact (Df.wI _ (Or.inr (Or.inr (Or.inl ⟨rfl, Or.inl rfl⟩)))).trans (Df.wI _ (Or.inr (Or.inr (Or.inr ⟨rfl, Or.inl rfl⟩))))
theorem c_axis {M : Mem} {v : Int32} (h : ST M) (hi : I2 M) : ∃ (r : Int32) (M1 M2 : Mem), F_X0_axis M 1000 v = some (r, M1) ∧ F_X16_axis M1 1068 v = some (r, M2) ∧ I2 M2 ∧ Df pSize n2 n2 M M2 ∧ m_nx M2 = m_nx M ∧ m_sl M2 = m_sl M := by
  have hi' := hi
  obtain ⟨n, hn, k1, k2, k3⟩ := hi
  unfold F_X0_axis F_X0_axis_b19 F_X16_axis F_X16_axis_b19
  by_cases c1 : v < 0
  · exact ⟨_, _, _, by rw [if_pos c1], by rw [if_pos c1], hi', Df.refl _ _ _ _, rfl, rfl⟩
  by_cases c2 : 4096 < v
  · exact ⟨_, _, _, by rw [if_neg c1, if_pos c2], by rw [if_neg c1, if_pos c2], hi', Df.refl _ _ _ _, rfl, rfl⟩
  have q4 : iw (n : Int) = 4 ↔ n = 4 := by rw [show (4 : Int32) = iw 4 from rfl, iw_eq (by omega) (by omega) (by omega) (by omega)]; omega
  by_cases c3 : n = 4
  · refine ⟨-1, M, M, ?_, ?_, hi', Df.refl _ _ _ _, rfl, rfl⟩
    · simp only [c1, c2, q4.mpr c3, if_false, if_true, g1000_85, h, k1, Option.bind_some]
    · simp only [c1, c2, q4.mpr c3, if_false, if_true, g1068_1098, h, k2, Option.bind_some]
  · have c3' : ¬ iw (n : Int) = 4 := fun hh => c3 (q4.mp hh)
    have s1 : si M 1060 (iw (n : Int)) v = some (wI M 1060 n v) := si_of v (t1060 h) (l1060 h) (by omega) (by decide)
    have e1 : iw (n : Int) + 1 = iw ((n + 1 : Nat) : Int) := by rw [show (1 : Int32) = iw 1 from rfl, iw_add]; rfl
    obtain ⟨N, hN⟩ : ∃ N, N = wI (wI M 1060 n v) 1000 85 (iw ((n + 1 : Nat) : Int)) := ⟨_, rfl⟩
    have h' : ST N := by rw [hN]; exact h
    have s2 : si N 1071 (iw (n : Int)) v = some (wI N 1071 n v) := si_of v (t1071 h') (l1071 h') (by omega) (by decide)
    have kN : cI N 1068 1098 = iw n := by rw [hN]; simp only [cI_wI, Nat.reduceEqDiff, false_and, if_false]; exact k2
    refine ⟨iw ((n + 1 : Nat) : Int), N, wI (wI N 1071 n v) 1068 1098 (iw ((n + 1 : Nat) : Int)), ?_, ?_, ?_, ?_, by rw [hN]; rfl, by rw [hN]; rfl⟩
    · simp only [c1, c2, c3', if_false, g1000_84, g1000_85, p1000_85, ST_wI, h, k1, s1, cI_wI, Option.bind_some, Nat.reduceEqDiff, false_and, and_self, if_true, e1, hN]
    · simp only [c1, c2, c3', if_false, g1068_1096, g1068_1098, p1068_1098, ST_wI, h', kN, s2, cI_wI, Option.bind_some, Nat.reduceEqDiff, false_and, and_self, if_true, e1]
    · have r1 : 0 ≤ v.toInt ∧ v.toInt ≤ 4096 := by
        rw [Int32.lt_iff_toInt_lt] at c1 c2
        have e0 : (0 : Int32).toInt = 0 := rfl
        have e9 : (4096 : Int32).toInt = 4096 := by decide
        omega
      refine ⟨n + 1, by omega, ?_, ?_, fun i hi => ?_⟩
      · rw [hN]; simp only [cI_wI, Nat.reduceEqDiff, false_and, if_false, and_self, if_true]
      · simp only [cI_wI, and_self, if_true]
      · rw [hN]
        simp only [cI_wI, Nat.reduceEqDiff, false_and, if_false, true_and]
        by_cases hin : i = n
        · subst hin
          simp only [if_true]
          exact ⟨trivial, r1⟩
        · simp only [hin, if_false]
          exact k3 i (by omega)
    · rw [hN]
      exact ((Df.wI _ (Or.inl rfl)).trans (Df.wI _ (Or.inr (Or.inr (Or.inl ⟨rfl, rfl⟩))))).trans ((Df.wI _ (Or.inr (Or.inl rfl))).trans (Df.wI _ (Or.inr (Or.inr (Or.inr ⟨rfl, rfl⟩)))))
theorem c_at {M : Mem} {v : Int32} (h : ST M) (hi : I3 M) : ∃ (r : Int32) (M1 M2 : Mem), F_X0_at M 1000 v = some (r, M1) ∧ F_X16_at M1 1068 v = some (r, M2) ∧ I3 M2 ∧ Df pSpot n2 n2 M M2 ∧ m_nx M2 = m_nx M ∧ m_sl M2 = m_sl M := by
  have hi' := hi
  obtain ⟨n, hn, k1, k2, k3⟩ := hi
  unfold F_X0_at F_X16_at
  have q4 : iw (n : Int) = 4 ↔ n = 4 := by rw [show (4 : Int32) = iw 4 from rfl, iw_eq (by omega) (by omega) (by omega) (by omega)]; omega
  by_cases c3 : n = 4
  · refine ⟨-1, M, M, ?_, ?_, hi', Df.refl _ _ _ _, rfl, rfl⟩
    · simp only [q4.mpr c3, if_true, g1000_87, h, k1, Option.bind_some]
    · simp only [q4.mpr c3, if_true, g1068_1099, h, k2, Option.bind_some]
  · have c3' : ¬ iw (n : Int) = 4 := fun hh => c3 (q4.mp hh)
    have s1 : si M 1061 (iw (n : Int)) v = some (wI M 1061 n v) := si_of v (t1061 h) (l1061 h) (by omega) (by decide)
    have e1 : iw (n : Int) + 1 = iw ((n + 1 : Nat) : Int) := by rw [show (1 : Int32) = iw 1 from rfl, iw_add]; rfl
    obtain ⟨N, hN⟩ : ∃ N, N = wI (wI M 1061 n v) 1000 87 (iw ((n + 1 : Nat) : Int)) := ⟨_, rfl⟩
    have h' : ST N := by rw [hN]; exact h
    have s2 : si N 1072 (iw (n : Int)) v = some (wI N 1072 n v) := si_of v (t1072 h') (l1072 h') (by omega) (by decide)
    have kN : cI N 1068 1099 = iw n := by rw [hN]; simp only [cI_wI, Nat.reduceEqDiff, false_and, if_false]; exact k2
    refine ⟨iw ((n + 1 : Nat) : Int), N, wI (wI N 1072 n v) 1068 1099 (iw ((n + 1 : Nat) : Int)), ?_, ?_, ?_, ?_, by rw [hN]; rfl, by rw [hN]; rfl⟩
    · simp only [c3', if_false, g1000_86, g1000_87, p1000_87, ST_wI, h, k1, s1, cI_wI, Option.bind_some, Nat.reduceEqDiff, false_and, and_self, if_true, e1, hN]
    · simp only [c3', if_false, g1068_1097, g1068_1099, p1068_1099, ST_wI, h', kN, s2, cI_wI, Option.bind_some, Nat.reduceEqDiff, false_and, and_self, if_true, e1]
    · refine ⟨n + 1, by omega, ?_, ?_, fun i hi => ?_⟩
      · rw [hN]; simp only [cI_wI, Nat.reduceEqDiff, false_and, if_false, and_self, if_true]
      · simp only [cI_wI, and_self, if_true]
      · rw [hN]
        simp only [cI_wI, Nat.reduceEqDiff, false_and, if_false, true_and]
        by_cases hin : i = n
        · simp only [hin, if_true]
        · simp only [hin, if_false]
          exact k3 i (by omega)
    · rw [hN]
      exact ((Df.wI _ (Or.inl rfl)).trans (Df.wI _ (Or.inr (Or.inr (Or.inl ⟨rfl, rfl⟩))))).trans ((Df.wI _ (Or.inr (Or.inl rfl))).trans (Df.wI _ (Or.inr (Or.inr (Or.inr ⟨rfl, rfl⟩)))))
/-- numbers that are told: code, place, steps, whether it is closed, openings, the spot that failed -/
def I4 (M : Mem) : Prop := cI M 1000 94 = cI M 1068 1102 ∧ cI M 1000 95 = cI M 1068 1091 ∧ cI M 1000 96 = cI M 1068 1113 ∧ (cI M 1000 97 = 0 ∨ cI M 1000 97 = 1) ∧ cI M 1000 97 = cI M 1068 1095 ∧ (∃ n : Nat, n ≤ 10 ∧ cI M 1000 98 = iw n ∧ cI M 1068 1132 = iw n) ∧
  ∃ (n : Nat) (m : Int), n ≤ 4 ∧ -1 ≤ m ∧ (m = n ∨ (m = -1 ∧ n = 0)) ∧ cI M 1000 91 = iw n ∧ cI M 1068 1117 = iw m ∧ ∀ i, i < n → cI M 1063 i = cI M 1083 i
theorem c_code {M : Mem} (h : ST M) (hi : I4 M) : ∃ r, F_X0_code M 1000 = some r ∧ F_X16_code M 1068 = some r := by
  refine ⟨cI M 1000 94, ?_, ?_⟩
  · simp only [F_X0_code, g1000_94, h, Option.bind_some]
  · simp only [F_X16_code, g1068_1102, h, Option.bind_some, hi.1]
theorem c_place {M : Mem} (h : ST M) (hi : I4 M) : ∃ r, F_X0_place M 1000 = some r ∧ F_X16_place M 1068 = some r := by
  refine ⟨cI M 1000 95, ?_, ?_⟩
  · simp only [F_X0_place, g1000_95, h, Option.bind_some]
  · simp only [F_X16_place, g1068_1091, h, Option.bind_some, hi.2.1]
theorem c_steps {M : Mem} (h : ST M) (hi : I4 M) : ∃ r, F_X0_steps M 1000 = some r ∧ F_X16_steps M 1068 = some r := by
  refine ⟨cI M 1000 96, ?_, ?_⟩
  · simp only [F_X0_steps, g1000_96, h, Option.bind_some]
  · simp only [F_X16_steps, g1068_1113, h, Option.bind_some, hi.2.2.1]
theorem c_failed {M : Mem} {v : Int32} (h : ST M) (hi : I4 M) : ∃ r, F_X0_failed M 1000 v = some r ∧ F_X16_failed M 1068 v = some r := by
  obtain ⟨-, -, -, -, -, -, n, m, hn, hm, hnm, k1, k2, k3⟩ := hi
  unfold F_X0_failed F_X0_failed_b21 F_X0_failed_b22 F_X16_failed F_X16_failed_b21 F_X16_failed_b22
  by_cases c1 : v < 0
  · exact ⟨_, by rw [if_pos c1], by rw [if_pos c1]⟩
  · have r1 : 0 ≤ v.toInt := by
      rw [Int32.lt_iff_toInt_lt] at c1
      have : (0 : Int32).toInt = 0 := rfl
      omega
    have hv := Int32.toInt_lt v
    obtain ⟨j, hj⟩ : ∃ j : Nat, v = iw (j : Int) ∧ (j : Int) = v.toInt := ⟨v.toInt.toNat, by rw [show ((v.toInt.toNat : Nat) : Int) = v.toInt by omega, iw_of], by omega⟩
    have hb := Int32.toInt_lt v
    obtain ⟨hj1, hj2⟩ := hj
    rw [hj1] at c1 ⊢
    have q1 : iw (j : Int) < iw (n : Int) ↔ j < n := by rw [iw_lt (by omega) (by omega) (by omega) (by omega)]; omega
    have q2 : iw (j : Int) < iw m ↔ j < n := by rw [iw_lt (by omega) (by omega) (by omega) (by omega)]; omega
    by_cases c2 : j < n
    · have a1 : ai M 1063 (iw (j : Int)) = some (cI M 1063 j) := ai_of (t1063 h) (l1063 h) (by omega) (by decide)
      have a2 : ai M 1083 (iw (j : Int)) = some (cI M 1083 j) := ai_of (t1083 h) (l1083 h) (by omega) (by decide)
      refine ⟨cI M 1063 j, ?_, ?_⟩
      · simp only [c1, if_false, g1000_91, g1000_90, h, k1, q1.mpr c2, if_true, Option.bind_some, a1]
      · simp only [c1, if_false, g1068_1117, g1068_1116, h, k2, q2.mpr c2, if_true, Option.bind_some, a2, k3 j c2]
    · refine ⟨-1, ?_, ?_⟩
      · simp only [c1, if_false, g1000_91, h, k1, q1, c2, Option.bind_some]
      · simp only [c1, if_false, g1068_1117, h, k2, q2, c2, Option.bind_some]
