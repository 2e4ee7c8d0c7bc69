/-! ===== READING, 8: only the bytes count; the model reads a grid's bytes ===== -/
theorem szE_congr {g g' : Nat → Int32} {n e : Nat} (h : ∀ i, i < n → g i = g' i) (he : e ≤ n) : ∀ m j, szE g e m j = szE g' e m j
  | 0, _ => rfl
  | m + 1, j => by
    show (if e < 4 + 2 * j + 2 then some (4 + 2 * j) else if 4096 < zRd g j then some (4 + 2 * j) else szE g e m (j + 1)) = (if e < 4 + 2 * j + 2 then some (4 + 2 * j) else if 4096 < zRd g' j then some (4 + 2 * j) else szE g' e m (j + 1))
    by_cases c : e < 4 + 2 * j + 2
    · rw [if_pos c, if_pos c]
    · have : zRd g j = zRd g' j := bev_congr 2 _ _ (fun x hx => h _ (by omega))
      rw [if_neg c, if_neg c, this, szE_congr h he m (j + 1)]
theorem cRd_congr {g g' : Nat → Int32} {n a : Nat} {k : Int32} (h : ∀ i, i < n → g i = g' i) (ha : a + wdt k ≤ n) : cRd g k a = cRd g' k a := by
  unfold cRd
  rw [bev_congr (wdt k) a a (fun x hx => h _ (by omega))]
theorem clE_congr {g g' : Nat → Int32} {n e : Nat} {k : Int32} {T : Nat} (h : ∀ i, i < n → g i = g' i) (he : e ≤ n) : ∀ m i a, clE g e k T m i a = clE g' e k T m i a
  | 0, _, _ => rfl
  | m + 1, i, a => by
    show (if i < T then (if e < a + wdt k then some a else if F_X23_isBits k (cRd g k a) = some 0 then some a else clE g e k T m (i + 1) (a + wdt k)) else if a < e then some a else none) = (if i < T then (if e < a + wdt k then some a else if F_X23_isBits k (cRd g' k a) = some 0 then some a else clE g' e k T m (i + 1) (a + wdt k)) else if a < e then some a else none)
    by_cases c : i < T
    · rw [if_pos c, if_pos c]
      by_cases c1 : e < a + wdt k
      · rw [if_pos c1, if_pos c1]
      · rw [if_neg c1, if_neg c1, cRd_congr h (by omega), clE_congr h he m (i + 1) (a + wdt k)]
    · rw [if_neg c, if_neg c]
theorem prd_cg {z z' : Nat → Nat} : ∀ m, (∀ i, i < m → z i = z' i) → prd z m = prd z' m
  | 0, _ => rfl
  | m + 1, h => by
    show prd z m * z m = prd z' m * z' m
    rw [prd_cg m (fun i hi => h i (by omega)), h m (by omega)]
theorem hdE_congr {g g' : Nat → Int32} {n : Nat} (h : ∀ i, i < n → g i = g' i) : hdE g n = hdE g' n := by
  unfold hdE
  by_cases c : n < 8
  · rw [if_pos c, if_pos c]
  · rw [if_neg c, if_neg c, bev_congr 4 (n - 4) (n - 4) (fun x hx => h _ (by omega)), crr_congr (n - 4) 0 0 (-1) (fun x hx => h _ (by omega)), h 0 (by omega), h 1 (by omega), h 2 (by omega), h 3 (by omega)]
theorem hdE_none {g : Nat → Int32} {n : Nat} (h : hdE g n = none) : 8 ≤ n ∧ bn (g 2) ≤ 7 ∧ bn (g 3) ≤ 4 := by
  unfold hdE at h
  by_cases c : n < 8
  · rw [if_pos c] at h; cases h
  rw [if_neg c] at h
  by_cases c1 : ¬ ni (bev g (n - 4) 4) = crr g (n - 4) 0 (-1)
  · rw [if_pos c1] at h; cases h
  rw [if_neg c1] at h
  by_cases c2 : ¬ bn (g 0) = 71
  · rw [if_pos c2] at h; cases h
  rw [if_neg c2] at h
  by_cases c3 : ¬ bn (g 1) = 82
  · rw [if_pos c3] at h; cases h
  rw [if_neg c3] at h
  by_cases c4 : 7 < bn (g 2)
  · rw [if_pos c4] at h; cases h
  rw [if_neg c4] at h
  by_cases c5 : 4 < bn (g 3)
  · rw [if_pos c5] at h; cases h
  omega
theorem szE_none {g : Nat → Int32} {e : Nat} : ∀ m j, szE g e m j = none → 4 + 2 * j ≤ e → 4 + 2 * (j + m) ≤ e
  | 0, _, _, h => h
  | m + 1, j, hn, h => by
    have e0 : szE g e (m + 1) j = if e < 4 + 2 * j + 2 then some (4 + 2 * j) else if 4096 < zRd g j then some (4 + 2 * j) else szE g e m (j + 1) := rfl
    rw [e0] at hn
    by_cases c : e < 4 + 2 * j + 2
    · rw [if_pos c] at hn; cases hn
    rw [if_neg c] at hn
    by_cases c2 : 4096 < zRd g j
    · rw [if_pos c2] at hn; cases hn
    rw [if_neg c2] at hn
    have := szE_none m (j + 1) hn (by omega)
    omega
theorem szE_le {g : Nat → Int32} {e : Nat} : ∀ m j, szE g e m j = none → ∀ i, j ≤ i → i < j + m → zRd g i ≤ 4096
  | 0, _, _, _, h1, h2 => by omega
  | m + 1, j, hn, i, h1, h2 => by
    have e0 : szE g e (m + 1) j = if e < 4 + 2 * j + 2 then some (4 + 2 * j) else if 4096 < zRd g j then some (4 + 2 * j) else szE g e m (j + 1) := rfl
    rw [e0] at hn
    by_cases c : e < 4 + 2 * j + 2
    · rw [if_pos c] at hn; cases hn
    rw [if_neg c] at hn
    by_cases c2 : 4096 < zRd g j
    · rw [if_pos c2] at hn; cases hn
    rw [if_neg c2] at hn
    by_cases ci : i = j
    · subst ci
      omega
    · exact szE_le m (j + 1) hn i (by omega) (by omega)
theorem clE_none {g : Nat → Int32} {e : Nat} {k : Int32} {T : Nat} (hw : 0 < wdt k) : ∀ m i a, clE g e k T m i a = none → e + 1 ≤ a + m → a ≤ e → i ≤ T → a + (T - i) * wdt k ≤ e
  | 0, _, _, _, _, _, _ => by omega
  | m + 1, i, a, hn, hm, ha, hi => by
    have e0 : clE g e k T (m + 1) i a = if i < T then (if e < a + wdt k then some a else if F_X23_isBits k (cRd g k a) = some 0 then some a else clE g e k T m (i + 1) (a + wdt k)) else if a < e then some a else none := rfl
    rw [e0] at hn
    by_cases c : i < T
    · rw [if_pos c] at hn
      by_cases c1 : e < a + wdt k
      · rw [if_pos c1] at hn; cases hn
      rw [if_neg c1] at hn
      by_cases c2 : F_X23_isBits k (cRd g k a) = some 0
      · rw [if_pos c2] at hn; cases hn
      rw [if_neg c2] at hn
      have := clE_none hw m (i + 1) (a + wdt k) hn (by omega) (by omega) (by omega)
      rw [show T - i = (T - (i + 1)) + 1 by omega, Nat.succ_mul]
      omega
    · rw [show T - i = 0 by omega, Nat.zero_mul]
      omega
/-- all that a good text says -/
theorem rdE_none {g : Nat → Int32} {n : Nat} (h : rdE g n = none) : hdE g n = none ∧ szE g (n - 4) (bn (g 3)) 0 = none ∧ clE g (n - 4) (iw (bn (g 2) : Nat)) (prd (zRd g) (bn (g 3))) n 0 (4 + 2 * bn (g 3)) = none ∧ 8 ≤ n ∧ bn (g 2) ≤ 7 ∧ bn (g 3) ≤ 4 ∧ 4 + 2 * bn (g 3) + prd (zRd g) (bn (g 3)) * wdt (iw (bn (g 2) : Nat)) ≤ n - 4 := by
  unfold rdE at h
  cases h1 : hdE g n with
  | some p => rw [h1] at h; cases h
  | none =>
    rw [h1] at h
    cases h2 : szE g (n - 4) (bn (g 3)) 0 with
    | some p => rw [h2] at h; cases h
    | none =>
      rw [h2] at h
      obtain ⟨a, b, c⟩ := hdE_none h1
      have d := szE_none _ _ h2 (by omega)
      have hw := (wdt_eq (iw_Lk b)).2.2.1
      have := clE_none hw _ _ _ h (by omega) (by omega) (Nat.zero_le _)
      exact ⟨rfl, rfl, h, a, b, c, by omega⟩
theorem rdE_congr {g g' : Nat → Int32} {n : Nat} (h : ∀ i, i < n → g i = g' i) : rdE g n = rdE g' n := by
  unfold rdE
  rw [← hdE_congr h]
  cases h1 : hdE g n with
  | some p => rfl
  | none =>
    obtain ⟨a, b, c⟩ := hdE_none h1
    rw [← h 3 (by omega), ← h 2 (by omega), ← szE_congr h (by omega)]
    cases h2 : szE g (n - 4) (bn (g 3)) 0 with
    | some p => rfl
    | none =>
      have d := szE_none _ _ h2 (by omega)
      have : prd (zRd g) (bn (g 3)) = prd (zRd g') (bn (g 3)) := prd_cg _ (fun i hi => bev_congr 2 _ _ (fun x hx => h _ (by omega)))
      show clE g _ _ _ _ _ _ = clE g' _ _ _ _ _ _
      rw [← this, clE_congr h (by omega)]
/-- the model reads -/
theorem M_readA {M0 : Mem} {r cap n : Nat} {g : Nat → Int32} (hg : ∀ i, i < n → cI M0 r i = g i) (h : ST M0) (b : Mrow M0 r cap) (hc : n ≤ cap) (hn : n ≤ 30004) (hb : ∀ i, i < n → bt (g i)) :
    (∀ p, rdE g n = some p → (∃ x M', F_X16_headOf M0 1068 r (iw (n : Int)) = some (.inr (x, M')) ∧ MdF M0 M' p) ∨ (∃ s A x M', F_X16_headOf M0 1068 r (iw (n : Int)) = some (.inl (s, A)) ∧ F_X16_cellsOf A 1068 r s (iw (n : Int) - 4) = some (.inr (x, M')) ∧ MdF M0 M' p ∧ ST A)) ∧
    (rdE g n = none → ∃ s A M', F_X16_headOf M0 1068 r (iw (n : Int)) = some (.inl (s, A)) ∧ F_X16_cellsOf A 1068 r s (iw (n : Int) - 4) = some (.inl M') ∧ ST A ∧ Mdr M0 M' (bn (g 3)) (iw (bn (g 2) : Nat)) ∧ (∀ i, i < bn (g 3) → cI M' (m_nx M0) i = iw (zRd g i : Nat)) ∧ ∀ q, q < prd (zRd g) (bn (g 3)) → cJ M' 1073 q = cRd g (iw (bn (g 2) : Nat)) (4 + 2 * bn (g 3) + q * wdt (iw (bn (g 2) : Nat)))) := by
  obtain ⟨f, hf⟩ : ∃ f, f = cI M0 r := ⟨_, rfl⟩
  have hfg : ∀ i, i < n → g i = f i := fun i hi => by rw [hf, hg i hi]
  have hbf : ∀ i, i < n → bt (f i) := fun i hi => by rw [← hfg i hi]; exact hb i hi
  rw [rdE_congr hfg]
  have b6 := b.2.2.2.2.2
  obtain ⟨H1, H2⟩ := M_head hf h b hc hbf
  have xx : xN = 1099511627776 := rfl
  cases h1 : hdE f n with
  | some p =>
    have e1 : rdE f n = some p := rdE_hd h1
    rw [e1]
    refine ⟨fun q hq => ?_, fun hq => by cases hq⟩
    cases hq
    exact Or.inl (H1 p h1)
  | none =>
    obtain ⟨A, a1, a2, a3, a4⟩ := H2 h1
    obtain ⟨-, -, a5⟩ := hdE_none h1
    have S := M_szl (k := iw (bn (f 2) : Nat)) (e := n - 4) hf b (by omega) (bn (f 3)) xN 0 A (by omega) (by omega) a2 (by omega) (fun i hi => by omega)
    have a1' : F_X16_headOf M0 1068 r (iw (n : Int)) = F_X16_headOf_b163 xN A 1068 r (iw ((n - 4 : Nat) : Int)) (iw ((4 + 2 * 0 : Nat) : Int)) (iw ((0 : Nat) : Int)) := a1
    rw [← a1'] at S
    cases h2 : szE f (n - 4) (bn (f 3)) 0 with
    | some p =>
      have e1 : rdE f n = some p := by unfold rdE; rw [h1]; show (match szE f (n - 4) (bn (f 3)) 0 with | some p => some p | none => _) = _; rw [h2]
      rw [e1]
      refine ⟨fun q hq => ?_, fun hq => by cases hq⟩
      cases hq
      exact Or.inl (S.1 p h2)
    | none =>
      have e1 : rdE f n = clE f (n - 4) (iw (bn (f 2) : Nat)) (prd (zRd f) (bn (f 3))) n 0 (4 + 2 * bn (f 3)) := by unfold rdE; rw [h1]; show (match szE f (n - 4) (bn (f 3)) 0 with | some p => some p | none => _) = _; rw [h2]
      obtain ⟨B, s1, s2, s3, s4⟩ := S.2 h2
      have hk : Lk (iw (bn (f 2) : Nat)) := iw_Lk a4
      obtain ⟨w1, w2, w3, w4⟩ := wdt_eq hk
      have pl := prd_le (z := zRd f) (bn (f 3)) (fun i hi => (s4 i hi).2)
      have hT : prd (zRd f) (bn (f 3)) < 2 ^ 62 := by
        have : 4096 ^ bn (f 3) ≤ 4096 ^ 4 := Nat.pow_le_pow_right (by decide) a5
        omega
      obtain ⟨k1, k2, k3, k4, k5, k6, k7, k8, k9⟩ := id s2
      have hcl : F_X16_cellsOf B 1068 r (iw ((4 + 2 * bn (f 3) : Nat) : Int)) (iw (n : Int) - 4) = F_X16_cellsOf_b29 xN B 1068 r (iw ((n - 4 : Nat) : Int)) (iw (wdt (iw (bn (f 2) : Nat)) : Nat)) (nl (prd (zRd f) (bn (f 3)))) (iw ((4 + 2 * bn (f 3) : Nat) : Int)) (nl 0) := by
        unfold F_X16_cellsOf
        rw [show iw (n : Int) - 4 = iw ((n - 4 : Nat) : Int) by rw [show (4 : Int32) = iw ((4 : Nat) : Int) from rfl, iw_nsub (by omega)]]
        simp only [g1068_1127, g1068_1128, k1, k5, k6, w2, an_of k7 (by decide) k8, M_count16 k7 k8 (Nat.le_refl _) k9 s4, Option.bind_some]
        rfl
      have CL := M_cl (a0 := 4 + 2 * bn (f 3)) hf b (show n - 4 ≤ cap by omega) (by omega) hk hT h.1 n xN 0 B (by omega) (by omega) s2 (by rw [Nat.zero_mul]; exact s3) (Nat.zero_le _) (by omega) (fun q hq => by omega)
      rw [Nat.zero_mul, Nat.add_zero, ← hcl] at CL
      rw [e1]
      refine ⟨fun p hp => ?_, fun hp => ?_⟩
      · obtain ⟨x, M', c1, c2⟩ := CL.1 p hp
        exact Or.inr ⟨_, B, x, M', s1, c1, c2, k1⟩
      · obtain ⟨M', c1, c2, c3, c4⟩ := CL.2 hp
        have all := rdE_none (e1.trans hp)
        have g3 : g 3 = f 3 := hfg 3 (by omega)
        have g2 : g 2 = f 2 := hfg 2 (by omega)
        have zz : ∀ i, i < bn (f 3) → zRd g i = zRd f i := fun i hi => bev_congr 2 _ _ (fun x hx => hfg _ (by omega))
        rw [g3, g2]
        refine ⟨_, B, M', s1, c1, k1, c2, fun i hi => by rw [c3, zz i hi]; exact (s4 i hi).1, fun q hq => ?_⟩
        rw [prd_cg _ zz] at hq
        rw [c4 q hq, cRd_congr hfg]
        have : (q + 1) * wdt (iw (bn (f 2) : Nat)) ≤ prd (zRd f) (bn (f 3)) * wdt (iw (bn (f 2) : Nat)) := Nat.mul_le_mul_right _ (by omega)
        rw [Nat.succ_mul] at this
        omega
