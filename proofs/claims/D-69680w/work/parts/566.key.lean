/-! ===== TABLES, 62: words in order ===== -/
/-- a word's key from place i on, m places -/
def ky (w : List Int32) : Nat → Nat → Nat
  | 0, _ => 0
  | m + 1, i => (if i < w.length then bn (wf w i) + 1 else 0) * 129 ^ m + ky w m (i + 1)
def key (w : List Int32) : Nat := ky w 40 0
def sgc (a b : Nat) : Int32 := if a < b then -1 else if a = b then 0 else 1
theorem ky_lt {w : List Int32} (hw : ascs w) : ∀ (m i : Nat), ky w m i < 129 ^ m
  | 0, i => Nat.one_pos
  | m + 1, i => by
    have ih := ky_lt hw m (i + 1)
    have hd : (if i < w.length then bn (wf w i) + 1 else 0) ≤ 128 := by
      by_cases c : i < w.length
      · rw [if_pos c]; have := (asc_bn (hw i c)).2; omega
      · rw [if_neg c]; omega
    have h1 : (if i < w.length then bn (wf w i) + 1 else 0) * 129 ^ m ≤ 128 * 129 ^ m := Nat.mul_le_mul_right _ hd
    unfold ky
    rw [Nat.pow_succ]
    omega
theorem ky_0 {w : List Int32} : ∀ (m i : Nat), w.length ≤ i → ky w m i = 0
  | 0, i, _ => rfl
  | m + 1, i, h => by
    unfold ky
    rw [if_neg (by omega), Nat.zero_mul, ky_0 m (i + 1) (by omega)]
/-- the first place where they differ decides -/
theorem ky_s {w u : List Int32} (hw : ascs w) (hu : ascs u) {m i : Nat} {a b : Nat} (ha : (if i < w.length then bn (wf w i) + 1 else 0) = a) (hb : (if i < u.length then bn (wf u i) + 1 else 0) = b) : (a < b → ky w (m + 1) i < ky u (m + 1) i) ∧ (b < a → ky u (m + 1) i < ky w (m + 1) i) ∧ (a = b → sgc (ky w (m + 1) i) (ky u (m + 1) i) = sgc (ky w m (i + 1)) (ky u m (i + 1))) := by
  have l1 := ky_lt hw m (i + 1)
  have l2 := ky_lt hu m (i + 1)
  have e1 : ky w (m + 1) i = a * 129 ^ m + ky w m (i + 1) := by rw [← ha]; rfl
  have e2 : ky u (m + 1) i = b * 129 ^ m + ky u m (i + 1) := by rw [← hb]; rfl
  rw [e1, e2]
  refine ⟨fun h => ?_, fun h => ?_, fun h => ?_⟩
  · have : (a + 1) * 129 ^ m ≤ b * 129 ^ m := Nat.mul_le_mul_right _ h
    rw [Nat.add_mul, Nat.one_mul] at this
    omega
  · have : (b + 1) * 129 ^ m ≤ a * 129 ^ m := Nat.mul_le_mul_right _ h
    rw [Nat.add_mul, Nat.one_mul] at this
    omega
  · rw [h]
    unfold sgc
    by_cases c1 : ky w m (i + 1) < ky u m (i + 1)
    · rw [if_pos (by omega), if_pos c1]
    · rw [if_neg (by omega), if_neg c1]
      by_cases c2 : ky w m (i + 1) = ky u m (i + 1)
      · rw [if_pos (by omega), if_pos c2]
      · rw [if_neg (by omega), if_neg c2]
theorem sgc_lt {a b : Nat} (h : a < b) : sgc a b = -1 := by unfold sgc; rw [if_pos h]
theorem sgc_gt {a b : Nat} (h : b < a) : sgc a b = 1 := by unfold sgc; rw [if_neg (by omega), if_neg (by omega)]
theorem sgc_eq {a b : Nat} (h : a = b) : sgc a b = 0 := by unfold sgc; rw [if_neg (by omega), if_pos h]
theorem sgc_n {a b : Nat} : (sgc a b < 0 ↔ a < b) ∧ (sgc a b = 0 ↔ a = b) := by
  unfold sgc
  by_cases c1 : a < b
  · rw [if_pos c1]; exact ⟨⟨fun _ => c1, fun _ => by decide⟩, ⟨fun q => absurd q (by decide), fun q => by omega⟩⟩
  · rw [if_neg c1]
    by_cases c2 : a = b
    · rw [if_pos c2]; exact ⟨⟨fun q => absurd q (by decide), fun q => absurd q c1⟩, ⟨fun _ => c2, fun _ => rfl⟩⟩
    · rw [if_neg c2]; exact ⟨⟨fun q => absurd q (by decide), fun q => absurd q c1⟩, ⟨fun q => absurd q (by decide), fun q => absurd q c2⟩⟩
/-- where one ends, the lengths decide -/
theorem ky_end {w u : List Int32} (hw : ascs w) (hu : ascs u) {m i : Nat} (hm : i + m = 40) (h1 : i ≤ w.length) (h2 : i ≤ u.length) (hl1 : w.length ≤ 40) (hl2 : u.length ≤ 40) (h : w.length = i ∨ u.length = i) : sgc (ky w m i) (ky u m i) = sgc w.length u.length := by
  by_cases c1 : w.length = u.length
  · rw [sgc_eq c1, sgc_eq (by rw [ky_0 m i (by omega), ky_0 m i (by omega)])]
  · obtain ⟨m', rfl⟩ : ∃ m', m = m' + 1 := ⟨m - 1, by omega⟩
    have p0 : 0 < 129 ^ m' := Nat.pow_pos (by decide)
    rcases h with h | h
    · have c2 : w.length < u.length := by omega
      rw [sgc_lt c2, sgc_lt]
      exact (ky_s hw hu (m := m') (i := i) (a := 0) (b := bn (wf u i) + 1) (by rw [if_neg (by omega)]) (by rw [if_pos (by omega)])).1 (by omega)
    · have c2 : u.length < w.length := by omega
      rw [sgc_gt c2, sgc_gt]
      exact (ky_s hw hu (m := m') (i := i) (a := bn (wf w i) + 1) (b := 0) (by rw [if_pos (by omega)]) (by rw [if_neg (by omega)])).2.1 (by omega)
theorem asc_lt {x y : Int32} (hx : asc x) (hy : asc y) : (x = y ↔ bn x = bn y) ∧ (x < y ↔ bn x < bn y) := by
  obtain ⟨a, ha, rfl⟩ := hx
  obtain ⟨b, hb, rfl⟩ := hy
  rw [asc_k ha, asc_k hb, iw_le4 (by omega) (by omega), iw_eq (by omega) (by omega) (by omega) (by omega)]
  exact ⟨by omega, Iff.rfl⟩
theorem E_cmpW {M : Mem} {s t : Nat} {w u : List Int32} (h : ST M) (hw : ascs w) (hu : ascs u) (e1 : WE M s w) (e2 : WE M t u) (hl1 : w.length ≤ 40) (hl2 : u.length ≤ 40) : F_X12_compare M 1038 (iw (s : Int)) (iw (w.length : Nat)) (iw (t : Int)) (iw (u.length : Nat)) = some (sgc (key w) (key u)) := by
  have loop : ∀ (m N i : Nat), i + m = 40 → i ≤ w.length → i ≤ u.length → F_X12_compare_b3 (N + 1 + m) M 1038 (iw (s : Int)) (iw (w.length : Nat)) (iw (t : Int)) (iw (u.length : Nat)) (iw (i : Int)) = some (sgc (ky w m i) (ky u m i)) := by
    intro m
    induction m with
    | zero =>
      intro N i hm h1 h2
      show F_X12_compare_b3_st (F_X12_compare_b3 N) M 1038 (iw (s : Int)) (iw (w.length : Nat)) (iw (t : Int)) (iw (u.length : Nat)) (iw (i : Int)) = _
      unfold F_X12_compare_b3_st F_J19_compare F_J19_compare_b19
      rw [J_min2 (by omega) (by omega), Option.bind_some, if_neg (show ¬ iw (i : Int) < iw ((min w.length u.length : Nat) : Int) by rw [iw_le4 (by omega) (by omega)]; omega), if_neg (show ¬ iw (w.length : Nat) < iw (u.length : Nat) by rw [iw_le4 (by omega) (by omega)]; omega), if_pos (show iw (w.length : Nat) = iw (u.length : Nat) by rw [show w.length = u.length by omega])]
      rfl
    | succ m ih =>
      intro N i hm h1 h2
      show F_X12_compare_b3_st (F_X12_compare_b3 (N + 1 + m)) M 1038 (iw (s : Int)) (iw (w.length : Nat)) (iw (t : Int)) (iw (u.length : Nat)) (iw (i : Int)) = _
      unfold F_X12_compare_b3_st F_X12_compare_b61
      rw [J_min2 (by omega) (by omega), Option.bind_some]
      by_cases c : i < w.length ∧ i < u.length
      · rw [if_pos (show iw (i : Int) < iw ((min w.length u.length : Nat) : Int) by rw [iw_le4 (by omega) (by omega)]; omega)]
        simp only [g1038_832, h, iw_nad, e1.ab h c.1, e2.ab h c.2, iw_succ, Option.bind_some]
        obtain ⟨q1, q2⟩ := asc_lt (hw i c.1) (hu i c.2)
        obtain ⟨k1, k2, k3⟩ := ky_s hw hu (m := m) (i := i) (a := bn (wf w i) + 1) (b := bn (wf u i) + 1) (by rw [if_pos c.1]) (by rw [if_pos c.2])
        by_cases ce : wf w i = wf u i
        · rw [if_pos ce, k3 (by rw [q1.mp ce])]
          exact ih N (i + 1) (by omega) (by omega) (by omega)
        · rw [if_neg ce]
          by_cases cl : wf w i < wf u i
          · rw [if_pos cl, sgc_lt (k1 (by have := q2.mp cl; omega))]
          · rw [if_neg cl, sgc_gt (k2 (by
              have a1 : ¬ bn (wf w i) = bn (wf u i) := fun k => ce (q1.mpr k)
              have a2 : ¬ bn (wf w i) < bn (wf u i) := fun k => cl (q2.mpr k)
              omega))]
      · rw [if_neg (show ¬ iw (i : Int) < iw ((min w.length u.length : Nat) : Int) by rw [iw_le4 (by omega) (by omega)]; omega), ky_end hw hu hm h1 h2 hl1 hl2 (by omega)]
        unfold F_J19_compare F_J19_compare_b19 sgc
        by_cases c1 : w.length < u.length
        · rw [if_pos (show iw (w.length : Nat) < iw (u.length : Nat) by rw [iw_le4 (by omega) (by omega)]; exact c1), if_pos c1]; rfl
        · rw [if_neg (show ¬ iw (w.length : Nat) < iw (u.length : Nat) by rw [iw_le4 (by omega) (by omega)]; exact c1), if_neg c1]
          by_cases c2 : w.length = u.length
          · rw [if_pos (show iw (w.length : Nat) = iw (u.length : Nat) by rw [c2]), if_pos c2]; rfl
          · rw [if_neg (show ¬ iw (w.length : Nat) = iw (u.length : Nat) by rw [iw_eq (by omega) (by omega) (by omega) (by omega)]; omega), if_neg c2]; rfl
  obtain ⟨K, hK⟩ : ∃ K, K + 1 + 40 = xN := ⟨1099511627735, rfl⟩
  have := loop 40 K 0 (by omega) (by omega) (by omega)
  rw [hK] at this
  exact this
theorem M_cmpW {M : Mem} {a b : Nat} {w u : List Int32} (sw : SB M a w) (su : SB M b u) (hw : ascs w) (hu : ascs u) (hl1 : w.length ≤ 40) (hl2 : u.length ≤ 40) : F_X16_compare M a b = some (sgc (key w) (key u)) := by
  have b56 : F_X16_compare_b56 M a b = some (sgc w.length u.length) := by
    unfold F_X16_compare_b56 F_X16_compare_b87 sgc
    rw [sw.vg, Option.bind_some, J_len sw, Option.bind_some, su.vg, Option.bind_some, J_len su, Option.bind_some]
    by_cases c1 : w.length < u.length
    · rw [if_pos (show iw (w.length : Nat) < iw (u.length : Nat) by rw [iw_le4 (by omega) (by omega)]; exact c1), if_pos c1]
    · rw [if_neg (show ¬ iw (w.length : Nat) < iw (u.length : Nat) by rw [iw_le4 (by omega) (by omega)]; exact c1), if_neg c1]
      simp only [Option.bind_some]
      by_cases c2 : w.length = u.length
      · rw [if_neg (show ¬ iw (u.length : Nat) < iw (w.length : Nat) by rw [iw_le4 (by omega) (by omega)]; omega), if_pos c2]
      · rw [if_pos (show iw (u.length : Nat) < iw (w.length : Nat) by rw [iw_le4 (by omega) (by omega)]; omega), if_neg c2]
  have loop : ∀ (m N i : Nat), i + m = 40 → i ≤ w.length → i ≤ u.length → F_X16_compare_b2 (N + 1 + m) M a b (iw (i : Int)) = some (sgc (ky w m i) (ky u m i)) := by
    intro m
    induction m with
    | zero =>
      intro N i hm h1 h2
      show F_X16_compare_b2_st (F_X16_compare_b2 N) M a b (iw (i : Int)) = _
      unfold F_X16_compare_b2_st
      rw [sw.vg, Option.bind_some, J_len sw, Option.bind_some, if_neg (show ¬ iw (i : Int) < iw (w.length : Nat) by rw [iw_le4 (by omega) (by omega)]; omega), b56, sgc_eq (show w.length = u.length by omega)]
      rfl
    | succ m ih =>
      intro N i hm h1 h2
      show F_X16_compare_b2_st (F_X16_compare_b2 (N + 1 + m)) M a b (iw (i : Int)) = _
      unfold F_X16_compare_b2_st F_X16_compare_b49
      rw [sw.vg, Option.bind_some, J_len sw, Option.bind_some]
      by_cases c1 : i < w.length
      · rw [if_pos (show iw (i : Int) < iw (w.length : Nat) by rw [iw_le4 (by omega) (by omega)]; exact c1), su.vg, Option.bind_some, J_len su, Option.bind_some]
        by_cases c2 : i < u.length
        · rw [if_pos (show iw (i : Int) < iw (u.length : Nat) by rw [iw_le4 (by omega) (by omega)]; exact c2)]
          simp only [wch sw hw c1, wch su hu c2, iw_succ, Option.bind_some]
          obtain ⟨q1, q2⟩ := asc_lt (hw i c1) (hu i c2)
          obtain ⟨k1, k2, k3⟩ := ky_s hw hu (m := m) (i := i) (a := bn (wf w i) + 1) (b := bn (wf u i) + 1) (by rw [if_pos c1]) (by rw [if_pos c2])
          by_cases ce : wf w i = wf u i
          · rw [if_pos ce, k3 (by rw [q1.mp ce])]
            exact ih N (i + 1) (by omega) (by omega) (by omega)
          · rw [if_neg ce]
            by_cases cl : wf w i < wf u i
            · rw [if_pos cl, sgc_lt (k1 (by have := q2.mp cl; omega))]
            · rw [if_neg cl, sgc_gt (k2 (by
                have a1 : ¬ bn (wf w i) = bn (wf u i) := fun k => ce (q1.mpr k)
                have a2 : ¬ bn (wf w i) < bn (wf u i) := fun k => cl (q2.mpr k)
                omega))]
        · rw [if_neg (show ¬ iw (i : Int) < iw (u.length : Nat) by rw [iw_le4 (by omega) (by omega)]; exact c2), b56, ky_end hw hu hm h1 h2 hl1 hl2 (by omega)]
      · rw [if_neg (show ¬ iw (i : Int) < iw (w.length : Nat) by rw [iw_le4 (by omega) (by omega)]; exact c1), b56, ky_end hw hu hm h1 h2 hl1 hl2 (by omega)]
  obtain ⟨K, hK⟩ : ∃ K, K + 1 + 40 = xN := ⟨1099511627735, rfl⟩
  have := loop 40 K 0 (by omega) (by omega) (by omega)
  rw [hK] at this
  exact this
/-! counting -/
noncomputable def ct (P : Nat → Prop) : Nat → Nat
  | 0 => 0
  | n + 1 => ct P n + pif (P n) 1 0
theorem ct_le (P : Nat → Prop) : ∀ n, ct P n ≤ n
  | 0 => Nat.le_refl _
  | n + 1 => by
    have := ct_le P n
    unfold ct
    by_cases c : P n
    · rw [tpif c]; omega
    · rw [fpif c]; omega
theorem ct_congr {P Q : Nat → Prop} : ∀ n, (∀ k, k < n → (P k ↔ Q k)) → ct P n = ct Q n
  | 0, _ => rfl
  | n + 1, h => by
    unfold ct
    rw [ct_congr n (fun k hk => h k (by omega))]
    by_cases c : P n
    · rw [tpif c, tpif ((h n (by omega)).mp c)]
    · rw [fpif c, fpif (fun q => c ((h n (by omega)).mpr q))]
theorem ct_no {P : Nat → Prop} : ∀ n, (∀ k, k < n → ¬ P k) → ct P n = 0
  | 0, _ => rfl
  | n + 1, h => by
    unfold ct
    rw [ct_no n (fun k hk => h k (by omega)), fpif (h n (by omega))]
theorem ct_one {P Q : Nat → Prop} {j : Nat} : ∀ n, j < n → ¬ P j → (∀ k, k < n → (Q k ↔ (P k ∨ k = j))) → ct Q n = ct P n + 1
  | 0, hj, _, _ => absurd hj (Nat.not_lt_zero _)
  | n + 1, hj, hP, h => by
    unfold ct
    by_cases c : j = n
    · rw [← c, ct_congr j (fun k hk => (h k (by omega)).trans ⟨fun q => q.resolve_right (by omega), Or.inl⟩), fpif hP, tpif ((h j (by omega)).mpr (Or.inr rfl))]
    · rw [ct_one n (by omega) hP (fun k hk => h k (by omega))]
      have e : Q n ↔ P n := (h n (by omega)).trans ⟨fun q => q.resolve_right (fun k => c k.symm), Or.inl⟩
      by_cases q : P n
      · rw [tpif q, tpif (e.mpr q)]
      · rw [fpif q, fpif (fun k => q (e.mp k))]
theorem ct_mono {P Q : Nat → Prop} : ∀ n, (∀ k, k < n → P k → Q k) → ct P n ≤ ct Q n
  | 0, _ => Nat.le_refl _
  | n + 1, h => by
    have := ct_mono (P := P) (Q := Q) n (fun k hk => h k (by omega))
    unfold ct
    by_cases c : P n
    · rw [tpif c, tpif (h n (by omega) c)]; omega
    · rw [fpif c]; omega
theorem ct_lt {P Q : Nat → Prop} {j : Nat} {n : Nat} (hj : j < n) (hP : ¬ P j) (hQ : Q j) (h : ∀ k, k < n → P k → Q k) : ct P n < ct Q n := by
  have e := ct_one (P := P) (Q := fun k => P k ∨ k = j) n hj hP (fun k _ => Iff.rfl)
  have := ct_mono (P := fun k => P k ∨ k = j) (Q := Q) n (fun k hk q => q.elim (h k hk) (fun q => by rw [q]; exact hQ))
  omega
