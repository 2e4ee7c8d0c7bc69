/-! ===== FOLDS, 1: one value more; rows of values ===== -/
theorem ari_vb {w k : Int32} {a b r : Int64} (hw : Wk w) (hk : Ak k) (ha : vb k a) (hb : vb k b) (h : ari w k a b = some r) : vb k r := by
  unfold ari at h
  by_cases h5 : 5 < k
  · have hk' : k = 6 ∨ k = 7 := by rcases hk with rfl | rfl | rfl | rfl <;> first | exact absurd h5 (by decide) | exact Or.inl rfl | exact Or.inr rfl
    rw [if_pos h5] at h
    cases hd : dnn w (d64 (lnR k a)) (d64 (lnR k b)) with
    | true => rw [hd, if_pos rfl] at h; cases h
    | false =>
      rw [hd, if_neg (by decide)] at h
      obtain ⟨z, z1, z2, z3⟩ := E_floating hw hk' ha hb hd
      rw [← z3] at h
      have e := Option.some.inj h
      rw [← e]
      exact lnB_vb hk' z2
  · have hk' : k = 4 ∨ k = 5 := by rcases hk with rfl | rfl | rfl | rfl <;> first | exact Or.inl rfl | exact Or.inr rfl | exact absurd (by decide) h5
    have lk : k = 1 ∨ k = 2 ∨ k = 3 ∨ k = 4 ∨ k = 5 := by rcases hk' with q | q <;> simp [q]
    rw [if_neg h5] at h
    by_cases hb0 : (w = 4 ∨ w = 5) ∧ b = 0
    · rw [if_pos hb0] at h; cases h
    · rw [if_neg hb0] at h
      have e := Option.some.inj h
      rw [← e]
      have vC : ∀ v, lnC k v = v → vb k v := fun v q => by rw [← q]; exact lnC_vb lk v
      rcases hw with rfl | rfl | rfl | rfl | rfl
      · exact lnC_vb lk _
      · exact lnC_vb lk _
      · exact lnC_vb lk _
      · show vb k (if b = -1 then lnC k (-a) else a / b)
        by_cases c : b = -1
        · rw [if_pos c]; exact lnC_vb lk _
        · rw [if_neg c]; exact vC _ (lnC_div hk' ha (fun q => hb0 ⟨Or.inl rfl, q⟩) c)
      · show vb k (if b = -1 then 0 else j_lrem a b)
        by_cases c : b = -1
        · rw [if_pos c]; exact vb_0 (Ak_Lk hk)
        · rw [if_neg c]; exact vC _ (lnC_rem hk' ha)
/-- ways of folding -/
def Wy (w : Int32) : Prop := w = 0 ∨ w = 1 ∨ w = 2 ∨ w = 3 ∨ w = 4 ∨ w = 5 ∨ w = 6 ∨ w = 7 ∨ w = 8
/-- the lane of a fold -/
def foL (w k : Int32) : Int32 := if 2 < w then (if w = 5 then 4 else k) else (if k < 4 then 4 else k)
/-- whether a lane can be folded -/
def foT (w k : Int32) : Bool := if w = 1 then decide (0 < k ∧ k < 6) else if 4 < w then (if w = 8 then decide (5 < k) else decide (k = 0)) else decide (k ≠ 0)
theorem E_takes {w k : Int32} (hw : Wy w) (hk : Lk k) : F_X51_takes w k = some (mr (foT w k)) ∧ F_X51_result w k = some (foL w k) ∧ F_X51_isWay w = some 1 := by
  rcases hw with rfl | rfl | rfl | rfl | rfl | rfl | rfl | rfl | rfl <;> rcases hk with rfl | rfl | rfl | rfl | rfl | rfl | rfl | rfl <;> exact ⟨rfl, rfl, rfl⟩
theorem M_foldLane {w k : Int32} (hw : Wy w) (hk : Lk k) : F_X16_foldLane k w = some (if foT w k = true then foL w k else -1) := by
  rcases hw with rfl | rfl | rfl | rfl | rfl | rfl | rfl | rfl | rfl <;> rcases hk with rfl | rfl | rfl | rfl | rfl | rfl | rfl | rfl <;> rfl
theorem Wy_not {w : Int32} (h : ¬ Wy w) : w < 0 ∨ 8 < w := by
  by_cases c : w < 0
  · exact Or.inl c
  · by_cases d : 8 < w
    · exact Or.inr d
    · exfalso
      rw [Int32.lt_iff_toInt_lt] at c d
      have z0 : (0 : Int32).toInt = 0 := rfl
      have z8 : (8 : Int32).toInt = 8 := rfl
      have hh := i32_nat (v := w) (by omega)
      have : w.toInt.toNat = 0 ∨ w.toInt.toNat = 1 ∨ w.toInt.toNat = 2 ∨ w.toInt.toNat = 3 ∨ w.toInt.toNat = 4 ∨ w.toInt.toNat = 5 ∨ w.toInt.toNat = 6 ∨ w.toInt.toNat = 7 ∨ w.toInt.toNat = 8 := by omega
      apply h
      unfold Wy
      rcases this with q | q | q | q | q | q | q | q | q <;> rw [hh, q] <;> decide
theorem foA {w k : Int32} (hw : w = 0 ∨ w = 1 ∨ w = 2) (hk : Lk k) (ht : foT w k = true) : k ≠ 0 ∧ Ak (foL w k) ∧ fit k (foL w k) := by
  unfold Ak fit
  rcases hw with rfl | rfl | rfl <;> rcases hk with rfl | rfl | rfl | rfl | rfl | rfl | rfl | rfl <;> first | exact absurd ht (by decide) | decide
theorem foL_Lk {w k : Int32} (hw : Wy w) (hk : Lk k) : Lk (foL w k) := by
  unfold Lk
  rcases hw with rfl | rfl | rfl | rfl | rfl | rfl | rfl | rfl | rfl <;> rcases hk with rfl | rfl | rfl | rfl | rfl | rfl | rfl | rfl <;> decide
theorem foZ {w k : Int32} (hw : w = 5 ∨ w = 6 ∨ w = 7) (ht : foT w k = true) : k = 0 := by
  rcases hw with rfl | rfl | rfl <;> exact of_decide_eq_true ht
/-- one value more -/
noncomputable def foS (w k : Int32) (so v : Int64) : Option Int64 :=
  if w = 0 then ari 1 (foL w k) so (cvt k (foL w k) v) else if w = 1 then exv 0 (foL w k) so (cvt k (foL w k) v) else if w = 2 then ari 3 (foL w k) so (cvt k (foL w k) v)
  else if w = 3 then some (if lnT k v < lnT k so then v else so) else if w = 4 then some (if lnT k so < lnT k v then v else so)
  else if w = 5 then some (so + v) else if w = 6 then some (so &&& v) else some (so ||| v)
theorem cvt_L {w k : Int32} {v : Int64} (hw : w = 0 ∨ w = 1 ∨ w = 2) (hk : Lk k) (ht : foT w k = true) (hv : vb k v) : vb (foL w k) (cvt k (foL w k) v) := by
  obtain ⟨a1, a2, a3⟩ := foA hw hk ht
  refine cvt_vb hk (Ak_Lk a2) (Or.inr ⟨a1, ?_⟩) hv
  rcases a2 with q | q | q | q <;> rw [q] <;> decide
theorem cvt_1 {k : Int32} {v : Int64} (hk : Lk k) (ht : foT 1 k = true) (hv : vb k v) : cvt k (foL 1 k) v = v := by
  rcases hk with rfl | rfl | rfl | rfl | rfl | rfl | rfl | rfl
  · exact absurd ht (by decide)
  · exact cvt_id (t := 4) (by decide) (by decide) (by decide) (by decide) hv
  · exact cvt_id (t := 4) (by decide) (by decide) (by decide) (by decide) hv
  · exact cvt_id (t := 4) (by decide) (by decide) (by decide) (by decide) hv
  · rfl
  · rfl
  · exact absurd ht (by decide)
  · exact absurd ht (by decide)
theorem E_fadd {w k : Int32} {so v : Int64} {M : Mem} {st : Nat} (hw : Wy w) (hk : Lk k) (ht : foT w k = true) (h8 : w ≠ 8) (hs : w ≠ 5 → vb (foL w k) so) (hv : vb k v) : F_X51_add M w k (foL w k) so v st = eRes (foS w k so v) M st := by
  unfold F_X51_add foS
  rcases hw with rfl | rfl | rfl | rfl | rfl | rfl | rfl | rfl | rfl
  · obtain ⟨a1, a2, a3⟩ := foA (by decide) hk ht
    simp only [E_convert hv, Option.bind_some, if_true]
    rw [E_ari (by unfold Wk; decide) a2 (hs (by decide)) (cvt_L (by decide) hk ht hv)]
    exact tb_e
  · rw [if_neg (by decide), if_pos rfl, E_exact (Or.inl rfl), cvt_1 hk ht hv, if_neg (by decide), if_pos rfl]
    exact tb_e
  · obtain ⟨a1, a2, a3⟩ := foA (by decide) hk ht
    rw [if_neg (by decide), if_neg (by decide), if_pos rfl, if_neg (by decide), if_neg (by decide), if_pos rfl, E_convert hv]
    simp only [Option.bind_some]
    rw [E_ari (by unfold Wk; decide) a2 (hs (by decide)) (cvt_L (by decide) hk ht hv)]
    exact tb_e
  · have vs : vb k so := hs (by decide)
    rw [if_neg (by decide), if_neg (by decide), if_neg (by decide), if_pos rfl, if_neg (by decide), if_neg (by decide), if_neg (by decide), if_pos rfl, show foL 3 k = k from rfl, E_order hk hv vs]
    simp only [Option.bind_some, ordi_lt]
    by_cases c : lnT k v < lnT k so
    · rw [if_pos c, if_pos c]; rfl
    · rw [if_neg c, if_neg c]; rfl
  · have vs : vb k so := hs (by decide)
    rw [if_neg (by decide), if_neg (by decide), if_neg (by decide), if_neg (by decide), if_pos rfl, if_neg (by decide), if_neg (by decide), if_neg (by decide), if_neg (by decide), if_pos rfl, show foL 4 k = k from rfl, E_order hk hv vs]
    simp only [Option.bind_some, ordi_gt]
    by_cases c : lnT k so < lnT k v
    · rw [if_pos c, if_pos c]; rfl
    · rw [if_neg c, if_neg c]; rfl
  · rfl
  · rfl
  · rfl
  · exact absurd rfl h8
/-- the model's: of the first value alone it is told -/
theorem M_fadd {w k fi : Int32} {so v : Int64} {M : Mem} (h : K0 M) (hs : ST M) (hw : Wy w) (hk : Lk k) (ht : foT w k = true) (h8 : w ≠ 8) (hso : w ≠ 5 → fi = 0 ∨ (w ≠ 3 ∧ w ≠ 4) → vb (foL w k) so) (hv : vb k v) (hf : fi = 0 ∨ fi = 1) :
    F_X16_folded M 1068 w k (foL w k) so v fi = mRes (foS w k (if fi = 1 ∧ (w = 3 ∨ w = 4) then v else so) v) M 1068 := by
  unfold F_X16_folded foS
  rcases hw with rfl | rfl | rfl | rfl | rfl | rfl | rfl | rfl | rfl
  · obtain ⟨a1, a2, a3⟩ := foA (w := 0) (by decide) hk ht
    rw [if_neg (show ¬ (fi = 1 ∧ ((0 : Int32) = 3 ∨ (0 : Int32) = 4)) from fun q => absurd q.2 (by decide))]
    simp only [M_widened hk (Ak_Lk a2) a3 hv, v1068 hs, Option.bind_some, if_true]
    rw [show (32 : Nat) = sgn 1 from rfl, M_ari h hs (by unfold Wk; decide) a2 (hso (by decide) (Or.inr (by decide))) (cvt_L (by decide) hk ht hv)]
    exact tb_m
  · obtain ⟨a1, a2, a3⟩ := foA (w := 1) (by decide) hk ht
    rw [if_neg (show ¬ (fi = 1 ∧ ((1 : Int32) = 3 ∨ (1 : Int32) = 4)) from fun q => absurd q.2 (by decide)), if_neg (by decide), if_pos rfl, if_neg (by decide), if_pos rfl, M_widened hk (Ak_Lk a2) a3 hv]
    simp only [v1068 hs, Option.bind_some]
    rw [M_exact (Or.inl rfl)]
    exact tb_m
  · obtain ⟨a1, a2, a3⟩ := foA (w := 2) (by decide) hk ht
    rw [if_neg (show ¬ (fi = 1 ∧ ((2 : Int32) = 3 ∨ (2 : Int32) = 4)) from fun q => absurd q.2 (by decide)), if_neg (by decide), if_neg (by decide), if_pos rfl, if_neg (by decide), if_neg (by decide), if_pos rfl, M_widened hk (Ak_Lk a2) a3 hv]
    simp only [v1068 hs, Option.bind_some]
    rw [show (31 : Nat) = sgn 3 from rfl, M_ari h hs (by unfold Wk; decide) a2 (hso (by decide) (Or.inr (by decide))) (cvt_L (by decide) hk ht hv)]
    exact tb_m
  · rcases hf with rfl | rfl
    · have vs : vb k so := hso (by decide) (Or.inl rfl)
      show ((F_X16_ranked v k).bind fun z10 => (F_X16_ranked so k).bind fun z11 => if z10 < z11 then F_X16_folded_b117 M v else F_X16_folded_b124 M so) = mRes (some (if lnT k v < lnT k so then v else so)) M 1068
      obtain ⟨r1, e1, e2⟩ := M_ranked hv
      obtain ⟨r2, e3, e4⟩ := M_ranked vs
      simp only [e1, e3, Option.bind_some]
      have hc : r1 < r2 ↔ lnT k v < lnT k so := by rw [Int64.lt_iff_toInt_lt, e2, e4]
      by_cases c : lnT k v < lnT k so
      · rw [if_pos c, if_pos (hc.mpr c)]; rfl
      · rw [if_neg c, if_neg (fun q => c (hc.mp q))]; rfl
    · show F_X16_folded_b117 M v = mRes (some (if lnT k v < lnT k v then v else v)) M 1068
      rw [if_neg (by omega)]
      rfl
  · rcases hf with rfl | rfl
    · have vs : vb k so := hso (by decide) (Or.inl rfl)
      show ((F_X16_ranked v k).bind fun z10 => (F_X16_ranked so k).bind fun z11 => if z11 < z10 then F_X16_folded_b146 M v else F_X16_folded_b153 M so) = mRes (some (if lnT k so < lnT k v then v else so)) M 1068
      obtain ⟨r1, e1, e2⟩ := M_ranked hv
      obtain ⟨r2, e3, e4⟩ := M_ranked vs
      simp only [e1, e3, Option.bind_some]
      have hc : r2 < r1 ↔ lnT k so < lnT k v := by rw [Int64.lt_iff_toInt_lt, e2, e4]
      by_cases c : lnT k so < lnT k v
      · rw [if_pos c, if_pos (hc.mpr c)]; rfl
      · rw [if_neg c, if_neg (fun q => c (hc.mp q))]; rfl
    · show F_X16_folded_b146 M v = mRes (some (if lnT k v < lnT k v then v else v)) M 1068
      rw [if_neg (by omega)]
      rfl
  · rw [if_neg (show ¬ (fi = 1 ∧ ((5 : Int32) = 3 ∨ (5 : Int32) = 4)) from fun q => absurd q.2 (by decide))]
    rfl
  · rw [if_neg (show ¬ (fi = 1 ∧ ((6 : Int32) = 3 ∨ (6 : Int32) = 4)) from fun q => absurd q.2 (by decide))]
    rfl
  · rw [if_neg (show ¬ (fi = 1 ∧ ((7 : Int32) = 3 ∨ (7 : Int32) = 4)) from fun q => absurd q.2 (by decide))]
    rfl
  · exact absurd rfl h8
/-- a fold that has seen so many values -/
def foV (w k : Int32) (i : Nat) (so : Int64) : Prop := (w ≠ 5 → vb (foL w k) so) ∧ (w = 5 → ∃ c, c ≤ i ∧ so = nl c)
theorem foS_vb {w k : Int32} {i : Nat} {so v r : Int64} (hw : Wy w) (hk : Lk k) (ht : foT w k = true) (h8 : w ≠ 8) (hs : foV w k i so) (hv : vb k v) (h : foS w k so v = some r) : foV w k (i + 1) r := by
  unfold foS at h
  rcases hw with rfl | rfl | rfl | rfl | rfl | rfl | rfl | rfl | rfl
  · obtain ⟨a1, a2, a3⟩ := foA (w := 0) (by decide) hk ht
    exact ⟨fun q => ari_vb (by unfold Wk; decide) a2 (hs.1 q) (cvt_L (by decide) hk ht hv) h, fun q => absurd q (by decide)⟩
  · obtain ⟨a1, a2, a3⟩ := foA (w := 1) (by decide) hk ht
    refine ⟨fun q => ?_, fun q => absurd q (by decide)⟩
    rw [if_neg (by decide), if_pos rfl, exv_0] at h
    have hL : foL 1 k = 4 ∨ foL 1 k = 5 := by rcases hk with rfl | rfl | rfl | rfl | rfl | rfl | rfl | rfl <;> first | exact absurd ht (by decide) | decide
    rcases hL with e | e
    · rw [e] at h ⊢
      rw [if_pos rfl] at h
      split at h
      · next c =>
        have e' := Option.some.inj h
        rw [← e', c]
        exact vb4 _
      · cases h
    · rw [e]
      exact rfl
  · obtain ⟨a1, a2, a3⟩ := foA (w := 2) (by decide) hk ht
    exact ⟨fun q => ari_vb (by unfold Wk; decide) a2 (hs.1 q) (cvt_L (by decide) hk ht hv) h, fun q => absurd q (by decide)⟩
  · refine ⟨fun q => ?_, fun q => absurd q (by decide)⟩
    have e := Option.some.inj (show some (if lnT k v < lnT k so then v else so) = some r from h)
    rw [← e]
    by_cases c : lnT k v < lnT k so
    · rw [if_pos c]; exact hv
    · rw [if_neg c]; exact hs.1 q
  · refine ⟨fun q => ?_, fun q => absurd q (by decide)⟩
    have e := Option.some.inj (show some (if lnT k so < lnT k v then v else so) = some r from h)
    rw [← e]
    by_cases c : lnT k so < lnT k v
    · rw [if_pos c]; exact hv
    · rw [if_neg c]; exact hs.1 q
  · refine ⟨fun q => absurd rfl q, fun _ => ?_⟩
    have e := Option.some.inj (show some (so + v) = some r from h)
    obtain ⟨c, c1, c2⟩ := hs.2 rfl
    have hk0 := foZ (by decide) ht
    subst hk0
    rcases (show v = 0 ∨ v = 1 from hv) with rfl | rfl
    · exact ⟨c, by omega, by rw [← e, c2]; exact nl_add c 0⟩
    · exact ⟨c + 1, by omega, by rw [← e, c2]; exact nl_add c 1⟩
  · refine ⟨fun q => ?_, fun q => absurd q (by decide)⟩
    have e := Option.some.inj (show some (so &&& v) = some r from h)
    have hk0 := foZ (by decide) ht
    subst hk0
    rcases (show v = 0 ∨ v = 1 from hv) with rfl | rfl <;> rcases (show so = 0 ∨ so = 1 from hs.1 q) with rfl | rfl <;> rw [← e] <;> first | exact Or.inl rfl | exact Or.inr rfl
  · refine ⟨fun q => ?_, fun q => absurd q (by decide)⟩
    have e := Option.some.inj (show some (so ||| v) = some r from h)
    have hk0 := foZ (by decide) ht
    subst hk0
    rcases (show v = 0 ∨ v = 1 from hv) with rfl | rfl <;> rcases (show so = 0 ∨ so = 1 from hs.1 q) with rfl | rfl <;> rw [← e] <;> first | exact Or.inl rfl | exact Or.inr rfl
  · exact absurd rfl h8
theorem foV_vb {w k : Int32} {i : Nat} {so : Int64} (h : foV w k i so) (hi : i < 2147483648) : vb (foL w k) so := by
  by_cases c : w = 5
  · obtain ⟨n, n1, n2⟩ := h.2 c
    rw [c, n2, ← i64_iw (by omega)]
    exact vb4 _
  · exact h.1 c
/-- what a fold begins with -/
noncomputable def foB (w k : Int32) (v : Int64) : Int64 := if w = 2 then cvt 4 (foL w k) 1 else if w = 3 then v else if w = 4 then v else if w = 6 then 1 else 0
noncomputable def foM (w k : Int32) : Int64 := if w = 2 then cvt 4 (foL w k) 1 else if w = 6 then 1 else 0
theorem vb41 : vb 4 1 := vb4 1
theorem E_begin {w k : Int32} {v : Int64} (hw : Wy w) (h8 : w ≠ 8) : F_X51_begin w (foL w k) v = some (foB w k v) := by
  unfold F_X51_begin foB
  rcases hw with rfl | rfl | rfl | rfl | rfl | rfl | rfl | rfl | rfl
  · rfl
  · rfl
  · rw [if_pos rfl, if_pos rfl, E_convert vb41]
    rfl
  · rfl
  · rfl
  · rfl
  · rfl
  · rfl
  · exact absurd rfl h8
theorem cvt_16 : cvt 4 6 1 = 1065353216 := by decide +kernel
theorem cvt_17 : cvt 4 7 1 = 4607182418800017408 := by decide +kernel
theorem M_begin {w k : Int32} (hw : Wy w) (hk : Lk k) (ht : foT w k = true) (h8 : w ≠ 8) : F_X16_foldBegin (foL w k) w = some (foM w k) := by
  unfold F_X16_foldBegin foM
  rcases hw with rfl | rfl | rfl | rfl | rfl | rfl | rfl | rfl | rfl
  · rfl
  · rfl
  · rw [if_pos rfl, if_pos rfl]
    obtain ⟨a1, a2, a3⟩ := foA (w := 2) (by decide) hk ht
    rcases a2 with q | q | q | q <;> rw [q]
    · rfl
    · rfl
    · rw [if_pos rfl, cvt_16]; rfl
    · rw [if_neg (by decide), if_pos rfl, cvt_17]; rfl
  · rfl
  · rfl
  · rfl
  · rfl
  · rfl
  · exact absurd rfl h8
theorem foB_M {w k : Int32} {v : Int64} (h : w ≠ 3 ∧ w ≠ 4) : foB w k v = foM w k := by
  unfold foB foM
  rw [if_neg h.1, if_neg h.2]
theorem foB_V {w k : Int32} {v : Int64} (hw : Wy w) (hk : Lk k) (ht : foT w k = true) (h8 : w ≠ 8) (hv : vb k v) : foV w k 0 (foB w k v) := by
  rcases hw with rfl | rfl | rfl | rfl | rfl | rfl | rfl | rfl | rfl
  · exact ⟨fun _ => vb_0 (foL_Lk (by unfold Wy; decide) hk), fun q => absurd q (by decide)⟩
  · exact ⟨fun _ => vb_0 (foL_Lk (by unfold Wy; decide) hk), fun q => absurd q (by decide)⟩
  · obtain ⟨a1, a2, a3⟩ := foA (w := 2) (by decide) hk ht
    exact ⟨fun _ => cvt_vb (by unfold Lk; decide) (Ak_Lk a2) (Or.inr ⟨by decide, by rcases a2 with q | q | q | q <;> rw [q] <;> decide⟩) vb41, fun q => absurd q (by decide)⟩
  · exact ⟨fun _ => hv, fun q => absurd q (by decide)⟩
  · exact ⟨fun _ => hv, fun q => absurd q (by decide)⟩
  · exact ⟨fun q => absurd rfl q, fun _ => ⟨0, Nat.le_refl _, rfl⟩⟩
  · have hk0 := foZ (by decide) ht
    subst hk0
    exact ⟨fun _ => Or.inr rfl, fun q => absurd q (by decide)⟩
  · have hk0 := foZ (by decide) ht
    subst hk0
    exact ⟨fun _ => Or.inl rfl, fun q => absurd q (by decide)⟩
  · exact absurd rfl h8
