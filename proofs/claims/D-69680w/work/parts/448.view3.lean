/-! ===== VIEWS, 3: the engine reads the items ===== -/
theorem iap_row {M : Mem} {own : Nat} {p hf fr ht to hs st : Int} : iap M own (itv p 2 hf fr ht to hs st) = F_X3_item_b163 M 1006 own (iw p) (iw hf) (iw fr) (iw ht) (iw to) (iw (if hs = 1 then st else 1)) := by
  unfold iap itv
  simp
theorem iap_one {M : Mem} {own : Nat} {p hf fr ht to hs st : Int} : iap M own (itv p 1 hf fr ht to hs st) = tb (F_X3_single M 1006 own (iw fr) (iw p)) fun z => some (.inl z) := by
  unfold iap itv
  simp
theorem iap_new {M : Mem} {own : Nat} {p hf fr ht to hs st : Int} : iap M own (itv p 3 hf fr ht to hs st) = (F_X3_axis M 1006 1 0).bind fun z => some (.inl z) := by
  unfold iap itv
  simp
theorem vnm_le {f : Nat → Int32} {n a : Nat} {x : Int × Nat} (ha : a ≤ n) (h : vnm f n a = .inr x) : a ≤ x.2 ∧ x.2 ≤ n := (vnm_b (x := x.1) (b := x.2) ha h).2.2
theorem E_vi3 {M : Mem} {f : Nat → Int32} {n a e own : Nat} {hf x ht y : Int} (t : TX M f n e) :
    (∀ p, vi3 f n a hf x ht y e = .inl p → ∃ M', F_X3_item_b118 M (iw y) 1006 own (iw (a : Int)) (iw hf) (iw x) (iw ht) = some (.inr (1003, M')) ∧ VF M M' p) ∧
    (∀ it b, vi3 f n a hf x ht y e = .inr (it, b) → e ≤ b ∧ b ≤ n ∧ ∃ M', SC M M' b ∧ F_X3_item_b118 M (iw y) 1006 own (iw (a : Int)) (iw hf) (iw x) (iw ht) = iap M' own it) := by
  have hen := t.2.2.2.2.2.1
  obtain ⟨z8, k1, s1⟩ := E_skip t
  have le1 := skpa_le (f := f) hen
  have ge1 := skpa_ge (f := f) (n := n) (a := e)
  have t1 := s1.tx t le1
  unfold vi3
  by_cases c : isC f n (skpa f n e) 58 = true
  · have hl := (isC_t.mp c).1
    have sw := SC.w t1.1 (skpa f n e + 1)
    have tw := sw.tx t1 (by omega)
    obtain ⟨z14, k2, s2⟩ := E_skip tw
    have le2 := skpa_le (f := f) (a := skpa f n e + 1) (n := n) (by omega)
    have ge2 := skpa_ge (f := f) (n := n) (a := skpa f n e + 1)
    have t2 := s2.tx tw le2
    have s02 := (s1.trans sw).trans s2
    have hd : F_X3_item_b118 M (iw y) 1006 own (iw (a : Int)) (iw hf) (iw x) (iw ht) = if mr (isN f n (skpa f n (skpa f n e + 1))) = 0 then F_X3_item_b163 z14 1006 own (iw (a : Int)) (iw hf) (iw x) (iw ht) (iw y) 1 else tb (F_X3_number z14 1006) fun z18 => F_X3_item_b163 z18.2 1006 own (iw (a : Int)) (iw hf) (iw x) (iw ht) (iw y) z18.1 := by
      unfold F_X3_item_b118
      simp only [v1006, t.1, k1, t1.1, E_look t1, Option.bind_some]
      rw [if_pos (lk58.mpr c)]
      simp only [g1006_259, t1.1, t1.2.2.2.2.1, t1.go, Option.bind_some]
      simp only [v1006, tw.1, k2, t2.1, E_isNumber t2, Option.bind_some]
    rw [if_pos c, hd]
    by_cases cn : isN f n (skpa f n (skpa f n e + 1)) = true
    · obtain ⟨n1, n2⟩ := E_num3 t2
      rw [if_pos cn, cn, if_neg (by decide)]
      cases hv : vnm f n (skpa f n (skpa f n e + 1)) with
      | inl p =>
        refine ⟨fun q hq => ?_, fun it b h => by cases h⟩
        cases hq
        obtain ⟨M', f1, f2⟩ := n1 p hv
        exact ⟨M', by rw [f1, tb_r], s02.vf t.1 f2⟩
      | inr wb =>
        refine ⟨fun q hq => (by cases hq), fun it b h => ?_⟩
        have h' : (Sum.inr (itv (a : Int) 2 hf x ht y 1 wb.1, wb.2) : Nat ⊕ ((Nat → Int) × Nat)) = Sum.inr (it, b) := h
        have h2 := Sum.inr.inj h'
        have hb : wb.2 = b := congrArg Prod.snd h2
        have hi : itv (a : Int) 2 hf x ht y 1 wb.1 = it := congrArg Prod.fst h2
        obtain ⟨M', f1, f2⟩ := n2 wb.1 wb.2 hv
        have := vnm_le le2 hv
        rw [← hb, ← hi]
        refine ⟨by omega, by omega, M', s02.trans f2, ?_⟩
        rw [f1, tb_l, iap_row, if_pos rfl]
    · rw [if_neg cn, eq_false_of_ne_true cn, if_pos (by decide)]
      refine ⟨fun q hq => (by cases hq), fun it b h => ?_⟩
      have h2 := Sum.inr.inj h
      have hb : skpa f n (skpa f n e + 1) = b := congrArg Prod.snd h2
      have hi : itv (a : Int) 2 hf x ht y 0 0 = it := congrArg Prod.fst h2
      rw [← hb, ← hi]
      refine ⟨by omega, le2, z14, s02, ?_⟩
      rw [iap_row, if_neg (by decide)]
      rfl
  · rw [if_neg c]
    refine ⟨fun q hq => (by cases hq), fun it b h => ?_⟩
    have h2 := Sum.inr.inj h
    have hb : skpa f n e = b := congrArg Prod.snd h2
    have hi : itv (a : Int) 2 hf x ht y 0 0 = it := congrArg Prod.fst h2
    rw [← hb, ← hi]
    refine ⟨ge1, le1, z8, s1, ?_⟩
    unfold F_X3_item_b118
    simp only [v1006, t.1, k1, t1.1, E_look t1, Option.bind_some]
    rw [if_neg (fun hh => c (lk58.mp hh)), iap_row, if_neg (by decide)]
    rfl
theorem E_vi2 {M : Mem} {f : Nat → Int32} {n a b0 own : Nat} {hf x : Int} (t : TX M f n b0) (h01 : hf = 0 ∨ hf = 1) :
    (∀ p, vi2 f n a hf x b0 = .inl p → ∃ M', F_X3_item_b48 M (iw x) 1006 own (iw (a : Int)) (iw hf) = some (.inr (1003, M')) ∧ VF M M' p) ∧
    (∀ it b, vi2 f n a hf x b0 = .inr (it, b) → b0 ≤ b ∧ b ≤ n ∧ ∃ M', SC M M' b ∧ F_X3_item_b48 M (iw x) 1006 own (iw (a : Int)) (iw hf) = iap M' own it) := by
  have hen := t.2.2.2.2.2.1
  obtain ⟨z8, k1, s1⟩ := E_skip t
  have le1 := skpa_le (f := f) hen
  have ge1 := skpa_ge (f := f) (n := n) (a := b0)
  have t1 := s1.tx t le1
  unfold vi2
  by_cases c : isC f n (skpa f n b0) 58 = true
  · have hl := (isC_t.mp c).1
    have sw := SC.w t1.1 (skpa f n b0 + 1)
    have tw := sw.tx t1 (by omega)
    obtain ⟨z14, k2, s2⟩ := E_skip tw
    have le2 := skpa_le (f := f) (a := skpa f n b0 + 1) (n := n) (by omega)
    have ge2 := skpa_ge (f := f) (n := n) (a := skpa f n b0 + 1)
    have t2 := s2.tx tw le2
    have s02 := (s1.trans sw).trans s2
    have hd : F_X3_item_b48 M (iw x) 1006 own (iw (a : Int)) (iw hf) = if mr (isN f n (skpa f n (skpa f n b0 + 1))) = 0 then F_X3_item_b118 z14 0 1006 own (iw (a : Int)) (iw hf) (iw x) (mr (isN f n (skpa f n (skpa f n b0 + 1)))) else tb (F_X3_number z14 1006) fun z30 => F_X3_item_b118 z30.2 z30.1 1006 own (iw (a : Int)) (iw hf) (iw x) (mr (isN f n (skpa f n (skpa f n b0 + 1)))) := by
      unfold F_X3_item_b48
      simp only [v1006, t.1, k1, t1.1, E_look t1, Option.bind_some]
      rw [if_pos (lk58.mpr c)]
      simp only [g1006_259, t1.1, t1.2.2.2.2.1, t1.go, Option.bind_some]
      simp only [v1006, tw.1, k2, t2.1, E_isNumber t2, Option.bind_some]
    rw [if_pos c, hd]
    by_cases cn : isN f n (skpa f n (skpa f n b0 + 1)) = true
    · obtain ⟨n1, n2⟩ := E_num3 t2
      rw [if_pos cn, cn, if_neg (by decide)]
      cases hv : vnm f n (skpa f n (skpa f n b0 + 1)) with
      | inl p =>
        refine ⟨fun q hq => ?_, fun it b h => by cases h⟩
        cases hq
        obtain ⟨M', f1, f2⟩ := n1 p hv
        exact ⟨M', by rw [f1, tb_r], s02.vf t.1 f2⟩
      | inr wb =>
        obtain ⟨M', f1, f2⟩ := n2 wb.1 wb.2 hv
        have hw := vnm_le le2 hv
        have t3 := f2.tx t2 hw.2
        obtain ⟨j1, j2⟩ := E_vi3 (a := a) (own := own) (hf := hf) (x := x) (ht := 1) (y := wb.1) t3
        have s03 := s02.trans f2
        rw [f1, tb_l]
        refine ⟨fun q hq => ?_, fun it b h => ?_⟩
        · obtain ⟨M'', g1, g2⟩ := j1 q hq
          exact ⟨M'', g1, s03.vf t.1 g2⟩
        · obtain ⟨o1, o2, M'', g1, g2⟩ := j2 it b h
          exact ⟨by omega, o2, M'', s03.trans g1, g2⟩
    · rw [if_neg cn, eq_false_of_ne_true cn, if_pos (by decide)]
      obtain ⟨j1, j2⟩ := E_vi3 (a := a) (own := own) (hf := hf) (x := x) (ht := 0) (y := 0) t2
      refine ⟨fun q hq => ?_, fun it b h => ?_⟩
      · obtain ⟨M'', g1, g2⟩ := j1 q hq
        exact ⟨M'', g1, s02.vf t.1 g2⟩
      · obtain ⟨o1, o2, M'', g1, g2⟩ := j2 it b h
        exact ⟨by omega, o2, M'', s02.trans g1, g2⟩
  · rw [if_neg c]
    have hd : F_X3_item_b48 M (iw x) 1006 own (iw (a : Int)) (iw hf) = if iw hf = 0 then (F_X3_wrong z8 1006 (iw (skpa f n b0 : Nat))).bind (fun z => (ie z.2 z.1).bind fun _ => (some (.inr (z.1, z.2)) : Option (Mem ⊕ (Nat × Mem)))) else tb (F_X3_single z8 1006 own (iw x) (iw (a : Int))) fun z35 => some (.inl z35) := by
      unfold F_X3_item_b48
      simp only [v1006, t.1, k1, t1.1, E_look t1, Option.bind_some]
      rw [if_neg (fun hh => c (lk58.mp hh))]
      simp only [g1006_259, v1006, t1.1, t1.2.2.2.2.1, Option.bind_some]
    rw [hd]
    rcases h01 with rfl | rfl
    · rw [if_pos rfl, if_pos (by decide), E_vwrong t1.1]
      refine ⟨fun q hq => ?_, fun it b h => by cases h⟩
      cases hq
      exact ⟨_, rfl, s1.vf t.1 (VF.of t1.1 _)⟩
    · rw [if_neg (by decide), if_neg (by decide)]
      refine ⟨fun q hq => (by cases hq), fun it b h => ?_⟩
      have h2 := Sum.inr.inj h
      have hb : skpa f n b0 = b := congrArg Prod.snd h2
      have hi : itv (a : Int) 1 1 x 0 0 0 0 = it := congrArg Prod.fst h2
      rw [← hb, ← hi]
      exact ⟨ge1, le1, z8, s1, by rw [iap_one]⟩
theorem E_item {M : Mem} {f : Nat → Int32} {n a own : Nat} (t : TX M f n a) :
    (∀ p, vit f n a = .inl p → ∃ M', F_X3_item M 1006 own = some (.inr (1003, M')) ∧ VF M M' p) ∧
    (∀ it b, vit f n a = .inr (it, b) → a ≤ b ∧ b ≤ n ∧ ∃ M', SC M M' b ∧ F_X3_item M 1006 own = iap M' own it) := by
  have hen := t.2.2.2.2.2.1
  unfold vit
  by_cases c : isC f n a 42 = true
  · have hl := (isC_t.mp c).1
    have sw := SC.w t.1 (a + 1)
    rw [if_pos c]
    refine ⟨fun q hq => (by cases hq), fun it b h => ?_⟩
    have h2 := Sum.inr.inj h
    have hb : a + 1 = b := congrArg Prod.snd h2
    have hi : itv (a : Int) 3 0 0 0 0 0 0 = it := congrArg Prod.fst h2
    rw [← hb, ← hi]
    refine ⟨by omega, by omega, _, sw, ?_⟩
    unfold F_X3_item
    simp only [v1006, g1006_259, t.1, t.2.2.2.2.1, E_look t, Option.bind_some]
    rw [if_pos (lk42.mpr c), t.go, iap_new]
    simp only [v1006, sw.1, Option.bind_some]
  · have hd : F_X3_item M 1006 own = if mr (isN f n a) = 0 then F_X3_item_b48 M 0 1006 own (iw (a : Int)) (mr (isN f n a)) else tb (F_X3_number M 1006) fun z46 => F_X3_item_b48 z46.2 z46.1 1006 own (iw (a : Int)) (mr (isN f n a)) := by
      unfold F_X3_item
      simp only [v1006, g1006_259, t.1, t.2.2.2.2.1, E_look t, E_isNumber t, Option.bind_some]
      rw [if_neg (fun hh => c (lk42.mp hh))]
    rw [if_neg c, hd]
    by_cases cn : isN f n a = true
    · obtain ⟨n1, n2⟩ := E_num3 t
      rw [if_pos cn, cn, if_neg (by decide)]
      cases hv : vnm f n a with
      | inl p =>
        refine ⟨fun q hq => ?_, fun it b h => by cases h⟩
        cases hq
        obtain ⟨M', f1, f2⟩ := n1 p hv
        exact ⟨M', by rw [f1, tb_r], f2⟩
      | inr wb =>
        obtain ⟨M', f1, f2⟩ := n2 wb.1 wb.2 hv
        have hw := vnm_le hen hv
        have t3 := f2.tx t hw.2
        obtain ⟨j1, j2⟩ := E_vi2 (a := a) (own := own) (hf := 1) (x := wb.1) t3 (Or.inr rfl)
        rw [f1, tb_l]
        refine ⟨fun q hq => ?_, fun it b h => ?_⟩
        · obtain ⟨M'', g1, g2⟩ := j1 q hq
          exact ⟨M'', g1, f2.vf t.1 g2⟩
        · obtain ⟨o1, o2, M'', g1, g2⟩ := j2 it b h
          exact ⟨by omega, o2, M'', f2.trans g1, g2⟩
    · rw [if_neg cn, eq_false_of_ne_true cn, if_pos (by decide)]
      obtain ⟨j1, j2⟩ := E_vi2 (a := a) (own := own) (hf := 0) (x := 0) t (Or.inl rfl)
      exact ⟨j1, j2⟩
