/-! ===== VIEWS, 2: the engine reads a number, an item ===== -/
theorem E_vdg {f : Nat → Int32} {n : Nat} {s : Int32} : ∀ (r N : Nat) (v : Int) (a : Nat) (M : Mem), r ≤ 9 → TX M f n a →
    (∀ p, vdg f n r v a = .inl p → ∃ M', F_X3_number_b52 (N + 1 + r) M 1006 s (iw v) (iw ((9 - r : Nat) : Int)) = some (.inr (1003, M')) ∧ VF M M' p) ∧
    (∀ x b, vdg f n r v a = .inr (x, b) → ∃ M', F_X3_number_b52 (N + 1 + r) M 1006 s (iw v) (iw ((9 - r : Nat) : Int)) = some (.inl (if s = 0 then iw x else -(iw x), M')) ∧ SC M M' b) := by
  intro r
  induction r with
  | zero =>
    intro N v a M hr t
    have e : vdg f n 0 v a = if isD f n a = true then .inl a else .inr (v, a) := rfl
    rw [e]
    have st : ∀ y, F_X3_number_b52 (N + 1 + 0) M 1006 s (iw v) (iw ((9 - 0 : Nat) : Int)) = y ↔ F_X3_number_b52_st (F_X3_number_b52 N) M 1006 s (iw v) (iw ((9 - 0 : Nat) : Int)) = y := fun y => Iff.rfl
    by_cases c : isD f n a = true
    · rw [if_pos c]
      refine ⟨fun p hp => ?_, fun x b h => by cases h⟩
      cases hp
      refine ⟨_, ?_, VF.of t.1 a⟩
      rw [st]
      unfold F_X3_number_b52_st
      simp only [v1006, t.1, E_look t, E_isDigit, c, show ¬ mr true = 0 by decide, Option.bind_some, if_false]
      rw [if_pos (by decide)]
      simp only [g1006_259, v1006, t.1, t.2.2.2.2.1, Option.bind_some]
      exact E_vwrong t.1 a
    · rw [if_neg c]
      refine ⟨fun p hp => (by cases hp), fun x b h => ?_⟩
      cases h
      refine ⟨M, ?_, SC.refl t⟩
      rw [st]
      unfold F_X3_number_b52_st F_X3_number_b116
      simp only [v1006, t.1, E_look t, E_isDigit, eq_false_of_ne_true c, show mr false = 0 by decide, Option.bind_some, if_true]
      by_cases cs : s = 0
      · rw [if_pos cs, if_pos cs]
      · rw [if_neg cs, if_neg cs]
  | succ r ih =>
    intro N v a M hr t
    have e : vdg f n (r + 1) v a = if isD f n a = true then vdg f n r (10 * v + ((bn (f a) : Int) - 48)) (a + 1) else .inr (v, a) := rfl
    rw [e]
    have st : ∀ y, F_X3_number_b52 (N + 1 + (r + 1)) M 1006 s (iw v) (iw ((9 - (r + 1) : Nat) : Int)) = y ↔ F_X3_number_b52_st (F_X3_number_b52 (N + 1 + r)) M 1006 s (iw v) (iw ((9 - (r + 1) : Nat) : Int)) = y := fun y => Iff.rfl
    by_cases c : isD f n a = true
    · obtain ⟨d1, d2, d3⟩ := isD_t.mp c
      have hl : lk f n a = iw (bn (f a) : Nat) := by unfold lk; rw [if_pos d1]
      have sw := SC.w t.1 (a + 1)
      have tt := sw.tx t (by omega)
      have hd : F_X3_number_b52 (N + 1 + (r + 1)) M 1006 s (iw v) (iw ((9 - (r + 1) : Nat) : Int)) = F_X3_number_b52 (N + 1 + r) (wI M 1006 259 (iw ((a + 1 : Nat) : Int))) 1006 s (iw (10 * v + ((bn (f a) : Int) - 48))) (iw ((9 - r : Nat) : Int)) := by
        rw [st]
        unfold F_X3_number_b52_st
        simp only [v1006, t.1, E_look t, E_isDigit, c, show ¬ mr true = 0 by decide, Option.bind_some, if_false]
        rw [if_neg (by rw [show (9 : Int32) = iw ((9 : Nat) : Int) from rfl, iw_eq (by omega) (by omega) (by omega) (by omega)]; omega)]
        simp only [g1006_259, v1006, t.1, t.2.2.2.2.1, E_look t, p1006_259, Option.bind_some, iw_succ]
        rw [hl, show (10 : Int32) = iw 10 from rfl, iw_mul, iw_add, show (48 : Int32) = iw 48 from rfl, iw_sub, show 9 - (r + 1) + 1 = 9 - r by omega, show 10 * v + ((bn (f a) : Nat) : Int) - 48 = 10 * v + ((bn (f a) : Int) - 48) by omega]
      rw [if_pos c, hd]
      obtain ⟨i1, i2⟩ := ih N (10 * v + ((bn (f a) : Int) - 48)) (a + 1) _ (by omega) tt
      refine ⟨fun p hp => ?_, fun x b h => ?_⟩
      · obtain ⟨M', f1, f2⟩ := i1 p hp
        exact ⟨M', f1, sw.vf t.1 f2⟩
      · obtain ⟨M', f1, f2⟩ := i2 x b h
        exact ⟨M', f1, sw.trans f2⟩
    · rw [if_neg c]
      refine ⟨fun p hp => (by cases hp), fun x b h => ?_⟩
      cases h
      refine ⟨M, ?_, SC.refl t⟩
      rw [st]
      unfold F_X3_number_b52_st F_X3_number_b116
      simp only [v1006, t.1, E_look t, E_isDigit, eq_false_of_ne_true c, show mr false = 0 by decide, Option.bind_some, if_true]
      by_cases cs : s = 0
      · rw [if_pos cs, if_pos cs]
      · rw [if_neg cs, if_neg cs]
theorem E_num29 {M : Mem} {f : Nat → Int32} {n a : Nat} {s : Int32} (t : TX M f n a) :
    (¬ isD f n a = true → ∃ M', F_X3_number_b29 M 1006 s = some (.inr (1003, M')) ∧ VF M M' a) ∧ (isD f n a = true →
    (∀ p, vdg f n 9 0 a = .inl p → ∃ M', F_X3_number_b29 M 1006 s = some (.inr (1003, M')) ∧ VF M M' p) ∧
    (∀ x b, vdg f n 9 0 a = .inr (x, b) → ∃ M', F_X3_number_b29 M 1006 s = some (.inl (if s = 0 then iw x else -(iw x), M')) ∧ SC M M' b)) := by
  have hxN : xN = 1099511627776 := rfl
  refine ⟨fun c => ⟨_, ?_, VF.of t.1 a⟩, fun c => ?_⟩
  · unfold F_X3_number_b29
    simp only [v1006, t.1, E_look t, E_isDigit, eq_false_of_ne_true c, show mr false = 0 by decide, Option.bind_some, if_true, g1006_259, t.2.2.2.2.1]
    exact E_vwrong t.1 a
  · have hd : F_X3_number_b29 M 1006 s = F_X3_number_b52 xN M 1006 s (iw 0) (iw ((9 - 9 : Nat) : Int)) := by
      unfold F_X3_number_b29
      simp only [v1006, t.1, E_look t, E_isDigit, c, show ¬ mr true = 0 by decide, Option.bind_some, if_false]
      rfl
    obtain ⟨N, hN⟩ : ∃ N, N + 1 + 9 = xN := ⟨xN - 1 - 9, by omega⟩
    rw [hd, ← hN]
    exact E_vdg 9 N 0 a M (by decide) t
theorem E_num3 {M : Mem} {f : Nat → Int32} {n a : Nat} (t : TX M f n a) :
    (∀ p, vnm f n a = .inl p → ∃ M', F_X3_number M 1006 = some (.inr (1003, M')) ∧ VF M M' p) ∧
    (∀ x b, vnm f n a = .inr (x, b) → ∃ M', F_X3_number M 1006 = some (.inl (iw x, M')) ∧ SC M M' b) := by
  by_cases c : isC f n a 45 = true
  · have hl := (isC_t.mp c).1
    have sw := SC.w t.1 (a + 1)
    have tt := sw.tx t (by omega)
    have hd : F_X3_number M 1006 = F_X3_number_b29 (wI M 1006 259 (iw ((a + 1 : Nat) : Int))) 1006 1 := by
      unfold F_X3_number F_X3_number_b14
      simp only [v1006, t.1, E_look t, Option.bind_some]
      rw [if_pos (lk45.mpr c), if_neg (by decide)]
      simp only [g1006_259, t.1, t.2.2.2.2.1, t.go, Option.bind_some]
    obtain ⟨j1, j2⟩ := E_num29 (s := 1) tt
    unfold vnm
    rw [if_pos c, hd]
    by_cases d : isD f n (a + 1) = true
    · obtain ⟨k1, k2⟩ := j2 d
      rw [if_pos d]
      cases hv : vdg f n 9 0 (a + 1) with
      | inl p =>
        refine ⟨fun q hq => ?_, fun x b h => by cases h⟩
        cases hq
        obtain ⟨M', f1, f2⟩ := k1 p hv
        exact ⟨M', f1, sw.vf t.1 f2⟩
      | inr vb =>
        obtain ⟨v, b'⟩ := vb
        refine ⟨fun q hq => (by cases hq), fun x b h => ?_⟩
        have h' : Sum.inr ((if isC f n a 45 = true then -v else v), b') = (Sum.inr (x, b) : Nat ⊕ (Int × Nat)) := h
        rw [if_pos c] at h'
        cases h'
        obtain ⟨M', f1, f2⟩ := k2 v b' hv
        rw [if_neg (by decide), iw_neg'] at f1
        exact ⟨M', f1, sw.trans f2⟩
    · rw [if_neg d]
      refine ⟨fun q hq => ?_, fun x b h => by cases h⟩
      cases hq
      obtain ⟨M', f1, f2⟩ := j1 d
      exact ⟨M', f1, sw.vf t.1 f2⟩
  · have hd : F_X3_number M 1006 = F_X3_number_b29 M 1006 0 := by
      unfold F_X3_number F_X3_number_b14
      simp only [v1006, t.1, E_look t, Option.bind_some]
      rw [if_neg (fun hh => c (lk45.mp hh)), if_pos trivial]
    obtain ⟨j1, j2⟩ := E_num29 (s := 0) t
    unfold vnm
    rw [if_neg c, hd]
    by_cases d : isD f n a = true
    · obtain ⟨k1, k2⟩ := j2 d
      rw [if_pos d]
      cases hv : vdg f n 9 0 a with
      | inl p =>
        refine ⟨fun q hq => ?_, fun x b h => by cases h⟩
        cases hq
        exact k1 p hv
      | inr vb =>
        obtain ⟨v, b'⟩ := vb
        refine ⟨fun q hq => (by cases hq), fun x b h => ?_⟩
        have h' : Sum.inr ((if isC f n a 45 = true then -v else v), b') = (Sum.inr (x, b) : Nat ⊕ (Int × Nat)) := h
        rw [if_neg c] at h'
        cases h'
        obtain ⟨M', f1, f2⟩ := k2 v b' hv
        rw [if_pos rfl] at f1
        exact ⟨M', f1, f2⟩
    · rw [if_neg d]
      refine ⟨fun q hq => ?_, fun x b h => by cases h⟩
      cases hq
      exact j1 d
/-! items -/
def itv (p k hf fr ht to hs st : Int) : Nat → Int := fun i => if i = 0 then p else if i = 1 then k else if i = 2 then hf else if i = 3 then fr else if i = 4 then ht else if i = 5 then to else if i = 6 then hs else if i = 7 then st else 0
def vi3 (f : Nat → Int32) (n a : Nat) (hf x ht y : Int) (e : Nat) : Nat ⊕ ((Nat → Int) × Nat) :=
  if isC f n (skpa f n e) 58 = true then
    if isN f n (skpa f n (skpa f n e + 1)) = true then
      match vnm f n (skpa f n (skpa f n e + 1)) with
      | .inl p => .inl p
      | .inr wb => .inr (itv a 2 hf x ht y 1 wb.1, wb.2)
    else .inr (itv a 2 hf x ht y 0 0, skpa f n (skpa f n e + 1))
  else .inr (itv a 2 hf x ht y 0 0, skpa f n e)
def vi2 (f : Nat → Int32) (n a : Nat) (hf x : Int) (b : Nat) : Nat ⊕ ((Nat → Int) × Nat) :=
  if isC f n (skpa f n b) 58 = true then
    if isN f n (skpa f n (skpa f n b + 1)) = true then
      match vnm f n (skpa f n (skpa f n b + 1)) with
      | .inl p => .inl p
      | .inr ye => vi3 f n a hf x 1 ye.1 ye.2
    else vi3 f n a hf x 0 0 (skpa f n (skpa f n b + 1))
  else if hf = 0 then .inl (skpa f n b) else .inr (itv a 1 1 x 0 0 0 0, skpa f n b)
def vit (f : Nat → Int32) (n a : Nat) : Nat ⊕ ((Nat → Int) × Nat) :=
  if isC f n a 42 = true then .inr (itv a 3 0 0 0 0 0 0, a + 1)
  else if isN f n a = true then
    match vnm f n a with
    | .inl p => .inl p
    | .inr xb => vi2 f n a 1 xb.1 xb.2
  else vi2 f n a 0 0 a
/-- what the engine does with an item -/
noncomputable def iap (M : Mem) (own : Nat) (it : Nat → Int) : Option (Mem ⊕ (Nat × Mem)) :=
  if it 1 = 3 then (F_X3_axis M 1006 1 0).bind fun z => some (.inl z)
  else if it 1 = 1 then tb (F_X3_single M 1006 own (iw (it 3)) (iw (it 0))) fun z => some (.inl z)
  else F_X3_item_b163 M 1006 own (iw (it 0)) (iw (it 2)) (iw (it 3)) (iw (it 4)) (iw (it 5)) (iw (if it 6 = 1 then it 7 else 1))
