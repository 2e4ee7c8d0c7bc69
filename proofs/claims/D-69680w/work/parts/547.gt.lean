/-! ===== TABLES, 33: what a text's cells are ===== -/
theorem ascs_app {x : List Int32} {v : Int32} (h : ascs x) (hv : asc v) : ascs (x ++ [v]) := by
  intro i hi
  rw [List.length_append, List.length_singleton] at hi
  unfold wf
  by_cases c : i < x.length
  · rw [gd_l c]; exact h i c
  · rw [show i = x.length by omega, gd_r]; exact hv
theorem qtd_asc {f : Nat → Int32} {n : Nat} (hf : ∀ i, i < n → bt (f i)) : ∀ (e a : Nat) (x : List Int32) (q : List Int32 × Nat), ascs x → qtd f n e a x = .inr q → ascs q.1
  | 0, a, x, q, _, h => by cases h
  | e + 1, a, x, q, hx, h => by
    unfold qtd at h
    by_cases c : tch f n a = true
    · rw [if_pos c] at h
      have ct := tch_t.mp c
      by_cases c34 : isC f n a 34 = true
      · rw [if_pos c34] at h
        by_cases c35 : isC f n (a + 1) 34 = true
        · rw [if_pos c35] at h
          have c5 := isC_t.mp c35
          exact qtd_asc hf e _ _ q (ascs_app hx (bt_asc (hf _ c5.1) (by omega))) h
        · rw [if_neg c35] at h
          cases h
          exact hx
      · rw [if_neg c34] at h
        exact qtd_asc hf e _ _ q (ascs_app hx (bt_asc (hf _ ct.1) ct.2.2)) h
    · rw [if_neg c] at h; cases h
theorem unq_asc {f : Nat → Int32} {n : Nat} (hf : ∀ i, i < n → bt (f i)) : ∀ (e a j : Nat), a ≤ j → j < unq f n e a → asc (f j)
  | 0, a, j, h1, h2 => absurd h2 (Nat.not_lt.mpr h1)
  | e + 1, a, j, h1, h2 => by
    unfold unq at h2
    by_cases c : uch f n a = true
    · rw [if_pos c] at h2
      have ct := tch_t.mp ((Bool.and_eq_true _ _).mp c).1
      by_cases q : j = a
      · rw [q]; exact bt_asc (hf _ ct.1) ct.2.2
      · exact unq_asc hf e (a + 1) j (by omega) h2
    · rw [if_neg c] at h2; omega
theorem wrd_asc {f : Nat → Int32} {n a : Nat} {q : List Int32 × Bool × Nat} (hf : ∀ i, i < n → bt (f i)) (h : wrd f n a = .inr q) : ascs q.1 := by
  unfold wrd at h
  by_cases c : isC f n a 34 = true
  · rw [if_pos c] at h
    cases hq : qtd f n (n - a) (a + 1) [] with
    | inl p => rw [hq] at h; cases h
    | inr u =>
      rw [hq] at h
      have := qtd_asc hf _ _ _ u (fun i hi => by cases hi) hq
      cases h
      exact this
  · rw [if_neg c] at h
    cases h
    intro i hi
    simp only [] at hi ⊢
    rw [sgs_len] at hi
    have e : wf (sgs f a (unq f n (n - a) a - a)) i = f (a + i) := by
      unfold wf sgs
      rw [List.getD_eq_getElem?_getD, List.getElem?_map, List.getElem?_range hi]
      rfl
    rw [e]
    exact unq_asc hf (n - a) a _ (by omega) (by omega)
theorem unq_no {f : Nat → Int32} {n : Nat} : ∀ (e a j : Nat), a ≤ j → j < unq f n e a → bn (f j) ≠ 34 ∧ bn (f j) ≠ 44
  | 0, a, j, h1, h2 => absurd h2 (Nat.not_lt.mpr h1)
  | e + 1, a, j, h1, h2 => by
    unfold unq at h2
    by_cases c : uch f n a = true
    · rw [if_pos c] at h2
      by_cases q : j = a
      · rw [q]
        unfold uch at c
        have c1 := (Bool.and_eq_true _ _).mp c
        have ct := tch_t.mp c1.1
        have c2 := (Bool.and_eq_true _ _).mp c1.2
        refine ⟨fun k => ?_, fun k => ?_⟩
        · rw [isC_t.mpr ⟨ct.1, k⟩] at c2; exact absurd c2.1 (by decide)
        · rw [isC_t.mpr ⟨ct.1, k⟩] at c2; exact absurd c2.2 (by decide)
      · exact unq_no e (a + 1) j (by omega) h2
    · rw [if_neg c] at h2; omega
theorem wrd_no {f : Nat → Int32} {n a : Nat} {q : List Int32 × Bool × Nat} (h : wrd f n a = .inr q) (hq : q.2.1 = false) : nosg q.1 := by
  unfold wrd at h
  by_cases c : isC f n a 34 = true
  · rw [if_pos c] at h
    cases hu : qtd f n (n - a) (a + 1) [] with
    | inl p => rw [hu] at h; cases h
    | inr u => rw [hu] at h; cases h; cases hq
  · rw [if_neg c] at h
    cases h
    intro i hi
    simp only [] at hi ⊢
    rw [sgs_len] at hi
    have e : wf (sgs f a (unq f n (n - a) a - a)) i = f (a + i) := by
      unfold wf sgs
      rw [List.getD_eq_getElem?_getD, List.getElem?_map, List.getElem?_range hi]
      rfl
    rw [e]
    exact unq_no (n := n) (n - a) a _ (by omega) (by omega)
theorem tcel_no {f : Nat → Int32} {n a : Nat} {q : List Int32 × Bool × Nat} (h : tcel f n a = .inr q) (hq : q.2.1 = false) : nosg q.1 := by
  unfold tcel at h
  cases hw : wrd f n a with
  | inl p => rw [hw] at h; cases h
  | inr u =>
    rw [hw] at h
    simp only [] at h
    by_cases c : (isC f n u.2.2 44 || isC f n u.2.2 10) = true
    · rw [if_pos c] at h
      cases h
      exact wrd_no hw hq
    · rw [if_neg c] at h; cases h
theorem tcel_asc {f : Nat → Int32} {n a : Nat} {q : List Int32 × Bool × Nat} (hf : ∀ i, i < n → bt (f i)) (h : tcel f n a = .inr q) : ascs q.1 := by
  unfold tcel at h
  cases hw : wrd f n a with
  | inl p => rw [hw] at h; cases h
  | inr u =>
    rw [hw] at h
    simp only [] at h
    by_cases c : (isC f n u.2.2 44 || isC f n u.2.2 10) = true
    · rw [if_pos c] at h
      cases h
      exact wrd_asc hf hw
    · rw [if_neg c] at h; cases h
/-- what holds of a cell -/
def gdc (first : Bool) (c : List Int32 × Bool) : Prop := ascs c.1 ∧ (first = true → 1 ≤ c.1.length ∧ c.1.length ≤ 20) ∧ c.1.length ≤ 40 ∧ (c.2 = false → nosg c.1)
theorem cl_l {cs : List (List Int32 × Bool)} {c : List Int32 × Bool} {k : Nat} (h : k < cs.length) : cl (cs ++ [c]) k = cl cs k := gd_l h
theorem cl_r {cs : List (List Int32 × Bool)} {c : List Int32 × Bool} : cl (cs ++ [c]) cs.length = c := gd_r
theorem tln_g {first : Bool} {C : Nat} {f : Nat → Int32} {n : Nat} (hf : ∀ i, i < n → bt (f i)) : ∀ (e a k : Nat) (cs : List (List Int32 × Bool)) (q : List (List Int32 × Bool) × Nat), tln first C f n e a k cs = .inr q → (∀ j, j < cs.length → cl q.1 j = cl cs j) ∧ cs.length ≤ q.1.length ∧ ∀ j, cs.length ≤ j → j < q.1.length → gdc first (cl q.1 j)
  | 0, a, k, cs, q, h => by cases h
  | e + 1, a, k, cs, q, h => by
    unfold tln at h
    by_cases c : k = C
    · rw [if_pos c] at h; cases h
    · rw [if_neg c] at h
      cases ht : tcel f n a with
      | inl p => rw [ht] at h; cases h
      | inr u =>
        rw [ht] at h
        simp only [] at h
        by_cases cb : tbad first cs u.1
        · rw [tpif cb] at h; cases h
        · rw [fpif cb] at h
          have gu : gdc first (u.1, u.2.1) := by
            refine ⟨tcel_asc hf ht, fun hh => ⟨Nat.pos_of_ne_zero (fun q => cb (Or.inr ⟨hh, Or.inr (Or.inl q)⟩)), Nat.not_lt.mp (fun q => cb (Or.inr ⟨hh, Or.inl q⟩))⟩, ?_, fun hh => tcel_no ht hh⟩
            cases hb : first with
            | false => exact Nat.not_lt.mp (fun q => cb (Or.inl ⟨hb, q⟩))
            | true => exact Nat.le_trans (Nat.not_lt.mp (fun q => cb (Or.inr ⟨hb, Or.inl q⟩))) (by decide)
          have el : (cs ++ [(u.1, u.2.1)]).length = cs.length + 1 := by rw [List.length_append, List.length_singleton]
          by_cases c4 : isC f n u.2.2 44 = true
          · rw [if_pos c4] at h
            obtain ⟨i1, i2, i3⟩ := tln_g hf e _ _ _ q h
            rw [el] at i1 i2 i3
            refine ⟨fun j hj => by rw [i1 j (by omega)]; exact cl_l hj, by omega, fun j h1 h2 => ?_⟩
            by_cases e1 : j = cs.length
            · rw [e1, i1 _ (by omega), cl_r]; exact gu
            · exact i3 j (by omega) h2
          · rw [if_neg c4] at h
            by_cases cc : first = false ∧ k + 1 < C
            · rw [if_pos cc] at h; cases h
            · rw [if_neg cc] at h
              cases h
              refine ⟨fun j hj => cl_l hj, by simp only []; omega, fun j h1 h2 => ?_⟩
              simp only [] at h2 ⊢
              rw [show j = cs.length by omega, cl_r]
              exact gu
theorem tls_g {C : Nat} {f : Nat → Int32} {n : Nat} (hf : ∀ i, i < n → bt (f i)) : ∀ (e a L : Nat) (cs : List (List Int32 × Bool)) (q : List (List Int32 × Bool) × Nat), tls C f n e a L cs = .inr q → (∀ j, j < cs.length → cl q.1 j = cl cs j) ∧ cs.length ≤ q.1.length ∧ ∀ j, cs.length ≤ j → j < q.1.length → gdc false (cl q.1 j)
  | 0, a, L, cs, q, h => by cases h
  | e + 1, a, L, cs, q, h => by
    unfold tls at h
    by_cases c : a < n
    · rw [if_pos c] at h
      by_cases c5 : L = 500
      · rw [if_pos c5] at h; cases h
      · rw [if_neg c5] at h
        cases ht : tln false C f n (n + 1 - a) a 0 cs with
        | inl p => rw [ht] at h; cases h
        | inr u =>
          rw [ht] at h
          simp only [] at h
          obtain ⟨j1, j2, j3⟩ := tln_g hf _ _ _ _ u ht
          obtain ⟨i1, i2, i3⟩ := tls_g hf e _ _ _ q h
          refine ⟨fun j hj => by rw [i1 j (by omega)]; exact j1 j hj, by omega, fun j h1 h2 => ?_⟩
          by_cases e1 : j < u.1.length
          · rw [i1 j e1]; exact j3 j h1 e1
          · exact i3 j (by omega) h2
    · rw [if_neg c] at h
      cases h
      exact ⟨fun _ _ => rfl, Nat.le_refl _, fun j h1 h2 => absurd h2 (Nat.not_lt.mpr h1)⟩
theorem cl_tk {cs : List (List Int32 × Bool)} {C k : Nat} (h : k < C) : cl (cs.take C) k = cl cs k := by
  unfold cl
  rw [List.getD_eq_getElem?_getD, List.getD_eq_getElem?_getD, List.getElem?_take_of_lt h]
theorem cl_dr {cs : List (List Int32 × Bool)} {C k : Nat} : cl (cs.drop C) k = cl cs (C + k) := by
  unfold cl
  rw [List.getD_eq_getElem?_getD, List.getD_eq_getElem?_getD, List.getElem?_drop]
theorem ttx_gt {f : Nat → Int32} {n : Nat} {r : Nat × Nat × List (List Int32 × Bool)} (hf : ∀ i, i < n → bt (f i)) (h : ttx f n = .inr r) (h1 : r.2.2.length = r.1 * (r.2.1 + 1)) (h2 : 1 ≤ r.1) (h3 : r.1 ≤ 16) (h4 : r.2.1 < 500) : GT (r.1, r.2.1, r.2.2.take r.1, r.2.2.drop r.1) := by
  rw [Nat.mul_add, Nat.mul_one] at h1
  have hall : ∀ k, k < r.2.2.length → ascs (cl r.2.2 k).1 ∧ (k < r.1 → 1 ≤ (cl r.2.2 k).1.length ∧ (cl r.2.2 k).1.length ≤ 20) ∧ (cl r.2.2 k).1.length ≤ 40 ∧ ((cl r.2.2 k).2 = false → nosg (cl r.2.2 k).1) := by
    unfold ttx at h
    cases ht : tln true 16 f n (n + 1) 0 0 [] with
    | inl p => rw [ht] at h; cases h
    | inr q =>
      rw [ht] at h
      simp only [] at h
      cases hl : tls q.1.length f n (n + 1) q.2 1 q.1 with
      | inl p => rw [hl] at h; cases h
      | inr u =>
        rw [hl] at h
        cases h
        obtain ⟨j1, j2, j3⟩ := tln_g hf _ _ _ _ q ht
        obtain ⟨i1, i2, i3⟩ := tls_g hf _ _ _ _ u hl
        intro k hk
        simp only [] at hk ⊢
        by_cases c : k < q.1.length
        · rw [i1 k c]
          have g := j3 k (Nat.zero_le _) c
          exact ⟨g.1, fun _ => g.2.1 rfl, g.2.2⟩
        · have g := i3 k (by omega) hk
          exact ⟨g.1, fun q => absurd q c, g.2.2⟩
  refine ⟨h2, h3, h4, ?_, ?_, fun k hk => ?_, fun k hk => ?_⟩
  · show (r.2.2.take r.1).length = r.1
    rw [List.length_take]; omega
  · show (r.2.2.drop r.1).length = r.1 * r.2.1
    rw [List.length_drop]; omega
  · simp only [] at hk ⊢
    rw [cl_tk hk]
    have g := hall k (by omega)
    exact ⟨g.1, g.2.1 hk⟩
  · simp only [] at hk ⊢
    rw [cl_dr]
    have g := hall (r.1 + k) (by omega)
    exact ⟨g.1, g.2.2⟩
