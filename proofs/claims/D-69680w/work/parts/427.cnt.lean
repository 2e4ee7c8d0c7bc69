/-! ===== COUNTING: classes by their first and by their last ===== -/
def ctb (p : Nat → Bool) : Nat → Nat
  | 0 => 0
  | n + 1 => ctb p n + (if p n = true then 1 else 0)
theorem ctb_congr {p q : Nat → Bool} : ∀ n, (∀ i, i < n → p i = q i) → ctb p n = ctb q n
  | 0, _ => rfl
  | n + 1, h => by
    show ctb p n + _ = ctb q n + _
    rw [ctb_congr n (fun i hi => h i (by omega)), h n (by omega)]
theorem ctb_add {p q r : Nat → Bool} : ∀ n, (∀ i, i < n → (if p i = true then 1 else 0) = (if q i = true then 1 else 0) + (if r i = true then 1 else 0)) → ctb p n = ctb q n + ctb r n
  | 0, _ => rfl
  | n + 1, h => by
    show ctb p n + _ = ctb q n + _ + (ctb r n + _)
    rw [ctb_add n (fun i hi => h i (by omega)), h n (by omega)]
    omega
theorem ctb_zero {p : Nat → Bool} : ∀ n, (∀ i, i < n → p i = false) → ctb p n = 0
  | 0, _ => rfl
  | n + 1, h => by
    show ctb p n + _ = 0
    rw [ctb_zero n (fun i hi => h i (by omega)), h n (by omega)]
    rfl
theorem ctb_one {p : Nat → Bool} {x : Nat} : ∀ n, x < n → p x = true → (∀ i, i < n → p i = true → i = x) → ctb p n = 1
  | 0, h, _, _ => by omega
  | n + 1, h, h1, h2 => by
    show ctb p n + _ = 1
    by_cases c : x = n
    · rw [← c, h1, ctb_zero x (fun i hi => by
        cases e : p i with
        | false => rfl
        | true => have := h2 i (by omega) e; omega)]
      rfl
    · rw [ctb_one n (by omega) h1 (fun i hi => h2 i (by omega))]
      have : p n = false := by
        cases e : p n with
        | false => rfl
        | true => have := h2 n (by omega) e; omega
      rw [this]
      rfl
/-- new among those before -/
def fst1 (R : Nat → Nat → Bool) (i : Nat) : Bool := !fany (fun j => R j i) i 0
/-- the last of its class among the first g -/
def lst1 (R : Nat → Nat → Bool) (g i : Nat) : Bool := !fany (fun j => R i j) (g - (i + 1)) (i + 1)
theorem cls_eq {R : Nat → Nat → Bool} {G : Nat} (hs : ∀ i j, i < G → j < G → R i j = true → R j i = true) (ht : ∀ i j k, i < G → j < G → k < G → R i j = true → R j k = true → R i k = true) : ∀ g, g ≤ G → ctb (fst1 R) g = ctb (lst1 R g) g
  | 0, _ => rfl
  | g + 1, hg => by
    have ih := cls_eq hs ht g (by omega)
    -- what the last one takes away
    have hl : ∀ i, i < g → (lst1 R (g + 1) i = true ↔ lst1 R g i = true ∧ R i g = false) := by
      intro i hi
      unfold lst1
      rw [Bool.not_eq_true', Bool.not_eq_true', ← Bool.not_eq_true, ← Bool.not_eq_true, ← Bool.not_eq_true, fany_iff, fany_iff]
      refine ⟨fun q => ⟨fun ⟨j, a1, a2, a3⟩ => q ⟨j, a1, by omega, a3⟩, fun e => q ⟨g, by omega, by omega, e⟩⟩, fun q ⟨j, a1, a2, a3⟩ => ?_⟩
      by_cases c : j = g
      · rw [c] at a3; exact q.2 a3
      · exact q.1 ⟨j, a1, by omega, a3⟩
    have hg1 : lst1 R (g + 1) g = true := by
      unfold lst1
      rw [show g + 1 - (g + 1) = 0 by omega]
      rfl
    have split1 : ctb (lst1 R g) g = ctb (lst1 R (g + 1)) g + ctb (fun i => lst1 R g i && R i g) g := by
      refine ctb_add g (fun i hi => ?_)
      have h1 := hl i hi
      cases e1 : lst1 R g i <;> cases e2 : R i g <;> cases e3 : lst1 R (g + 1) i <;> rw [e1, e2, e3] at h1 <;> first | rfl | (exact absurd h1 (by decide))
    have one : ctb (fun i => lst1 R g i && R i g) g = if fst1 R g = true then 0 else 1 := by
      by_cases c : fst1 R g = true
      · rw [if_pos c]
        refine ctb_zero g (fun i hi => ?_)
        unfold fst1 at c
        rw [Bool.not_eq_true', ← Bool.not_eq_true, fany_iff] at c
        have : R i g = false := by
          cases e : R i g with
          | false => rfl
          | true => exact absurd ⟨i, Nat.zero_le _, by omega, e⟩ c
        show (lst1 R g i && R i g) = false
        rw [this, Bool.and_false]
      · rw [if_neg c]
        unfold fst1 at c
        rw [Bool.not_eq_true', Bool.not_eq_false, fany_iff] at c
        -- the greatest such
        have gr : ∀ e : Nat, (∃ j, j < g ∧ g ≤ j + e ∧ R j g = true) → ∃ j, j < g ∧ R j g = true ∧ ∀ i, j < i → i < g → R i g = false := by
          intro e
          induction e with
          | zero => intro ⟨j, a1, a2, _⟩; omega
          | succ e ih =>
            intro ⟨j, a1, a2, a3⟩
            by_cases c2 : ∃ i, i < g ∧ g ≤ i + e ∧ R i g = true
            · exact ih c2
            · refine ⟨j, a1, a3, fun i b1 b2 => ?_⟩
              cases e3 : R i g with
              | false => rfl
              | true => exact absurd ⟨i, b2, by omega, e3⟩ c2
        obtain ⟨j0, b1, b2, b3⟩ := c
        obtain ⟨x, x1, x2, x3⟩ := gr g ⟨j0, by omega, by omega, b3⟩
        refine ctb_one (x := x) g x1 ?_ (fun i hi h => ?_)
        · show (lst1 R g x && R x g) = true
          rw [x2, Bool.and_true]
          unfold lst1
          rw [Bool.not_eq_true', ← Bool.not_eq_true, fany_iff]
          intro ⟨j, a1, a2, a3⟩
          have := ht j x g (by omega) (by omega) (by omega) (hs x j (by omega) (by omega) a3) x2
          rw [x3 j (by omega) (by omega)] at this
          cases this
        · have h' : (lst1 R g i && R i g) = true := h
          rw [Bool.and_eq_true] at h'
          obtain ⟨h1, h2⟩ := h'
          rcases Nat.lt_trichotomy i x with c1 | c1 | c1
          · unfold lst1 at h1
            rw [Bool.not_eq_true', ← Bool.not_eq_true, fany_iff] at h1
            exact absurd ⟨x, by omega, by omega, ht i g x (by omega) (by omega) (by omega) h2 (hs x g (by omega) (by omega) x2)⟩ h1
          · exact c1
          · rw [x3 i c1 hi] at h2
            cases h2
    show ctb (fst1 R) g + _ = ctb (lst1 R (g + 1)) g + _
    rw [hg1, ih, split1, one]
    by_cases c : fst1 R g = true
    · rw [if_pos c, if_pos c]; rfl
    · rw [if_neg c, if_neg c]; rfl
