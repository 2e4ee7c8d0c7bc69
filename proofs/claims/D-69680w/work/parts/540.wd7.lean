/-! ===== TABLES, 26: the model's lane of a column ===== -/
theorem tf_W {w : List Int32} (h : w = (cty 61).1 ∨ w = (cty 56).1) : ¬ W1 w ∧ ¬ W2 w := by
  have q : ∀ u : List Int32, wfr u = 0 → ¬ isD (wf u) u.length 0 = true → ¬ W1 u ∧ ¬ W2 u := fun u h1 h2 => by
    have e : wk1 u = 0 := by unfold wk1; rw [h1]; exact Dg_f (Nat.zero_le _) h2
    refine ⟨fun k => ?_, fun k => ?_⟩
    · have := k.1; omega
    · have := k.1; omega
  rcases h with h | h
  · rw [h]; exact q _ (by decide +kernel) (by decide +kernel)
  · rw [h]; exact q _ (by decide +kernel) (by decide +kernel)
theorem W12 {w : List Int32} (h : W1 w) : ¬ W2 w := fun k => by
  have := (isC_t.mp k.2.1).1
  have := h.2
  omega
theorem isI_L {w : List Int32} (h : isIw w) : isLw w := ⟨by have := h.1; omega, by have := h.2; omega⟩
/-- what the model asks of a cell that is not missing -/
theorem okl_ok {c : List Int32 × Bool} {l : Int32} (hl : Lq l) : okl l c ↔ (c.2 = false ∧ ((l = 0 ∧ (c.1 = (cty 61).1 ∨ c.1 = (cty 56).1)) ∨ (l = 7 ∧ ((W1 c.1 ∧ c.1.length - wfr c.1 ≤ 15) ∨ (¬ W1 c.1 ∧ W2 c.1 ∧ c.1.length - wfr c.1 - 1 ≤ 15))) ∨ (l ≠ 0 ∧ l ≠ 7 ∧ W1 c.1 ∧ (if l = 4 then isIw c.1 else isLw c.1)))) := by
  have n04 : (0 : Int32) ≠ 4 := by decide
  have n05 : (0 : Int32) ≠ 5 := by decide
  have n07 : (0 : Int32) ≠ 7 := by decide
  have n45 : (4 : Int32) ≠ 5 := by decide
  have n47 : (4 : Int32) ≠ 7 := by decide
  have n57 : (5 : Int32) ≠ 7 := by decide
  have n80 : (8 : Int32) ≠ 0 := by decide
  have n84 : (8 : Int32) ≠ 4 := by decide
  have n85 : (8 : Int32) ≠ 5 := by decide
  have n87 : (8 : Int32) ≠ 7 := by decide
  cases hc : c.2 with
  | true =>
    have e : own c = 8 := by unfold own; rw [if_pos hc]
    refine ⟨fun q => ?_, fun q => by cases q.1⟩
    rcases q with q | q | q
    · rw [e] at q; rcases hl with k | k | k | k <;> rw [k] at q <;> exact absurd q (by decide)
    · rw [e] at q; exact absurd q.2 n84
    · rw [e] at q; exact q.2.1.elim (fun q => absurd q n84) (fun q => absurd q n85)
  | false =>
    have hq : ¬ c.2 = true := by rw [hc]; decide
    by_cases ct : c.1 = (cty 61).1 ∨ c.1 = (cty 56).1
    · have e : own c = 0 := by unfold own; rw [if_neg hq, tpif ct]
      obtain ⟨t1, t2⟩ := tf_W ct
      unfold okl
      rw [e]
      refine ⟨?_, ?_⟩
      · rintro (q | q | q)
        · exact ⟨rfl, Or.inl ⟨q.symm, ct⟩⟩
        · exact absurd q.2 n04
        · exact q.2.1.elim (fun q => absurd q n04) (fun q => absurd q n05)
      · rintro ⟨-, q | q | q⟩
        · exact Or.inl q.1.symm
        · exact q.2.elim (fun q => absurd q.1 t1) (fun q => absurd q.2.1 t2)
        · exact absurd q.2.2.1 t1
    · by_cases c1 : W1 c.1
      · have c2 := W12 c1
        by_cases ci : isIw c.1
        · have e : own c = 4 := by unfold own; rw [if_neg hq, fpif ct, tpif c1, tpif ci]
          unfold okl
          rw [e]
          refine ⟨?_, ?_⟩
          · rintro (q | q | q)
            · exact ⟨rfl, Or.inr (Or.inr ⟨by rw [← q]; decide, by rw [← q]; decide, c1, by rw [← q, if_pos rfl]; exact ci⟩)⟩
            · exact ⟨rfl, Or.inr (Or.inr ⟨by rw [q.1]; decide, by rw [q.1]; decide, c1, by rw [q.1, if_neg (by decide)]; exact isI_L ci⟩)⟩
            · exact ⟨rfl, Or.inr (Or.inl ⟨q.1, Or.inl ⟨c1, q.2.2⟩⟩)⟩
          · rintro ⟨-, q | q | q⟩
            · exact absurd q.2 ct
            · exact q.2.elim (fun k => Or.inr (Or.inr ⟨q.1, Or.inl rfl, k.2⟩)) (fun k => absurd c1 k.1)
            · rcases hl with k | k | k | k
              · exact absurd k q.1
              · exact Or.inl k.symm
              · exact Or.inr (Or.inl ⟨k, rfl⟩)
              · exact absurd k q.2.1
        · by_cases cL : isLw c.1
          · have e : own c = 5 := by unfold own; rw [if_neg hq, fpif ct, tpif c1, fpif ci, tpif cL]
            unfold okl
            rw [e]
            refine ⟨?_, ?_⟩
            · rintro (q | q | q)
              · exact ⟨rfl, Or.inr (Or.inr ⟨by rw [← q]; decide, by rw [← q]; decide, c1, by rw [← q, if_neg (by decide)]; exact cL⟩)⟩
              · exact absurd q.2 n45.symm
              · exact ⟨rfl, Or.inr (Or.inl ⟨q.1, Or.inl ⟨c1, q.2.2⟩⟩)⟩
            · rintro ⟨-, q | q | q⟩
              · exact absurd q.2 ct
              · exact q.2.elim (fun k => Or.inr (Or.inr ⟨q.1, Or.inr rfl, k.2⟩)) (fun k => absurd c1 k.1)
              · rcases hl with k | k | k | k
                · exact absurd k q.1
                · have := q.2.2.2; rw [k, if_pos rfl] at this; exact absurd this ci
                · exact Or.inl k.symm
                · exact absurd k q.2.1
          · have e : own c = 8 := by unfold own; rw [if_neg hq, fpif ct, tpif c1, fpif ci, fpif cL]
            unfold okl
            rw [e]
            refine ⟨?_, ?_⟩
            · rintro (q | q | q)
              · rcases hl with k | k | k | k <;> rw [k] at q <;> exact absurd q (by decide)
              · exact absurd q.2 n84
              · exact q.2.1.elim (fun q => absurd q n84) (fun q => absurd q n85)
            · rintro ⟨-, q | q | q⟩
              · exact absurd q.2 ct
              · refine q.2.elim (fun k => ?_) (fun k => absurd c1 k.1)
                have fl := wfr_le c.1
                have v := wvl_lt (w := c.1) (a := wfr c.1) (c.1.length - wfr c.1) (fun j hj => (c1.dg hj).2)
                have l2 : 10 ^ (c.1.length - wfr c.1) ≤ 10 ^ 15 := Nat.pow_le_pow_right (by decide) k.2
                have l3 : 10 ^ 15 = 1000000000000000 := by decide
                exact absurd (show isLw c.1 from ⟨by omega, by omega⟩) cL
              · rcases hl with k | k | k | k
                · exact absurd k q.1
                · have := q.2.2.2; rw [k, if_pos rfl] at this; exact absurd this ci
                · have := q.2.2.2; rw [k, if_neg (by decide)] at this; exact absurd this cL
                · exact absurd k q.2.1
      · by_cases c2 : W2 c.1 ∧ c.1.length - wfr c.1 - 1 ≤ 15
        · have e : own c = 7 := by unfold own; rw [if_neg hq, fpif ct, fpif c1, tpif c2]
          unfold okl
          rw [e]
          refine ⟨?_, ?_⟩
          · rintro (q | q | q)
            · exact ⟨rfl, Or.inr (Or.inl ⟨q.symm, Or.inr ⟨c1, c2⟩⟩)⟩
            · exact absurd q.2 n47.symm
            · exact q.2.1.elim (fun q => absurd q n47.symm) (fun q => absurd q n57.symm)
          · rintro ⟨-, q | q | q⟩
            · exact absurd q.2 ct
            · exact Or.inl q.1.symm
            · exact absurd q.2.2.1 c1
        · have e : own c = 8 := by unfold own; rw [if_neg hq, fpif ct, fpif c1, fpif c2]
          unfold okl
          rw [e]
          refine ⟨?_, ?_⟩
          · rintro (q | q | q)
            · rcases hl with k | k | k | k <;> rw [k] at q <;> exact absurd q (by decide)
            · exact absurd q.2 n84
            · exact q.2.1.elim (fun q => absurd q n84) (fun q => absurd q n85)
          · rintro ⟨-, q | q | q⟩
            · exact absurd q.2 ct
            · exact q.2.elim (fun k => absurd k.1 c1) (fun k => absurd k.2 c2)
            · exact absurd q.2.2.1 c1
/-- a cell of the model -/
def MC (M : Mem) (e : Nat) (c : List Int32 × Bool) : Prop := m_tg M e = 56 ∧ cI M e 3585 = mr c.2 ∧ SB M (cR M e 3584) c.1 ∧ 1000 ≤ cR M e 3584 ∧ ascs c.1 ∧ c.1.length ≤ 40
theorem MC.g {M : Mem} {e : Nat} {c : List Int32 × Bool} (h : MC M e c) : gi M e 3585 = some (mr c.2) ∧ gr M e 3584 = some (cR M e 3584) ∧ vg M e 56 = some () ∧ cc M e 56 = some () := by
  obtain ⟨h1, h2, -⟩ := h
  exact ⟨by rw [gi_of h1 (show x_fi 56 3585 = true by decide), h2], gr_of h1 (by decide), vg_of h1 (by decide), by unfold cc; rw [if_pos (Or.inr (by rw [h1]; decide))]⟩
theorem M_cmiss {M : Mem} {e : Nat} {c : List Int32 × Bool} (h : MC M e c) : F_X55_isMissing M e = some (pif (msg c) 1 0) := by
  obtain ⟨g1, g2, g3, g4⟩ := h.g
  obtain ⟨-, -, h3, -⟩ := h
  have n1 : ¬ (1 : Int32) = 0 := by decide
  unfold F_X55_isMissing F_X55_isMissing_b21 F_X55_isMissing_b22
  rw [g1, Option.bind_some]
  cases hc : c.2 with
  | true => rw [if_neg (show ¬ mr true = 0 by decide), fpif (fun q => by have := q.2; rw [hc] at this; cases this)]; rfl
  | false =>
    rw [if_pos (show mr false = 0 from rfl), g2, Option.bind_some, h3.vg, Option.bind_some, J_empty h3, Option.bind_some]
    by_cases c0 : c.1.length = 0
    · rw [if_pos c0, if_neg n1, tpif ⟨c0, hc⟩]; rfl
    · rw [if_neg c0, if_pos rfl, fpif (fun q => c0 q.1)]; rfl
theorem M_isOf {M : Mem} {e : Nat} {c : List Int32 × Bool} {l : Int32} (k0 : K0 M) (h : MC M e c) (hl : Lq l) : F_X16_isOfLane M e l = some (pif (msg c ∨ okl l c) 1 0) := by
  obtain ⟨g1, g2, g3, g4⟩ := h.g
  have hm := M_cmiss h
  obtain ⟨-, -, h3, h4, h5, h6⟩ := h
  have n1 : ¬ (1 : Int32) = 0 := by decide
  unfold F_X16_isOfLane F_X16_isOfLane_b54
  rw [g3, Option.bind_some, hm, Option.bind_some]
  by_cases cm : msg c
  · rw [tpif cm, if_neg n1, tpif (Or.inl cm)]
  · rw [fpif cm, if_pos rfl, g1, Option.bind_some]
    have fin : ∀ p : Prop, (p ↔ okl l c) → some (pif p (1 : Int32) 0 &&& 1) = some (pif (msg c ∨ okl l c) 1 0) := fun p hp => by
      by_cases q : p
      · rw [tpif q, tpif (Or.inr (hp.mp q))]; rfl
      · rw [fpif q, fpif (fun k => k.elim cm (fun k => q (hp.mpr k)))]; rfl
    have ho := okl_ok (c := c) hl
    cases hc : c.2 with
    | true =>
      rw [if_neg (show ¬ mr true = 0 by decide), fpif (fun k => k.elim cm (fun k => by have := (ho.mp k).1; rw [hc] at this; cases this))]
    | false =>
      rw [if_pos (show mr false = 0 from rfl)]
      by_cases l0 : l = 0
      · rw [if_pos l0, g2, Option.bind_some, M_isTruth k0 h3 h4, Option.bind_some]
        refine fin _ ⟨fun q => ho.mpr ⟨hc, Or.inl ⟨l0, q⟩⟩, fun q => ?_⟩
        rcases (ho.mp q).2 with k | k | k
        · exact k.2
        · rw [l0] at k; exact absurd k.1 (by decide)
        · exact absurd l0 k.1
      · rw [if_neg l0]
        by_cases l7 : l = 7
        · rw [if_pos l7, g2, Option.bind_some, M_isReal h3 h5 h6, Option.bind_some]
          refine fin _ ⟨fun q => ho.mpr ⟨hc, Or.inr (Or.inl ⟨l7, q⟩)⟩, fun q => ?_⟩
          rcases (ho.mp q).2 with k | k | k
          · exact absurd k.1 l0
          · exact k.2
          · exact absurd l7 k.2.1
        · rw [if_neg l7, g2, Option.bind_some, M_isWhole h3 h5 h6 (by rcases hl with k | k | k | k; exact absurd k l0; exact Or.inl k; exact Or.inr k; exact absurd k l7), Option.bind_some]
          refine fin _ ⟨fun q => ho.mpr ⟨hc, Or.inr (Or.inr ⟨l0, l7, q⟩)⟩, fun q => ?_⟩
          rcases (ho.mp q).2 with k | k | k
          · exact absurd k.1 l0
          · exact absurd k.1 l7
          · exact k.2.2
