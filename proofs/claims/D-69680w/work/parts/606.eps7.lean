/-! ===== FORMULAS, 31: the engine's levels ===== -/
/-- what the engine makes of a sign's text -/
def sgf (x : List Int32) : Int32 :=
  if x.length = 3 then 8
  else if x.length = 2 then (if x.getD 0 0 = 60 then (if x.getD 1 0 = 60 then 6 else 11) else if x.getD 0 0 = 62 then (if x.getD 1 0 = 62 then 7 else 12) else if x.getD 0 0 = 61 then 13 else if x.getD 0 0 = 33 then 14 else if x.getD 0 0 = 38 then 18 else 19)
  else if x.getD 0 0 = 37 then 5 else if x.getD 0 0 = 38 then 15 else if x.getD 0 0 = 42 then 3 else if x.getD 0 0 = 43 then 1 else if x.getD 0 0 = 45 then 2 else if x.getD 0 0 = 47 then 4 else if x.getD 0 0 = 60 then 9 else if x.getD 0 0 = 62 then 10 else if x.getD 0 0 = 94 then 16 else if x.getD 0 0 = 124 then 17 else 0
theorem sgf_all : sgA.all (fun s => decide (sgf (cty s).1 = opS s) && decide (1 ≤ (cty s).1.length) && decide ((cty s).1.length ≤ 3)) = true := by decide +kernel
theorem lv_all : sgA.all (fun s => decide (opS s = 0) || (decide (0 < opS s) && decide (F_X26_level (opS s) = some (iw (lvO (opS s) : Nat))) && decide (lvO (opS s) ≤ 9))) = true := by decide +kernel
section
variable {B v0 n : Nat} {f : Nat → Int32} {re rp ru : Mem → Nat → Int32 → Option ((Nat × Mem) ⊕ (Nat × Mem))} {rb : Mem → Nat → Int32 → Int32 → Option ((Nat × Mem) ⊕ (Nat × Mem))}
/-- the present sign -/
def opT (t : Tok) : Int32 := if t.kd = 4 then opS t.sg else 0
theorem E_signK {M : Mem} {k : Nat} (h : SP M B v0 f n k) : F_X26_sign M v0 = some (opT (tok f n k)) := by
  have hS := h.st
  unfold F_X26_sign opT
  rw [h.g, Option.bind_some, g1012_387 hS, Option.bind_some, h.1.2.1]
  by_cases c4 : (tok f n k).kd = 4
  · rw [if_pos c4, if_pos c4]
    obtain ⟨r1, r2, r3⟩ := h.1.2.2.2.2.2.1 c4
    have fa := List.all_eq_true.mp sgf_all _ ((tok_fact f n k).2.2.1 c4)
    simp only [Bool.and_eq_true, decide_eq_true_eq] at fa
    obtain ⟨⟨f1, f2⟩, f3⟩ := fa
    have s := h.k0.sb r2 r3
    have c0 : F_J15_charAt M (tok f n k).sg 0 = some ((cty (tok f n k).sg).1.getD 0 0) := h.k0.chr r2 r3 (show 0 < _ by omega)
    simp only [h.g, g1012_390, hS, r1, h.k0.vg r2 r3, c0, J_len s, Option.bind_some]
    rw [← f1]
    unfold sgf
    by_cases l3 : (cty (tok f n k).sg).1.length = 3
    · rw [if_pos (by rw [l3]; rfl), if_pos l3]
    · rw [if_neg (by rw [show (3 : Int32) = iw ((3 : Nat) : Int) from rfl, iw_eq (by omega) (by omega) (by omega) (by omega)]; omega), if_neg l3]
      by_cases l2 : (cty (tok f n k).sg).1.length = 2
      · rw [if_pos (by rw [l2]; rfl), if_pos l2]
        have c1 : F_J15_charAt M (tok f n k).sg 1 = some ((cty (tok f n k).sg).1.getD 1 0) := h.k0.chr r2 r3 (show 1 < _ by omega)
        rw [c1, Option.bind_some]
        unfold F_X26_longSign F_X26_longSign_b19 F_X26_longSign_b39 F_X26_longSign_b71
        split
        · split <;> rfl
        · split
          · split <;> rfl
          · split
            · rfl
            · split
              · rfl
              · split <;> rfl
      · rw [if_neg (by rw [show (2 : Int32) = iw ((2 : Nat) : Int) from rfl, iw_eq (by omega) (by omega) (by omega) (by omega)]; omega), if_neg l2]
        repeat' split
        all_goals first | rfl | contradiction
  · rw [if_neg c4, if_neg c4]
/-- a level's sign -/
theorem opT_lv {k l : Nat} (hl : l ≤ 9) : (isO (tok f n k) l = true → 0 < opT (tok f n k) ∧ F_X26_level (opT (tok f n k)) = some (iw (l : Int)) ∧ opT (tok f n k) = opS (tok f n k).sg) ∧ (isO (tok f n k) l = false → ¬ 0 < opT (tok f n k) ∨ ∃ z, F_X26_level (opT (tok f n k)) = some z ∧ z ≠ iw (l : Int)) := by
  unfold opT
  by_cases c4 : (tok f n k).kd = 4
  · rw [if_pos c4]
    have la := List.all_eq_true.mp lv_all _ ((tok_fact f n k).2.2.1 c4)
    simp only [Bool.or_eq_true, Bool.and_eq_true, decide_eq_true_eq] at la
    constructor
    · intro q
      obtain ⟨q1, q2, q3⟩ := isO_t.mp q
      obtain ⟨⟨a1, a2⟩, a3⟩ := la.resolve_left q2
      exact ⟨a1, by rw [a2, q3], rfl⟩
    · intro q
      rcases la with a | ⟨⟨a1, a2⟩, a3⟩
      · left; rw [a]; decide
      · right
        refine ⟨_, a2, fun w => ?_⟩
        rw [iw_eq (by omega) (by omega) (by omega) (by omega)] at w
        have : isO (tok f n k) l = true := isO_t.mpr ⟨c4, fun z => by rw [z] at a1; exact absurd a1 (by decide), by omega⟩
        rw [q] at this
        cases this
  · rw [if_neg c4]
    refine ⟨fun q => (c4 (isO_t.mp q).1).elim, fun _ => Or.inl (by decide)⟩
end
