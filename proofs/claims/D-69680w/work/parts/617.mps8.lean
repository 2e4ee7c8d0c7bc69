/-! ===== FORMULAS, 42: the model's levels ===== -/
section
variable {B0 B1 : Mem} {v0 lt dt : Nat} {et : List Nat} {T : List Tok} {li : Nat} {re rp ru : Mem → Nat → Int32 → Option (Mem ⊕ (Nat × Mem))} {rb : Mem → Nat → Int32 → Int32 → Option (Mem ⊕ (Nat × Mem))}
/-- signs are known ones -/
def TkSg (T : List Tok) : Prop := ∀ j, j < T.length → (T.getD j tok0).kd = 4 → (T.getD j tok0).sg ∈ sgA
theorem sgA_rng {s : Nat} (h : s ∈ sgA) : 20 ≤ s ∧ s < 65 := by
  have hh : sgA.all (fun s => decide (20 ≤ s) && decide (s < 65)) = true := by decide
  have := List.all_eq_true.mp hh s h
  simp only [Bool.and_eq_true, decide_eq_true_eq] at this
  exact this
theorem sgT_opS : sgA.all (fun s => decide (opS s = 0) || decide (sgT (opS s) = s)) = true := by decide +kernel
theorem opS_sh : sgA.all (fun s => decide (opS s = 0) || (decide ((opS s = 18 ∨ opS s = 19) ↔ lvO (opS s) < 2))) = true := by decide +kernel
/-- whether a level's sign stands there -/
theorem rank_lv {s l : Nat} (h : s ∈ sgA) (hl : l ≤ 9) : ((if opS s = 0 then (-1 : Int32) else iw (lvO (opS s) : Nat)) = iw (l : Int)) ↔ (opS s ≠ 0 ∧ lvO (opS s) = l) := by
  have la := List.all_eq_true.mp lv_all _ h
  simp only [Bool.or_eq_true, Bool.and_eq_true, decide_eq_true_eq] at la
  by_cases z : opS s = 0
  · rw [if_pos z]
    refine ⟨fun q => ?_, fun q => (q.1 z).elim⟩
    rw [show (-1 : Int32) = iw (-1) from rfl, iw_eq (by omega) (by omega) (by omega) (by omega)] at q
    omega
  · rw [if_neg z]
    obtain ⟨⟨a1, a2⟩, a3⟩ := la.resolve_left z
    rw [iw_eq (by omega) (by omega) (by omega) (by omega)]
    exact ⟨fun q => ⟨z, by omega⟩, fun q => by have := q.2; omega⟩
end
