/-! ===== FORMULAS, 44: the model's levels ===== -/
section
variable {B0 B1 : Mem} {v0 lt dt : Nat} {et : List Nat} {T : List Tok} {li : Nat} {re rp ru : Mem → Nat → Int32 → Option (Mem ⊕ (Nat × Mem))} {rb : Mem → Nat → Int32 → Int32 → Option (Mem ⊕ (Nat × Mem))}
theorem M_bi {U : PRs} {j : Nat} (hj : j ≤ 9) {dep : Int32} (hT : TkOK T) (hG : TkSg T) (hS : SimM B0 B1 v0 lt dt et T li (fun M => rb M v0 (iw ((10 - j : Nat) : Int)) dep) (pBi U j)) : SimM B0 B1 v0 lt dt et T li (fun M => F_X40_ranked_o rp ru rb re M v0 (iw ((9 - j : Nat) : Int)) dep) (pBi U (j + 1)) := by
  intro M i di ei I h hI
  have t5 := h.2.2.2.2.2.2.2.1.2.2.1
  have e10 : (9 - j) + 1 = 10 - j := by omega
  have hS' : SimM B0 B1 v0 lt dt et T li (fun M => rb M v0 (iw (((9 - j) + 1 : Nat) : Int)) dep) (pBi U j) := by rw [e10]; exact hS
  show RMm B0 B1 v0 lt dt et T li M i di I (F_X40_ranked_o rp ru rb re M v0 (iw ((9 - j : Nat) : Int)) dep) (pthen (pBi U j (T.drop i)) fun a r => pBl (pBi U j) (9 - j) (r.length + 1) a r)
  unfold F_X40_ranked_o
  rw [if_neg (by rw [show (9 : Int32) = iw ((9 : Nat) : Int) from rfl, iw_le4 (by omega) (by omega)]; omega), h.v, Option.bind_some, iw_succ]
  refine RMm.th (WM.refl M di i) (by omega) (hS' M i di ei I h hI) (fun e k dk ek O q1 q2 q3 q4 q5 => ?_)
  rw [List.length_drop]
  exact M_bl (by omega) hT hG hS' hI (T.length - k + 1) xN e O k dk ek (Nat.le_refl _) (by have : xN = 1099511627776 := rfl; omega) q2 q3 q5
theorem M_bi0 {U : PRs} {dep : Int32} (hU : SimM B0 B1 v0 lt dt et T li (fun M => ru M v0 dep) U) : SimM B0 B1 v0 lt dt et T li (fun M => F_X40_ranked_o rp ru rb re M v0 (iw ((10 : Nat) : Int)) dep) (pBi U 0) := by
  intro M i di ei I h hI
  show RMm B0 B1 v0 lt dt et T li M i di I (F_X40_ranked_o rp ru rb re M v0 (iw ((10 : Nat) : Int)) dep) (U (T.drop i))
  unfold F_X40_ranked_o
  rw [if_pos (by decide), h.v, Option.bind_some]
  have eb : (tb (ru M v0 dep) fun z23 => some (Sum.inl z23)) = ru M v0 dep := by
    cases ru M v0 dep with
    | none => rfl
    | some v => cases v <;> rfl
  rw [eb]
  exact hU M i di ei I h hI
/-- deeper -/
theorem M_deep0 {α : Type} {M : Mem} {i di : Nat} {ei : List Nat} {I : List Itm} (h : PM B0 B1 True M v0 lt dt et T i li di ei I) {y : Int32 × Mem → Option (α ⊕ (Nat × Mem))} : tb (F_X40_deeper M v0 (iw ((25 : Nat) : Int))) y = some (.inr (m_nx M, mT M 1 (iw ((T.getD i tok0).pl : Int)))) := by
  unfold F_X40_deeper
  rw [if_pos (show iw ((25 : Nat) : Int) = 25 from rfl), M_wrongP h]
  rfl
theorem M_deep1 {M : Mem} {d : Nat} (hd : d + 1 ≤ 24) : F_X40_deeper M v0 (iw ((25 - (d + 1) : Nat) : Int)) = some (.inl (iw ((25 - d : Nat) : Int), M)) := by
  unfold F_X40_deeper
  rw [if_neg (by rw [show (25 : Int32) = iw ((25 : Nat) : Int) from rfl, iw_eq (by omega) (by omega) (by omega) (by omega)]; omega), iw_succ, show 25 - (d + 1) + 1 = 25 - d by omega]
end
