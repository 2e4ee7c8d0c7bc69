/-! ===== FORMULAS, 38: the model's parser: signs, lanes, names that must stand there ===== -/
section
variable {B0 B1 M : Mem} {g : Prop} {v0 lt dt i li di : Nat} {et ei : List Nat} {T : List Tok} {I : List Itm}
/-- tokens as they are cut: signs are known texts, the last one ends -/
def TkOK (T : List Tok) : Prop := ∀ j, j < T.length → ((T.getD j tok0).kd = 4 → 20 ≤ (T.getD j tok0).sg ∧ (T.getD j tok0).sg < 65) ∧ ((T.getD j tok0).kd ≠ 0 → (T.getD j tok0).kd ≠ 5 → j + 1 < T.length)
theorem M_signP (h : PM B0 B1 g M v0 lt dt et T i li di ei I) (hT : TkOK T) {s : Nat} (s1 : 20 ≤ s) (s2 : s < 65) : (isS (T.getD i tok0) s = false ∧ F_X40_sign M v0 s = some (.inr (m_nx M, mT M 1 (iw ((T.getD i tok0).pl : Int))))) ∨ (isS (T.getD i tok0) s = true ∧ ∃ N, F_X40_sign M v0 s = some (.inl N) ∧ PM B0 B1 g N v0 lt dt et T (i + 1) li di ei I ∧ rcs N di = rcs M di ∧ m_nx N = m_nx M ∧ m_sl N = m_sl M) := by
  have hi := h.2.2.2.2.2.2.2.1.2.1
  have IS := M_isSignP h (hT i hi).1 s1 s2
  unfold F_X40_sign
  rw [h.v, Option.bind_some, IS, Option.bind_some]
  cases c : isS (T.getD i tok0) s with
  | false =>
    left
    rw [if_pos (show mr false = 0 by decide)]
    have W := M_wrongP (α := Mem) h
    rw [h.v] at W
    exact ⟨rfl, W⟩
  | true =>
    right
    have k4 := (isS_t.mp c).1
    obtain ⟨g1, g2, g3⟩ := h.go ((hT i hi).2 (by rw [k4]; decide) (by rw [k4]; decide))
    rw [if_neg (show ¬ mr true = 0 by decide), gi_of h.2.1.2.2 (show x_fi 41 2626 = true by decide), Option.bind_some, h.2.2.1.2.2.1, iw_succ, g1, Option.bind_some]
    exact ⟨rfl, _, rfl, g2, g3, rfl, rfl⟩
theorem M_goneP (h : PM B0 B1 g M v0 lt dt et T i li di ei I) (hT : TkOK T) {s : Nat} (s1 : 20 ≤ s) (s2 : s < 65) : (isS (T.getD i tok0) s = false ∧ F_X40_gone M v0 s = some (0, M)) ∨ (isS (T.getD i tok0) s = true ∧ ∃ N, F_X40_gone M v0 s = some (1, N) ∧ PM B0 B1 g N v0 lt dt et T (i + 1) li di ei I ∧ rcs N di = rcs M di ∧ m_nx N = m_nx M ∧ m_sl N = m_sl M) := by
  have hi := h.2.2.2.2.2.2.2.1.2.1
  have IS := M_isSignP h (hT i hi).1 s1 s2
  unfold F_X40_gone F_X40_gone_b20
  rw [h.v, Option.bind_some, IS, Option.bind_some]
  cases c : isS (T.getD i tok0) s with
  | false =>
    left
    rw [if_pos (show mr false = 0 by decide)]
    exact ⟨rfl, rfl⟩
  | true =>
    right
    have k4 := (isS_t.mp c).1
    obtain ⟨g1, g2, g3⟩ := h.go ((hT i hi).2 (by rw [k4]; decide) (by rw [k4]; decide))
    rw [if_neg (show ¬ mr true = 0 by decide), gi_of h.2.1.2.2 (show x_fi 41 2626 = true by decide), Option.bind_some, h.2.2.1.2.2.1, iw_succ, g1, Option.bind_some]
    exact ⟨rfl, _, rfl, g2, g3, rfl, rfl⟩
theorem M_nameP (h : PM B0 B1 g M v0 lt dt et T i li di ei I) (hT : TkOK T) : ((T.getD i tok0).kd ≠ 1 ∧ F_X40_name M v0 = some (.inr (m_nx M, mT M 1 (iw ((T.getD i tok0).pl : Int))))) ∨ ((T.getD i tok0).kd = 1 ∧ ∃ N, F_X40_name M v0 = some (.inl (et.getD i 0, N)) ∧ PM B0 B1 g N v0 lt dt et T (i + 1) li di ei I ∧ rcs N di = rcs M di ∧ m_nx N = m_nx M ∧ m_sl N = m_sl M) := by
  have hi := h.2.2.2.2.2.2.2.1.2.1
  have ht := M_tokenP h
  have kt := h.2.2.2.2.2.2.2.1.2.2.2 i hi
  unfold F_X40_name
  rw [h.v, Option.bind_some, ht, Option.bind_some, gi_of kt.1.2.2 (show x_fi 43 2752 = true by decide), Option.bind_some, kt.2.1]
  by_cases c : (T.getD i tok0).kd = 1
  · right
    obtain ⟨g1, g2, g3⟩ := h.go ((hT i hi).2 (by rw [c]; decide) (by rw [c]; decide))
    have l1 := g2.2.2.2.1.1
    have te := h.2.2.2.2.2.2.2.1.1
    have kN := g2.2.2.2.2.2.2.2.1.2.2.2 i hi
    refine ⟨c, _, ?_, g2, g3, rfl, rfl⟩
    rw [if_pos c, gi_of h.2.1.2.2 (show x_fi 41 2626 = true by decide), Option.bind_some, h.2.2.1.2.2.1, iw_succ, g1, Option.bind_some]
    simp only [gr_of g2.2.1.2.2 (show x_fr 41 2625 = true by decide), g2.2.2.1.2.1, gi_of g2.2.1.2.2 (show x_fi 41 2626 = true by decide), g2.2.2.1.2.2.1, vg_of l1.2.1 (show x_isa 67 67 = true by decide), Option.bind_some]
    rw [show iw ((i + 1 : Nat) : Int) - (1 : Int32) = iw (i : Int) by rw [show (1 : Int32) = iw ((1 : Nat) : Int) from rfl, iw_nsub (by omega), Nat.add_sub_cancel], l1.get (by omega), Option.bind_some, cc_of kN.1.2.2 (show x_cast 43 43 = true by decide), Option.bind_some]
  · left
    rw [if_neg c]
    have W := M_wrongP (α := Nat × Mem) h
    rw [h.v] at W
    exact ⟨c, W⟩
end
