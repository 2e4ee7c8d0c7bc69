/-! ===== FORMULAS, 39: the model's parser: a lane that must stand there ===== -/
section
variable {B0 B1 M : Mem} {g : Prop} {v0 lt dt i li di : Nat} {et ei : List Nat} {T : List Tok} {I : List Itm}
theorem M_laneP (h : PM B0 B1 g M v0 lt dt et T i li di ei I) (hT : TkOK T) : (isLn (T.getD i tok0) = false ∧ ∃ N, F_X40_lane M v0 = some (.inr (m_nx N, mT N 1 (iw ((T.getD i tok0).pl : Int)))) ∧ PM B0 B1 g N v0 lt dt et T i li di ei I ∧ m_nx N = m_nx M ∧ m_sl N = m_sl M) ∨ (isLn (T.getD i tok0) = true ∧ ∃ N, F_X40_lane M v0 = some (.inl (lnW (T.getD i tok0).wd, N)) ∧ PM B0 B1 g N v0 lt dt et T (i + 1) li di ei I ∧ rcs N di = rcs M di ∧ m_nx N = m_nx M ∧ m_sl N = m_sl M) := by
  have hi := h.2.2.2.2.2.2.2.1.2.1
  obtain ⟨A, a1, a2, a3, a4, a5⟩ := M_isLaneWordP h
  unfold F_X40_lane
  rw [h.v, Option.bind_some, a1, Option.bind_some]
  cases c : isLn (T.getD i tok0) with
  | false =>
    left
    rw [if_pos (show mr false = 0 by decide)]
    have W := M_wrongP (α := Int32 × Mem) a2
    exact ⟨rfl, A, W, a2, a4, a5⟩
  | true =>
    right
    have k2 := (isLn_t.mp c).1
    obtain ⟨g1, g2, g3⟩ := a2.go ((hT i hi).2 (by rw [k2]; decide) (by rw [k2]; decide))
    obtain ⟨N, e1, e2, e3, e4, e5, e6⟩ := M_laneT g2 hi (Or.inr k2)
    have l1 := g2.2.2.2.1.1
    have te := g2.2.2.2.2.2.2.2.1.1
    have kN := g2.2.2.2.2.2.2.2.1.2.2.2 i hi
    refine ⟨rfl, N, ?_, e2, e3.trans (g3.trans a3), e4.trans a4, e5.trans a5⟩
    rw [if_neg (show ¬ mr true = 0 by decide), gi_of a2.2.1.2.2 (show x_fi 41 2626 = true by decide), Option.bind_some, a2.2.2.1.2.2.1, iw_succ, g1, Option.bind_some]
    simp only [gr_of g2.2.1.2.2 (show x_fr 41 2625 = true by decide), g2.2.2.1.2.1, gi_of g2.2.1.2.2 (show x_fi 41 2626 = true by decide), g2.2.2.1.2.2.1, vg_of l1.2.1 (show x_isa 67 67 = true by decide), Option.bind_some]
    rw [show iw ((i + 1 : Nat) : Int) - (1 : Int32) = iw (i : Int) by rw [show (1 : Int32) = iw ((1 : Nat) : Int) from rfl, iw_nsub (by omega), Nat.add_sub_cancel], l1.get (by omega), Option.bind_some, cc_of kN.1.2.2 (show x_cast 43 43 = true by decide), Option.bind_some, gr_of kN.1.2.2 (show x_fr 43 2754 = true by decide), Option.bind_some, e1, Option.bind_some]
end
