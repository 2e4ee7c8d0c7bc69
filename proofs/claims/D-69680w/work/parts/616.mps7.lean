/-! ===== FORMULAS, 41: what the model's parser comes to ===== -/
theorem hdt_drop {T : List Tok} {i : Nat} : hdt (T.drop i) = T.getD i tok0 := by
  unfold hdt
  rw [List.getD_eq_getElem?_getD, List.getD_eq_getElem?_getD, List.getElem?_drop, Nat.add_zero]
theorem tail_drop {T : List Tok} {i : Nat} : (T.drop i).tail = T.drop (i + 1) := by rw [List.tail_drop]
/-- room: so many tokens were read -/
def WM (M N : Mem) (di di' i i' : Nat) : Prop := i ≤ i' ∧ m_nx N ≤ m_nx M + 4 * (i' - i) ∧ m_sl N + rcs M di ≤ m_sl M + 10 * (i' - i) + rcs N di'
theorem WM.refl (M : Mem) (di i : Nat) : WM M M di di i i := ⟨Nat.le_refl _, by omega, by omega⟩
theorem WM.trans {M N O : Mem} {d1 d2 d3 i j k : Nat} (h : WM M N d1 d2 i j) (g : WM N O d2 d3 j k) : WM M O d1 d3 i k := ⟨by have := h.1; have := g.1; omega, by have := h.1; have := g.1; have := h.2.1; have := g.2.1; omega, by have := h.1; have := g.1; have := h.2.2; have := g.2.2; omega⟩
section
variable (B0 B1 : Mem) (v0 lt dt : Nat) (et : List Nat) (T : List Tok) (li : Nat)
def RMm (M : Mem) (i di : Nat) (I : List Itm) (x : Option (Mem ⊕ (Nat × Mem))) : Nat ⊕ (Ex × List Tok) → Prop
  | .inl q => ∃ N i' di' ei' I', x = some (.inr (m_nx N, mT N 1 (iw (q : Int)))) ∧ PM B0 B1 True N v0 lt dt et T i' li di' ei' I' ∧ WM M N di di' i i' ∧ I'.length ≤ I.length + 2 * (i' - i)
  | .inr (e, r) => ∃ N i' di' ei', x = some (.inl N) ∧ r = T.drop i' ∧ PM B0 B1 True N v0 lt dt et T i' li di' ei' (I ++ itm e) ∧ WM M N di di' i i' ∧ (itm e).length ≤ 2 * (i' - i)
/-- a reader of the model against a plain one -/
def SimM (F : Mem → Option (Mem ⊕ (Nat × Mem))) (p : PRs) : Prop := ∀ M i di ei I, PM B0 B1 True M v0 lt dt et T i li di ei I → I.length + 4 * (T.length - i) ≤ 40000 → RMm B0 B1 v0 lt dt et T li M i di I (F M) (p (T.drop i))
end
section
variable {B0 B1 : Mem} {v0 lt dt : Nat} {et : List Nat} {T : List Tok} {li : Nat}
theorem RMm.err {M N : Mem} {i di i' di' : Nat} {ei' : List Nat} {I I' : List Itm} {q : Nat} {x : Option (Mem ⊕ (Nat × Mem))} (hx : x = some (.inr (m_nx N, mT N 1 (iw (q : Int))))) (h : PM B0 B1 True N v0 lt dt et T i' li di' ei' I') (w : WM M N di di' i i') (hl : I'.length ≤ I.length + 2 * (i' - i)) : RMm B0 B1 v0 lt dt et T li M i di I x (.inl q) := ⟨N, i', di', ei', I', hx, h, w, hl⟩
/-- a part was read -/
theorem RMm.th {M N : Mem} {i di j dj : Nat} {I J : List Itm} {x : Option (Mem ⊕ (Nat × Mem))} {res : Nat ⊕ (Ex × List Tok)} (w : WM M N di dj i j) (hJ : J.length ≤ I.length + 2 * (j - i)) (h : RMm B0 B1 v0 lt dt et T li N j dj J x res) {y : Mem → Option (Mem ⊕ (Nat × Mem))} {K : Ex → List Tok → Nat ⊕ (Ex × List Tok)}
    (hg : ∀ (e : Ex) (k dk : Nat) (ek : List Nat) (O : Mem), res = .inr (e, T.drop k) → PM B0 B1 True O v0 lt dt et T k li dk ek (J ++ itm e) → WM M O di dk i k → WM N O dj dk j k → (itm e).length ≤ 2 * (k - j) → RMm B0 B1 v0 lt dt et T li M i di I (y O) (K e (T.drop k))) : RMm B0 B1 v0 lt dt et T li M i di I (tb x y) (pthen res K) := by
  cases res with
  | inl q =>
    obtain ⟨O, k, dk, ek, J', o1, o2, o3, o4⟩ := h
    have a1 := w.1
    have a2 := o3.1
    exact ⟨O, k, dk, ek, J', by rw [o1]; rfl, o2, w.trans o3, by omega⟩
  | inr er =>
    obtain ⟨e, r⟩ := er
    obtain ⟨O, k, dk, ek, o1, rfl, o3, o4, o5⟩ := h
    rw [pthen_r, o1]
    exact hg e k dk ek O rfl o3 (w.trans o4) o4 o5
end
