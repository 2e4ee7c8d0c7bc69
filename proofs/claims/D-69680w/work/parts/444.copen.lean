/-! ===== CALLS: open ===== -/
def unl {α : Type} (x : Option (α ⊕ (Nat × Mem))) : Option α := match x with
  | some (Sum.inl z) => some z
  | _ => none
theorem unl_l {α : Type} {z : α} : unl (some (Sum.inl z)) = some z := rfl
theorem unl_of {α : Type} {x : Option (α ⊕ (Nat × Mem))} {z : α} (h : unl x = some z) : x = some (Sum.inl z) := by
  cases x with
  | none => cases h
  | some s => cases s with
    | inl y => cases h; rfl
    | inr y => cases h
def pOc : Nat → Nat → Prop := fun a i => (a = 1000 ∧ i = 65) ∨ (a = 1068 ∧ (i = 1089 ∨ i = 1127)) ∨ a = 1333
theorem qt_pOc : qt pOc := fun a i q1 q2 => by unfold pOc at q2; omega
theorem noGr_pOc : noGr pOc := fun a i q1 q2 => by unfold pGr at q1; unfold pOc at q2; omega
theorem qt_pg {p : Nat → Nat → Prop} (h : qt p) : qt (pg p) := fun a i q1 q2 => by
  rcases q2 with q | q | q
  · exact qt_psc a i q1 q
  · exact h a i q1 q
  · exact qt_pGr a i q1 q
theorem pg_pOc_lg : ∀ a i, pLg a i → ¬ pg pOc a i := fun a i q hh => by
  unfold pLg at q
  unfold pg psc pOc pGr at hh
  omega
def rO1 : Nat → Nat → Prop := fun a i => rsc a i ∨ rE a i
theorem qt_rO1 : qt rO1 := fun a i q1 q2 => q2.elim (qt_rsc a i q1) (qt_rE a i q1)
theorem rO1_lg : ∀ a i, rLg a i → ¬ rO1 a i := fun a i q hh => by
  unfold rLg at q
  rcases hh with hh | hh
  · have := hh.1
    omega
  · unfold rE at hh
    omega
theorem isn_of {f : Nat → Int32} {nl : Nat} (h1 : 1 ≤ nl) (h2 : nl ≤ 20) (h3 : ∀ j, j < nl → ¬ f j < 33 ∧ ¬ 126 < f j) : isn f nl = true := by
  unfold isn
  rw [decide_eq_true h1, decide_eq_true h2, nok_of nl 0 (fun j _ hj => h3 j (by omega))]
  rfl
theorem I1.keep0 {P Q R : Nat → Nat → Prop} {M M' : Mem} (h : ST M) (d : Df P Q R M M') (h1 : I1 M) (hp : ∀ a i, pTray a i → ¬ P a i) : I1 M' := by
  have h0 := h.1
  obtain ⟨t, x, t1, t2, t3, t4, t5, t6, t7, t8⟩ := h1
  have e : ∀ a i, pTray a i → a < 1334 → cI M' a i = cI M a i := fun a i q ha => d.cI (by omega) (hp a i q)
  exact ⟨t, x, t1, t2, t3, by rw [e _ _ (by unfold pTray; omega) (by decide)]; exact t4, by rw [e _ _ (by unfold pTray; omega) (by decide)]; exact t5, by rw [e _ _ (by unfold pTray; omega) (by decide)]; exact t6, by rw [e _ _ (by unfold pTray; omega) (by decide)]; exact t7, fun i hi => by rw [e _ _ (by unfold pTray; omega) (by decide), e _ _ (by unfold pTray; omega) (by decide)]; exact t8 i hi⟩
/-- the engine finds the record -/
theorem E_findr {M : Mem} {rs : List Nat} {t nn : Nat} (h : ST M) (ht : t ≤ 16000) (hs : rs.sum ≤ 60000) (hl13 : 13 * rs.length ≤ rs.sum) (hr : RcS (cI M 1053) rs rs.length) (hn : nn = rs.sum) : F_X14_find M 1051 1001 0 (iw (t : Int)) (iw (nn : Int)) = some (lixw rs (lix (fun i => mtc (cI M 1053) t (cI M 1001) (lst rs i)) rs.length)) := by
  have hxN : xN = 1099511627776 := rfl
  obtain ⟨N, hN⟩ : ∃ N, N + 1 + rs.length = xN := ⟨xN - 1 - rs.length, by omega⟩
  have := E_find (v1 := 1001) (v2 := 0) (w := cI M 1001) h ht (Nat.le_refl _) hr (by rw [lst_end]; exact hs) (fun k hk => by rw [Int32.zero_add, ab_of (Or.inr (Or.inl (t1001 h))) (l1001 h) (by omega) (by decide)]) rs.length N 0 (-1) (by omega)
  rw [lst_end, hN, fnl_lix] at this
  unfold F_X14_find
  rw [hn]
  exact this
