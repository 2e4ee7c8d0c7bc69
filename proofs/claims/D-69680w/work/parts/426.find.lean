/-! ===== THE LOG, 9: names in the log ===== -/
def eqn (f g : Nat → Int32) : Nat → Nat → Bool
  | 0, _ => true
  | e + 1, k => decide (f k = g k) && eqn f g e (k + 1)
theorem eqn_iff {f g : Nat → Int32} : ∀ (e k : Nat), eqn f g e k = true ↔ ∀ j, k ≤ j → j < k + e → f j = g j
  | 0, k => ⟨fun _ j h1 h2 => by omega, fun _ => rfl⟩
  | e + 1, k => by
    show (decide (f k = g k) && eqn f g e (k + 1)) = true ↔ _
    rw [Bool.and_eq_true, decide_eq_true_eq, eqn_iff e (k + 1)]
    refine ⟨fun h j h1 h2 => ?_, fun h => ⟨h k (Nat.le_refl _) (by omega), fun j h1 h2 => h j (by omega) (by omega)⟩⟩
    by_cases c : j = k
    · rw [c]; exact h.1
    · exact h.2 j (by omega) (by omega)
theorem eqn_congr {f g f' g' : Nat → Int32} {e k : Nat} (h : ∀ j, k ≤ j → j < k + e → f j = f' j ∧ g j = g' j) : eqn f g e k = eqn f' g' e k := by
  rw [Bool.eq_iff_iff, eqn_iff, eqn_iff]
  exact ⟨fun q j h1 h2 => by rw [← (h j h1 h2).1, ← (h j h1 h2).2]; exact q j h1 h2, fun q j h1 h2 => by rw [(h j h1 h2).1, (h j h1 h2).2]; exact q j h1 h2⟩
/-- the record at a place has a name -/
def mtc (f : Nat → Int32) (n : Nat) (w : Nat → Int32) (a : Nat) : Bool := decide (f (a + 4) = iw (n : Int)) && eqn (fun k => f (a + 5 + k)) w n 0
/-- the latest of the records that has it -/
def fnl (f : Nat → Int32) (rs : List Nat) (n : Nat) (w : Nat → Int32) : Nat → Nat → Int32 → Int32
  | 0, _, acc => acc
  | e + 1, i, acc => fnl f rs n w e (i + 1) (if mtc f n w (lst rs i) = true then iw (lst rs i : Nat) else acc)
theorem lst_succ {rs : List Nat} {i : Nat} (h : i < rs.length) : lst rs (i + 1) = lst rs i + rs.getD i 0 := by
  unfold lst
  rw [List.take_add_one, List.sum_append_nat, List.getD_eq_getElem?_getD, List.getElem?_eq_getElem h]
  show _ + (rs[i] + 0) = _ + rs[i]
  omega
/-- records in the log -/
def RcS (f : Nat → Int32) (rs : List Nat) (m : Nat) : Prop := ∀ i, i < m → bev f (lst rs i) 4 = rs.getD i 0 ∧ lst rs i + rs.getD i 0 ≤ 60000 ∧ ∃ nl : Nat, 1 ≤ nl ∧ nl ≤ 20 ∧ 13 + nl ≤ rs.getD i 0 ∧ f (lst rs i + 4) = iw (nl : Int)
theorem find_in {k6 : Mem → Nat → Nat → Int32 → Int32 → Int32 → Int32 → Int32 → Option Int32} {M : Mem} {v1 : Nat} {v2 v4 v5 : Int32} {n a : Nat} {w : Nat → Int32} (h : ST M) (hn : n ≤ 16000) (ha : a + 5 + n ≤ 60000) (hw : ∀ k, k < n → ab M v1 (v2 + iw (k : Int)) = some (w k)) : ∀ (e N k : Nat), k + e = n → F_X14_find_b39 k6 (N + 1 + e) M 1051 v1 v2 (iw (n : Int)) v4 v5 (iw (a : Int)) 1 (iw (k : Int)) = F_X14_find_b87 k6 M 1051 v1 v2 (iw (n : Int)) v4 v5 (iw (a : Int)) (mr (eqn (fun k => cI M 1053 (a + 5 + k)) w e k))
  | 0, N, k, hk => by
    show F_X14_find_b39_st k6 (F_X14_find_b39 k6 N) M _ _ _ _ _ _ _ _ _ = _
    unfold F_X14_find_b39_st
    rw [if_neg (by rw [iw_le4 (by omega) (by omega)]; omega)]
    rfl
  | e + 1, N, k, hk => by
    have n10 : ¬ (1 : Int32) = 0 := by decide
    have z : ∀ i, F_X14_find_b39 k6 (N + 1 + e) M 1051 v1 v2 (iw (n : Int)) v4 v5 (iw (a : Int)) 0 i = F_X14_find_b87 k6 M 1051 v1 v2 (iw (n : Int)) v4 v5 (iw (a : Int)) 0 := fun i => by
      rw [show N + 1 + e = N + e + 1 by omega]
      show F_X14_find_b39_st k6 (F_X14_find_b39 k6 (N + e)) M _ _ _ _ _ _ _ _ _ = _
      unfold F_X14_find_b39_st
      rw [if_pos rfl]
      split <;> rfl
    show F_X14_find_b39_st k6 (F_X14_find_b39 k6 (N + 1 + e)) M _ _ _ _ _ _ _ _ _ = _
    unfold F_X14_find_b39_st F_X14_find_b79
    rw [if_pos (by rw [iw_le4 (by omega) (by omega)]; omega), if_neg n10, show (5 : Int32) = iw ((5 : Nat) : Int) from rfl, iw_nad, iw_nad]
    simp only [g1051_960, g1052_1024, h, ab_of (Or.inr (Or.inl (t1053 h))) (l1053 h) (show a + 5 + k < 60000 by omega) (by decide), hw k (by omega), iw_succ, Option.bind_some]
    show _ = F_X14_find_b87 k6 M 1051 v1 v2 (iw (n : Int)) v4 v5 (iw (a : Int)) (mr (decide (cI M 1053 (a + 5 + k) = w k) && eqn (fun k => cI M 1053 (a + 5 + k)) w e (k + 1)))
    by_cases c : cI M 1053 (a + 5 + k) = w k
    · rw [if_pos c, decide_eq_true c, find_in h hn ha hw e N (k + 1) (by omega)]
      rfl
    · rw [if_neg c, decide_eq_false c, z]
      rfl
theorem E_find {M : Mem} {v1 : Nat} {v2 : Int32} {rs : List Nat} {n m : Nat} {w : Nat → Int32} (h : ST M) (hn : n ≤ 16000) (hm : m ≤ rs.length) (hr : RcS (cI M 1053) rs m) (hl : lst rs m ≤ 60000) (hw : ∀ k, k < n → ab M v1 (v2 + iw (k : Int)) = some (w k)) : ∀ (e N i : Nat) (acc : Int32), i + e = m → F_X14_find_b6 (N + 1 + e) M 1051 v1 v2 (iw (n : Int)) (iw (lst rs m : Nat)) acc (iw (lst rs i : Nat)) = some (fnl (cI M 1053) rs n w e i acc)
  | 0, N, i, acc, hi => by
    have : i = m := by omega
    subst this
    show F_X14_find_b6_st (F_X14_find_b6 N) M _ _ _ _ _ _ _ = _
    unfold F_X14_find_b6_st
    rw [if_neg (fun q => Int32.lt_irrefl q)]
    rfl
  | e + 1, N, i, acc, hi => by
    have hxN : xN = 1099511627776 := rfl
    obtain ⟨r1, r2, nl, r3, r4, r5, r6⟩ := hr i (by omega)
    have n10 : ¬ (1 : Int32) = 0 := by decide
    have hlt : lst rs i < lst rs m := by
      have mono : ∀ j, i + 1 + j ≤ rs.length → lst rs (i + 1) ≤ lst rs (i + 1 + j) := by
        intro j
        induction j with
        | zero => intro _; exact Nat.le_refl _
        | succ j ih =>
          intro hj
          have := ih (by omega)
          have e := lst_succ (rs := rs) (i := i + 1 + j) (by omega)
          rw [show i + 1 + (j + 1) = i + 1 + j + 1 by omega, e]
          omega
      have := mono (m - (i + 1)) (by omega)
      rw [show i + 1 + (m - (i + 1)) = m by omega, lst_succ (by omega)] at this
      omega
    have e96 : ∀ acc', F_X14_find_b96 (F_X14_find_b6 (N + 1 + e)) M 1051 v1 v2 (iw (n : Int)) (iw (lst rs m : Nat)) acc' (iw (lst rs i : Nat)) = some (fnl (cI M 1053) rs n w e (i + 1) acc') := fun acc' => by
      unfold F_X14_find_b96
      simp only [v1051, h, E_four4 h (show lst rs i + 4 ≤ 60000 by omega), r1, Option.bind_some]
      rw [iw_nad, ← lst_succ (by omega)]
      exact E_find h hn hm hr hl hw e N (i + 1) acc' (by omega)
    show F_X14_find_b6_st (F_X14_find_b6 (N + 1 + e)) M _ _ _ _ _ _ _ = some (fnl (cI M 1053) rs n w e (i + 1) (if mtc (cI M 1053) n w (lst rs i) = true then iw (lst rs i : Nat) else acc))
    unfold F_X14_find_b6_st F_X14_find_b34
    rw [if_pos (by rw [iw_le4 (by omega) (by omega)]; exact hlt), show (4 : Int32) = iw ((4 : Nat) : Int) from rfl, iw_nad]
    simp only [g1051_960, g1052_1024, h, ab_of (Or.inr (Or.inl (t1053 h))) (l1053 h) (show lst rs i + 4 < 60000 by omega) (by decide), Option.bind_some]
    unfold mtc
    by_cases c : cI M 1053 (lst rs i + 4) = iw (n : Int)
    · have hnn : n = nl := by
        rw [r6, iw_eq (by omega) (by omega) (by omega) (by omega)] at c
        omega
      obtain ⟨N2, hN2⟩ : ∃ N2, N2 + 1 + n = xN := ⟨xN - 1 - n, by omega⟩
      rw [if_pos c, decide_eq_true c, ← hN2]
      refine (find_in h hn (by omega) hw n N2 0 (by omega)).trans ?_
      unfold F_X14_find_b87
      rw [Bool.true_and]
      cases eqn (fun k => cI M 1053 (lst rs i + 5 + k)) w n 0 with
      | true => exact e96 _
      | false => exact e96 _
    · rw [if_neg c, decide_eq_false c, Bool.false_and]
      obtain ⟨N2, hN2⟩ : ∃ N2, N2 + 1 = xN := ⟨xN - 1, by omega⟩
      rw [← hN2]
      have z : F_X14_find_b39 (F_X14_find_b6 (N + 1 + e)) (N2 + 1) M 1051 v1 v2 (iw (n : Int)) (iw (lst rs m : Nat)) acc (iw (lst rs i : Nat)) 0 0 = F_X14_find_b87 (F_X14_find_b6 (N + 1 + e)) M 1051 v1 v2 (iw (n : Int)) (iw (lst rs m : Nat)) acc (iw (lst rs i : Nat)) 0 := by
        show F_X14_find_b39_st _ (F_X14_find_b39 _ N2) M _ _ _ _ _ _ _ _ _ = _
        unfold F_X14_find_b39_st
        rw [if_pos rfl]
        split <;> rfl
      rw [z]
      exact e96 _
/-- whether any has it -/
def fany (p : Nat → Bool) : Nat → Nat → Bool
  | 0, _ => false
  | e + 1, i => p i || fany p e (i + 1)
theorem fany_iff {p : Nat → Bool} : ∀ e i, fany p e i = true ↔ ∃ j, i ≤ j ∧ j < i + e ∧ p j = true
  | 0, i => ⟨fun h => Bool.noConfusion h, fun ⟨j, h1, h2, _⟩ => by omega⟩
  | e + 1, i => by
    show (p i || fany p e (i + 1)) = true ↔ _
    rw [Bool.or_eq_true, fany_iff e (i + 1)]
    refine ⟨fun h => ?_, fun ⟨j, h1, h2, h3⟩ => ?_⟩
    · rcases h with h | ⟨j, h1, h2, h3⟩
      · exact ⟨i, Nat.le_refl _, by omega, h⟩
      · exact ⟨j, by omega, by omega, h3⟩
    · by_cases c : j = i
      · rw [← c]; exact Or.inl h3
      · exact Or.inr ⟨j, by omega, by omega, h3⟩
theorem fnl_neg {f : Nat → Int32} {rs : List Nat} {n : Nat} {w : Nat → Int32} : ∀ (e i : Nat) (acc : Int32), (∀ j, i ≤ j → j < i + e → lst rs j ≤ 60000) → (fnl f rs n w e i acc < 0 ↔ acc < 0 ∧ fany (fun i => mtc f n w (lst rs i)) e i = false)
  | 0, i, acc, _ => ⟨fun h => ⟨h, rfl⟩, fun h => h.1⟩
  | e + 1, i, acc, hl => by
    show fnl f rs n w e (i + 1) (if mtc f n w (lst rs i) = true then iw (lst rs i : Nat) else acc) < 0 ↔ acc < 0 ∧ (mtc f n w (lst rs i) || fany (fun i => mtc f n w (lst rs i)) e (i + 1)) = false
    rw [fnl_neg e (i + 1) _ (fun j h1 h2 => hl j (by omega) (by omega))]
    have := hl i (Nat.le_refl _) (by omega)
    cases mtc f n w (lst rs i) with
    | true =>
      rw [if_pos rfl, Bool.true_or]
      exact ⟨fun h => by have := h.1; rw [iw_lt0 (by omega) (by omega)] at this; omega, fun h => by cases h.2⟩
    | false =>
      rw [if_neg (by decide), Bool.false_or]
