/-! ===== FORMULAS, 10: the engine reads a sign ===== -/
theorem E_idx {M : Mem} (k0 : K0 M) {c : Int32} (hc : asc c) : ∃ v, F_J15_indexOf M 29 c = some v ∧ (v < 0 ↔ ∀ i, i < 19 → (cty 29).1.getD i 0 ≠ c) := by
  have s := k0.sb (a := 29) (by decide) (by decide)
  have L : (cty 29).1.length = 19 := by decide
  have e1 : ¬ (1 : Int32) = 0 := by decide
  have e2 : ¬ (1 : Int32) &&& 1 = 0 := by decide
  have hxN : xN = 1099511627776 := rfl
  obtain ⟨c1, c2, c3, c4⟩ := hc.ok
  have cn : F_J17_canEncode_2 c = some 1 := by
    obtain ⟨k, hk, rfl⟩ := hc
    unfold F_J17_canEncode_2 F_J17_canEncode_2_b16
    rw [if_neg (by rw [iw_lt0 (by omega) (by omega)]; omega), if_neg (by rw [show (255 : Int32) = iw ((255 : Nat) : Int) from rfl, iw_le4 (by omega) (by omega)]; omega)]
    rfl
  have loop : ∀ (m N i : Nat), i + m = 19 → m + 1 ≤ N → ∃ v, F_J17_indexOfChar_b7 N M (cR M 29 4864) (iw ((19 : Nat) : Int)) c (iw (i : Int)) = some v ∧ (v < 0 ↔ ∀ j, i ≤ j → j < 19 → (cty 29).1.getD j 0 ≠ c) := by
    intro m
    induction m with
    | zero =>
      intro N i hi hN
      obtain ⟨N', rfl⟩ : ∃ N', N = N' + 1 := ⟨N - 1, by omega⟩
      refine ⟨-1, ?_, fun _ j j1 j2 => by omega, fun _ => by decide⟩
      show F_J17_indexOfChar_b7_st _ M _ _ _ _ = _
      unfold F_J17_indexOfChar_b7_st
      rw [if_neg (by rw [iw_le4 (by omega) (by omega)]; omega)]
    | succ m ih =>
      intro N i hi hN
      obtain ⟨N', rfl⟩ : ∃ N', N = N' + 1 := ⟨N - 1, by omega⟩
      obtain ⟨v, v1, v2⟩ := ih N' (i + 1) (by omega) (by omega)
      have hab : ab M (cR M 29 4864) (iw (i : Int)) = some ((cty 29).1.getD i 0) := by
        rw [← s.2.2.2.2.2 i (by omega)]
        exact ab_of (by rcases s.2.2.1 with t | t <;> simp [t]) s.2.2.2.1 (by omega) (by omega)
      by_cases q : (cty 29).1.getD i 0 = c
      · refine ⟨iw (i : Int), ?_, ?_⟩
        · show F_J17_indexOfChar_b7_st _ M _ _ _ _ = _
          unfold F_J17_indexOfChar_b7_st
          rw [if_pos (by rw [iw_le4 (by omega) (by omega)]; omega), hab, Option.bind_some, if_pos q]
        · rw [iw_lt0 (by omega) (by omega)]
          exact ⟨fun w => by omega, fun w => (w i (Nat.le_refl _) (by omega) q).elim⟩
      · refine ⟨v, ?_, ?_⟩
        · rw [← v1]
          show F_J17_indexOfChar_b7_st _ M _ _ _ _ = _
          unfold F_J17_indexOfChar_b7_st
          rw [if_pos (by rw [iw_le4 (by omega) (by omega)]; omega), hab, Option.bind_some, if_neg q]
          simp only [iw_succ]
          rfl
        · rw [v2]
          exact ⟨fun w j j1 j2 => by rcases Nat.lt_or_ge i j with x | x; exact w j x j2; rw [show j = i by omega]; exact q, fun w j j1 j2 => w j (by omega) j2⟩
  obtain ⟨v, v1, v2⟩ := loop 19 xN 0 (by omega) (by omega)
  refine ⟨v, ?_, by rw [v2]; exact ⟨fun w i hi => w i (Nat.zero_le _) hi, fun w i _ hi => w i hi⟩⟩
  have mx : F_J7_max 0 0 = some 0 := rfl
  have mn : F_J7_min_2 (iw ((19 : Nat) : Int)) (iw ((19 : Nat) : Int)) = some (iw ((19 : Nat) : Int)) := rfl
  have v1' : F_J17_indexOfChar_b7 xN M (cR M 29 4864) (iw ((19 : Nat) : Int)) c 0 = some v := v1
  have an19 := s.an
  have ln19 := J_len s
  rw [L] at an19 ln19
  unfold F_J15_indexOf F_J15_indexOf_2 F_J15_indexOf_2_b36 F_J15_isLatin1 F_J15_isLatin1_b18 F_J17_indexOf F_J17_indexOfChar
  simp only [s.vg, s.gi, s.gr, an19, ln19, e1, e2, if_true, if_false, cn, mx, mn, c4, v1', Option.bind_some]
  rw [if_pos (by decide)]
  rfl
section
variable {M : Mem} {f : Nat → Int32} {n : Nat}
theorem RK.sgn (t : TBk M f n) {a : Nat} (h : cI M 1012 388 = iw (a : Int)) {c d v : Int32} {k s : Nat} (hv : v = iw (k : Int)) (hs : F_X5_sign c v d = some s) (s1 : 20 ≤ s ∧ s < 65) (k1 : 1 ≤ k) (k3 : k ≤ 3) (ha : a ≤ n) : RK M f n (F_X5_readSign_b142 M 1012 (iw (a : Int)) c d v) { kd := 4, pl := a, to := a + k, sg := s } := by
  obtain ⟨c1, c2, c3, c4, c5, c6, c7, c8, c9, c10, c11⟩ := KS_c (M := M) 4 (a + k) s
  refine ⟨KS M 4 (a + k) s, Or.inr ⟨(show ¬ (4 : Int32) = 5 by decide), ?_, t.df (KS_df 4 (a + k) _), c1, by rw [c4 _ (by decide) (by decide)]; exact h, c2, fun q => ?_, fun _ => ⟨c3, s1⟩, fun q => absurd q (show ¬ (4 : Int32) = 3 by decide)⟩, KS_df 4 (a + k) _, by omega, by omega⟩
  · unfold F_X5_readSign_b142
    rw [hs, Option.bind_some, v1012 t.1, Option.bind_some, hv, show iw (a : Int) + iw (k : Int) = iw ((a + k : Nat) : Int) from iw_nad _ _, E_setK t.1, Option.bind_some]
  · rcases q with q | q
    · exact absurd q (show ¬ (4 : Int32) = 1 by decide)
    · exact absurd q (show ¬ (4 : Int32) = 2 by decide)
/-- one byte -/
theorem E_sg1 (t : TBk M f n) {a : Nat} (h : cI M 1012 388 = iw (a : Int)) (ha : a < n) {c d : Int32} (hc : c = lk f n a) : (∃ i, i < 19 ∧ (cty 29).1.getD i 0 = c) ∧ F_X5_readSign_b115 M 1012 (iw (a : Int)) c d 1 = F_X5_readSign_b142 M 1012 (iw (a : Int)) c d 1 ∨ ((∀ i, i < 19 → (cty 29).1.getD i 0 ≠ c) ∧ RK M f n (F_X5_readSign_b115 M 1012 (iw (a : Int)) c d 1) (tkX a)) := by
  have hb := bn_256 (f a)
  have hc' : c = iw (bn (f a) : Nat) := by rw [hc]; unfold lk; rw [if_pos ha]
  unfold F_X5_readSign_b115 F_X5_readSign_b137
  rw [if_pos rfl]
  by_cases q : 126 < bn (f a)
  · rw [if_pos (by rw [hc', show (126 : Int32) = iw ((126 : Nat) : Int) from rfl, iw_le4 (by omega) (by omega)]; exact q)]
    refine Or.inr ⟨fun i hi e => ?_, RK.bad t h⟩
    obtain ⟨k, k1, k2⟩ := ctx_asc (a := 29) (by decide) (by decide) (show i < (cty 29).1.length by rw [show (cty 29).1.length = 19 by decide]; exact hi)
    rw [e, hc', iw_eq (by omega) (by omega) (by omega) (by omega)] at k2
    have : k ≤ 126 := by
      have hh : (cty 29).1.all (fun c => decide (c.toInt ≤ 126)) = true := by decide +kernel
      have := of_decide_eq_true (List.all_eq_true.mp hh _ (getD_in (d := 0) (show i < (cty 29).1.length by rw [show (cty 29).1.length = 19 by decide]; exact hi)))
      rw [e, hc', iw_toInt (by omega) (by omega)] at this
      omega
    omega
  · rw [if_neg (by rw [hc', show (126 : Int32) = iw ((126 : Nat) : Int) from rfl, iw_le4 (by omega) (by omega)]; exact q)]
    have ac : asc c := ⟨bn (f a), by omega, hc'⟩
    obtain ⟨v, v1, v2⟩ := E_idx t.2.1 ac
    simp only [t.2.1.vg (a := 29) (by decide) (by decide), ac.ok.2.1, v1, Option.bind_some]
    by_cases w : v < 0
    · rw [if_pos w]
      exact Or.inr ⟨v2.mp w, RK.bad t h⟩
    · rw [if_neg w]
      refine Or.inl ⟨?_, rfl⟩
      exact Classical.byContradiction (fun x => w (v2.mpr (fun i hi e => x ⟨i, hi, e⟩)))
def n29 (c : Int32) : Prop := c = 40 ∨ c = 41 ∨ c = 44 ∨ c = 59 ∨ c = 63 ∨ c = 58 ∨ c = 61 ∨ c = 43 ∨ c = 45 ∨ c = 42 ∨ c = 47 ∨ c = 37 ∨ c = 60 ∨ c = 62 ∨ c = 33 ∨ c = 126 ∨ c = 38 ∨ c = 94 ∨ c = 124
instance (c : Int32) : Decidable (n29 c) := by unfold n29; exact inferInstance
theorem n29_iff (c : Int32) : (∃ i, i < 19 ∧ (cty 29).1.getD i 0 = c) ↔ n29 c := by
  have e : (cty 29).1 = [40, 41, 44, 59, 63, 58, 61, 43, 45, 42, 47, 37, 60, 62, 33, 126, 38, 94, 124] := by decide
  rw [e]
  constructor
  · rintro ⟨i, hi, rfl⟩
    have hh : (List.range 19).all (fun i => decide (n29 (([40, 41, 44, 59, 63, 58, 61, 43, 45, 42, 47, 37, 60, 62, 33, 126, 38, 94, 124] : List Int32).getD i 0)) ) = true := by unfold n29; decide +kernel
    exact of_decide_eq_true (List.all_eq_true.mp hh i (List.mem_range.mpr hi))
  · intro h
    rcases h with rfl | rfl | rfl | rfl | rfl | rfl | rfl | rfl | rfl | rfl | rfl | rfl | rfl | rfl | rfl | rfl | rfl | rfl | rfl
    · exact ⟨0, by decide, rfl⟩
    · exact ⟨1, by decide, rfl⟩
    · exact ⟨2, by decide, rfl⟩
    · exact ⟨3, by decide, rfl⟩
    · exact ⟨4, by decide, rfl⟩
    · exact ⟨5, by decide, rfl⟩
    · exact ⟨6, by decide, rfl⟩
    · exact ⟨7, by decide, rfl⟩
    · exact ⟨8, by decide, rfl⟩
    · exact ⟨9, by decide, rfl⟩
    · exact ⟨10, by decide, rfl⟩
    · exact ⟨11, by decide, rfl⟩
    · exact ⟨12, by decide, rfl⟩
    · exact ⟨13, by decide, rfl⟩
    · exact ⟨14, by decide, rfl⟩
    · exact ⟨15, by decide, rfl⟩
    · exact ⟨16, by decide, rfl⟩
    · exact ⟨17, by decide, rfl⟩
    · exact ⟨18, by decide, rfl⟩
/-- how many bytes the engine takes -/
def nSg (c d e : Int32) : Int32 := if c = 62 ∧ d = 62 ∧ e = 62 then 3 else if (c = 60 ∧ (d = 60 ∨ d = 61)) ∨ (c = 62 ∧ (d = 62 ∨ d = 61)) ∨ ((c = 61 ∨ c = 33) ∧ d = 61) ∨ ((c = 38 ∨ c = 124) ∧ d = c) then 2 else 1
/-- the blocks of the engine's choice, as values -/
def g95 {α : Type} (A1 A2 : α) (c d : Int32) : α := if c = 38 then (if d = c then A2 else A1) else if c = 124 then (if d = c then A2 else A1) else A1
def g89 {α : Type} (A1 A2 : α) (c d : Int32) : α := if d = 61 then A2 else g95 A1 A2 c d
def g77 {α : Type} (A1 A2 : α) (c d : Int32) : α := if c = 61 then g89 A1 A2 c d else if c = 33 then g89 A1 A2 c d else g95 A1 A2 c d
def g59 {α : Type} (A1 A2 : α) (c d : Int32) : α := if c = 62 then (if d = 62 then A2 else if d = 61 then A2 else g77 A1 A2 c d) else g77 A1 A2 c d
def g41 {α : Type} (A1 A2 : α) (c d : Int32) : α := if c = 60 then (if d = 60 then A2 else if d = 61 then A2 else g59 A1 A2 c d) else g59 A1 A2 c d
theorem g41_eq {α : Type} (A1 A2 A3 : α) (c d e : Int32) : (if c = 62 then (if d = 62 then (if e = 62 then A3 else g41 A1 A2 c d) else g41 A1 A2 c d) else g41 A1 A2 c d) = if c = 62 ∧ d = 62 ∧ e = 62 then A3 else if (c = 60 ∧ (d = 60 ∨ d = 61)) ∨ (c = 62 ∧ (d = 62 ∨ d = 61)) ∨ ((c = 61 ∨ c = 33) ∧ d = 61) ∨ ((c = 38 ∨ c = 124) ∧ d = c) then A2 else A1 := by
  unfold g41 g59 g77 g89 g95
  by_cases c62 : c = 62
  · subst c62
    by_cases d62 : d = 62
    · subst d62
      by_cases e62 : e = 62
      · simp [e62]
      · simp [e62]
    · by_cases d61 : d = 61
      · subst d61; simp
      · simp [d62, d61]
  · by_cases c60 : c = 60
    · subst c60
      by_cases d60 : d = 60
      · subst d60; simp
      · by_cases d61 : d = 61
        · subst d61; simp
        · simp [d60, d61]
    · by_cases c61 : c = 61
      · subst c61
        by_cases d61 : d = 61
        · subst d61; simp
        · simp [d61]
      · by_cases c33 : c = 33
        · subst c33
          by_cases d61 : d = 61
          · subst d61; simp
          · simp [d61]
        · by_cases c38 : c = 38
          · subst c38
            by_cases d38 : d = 38
            · subst d38; simp
            · simp [d38]
          · by_cases c124 : c = 124
            · subst c124
              by_cases d124 : d = 124
              · subst d124; simp
              · simp [d124]
            · simp [c62, c60, c61, c33, c38, c124]
theorem E_sgN (t : TBk M f n) {a : Nat} (ha : a ≤ n) {c : Int32} : F_X5_readSign M 1012 (iw (a : Int)) c = F_X5_readSign_b115 M 1012 (iw (a : Int)) c (lk f n (a + 1)) (nSg c (lk f n (a + 1)) (lk f n (a + 2))) := by
  have n4 := t.2.2.2.2.1
  obtain ⟨d, hd⟩ : ∃ d, d = lk f n (a + 1) := ⟨_, rfl⟩
  obtain ⟨e, he⟩ : ∃ e, e = lk f n (a + 2) := ⟨_, rfl⟩
  have l1 : F_X5_look M 1012 (iw (a : Int) + 1) = some d := by rw [iw_succ, hd]; exact E_lkK t (by omega)
  have l2 : F_X5_look M 1012 (iw (a : Int) + 2) = some e := by rw [show iw (a : Int) + (2 : Int32) = iw ((a + 2 : Nat) : Int) from iw_nad _ _, he]; exact E_lkK t (by omega)
  rw [← hd, ← he]
  have b41 : F_X5_readSign_b41 M 1012 (iw (a : Int)) c d 1 = g41 (F_X5_readSign_b115 M 1012 (iw (a : Int)) c d 1) (F_X5_readSign_b115 M 1012 (iw (a : Int)) c d 2) c d := rfl
  unfold F_X5_readSign
  simp only [v1012, t.1, l1, l2, Option.bind_some, b41]
  rw [g41_eq]
  unfold nSg
  split
  · rfl
  · split
    · rfl
    · rfl
end
