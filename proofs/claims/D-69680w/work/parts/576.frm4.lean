/-! ===== FORMULAS, 4: which function lanes choose, the model ===== -/
theorem M_taking_l {M : Mem} {a r : Nat} {f : Fn} {ls : List Int32} (h : MN M a f) (hr : RIl M r ls) (hl : ∀ l ∈ ls, Lk l) (hn : ls.length = f.ps.length) :
    ∀ (e N i : Nat), i + e = ls.length → e + 1 ≤ N → F_X16_isTaking_b27 N M a r (iw (i : Int)) = some (pif (∀ j, i ≤ j → j < ls.length → fit (ls.getD j 0) (f.ps.getD j 0)) 1 0) := by
  obtain ⟨h1, -, -, ⟨dl, es, h4, h5, h6⟩, h7, h8⟩ := h
  obtain ⟨r1, r2, r3⟩ := hr
  intro e
  induction e with
  | zero =>
    intro N i hi hN
    obtain ⟨N', rfl⟩ : ∃ N', N = N' + 1 := ⟨N - 1, by omega⟩
    show F_X16_isTaking_b27_st _ M a r _ = _
    unfold F_X16_isTaking_b27_st
    rw [an_of r1 (by decide) r2, Option.bind_some, if_neg (by rw [iw_le4 (by omega) (by omega)]; omega), pif_pos (fun j h1 h2 => by omega)]
  | succ e ih =>
    intro N i hi hN
    obtain ⟨N', rfl⟩ : ∃ N', N = N' + 1 := ⟨N - 1, by omega⟩
    have R0 := ih N' (i + 1) (by omega) (by omega)
    show F_X16_isTaking_b27_st _ M a r _ = _
    unfold F_X16_isTaking_b27_st
    obtain ⟨z, -, z1, z2, z3⟩ := fits_eq (hl _ (getD_in (d := 0) (show i < ls.length by omega))) (h7 _ (getD_in (d := 0) (show i < f.ps.length by omega)))
    have b := h6 i (by omega)
    simp only [an_of r1 (by decide) r2, Option.bind_some, if_pos ((iw_le4 (show i ≤ 2147483647 by omega) (show ls.length ≤ 2147483647 by omega)).mpr (by omega)), ai_of r1 r2 (show i < ls.length by omega) (by omega), gr_of h1 (show x_fr 44 2821 = true by decide), vg_of h4.2.1 (show x_isa 67 67 = true by decide), h4.get (show i < es.length by omega), r3 i (by omega), b.cc, b.vg, b.val, z1, iw_succ]
    by_cases hz : z = 0
    · rw [if_pos hz, pif_neg]
      intro q
      have := z3.mpr (q i (Nat.le_refl _) (by omega))
      rw [hz] at this
      exact absurd this (by decide)
    · rw [if_neg hz]
      have hf := z3.mp (z2.resolve_left hz)
      show F_X16_isTaking_b27 N' M a r _ = _
      rw [R0]
      congr 1
      by_cases q : ∀ j, i + 1 ≤ j → j < ls.length → fit (ls.getD j 0) (f.ps.getD j 0)
      · rw [pif_pos q, pif_pos (fun j j1 j2 => by rcases Nat.lt_or_ge i j with w | w; exact q j w j2; rw [show j = i by omega]; exact hf)]
      · rw [pif_neg q, pif_neg (fun w => q (fun j j1 j2 => w j (by omega) j2))]
theorem M_taking {M : Mem} {a s r : Nat} {f : Fn} {nm ls : List Int32} (h : MN M a f) (hs : SB M s nm) (h1 : 1000 ≤ s) (hr : RIl M r ls) (hl : ∀ l ∈ ls, Lk l) (hn : ls.length ≤ 1000000) : F_X16_isTaking M a s r = some (pif (mtk f nm ls) 1 0) := by
  have E := M_taking_l h hr hl
  obtain ⟨g1, g2, g3, ⟨dl, es, h4, h5, h6⟩, h7, h8⟩ := h
  unfold F_X16_isTaking F_X16_isTaking_b23
  simp only [gr_of g1 (show x_fr 44 2817 = true by decide), g2.vg, J_eqs g2 hs (ac_big (by omega) h1) (by omega), gr_of g1 (show x_fr 44 2821 = true by decide), vg_of h4.2.1 (show x_isa 67 67 = true by decide), h4.size, an_of hr.1 (by decide) hr.2.1, Option.bind_some]
  rw [mtk_pif]
  rcases pif01 (f.nm = nm) with q | q
  · rw [q, if_pos rfl, if_pos rfl]
  · simp only [q, if_neg (show ¬ (1 : Int32) = 0 by decide)]
    by_cases q : ls.length = f.ps.length
    · rw [if_pos (by rw [q, h5])]
      refine (E q ls.length xN 0 (by omega) (by have : xN = 1099511627776 := rfl; omega)).trans ?_
      congr 1
      by_cases w : ∀ j, 0 ≤ j → j < ls.length → fit (ls.getD j 0) (f.ps.getD j 0)
      · rw [pif_pos w, pif_pos ⟨q, fun i hi => w i (Nat.zero_le _) hi⟩]
      · rw [pif_neg w, pif_neg (fun k => w (fun j _ hj => k.2 j hj))]
    · rw [if_neg (by rw [iw_eq (by omega) (by omega) (by omega) (by omega)]; omega), pif_neg (fun k => q k.1)]
theorem M_nearer_l {M : Mem} {a b : Nat} {f k : Fn} (h : MN M a f) (hk : MN M b k) (hn : f.ps.length = k.ps.length) :
    ∀ (e N i : Nat), i + e = f.ps.length → e + 1 ≤ N → F_X16_isNearer_b2 N M a b (iw (i : Int)) = some (pif (∀ j, i ≤ j → j < f.ps.length → fit (f.ps.getD j 0) (k.ps.getD j 0)) 1 0) := by
  obtain ⟨h1, -, -, ⟨dl, es, h4, h5, h6⟩, h7, h8⟩ := h
  obtain ⟨k1, -, -, ⟨dk, ek, k4, k5, k6⟩, k7, k8⟩ := hk
  intro e
  induction e with
  | zero =>
    intro N i hi hN
    obtain ⟨N', rfl⟩ : ∃ N', N = N' + 1 := ⟨N - 1, by omega⟩
    show F_X16_isNearer_b2_st _ M a b _ = _
    unfold F_X16_isNearer_b2_st
    simp only [gr_of h1 (show x_fr 44 2821 = true by decide), vg_of h4.2.1 (show x_isa 67 67 = true by decide), h4.size, Option.bind_some]
    rw [if_neg (by rw [iw_le4 (by omega) (by omega)]; omega), pif_pos (fun j h1 h2 => by omega)]
  | succ e ih =>
    intro N i hi hN
    obtain ⟨N', rfl⟩ : ∃ N', N = N' + 1 := ⟨N - 1, by omega⟩
    have R0 := ih N' (i + 1) (by omega) (by omega)
    show F_X16_isNearer_b2_st _ M a b _ = _
    unfold F_X16_isNearer_b2_st
    obtain ⟨z, -, z1, z2, z3⟩ := fits_eq (h7 _ (getD_in (d := 0) (show i < f.ps.length by omega))) (k7 _ (getD_in (d := 0) (show i < k.ps.length by omega)))
    have u := h6 i (by omega)
    have w := k6 i (by omega)
    simp only [gr_of h1 (show x_fr 44 2821 = true by decide), gr_of k1 (show x_fr 44 2821 = true by decide), vg_of h4.2.1 (show x_isa 67 67 = true by decide), vg_of k4.2.1 (show x_isa 67 67 = true by decide), h4.size, Option.bind_some, if_pos ((iw_le4 (show i ≤ 2147483647 by omega) (show es.length ≤ 2147483647 by omega)).mpr (by omega)), h4.get (show i < es.length by omega), k4.get (show i < ek.length by omega), u.cc, u.vg, u.val, w.cc, w.vg, w.val, z1, iw_succ]
    by_cases hz : z = 0
    · rw [if_pos hz, pif_neg]
      intro q
      have := z3.mpr (q i (Nat.le_refl _) (by omega))
      rw [hz] at this
      exact absurd this (by decide)
    · rw [if_neg hz]
      have hf := z3.mp (z2.resolve_left hz)
      show F_X16_isNearer_b2 N' M a b _ = _
      rw [R0]
      congr 1
      by_cases q : ∀ j, i + 1 ≤ j → j < f.ps.length → fit (f.ps.getD j 0) (k.ps.getD j 0)
      · rw [pif_pos q, pif_pos (fun j j1 j2 => by rcases Nat.lt_or_ge i j with w | w; exact q j w j2; rw [show j = i by omega]; exact hf)]
      · rw [pif_neg q, pif_neg (fun w => q (fun j j1 j2 => w j (by omega) j2))]
theorem M_nearer {M : Mem} {a b : Nat} {f k : Fn} (h : MN M a f) (hk : MN M b k) (hn : f.ps.length = k.ps.length) : F_X16_isNearer M a b = some (pif (fitL f.ps k.ps) 1 0) := by
  have h8 := h.2.2.2.2.2
  unfold F_X16_isNearer
  refine (M_nearer_l h hk hn f.ps.length xN 0 (by omega) (by have : xN = 1099511627776 := rfl; omega)).trans ?_
  congr 1
  by_cases w : ∀ j, 0 ≤ j → j < f.ps.length → fit (f.ps.getD j 0) (k.ps.getD j 0)
  · rw [pif_pos w, pif_pos ⟨hn, fun i hi => w i (Nat.zero_le _) hi⟩]
  · rw [pif_neg w, pif_neg (fun k => w (fun j _ hj => k.2 j hj))]
theorem fit_refl (a : Int32) : fit a a := Or.inl rfl
theorem fitL_refl (l : List Int32) : fitL l l := ⟨rfl, fun _ _ => fit_refl _⟩
/-- the model looks whether one is nearest -/
theorem M_near {M : Mem} {s r k : Nat} {fs : List Fn} {nm ls : List Int32} {k6 : Mem → Nat → Nat → Nat → Int32 → Int32 → Option Int32} (h : MLb M fs) (hs : SB M s nm) (h1 : 1000 ≤ s) (hr : RIl M r ls) (hl : ∀ l ∈ ls, Lk l) (hn : ls.length ≤ 1000000) (hk : k < fs.length) (hm : mtk (fs.getD k fn0) nm ls) :
    ∀ (e N i : Nat), i + e = fs.length → e + 1 ≤ N → F_X16_chosen_b47 k6 N M 1068 s r (iw (k : Int)) 1 (iw (i : Int)) = F_X16_chosen_b126 k6 M 1068 s r (iw (k : Int)) (pif (∀ j, i ≤ j → j < fs.length → mtk (fs.getD j fn0) nm ls → fitL (fs.getD k fn0).ps (fs.getD j fn0).ps) 1 0) := by
  obtain ⟨sM, lm, dm, ma, a0, a1, a2, a3, a4⟩ := h
  intro e
  induction e with
  | zero =>
    intro N i hi hN
    obtain ⟨N', rfl⟩ : ∃ N', N = N' + 1 := ⟨N - 1, by omega⟩
    show F_X16_chosen_b47_st _ _ M 1068 s r _ 1 _ = _
    unfold F_X16_chosen_b47_st
    simp only [g1068_1105, sM, a0, vg_of a1.2.1 (show x_isa 67 67 = true by decide), a1.size, Option.bind_some]
    rw [if_neg (by rw [iw_le4 (by omega) (by omega)]; omega), pif_pos (fun j h1 h2 => by omega)]
  | succ e ih =>
    intro N i hi hN
    obtain ⟨N', rfl⟩ : ∃ N', N = N' + 1 := ⟨N - 1, by omega⟩
    have R0 := ih N' (i + 1) (by omega) (by omega)
    have hi' : i < fs.length := by omega
    have I := M_taking (a4 i hi') hs h1 hr hl hn
    have R1 : F_X16_chosen_b47 k6 N' M 1068 s r (iw (k : Int)) 0 (iw ((i + 1 : Nat) : Int)) = F_X16_chosen_b126 k6 M 1068 s r (iw (k : Int)) 0 := by
      obtain ⟨N2, rfl⟩ : ∃ N2, N' = N2 + 1 := ⟨N' - 1, by omega⟩
      show F_X16_chosen_b47_st _ _ M 1068 s r _ 0 _ = _
      unfold F_X16_chosen_b47_st
      simp only [g1068_1105, sM, a0, vg_of a1.2.1 (show x_isa 67 67 = true by decide), a1.size, Option.bind_some, if_true, ite_self]
    show F_X16_chosen_b47_st _ _ M 1068 s r _ 1 _ = _
    unfold F_X16_chosen_b47_st
    simp only [g1068_1105, sM, a0, vg_of a1.2.1 (show x_isa 67 67 = true by decide), a1.size, Option.bind_some, if_pos ((iw_le4 (show i ≤ 2147483647 by omega) (show ma.length ≤ 2147483647 by omega)).mpr (by omega)), if_neg (show ¬ (1 : Int32) = 0 by decide), a1.get (show k < ma.length by omega), a1.get (show i < ma.length by omega), cc_of (a4 i hi').1 (show x_cast 44 44 = true by decide), cc_of (a4 k hk).1 (show x_cast 44 44 = true by decide), I, F_X16_chosen_b120, iw_succ]
    have keep : (mtk (fs.getD i fn0) nm ls → fitL (fs.getD k fn0).ps (fs.getD i fn0).ps) → F_X16_chosen_b47 k6 N' M 1068 s r (iw (k : Int)) 1 (iw ((i + 1 : Nat) : Int)) = F_X16_chosen_b126 k6 M 1068 s r (iw (k : Int)) (pif (∀ j, i ≤ j → j < fs.length → mtk (fs.getD j fn0) nm ls → fitL (fs.getD k fn0).ps (fs.getD j fn0).ps) 1 0) := fun y => by
      rw [R0]
      congr 1
      by_cases q : ∀ j, i + 1 ≤ j → j < fs.length → mtk (fs.getD j fn0) nm ls → fitL (fs.getD k fn0).ps (fs.getD j fn0).ps
      · rw [pif_pos q, pif_pos (fun j j1 j2 => by rcases Nat.lt_or_ge i j with x | x; exact q j x j2; rw [show j = i by omega]; exact y)]
      · rw [pif_neg q, pif_neg (fun x => q (fun j j1 j2 => x j (by omega) j2))]
    by_cases ik : i = k
    · rw [if_pos (by rw [ik])]
      exact keep (fun _ => by rw [ik]; exact fitL_refl _)
    · rw [if_neg (by rw [iw_eq (by omega) (by omega) (by omega) (by omega)]; omega)]
      by_cases m : mtk (fs.getD i fn0) nm ls
      · rw [pif_pos m, if_neg (by decide)]
        have NR := M_nearer (a4 k hk) (a4 i hi') (hm.2.1.symm.trans m.2.1)
        rw [NR, Option.bind_some]
        by_cases w : fitL (fs.getD k fn0).ps (fs.getD i fn0).ps
        · rw [pif_pos w]
          exact keep (fun _ => w)
        · rw [pif_neg w, pif_neg (fun x => w (x i (Nat.le_refl _) hi' m))]
          exact R1
      · rw [pif_neg m, if_pos rfl]
        exact keep (fun y => (m y).elim)
theorem M_chosen {M : Mem} {s r : Nat} {fs : List Fn} {nm ls : List Int32} (h : MLb M fs) (hs : SB M s nm) (h1 : 1000 ≤ s) (hr : RIl M r ls) (hl : ∀ l ∈ ls, Lk l) (hn : ls.length ≤ 1000000) : ∃ v, F_X16_chosen M 1068 s r = some v ∧ Chs fs nm ls v := by
  have hh := h
  obtain ⟨sM, lm, dm, ma, a0, a1, a2, a3, a4⟩ := h
  have hxN : xN = 1099511627776 := rfl
  have L : ∀ (e N i : Nat) (v : Int32), i + e = fs.length → e + 1 ≤ N → (∀ k, k < i → ¬ bst fs nm ls k) → (((∃ k, k < i ∧ mtk (fs.getD k fn0) nm ls) ∧ v = -16) ∨ ((∀ k, k < i → ¬ mtk (fs.getD k fn0) nm ls) ∧ v = -15)) → ∃ w, F_X16_chosen_b6 N M 1068 s r v (iw (i : Int)) = some w ∧ Chs fs nm ls w := by
    intro e
    induction e with
    | zero =>
      intro N i v hi hN c c2
      obtain ⟨N', rfl⟩ : ∃ N', N = N' + 1 := ⟨N - 1, by omega⟩
      obtain rfl : i = fs.length := by omega
      refine ⟨v, ?_, Or.inr ⟨c, c2⟩⟩
      show F_X16_chosen_b6_st _ M 1068 s r v _ = _
      unfold F_X16_chosen_b6_st
      simp only [g1068_1105, sM, a0, vg_of a1.2.1 (show x_isa 67 67 = true by decide), a1.size, Option.bind_some]
      rw [if_neg (by rw [iw_le4 (by omega) (by omega)]; omega)]
    | succ e ih =>
      intro N i v hi hN c c2
      obtain ⟨N', rfl⟩ : ∃ N', N = N' + 1 := ⟨N - 1, by omega⟩
      have hi' : i < fs.length := by omega
      have I := M_taking (a4 i hi') hs h1 hr hl hn
      have go : ∀ w, (∀ k, k < i + 1 → ¬ bst fs nm ls k) → (((∃ k, k < i + 1 ∧ mtk (fs.getD k fn0) nm ls) ∧ w = -16) ∨ ((∀ k, k < i + 1 → ¬ mtk (fs.getD k fn0) nm ls) ∧ w = -15)) → ∃ u, F_X16_chosen_b137 (F_X16_chosen_b6 N') M 1068 s r w (iw (i : Int)) = some u ∧ Chs fs nm ls u := fun w cw cw2 => by
        unfold F_X16_chosen_b137
        simp only [iw_succ]
        exact ih N' (i + 1) w (by omega) (by omega) cw cw2
      have ext : ∀ p : Nat → Prop, (∀ k, k < i → p k) → p i → ∀ k, k < i + 1 → p k := fun p p1 p2 k hk => by
        rcases Nat.lt_or_ge k i with x | x
        · exact p1 k x
        · rw [show k = i by omega]; exact p2
      show ∃ w, F_X16_chosen_b6_st (F_X16_chosen_b6 N') M 1068 s r v _ = some w ∧ _
      unfold F_X16_chosen_b6_st
      simp only [g1068_1105, sM, a0, vg_of a1.2.1 (show x_isa 67 67 = true by decide), a1.size, Option.bind_some, if_pos ((iw_le4 (show i ≤ 2147483647 by omega) (show ma.length ≤ 2147483647 by omega)).mpr (by omega)), a1.get (show i < ma.length by omega), cc_of (a4 i hi').1 (show x_cast 44 44 = true by decide), I]
      by_cases m : mtk (fs.getD i fn0) nm ls
      · rw [pif_pos m, if_neg (by decide)]
        have MN0 := M_near (k6 := F_X16_chosen_b6 N') hh hs h1 hr hl hn hi' m fs.length xN 0 (by omega) (by omega)
        rw [show F_X16_chosen_b47 (F_X16_chosen_b6 N') xN M 1068 s r (iw (i : Int)) 1 0 = _ from MN0]
        unfold F_X16_chosen_b126
        by_cases q : ∀ j, 0 ≤ j → j < fs.length → mtk (fs.getD j fn0) nm ls → fitL (fs.getD i fn0).ps (fs.getD j fn0).ps
        · rw [pif_pos q, if_neg (by decide)]
          exact ⟨_, rfl, Or.inl ⟨i, hi', ⟨m, fun j hj => q j (Nat.zero_le _) hj⟩, rfl⟩⟩
        · rw [pif_neg q, if_pos rfl]
          exact go _ (ext _ c (fun b => q (fun j _ hj => b.2 j hj))) (Or.inl ⟨⟨i, by omega, m⟩, rfl⟩)
      · rw [pif_neg m, if_pos rfl]
        refine go _ (ext _ c (fun b => m b.1)) ?_
        rcases c2 with ⟨⟨k, k1, k2⟩, rfl⟩ | ⟨c3, rfl⟩
        · exact Or.inl ⟨⟨k, by omega, k2⟩, rfl⟩
        · exact Or.inr ⟨ext _ c3 m, rfl⟩
  unfold F_X16_chosen
  exact L fs.length xN 0 _ (by omega) (by omega) (fun k hk => by omega) (Or.inr ⟨fun k hk => by omega, rfl⟩)
