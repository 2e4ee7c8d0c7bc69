/-! ===== FORMULAS, 3: which function lanes choose ===== -/
def fitL (xs ys : List Int32) : Prop := xs.length = ys.length ∧ ∀ i, i < xs.length → fit (xs.getD i 0) (ys.getD i 0)
def mtk (f : Fn) (nm ls : List Int32) : Prop := f.nm = nm ∧ fitL ls f.ps
/-- the nearest -/
def bst (fs : List Fn) (nm ls : List Int32) (k : Nat) : Prop := mtk (fs.getD k fn0) nm ls ∧ ∀ j, j < fs.length → mtk (fs.getD j fn0) nm ls → fitL (fs.getD k fn0).ps (fs.getD j fn0).ps
/-- what is chosen -/
def Chs (fs : List Fn) (nm ls : List Int32) (v : Int32) : Prop := (∃ k, k < fs.length ∧ bst fs nm ls k ∧ v = iw (k : Int)) ∨ ((∀ k, k < fs.length → ¬ bst fs nm ls k) ∧ (((∃ k, k < fs.length ∧ mtk (fs.getD k fn0) nm ls) ∧ v = -16) ∨ ((∀ k, k < fs.length → ¬ mtk (fs.getD k fn0) nm ls) ∧ v = -15)))
theorem fit_anti {a b : Int32} (h : fit a b) (k : fit b a) : a = b := by
  unfold fit at h k
  rcases h with h | h
  · exact h
  · rcases k with k | k
    · exact k.symm
    · have h1 := h.2.2.2.1
      have k1 := k.2.2.2.1
      rw [Int32.lt_iff_toInt_lt] at h1 k1
      omega
theorem fitL_anti {xs ys : List Int32} (h : fitL xs ys) (k : fitL ys xs) : xs = ys := by
  refine List.ext_getElem h.1 (fun i h1 h2 => ?_)
  have e := fit_anti (h.2 i h1) (k.2 i h2)
  simpa [List.getD_eq_getElem?_getD, List.getElem?_eq_getElem, h1, h2] using e
theorem bst_one {fs : List Fn} {nm ls : List Int32} (g : Gf fs) {i j : Nat} (hi : i < fs.length) (hj : j < fs.length) (h : bst fs nm ls i) (k : bst fs nm ls j) : i = j := by
  have e := fitL_anti (h.2 j hj k.1) (k.2 i hi h.1)
  have e2 : (fs.getD i fn0).nm = (fs.getD j fn0).nm := h.1.1.trans k.1.1.symm
  rcases Nat.lt_trichotomy i j with q | q | q
  · exact (g.2 i j q hj ⟨e2, e⟩).elim
  · exact q
  · exact (g.2 j i q hi ⟨e2.symm, e.symm⟩).elim
theorem Chs.one {fs : List Fn} {nm ls : List Int32} {v w : Int32} (g : Gf fs) (h : Chs fs nm ls v) (k : Chs fs nm ls w) : v = w := by
  rcases h with ⟨i, i1, i2, rfl⟩ | ⟨h1, h2⟩
  · rcases k with ⟨j, j1, j2, rfl⟩ | ⟨k1, _⟩
    · rw [bst_one g i1 j1 i2 j2]
    · exact (k1 i i1 i2).elim
  · rcases k with ⟨j, j1, j2, rfl⟩ | ⟨_, k2⟩
    · exact (h1 j j1 j2).elim
    · rcases h2 with ⟨⟨a, a1, a2⟩, rfl⟩ | ⟨a, rfl⟩
      · rcases k2 with ⟨_, rfl⟩ | ⟨b, rfl⟩
        · rfl
        · exact (b a a1 a2).elim
      · rcases k2 with ⟨⟨b, b1, b2⟩, rfl⟩ | ⟨b, rfl⟩
        · exact (a b b1 b2).elim
        · rfl
theorem getD_in {α : Type} {d : α} {l : List α} {i : Nat} (h : i < l.length) : l.getD i d ∈ l := by
  rw [List.getD_eq_getElem?_getD, List.getElem?_eq_getElem h]
  exact List.getElem_mem h
/-- what is looked at of the engine's function -/
def EN (M : Mem) (a : Nat) (f : Fn) : Prop := m_tg M a = 39 ∧ SB M (cR M a 2496) f.nm ∧ 1334 ≤ cR M a 2496 ∧ RIl M (cR M a 2498) f.ps ∧ (∀ l ∈ f.ps, Lk l) ∧ f.ps.length ≤ 6
def MN (M : Mem) (a : Nat) (f : Fn) : Prop := m_tg M a = 44 ∧ SB M (cR M a 2817) f.nm ∧ 1334 ≤ cR M a 2817 ∧ (∃ dl es, AL M (cR M a 2821) dl es ∧ es.length = f.ps.length ∧ ∀ i, i < f.ps.length → IB M (es.getD i 0) (f.ps.getD i 0)) ∧ (∀ l ∈ f.ps, Lk l) ∧ f.ps.length ≤ 6
theorem E_takes_l {M : Mem} {a r : Nat} {f : Fn} {ls : List Int32} (h : EN M a f) (hr : RIl M r ls) (hl : ∀ l ∈ ls, Lk l) (hn : ls.length = f.ps.length) :
    ∀ (e N i : Nat), i + e = ls.length → e + 1 ≤ N → F_X38_takes_b14 N M a r (iw (i : Int)) = some (pif (∀ j, i ≤ j → j < ls.length → fit (ls.getD j 0) (f.ps.getD j 0)) 1 0) := by
  obtain ⟨h1, -, -, ⟨h4, h5, h6⟩, h7, h8⟩ := h
  obtain ⟨r1, r2, r3⟩ := hr
  intro e
  induction e with
  | zero =>
    intro N i hi hN
    obtain ⟨N', rfl⟩ : ∃ N', N = N' + 1 := ⟨N - 1, by omega⟩
    show F_X38_takes_b14_st _ M a r _ = _
    unfold F_X38_takes_b14_st
    rw [an_of r1 (by decide) r2, Option.bind_some, if_neg (by rw [iw_le4 (by omega) (by omega)]; omega), pif_pos (fun j h1 h2 => by omega)]
  | succ e ih =>
    intro N i hi hN
    obtain ⟨N', rfl⟩ : ∃ N', N = N' + 1 := ⟨N - 1, by omega⟩
    have R0 := ih N' (i + 1) (by omega) (by omega)
    show F_X38_takes_b14_st _ M a r _ = _
    unfold F_X38_takes_b14_st
    obtain ⟨z, z1, -, z2, z3⟩ := fits_eq (hl _ (getD_in (d := 0) (show i < ls.length by omega))) (h7 _ (getD_in (d := 0) (show i < f.ps.length by omega)))
    simp only [an_of r1 (by decide) r2, Option.bind_some, if_pos ((iw_le4 (show i ≤ 2147483647 by omega) (show ls.length ≤ 2147483647 by omega)).mpr (by omega)), ai_of r1 r2 (show i < ls.length by omega) (by omega), gr_of h1 (show x_fr 39 2498 = true by decide), ai_of h4 h5 (show i < f.ps.length by omega) (by omega), r3 i (by omega), h6 i (by omega), z1, iw_succ]
    by_cases hz : z = 0
    · rw [if_pos hz, pif_neg]
      intro q
      have := z3.mpr (q i (Nat.le_refl _) (by omega))
      rw [hz] at this
      exact absurd this (by decide)
    · rw [if_neg hz]
      have hf := z3.mp (z2.resolve_left hz)
      show F_X38_takes_b14 N' M a r _ = _
      rw [R0]
      congr 1
      by_cases q : ∀ j, i + 1 ≤ j → j < ls.length → fit (ls.getD j 0) (f.ps.getD j 0)
      · rw [pif_pos q, pif_pos (fun j j1 j2 => by rcases Nat.lt_or_ge i j with w | w; exact q j w j2; rw [show j = i by omega]; exact hf)]
      · rw [pif_neg q, pif_neg (fun w => q (fun j j1 j2 => w j (by omega) j2))]
theorem E_takesL {M : Mem} {a r : Nat} {f : Fn} {ls : List Int32} (h : EN M a f) (hr : RIl M r ls) (hl : ∀ l ∈ ls, Lk l) (hn : ls.length ≤ 1000000) : F_X38_takes M a r = some (pif (fitL ls f.ps) 1 0) := by
  have E := E_takes_l h hr hl
  obtain ⟨h1, -, -, ⟨h4, h5, h6⟩, h7, h8⟩ := h
  unfold F_X38_takes
  simp only [an_of hr.1 (by decide) hr.2.1, gr_of h1 (show x_fr 39 2498 = true by decide), an_of h4 (by decide) h5, Option.bind_some]
  by_cases q : ls.length = f.ps.length
  · rw [if_pos (by rw [q])]
    refine (E q ls.length xN 0 (by omega) (by have : xN = 1099511627776 := rfl; omega)).trans ?_
    congr 1
    by_cases w : ∀ j, 0 ≤ j → j < ls.length → fit (ls.getD j 0) (f.ps.getD j 0)
    · rw [pif_pos w, pif_pos ⟨q, fun i hi => w i (Nat.zero_le _) hi⟩]
    · rw [pif_neg w, pif_neg (fun k => w (fun j _ hj => k.2 j hj))]
  · rw [if_neg (by rw [iw_eq (by omega) (by omega) (by omega) (by omega)]; omega), pif_neg (fun k => q k.1)]
theorem mtk_pif {f : Fn} {nm ls : List Int32} : pif (mtk f nm ls) (1 : Int32) 0 = if pif (f.nm = nm) (1 : Int32) 0 = 0 then 0 else pif (fitL ls f.ps) 1 0 := by
  unfold mtk
  by_cases h : f.nm = nm
  · rw [pif_pos h, if_neg (by decide)]
    by_cases k : fitL ls f.ps
    · rw [pif_pos ⟨h, k⟩, pif_pos k]
    · rw [pif_neg (fun q => k q.2), pif_neg k]
  · rw [pif_neg h, if_pos rfl, pif_neg (fun q => h q.1)]
theorem pif01 (p : Prop) : pif p (1 : Int32) 0 = 0 ∨ pif p (1 : Int32) 0 = 1 := by
  by_cases h : p
  · exact Or.inr (pif_pos h)
  · exact Or.inl (pif_neg h)
theorem cc_of {M : Mem} {a t u : Nat} (ht : m_tg M a = t) (h : x_cast t u = true) : cc M a u = some () := by unfold cc; rw [ht, if_pos (Or.inr h)]
/-- the engine's library, as far as it is looked at -/
def ELb (M : Mem) (fs : List Fn) : Prop := ST M ∧ ∃ de ea, ALb M 1010 de ea ∧ ea.length = fs.length ∧ fs.length ≤ 40 ∧ ∀ k, k < fs.length → EN M (ea.getD k 0) (fs.getD k fn0)
def MLb (M : Mem) (fs : List Fn) : Prop := ST M ∧ ∃ lm dm ma, cR M 1068 1105 = lm ∧ AL M lm dm ma ∧ ma.length = fs.length ∧ fs.length ≤ 40 ∧ ∀ k, k < fs.length → MN M (ma.getD k 0) (fs.getD k fn0)
theorem E_isMeant {M : Mem} {s r k : Nat} {fs : List Fn} {nm ls : List Int32} (h : ELb M fs) (hs : SB M s nm) (h1 : 1000 ≤ s) (hr : RIl M r ls) (hl : ∀ l ∈ ls, Lk l) (hn : ls.length ≤ 1000000) (hk : k < fs.length) : F_X4_isMeant M 1009 (iw (k : Int)) s r = some (pif (mtk (fs.getD k fn0) nm ls) 1 0) := by
  obtain ⟨sM, de, ea, a1, a2, a3, a4⟩ := h
  have e := a4 k hk
  have T := E_takesL e hr hl hn
  unfold F_X4_isMeant F_X4_isMeant_b43 F_X4_isMeant_b44
  simp only [g1009_320, v1010, sM, a1.get (show k < ea.length by omega), cc_of e.1 (show x_cast 39 39 = true by decide), gr_of e.1 (show x_fr 39 2496 = true by decide), e.2.1.vg, J_eqs e.2.1 hs (ac_big (by have := e.2.2.1; omega) h1) (by omega), vg_of e.1 (show x_isa 39 39 = true by decide), T, Option.bind_some]
  rw [mtk_pif]
  rcases pif01 ((fs.getD k fn0).nm = nm) with q | q
  · rw [q, if_pos rfl, if_pos rfl]; rfl
  · simp only [q, if_neg (show ¬ (1 : Int32) = 0 by decide)]
    rcases pif01 (fitL ls (fs.getD k fn0).ps) with w | w
    · simp only [w, if_true]; rfl
    · simp only [w, if_neg (show ¬ (1 : Int32) = 0 by decide)]; rfl
/-- the engine looks whether one is nearest -/
theorem E_near {M : Mem} {s r k : Nat} {fs : List Fn} {nm ls : List Int32} {v3 : Int32} {k6 : Mem → Nat → Nat → Nat → Int32 → Int32 → Option Int32} (h : ELb M fs) (hs : SB M s nm) (h1 : 1000 ≤ s) (hr : RIl M r ls) (hl : ∀ l ∈ ls, Lk l) (hn : ls.length ≤ 1000000) (hk : k < fs.length) :
    ∀ (e N i : Nat), i + e = fs.length → e + 1 ≤ N → F_X4_choose_b45 k6 N M 1009 s r v3 (iw (k : Int)) 1 (iw (i : Int)) = F_X4_choose_b119 k6 M 1009 s r v3 (iw (k : Int)) (pif (∀ j, i ≤ j → j < fs.length → mtk (fs.getD j fn0) nm ls → fitL (fs.getD k fn0).ps (fs.getD j fn0).ps) 1 0) := by
  have hh := h
  obtain ⟨sM, de, ea, a1, a2, a3, a4⟩ := h
  intro e
  induction e with
  | zero =>
    intro N i hi hN
    obtain ⟨N', rfl⟩ : ∃ N', N = N' + 1 := ⟨N - 1, by omega⟩
    show F_X4_choose_b45_st _ _ M 1009 s r v3 _ 1 _ = _
    unfold F_X4_choose_b45_st
    simp only [g1009_320, v1010, sM, a1.size, Option.bind_some]
    rw [if_neg (by rw [iw_le4 (by omega) (by omega)]; omega), pif_pos (fun j h1 h2 => by omega)]
  | succ e ih =>
    intro N i hi hN
    obtain ⟨N', rfl⟩ : ∃ N', N = N' + 1 := ⟨N - 1, by omega⟩
    have R0 := ih N' (i + 1) (by omega) (by omega)
    have hi' : i < fs.length := by omega
    have T := E_takesL (a4 i hi') (a4 k hk).2.2.2.1 (a4 k hk).2.2.2.2.1 (by have := (a4 k hk).2.2.2.2.2; omega)
    show F_X4_choose_b45_st _ _ M 1009 s r v3 _ 1 _ = _
    unfold F_X4_choose_b45_st
    simp only [g1009_320, v1010, v1009, sM, a1.size, Option.bind_some, if_pos ((iw_le4 (show i ≤ 2147483647 by omega) (show ea.length ≤ 2147483647 by omega)).mpr (by omega)), if_neg (show ¬ (1 : Int32) = 0 by decide), E_isMeant hh hs h1 hr hl hn hi', a1.get (show k < ea.length by omega), a1.get (show i < ea.length by omega), cc_of (a4 i hi').1 (show x_cast 39 39 = true by decide), cc_of (a4 k hk).1 (show x_cast 39 39 = true by decide), gr_of (a4 k hk).1 (show x_fr 39 2498 = true by decide), vg_of (a4 i hi').1 (show x_isa 39 39 = true by decide), T, F_X4_choose_b106, F_X4_choose_b111, iw_succ]
    by_cases m : mtk (fs.getD i fn0) nm ls
    · rw [pif_pos m, if_neg (by decide)]
      by_cases w : fitL (fs.getD k fn0).ps (fs.getD i fn0).ps
      · rw [pif_pos w, if_neg (by decide)]
        show F_X4_choose_b45 k6 N' M 1009 s r v3 _ 1 _ = _
        rw [R0]
        congr 1
        by_cases q : ∀ j, i + 1 ≤ j → j < fs.length → mtk (fs.getD j fn0) nm ls → fitL (fs.getD k fn0).ps (fs.getD j fn0).ps
        · rw [pif_pos q, pif_pos (fun j j1 j2 => by rcases Nat.lt_or_ge i j with x | x; exact q j x j2; rw [show j = i by omega]; exact fun _ => w)]
        · rw [pif_neg q, pif_neg (fun x => q (fun j j1 j2 => x j (by omega) j2))]
      · rw [pif_neg w, if_pos rfl, pif_neg (fun x => w (x i (Nat.le_refl _) hi' m))]
        obtain ⟨N2, rfl⟩ : ∃ N2, N' = N2 + 1 := ⟨N' - 1, by omega⟩
        show F_X4_choose_b45_st _ _ M 1009 s r v3 _ 0 _ = _
        unfold F_X4_choose_b45_st
        simp only [g1009_320, v1010, sM, a1.size, Option.bind_some, if_true, ite_self]
    · rw [pif_neg m, if_pos rfl]
      show F_X4_choose_b45 k6 N' M 1009 s r v3 _ 1 _ = _
      rw [R0]
      congr 1
      by_cases q : ∀ j, i + 1 ≤ j → j < fs.length → mtk (fs.getD j fn0) nm ls → fitL (fs.getD k fn0).ps (fs.getD j fn0).ps
      · rw [pif_pos q, pif_pos (fun j j1 j2 => by rcases Nat.lt_or_ge i j with x | x; exact q j x j2; rw [show j = i by omega]; exact fun y => (m y).elim)]
      · rw [pif_neg q, pif_neg (fun x => q (fun j j1 j2 => x j (by omega) j2))]
/-- what is chosen among the first -/
def Ch0 (fs : List Fn) (nm ls : List Int32) (n : Nat) (v : Int32) : Prop := (∃ k, k < n ∧ bst fs nm ls k ∧ v = iw (k : Int)) ∨ ((∀ k, k < n → ¬ bst fs nm ls k) ∧ (((∃ k, k < n ∧ mtk (fs.getD k fn0) nm ls) ∧ v = -16) ∨ ((∀ k, k < n → ¬ mtk (fs.getD k fn0) nm ls) ∧ v = -15)))
theorem Ch0.neg {fs : List Fn} {nm ls : List Int32} {n : Nat} {v : Int32} (h : Ch0 fs nm ls n v) (hn : n ≤ 1000) : v < 0 ↔ ∀ k, k < n → ¬ bst fs nm ls k := by
  rcases h with ⟨k, k1, k2, rfl⟩ | ⟨h, h2⟩
  · rw [iw_lt0 (by omega) (by omega)]
    exact ⟨fun q => by omega, fun q => (q k k1 k2).elim⟩
  · rcases h2 with ⟨_, rfl⟩ | ⟨_, rfl⟩
    · exact ⟨fun _ => h, fun _ => by decide⟩
    · exact ⟨fun _ => h, fun _ => by decide⟩
theorem E_choose {M : Mem} {s r : Nat} {fs : List Fn} {nm ls : List Int32} (h : ELb M fs) (g : Gf fs) (hs : SB M s nm) (h1 : 1000 ≤ s) (hr : RIl M r ls) (hl : ∀ l ∈ ls, Lk l) (hn : ls.length ≤ 1000000) : ∃ v, F_X4_choose M 1009 s r = some v ∧ Chs fs nm ls v := by
  have hh := h
  obtain ⟨sM, de, ea, a1, a2, a3, a4⟩ := h
  have hxN : xN = 1099511627776 := rfl
  have L : ∀ (e N i : Nat) (v : Int32), i + e = fs.length → e + 1 ≤ N → Ch0 fs nm ls i v → ∃ w, F_X4_choose_b6 N M 1009 s r v (iw (i : Int)) = some w ∧ Chs fs nm ls w := by
    intro e
    induction e with
    | zero =>
      intro N i v hi hN c
      obtain ⟨N', rfl⟩ : ∃ N', N = N' + 1 := ⟨N - 1, by omega⟩
      obtain rfl : i = fs.length := by omega
      refine ⟨v, ?_, c⟩
      show F_X4_choose_b6_st _ M 1009 s r v _ = _
      unfold F_X4_choose_b6_st
      simp only [g1009_320, v1010, sM, a1.size, Option.bind_some]
      rw [if_neg (by rw [iw_le4 (by omega) (by omega)]; omega)]
    | succ e ih =>
      intro N i v hi hN c
      obtain ⟨N', rfl⟩ : ∃ N', N = N' + 1 := ⟨N - 1, by omega⟩
      have hi' : i < fs.length := by omega
      have I := E_isMeant hh hs h1 hr hl hn hi'
      have c2 := c.neg (by omega)
      have En : ∀ v3, F_X4_choose_b39 (F_X4_choose_b6 N') M 1009 s r v3 (iw (i : Int)) = F_X4_choose_b119 (F_X4_choose_b6 N') M 1009 s r v3 (iw (i : Int)) (pif (∀ j, 0 ≤ j → j < fs.length → mtk (fs.getD j fn0) nm ls → fitL (fs.getD i fn0).ps (fs.getD j fn0).ps) 1 0) := fun v3 => by
        unfold F_X4_choose_b39
        exact E_near hh hs h1 hr hl hn hi' fs.length xN 0 (by omega) (by omega)
      have go : ∀ w, Ch0 fs nm ls (i + 1) w → ∃ u, F_X4_choose_b127 (F_X4_choose_b6 N') M 1009 s r w (iw (i : Int)) = some u ∧ Chs fs nm ls u := fun w cw => by
        unfold F_X4_choose_b127
        simp only [iw_succ]
        exact ih N' (i + 1) w (by omega) (by omega) cw
      have fin : ∀ v3 : Int32, mtk (fs.getD i fn0) nm ls → (¬ bst fs nm ls i → Ch0 fs nm ls (i + 1) v3) → ∃ w, F_X4_choose_b39 (F_X4_choose_b6 N') M 1009 s r v3 (iw (i : Int)) = some w ∧ Chs fs nm ls w := by
        intro v3 m cw
        rw [En]
        unfold F_X4_choose_b119
        by_cases q : ∀ j, 0 ≤ j → j < fs.length → mtk (fs.getD j fn0) nm ls → fitL (fs.getD i fn0).ps (fs.getD j fn0).ps
        · rw [pif_pos q, if_neg (by decide)]
          exact go _ (Or.inl ⟨i, by omega, ⟨m, fun j hj => q j (Nat.zero_le _) hj⟩, rfl⟩)
        · rw [pif_neg q, if_pos rfl]
          exact go _ (cw (fun b => q (fun j _ hj => b.2 j hj)))
      show ∃ w, F_X4_choose_b6_st (F_X4_choose_b6 N') M 1009 s r v _ = some w ∧ _
      unfold F_X4_choose_b6_st
      simp only [g1009_320, v1010, v1009, sM, a1.size, Option.bind_some, if_pos ((iw_le4 (show i ≤ 2147483647 by omega) (show ea.length ≤ 2147483647 by omega)).mpr (by omega)), I]
      by_cases m : mtk (fs.getD i fn0) nm ls
      · rw [pif_pos m, if_neg (by decide)]
        by_cases hv : v < 0
        · rw [if_pos hv]
          refine fin _ m (fun nb => Or.inr ⟨fun k hk => ?_, Or.inl ⟨⟨i, by omega, m⟩, rfl⟩⟩)
          rcases Nat.lt_or_ge k i with x | x
          · exact c2.mp hv k x
          · rw [show k = i by omega]; exact nb
        · rw [if_neg hv]
          refine fin _ m (fun nb => ?_)
          rcases c with ⟨k, k1, k2, rfl⟩ | ⟨c, _⟩
          · exact Or.inl ⟨k, by omega, k2, rfl⟩
          · exact (hv (c2.mpr c)).elim
      · rw [pif_neg m, if_pos rfl]
        refine go _ ?_
        rcases c with ⟨k, k1, k2, rfl⟩ | ⟨c, c3⟩
        · exact Or.inl ⟨k, by omega, k2, rfl⟩
        · refine Or.inr ⟨fun k hk => ?_, ?_⟩
          · rcases Nat.lt_or_ge k i with x | x
            · exact c k x
            · rw [show k = i by omega]; exact fun b => m b.1
          · rcases c3 with ⟨⟨k, k1, k2⟩, rfl⟩ | ⟨c3, rfl⟩
            · exact Or.inl ⟨⟨k, by omega, k2⟩, rfl⟩
            · refine Or.inr ⟨fun k hk => ?_, rfl⟩
              rcases Nat.lt_or_ge k i with x | x
              · exact c3 k x
              · rw [show k = i by omega]; exact m
  unfold F_X4_choose
  exact L fs.length xN 0 _ (by omega) (by omega) (Or.inr ⟨fun k hk => by omega, Or.inr ⟨fun k hk => by omega, rfl⟩⟩)
