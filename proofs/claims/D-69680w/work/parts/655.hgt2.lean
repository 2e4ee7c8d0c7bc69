/-! ===== FORMULAS, 80: the model tells heights, whole ===== -/
section
variable {H K lp li di B : Nat} {ei : List Nat} {I : List Itm}
/-- items of an expression -/
def RHx (H K lp li : Nat) (M : Mem) (dp : Nat) (P : List Nat) (i L k : Nat) (hs : List Nat) : Prop := ∃ N dp' ep', (∀ n, F_X16_heightOf_b10 (n + L) M li lp (iw (i : Int)) = F_X16_heightOf_b10 n N li lp (iw ((i + L : Nat) : Int))) ∧ HG N H K lp dp' ep' (P ++ hs) ∧ RHt M N H lp dp dp' k
/-- the last item, which has so many parts -/
theorem M_hFin {M N : Mem} {dp dp' i L1 k k' cn : Nat} {ep' : List Nat} {P qs : List Nat} {it : Itm} (hF : ∀ n, F_X16_heightOf_b10 (n + L1) M li lp (iw (i : Int)) = F_X16_heightOf_b10 n N li lp (iw ((i + L1 : Nat) : Int))) (h : HG N H K lp dp' ep' (P ++ qs)) (r : RHt M N H lp dp dp' k) (hi : IHt N H B li di ei I) (hs : SubI I (i + L1) [it]) (ho : ¬ (it.op = 7 ∨ it.op = 9 ∨ it.op = 10))
    (hc : (if it.op = 4 ∨ it.op = 5 then 1 else if it.op = 6 ∨ it.op = 8 then 2 else if it.op = 11 then 3 else if it.op = 3 then it.n else 0) = iw (cn : Int)) (hq : qs.length = cn) (h31 : ∀ x ∈ qs, x ≤ 31) (hP : P.length + 1 ≤ K) (hcn : cn ≤ 100000) (hk : k + 1 ≤ k') : RHx H K lp li M dp P i (L1 + 1) k' [min (mxl qs + 1) 31] := by
  obtain ⟨s1, s2⟩ := hs.one
  have st := fun n => M_hOne h hi s1 n
  rw [s2] at st
  simp only [if_neg ho, hc] at st
  have hx : xN = 1099511627776 := rfl
  obtain ⟨N2, dp2, ep2, m1, m2, m3⟩ := M_b136 (li := li) (v2 := iw ((i + L1 : Nat) : Int)) (cn := cn) hP hcn cn xN 0 qs N ep' hq (by omega) (Nat.le_refl _) h31 (by omega) h
  rw [Nat.sub_self, iw_succ] at m1
  rw [Nat.zero_max] at m2
  refine ⟨N2, dp2, ep2, fun n => ?_, m2, ⟨r.1.trans m3.1, by have := r.2.1; have := m3.2.1; omega, by have := r.2.2; have := m3.2.2; omega⟩⟩
  rw [show n + (L1 + 1) = n + 1 + L1 by omega, hF (n + 1), st n]
  exact m1 (F_X16_heightOf_b10 n)
/-- an item that is passed over -/
theorem M_hSkip {M N : Mem} {dp' i L1 : Nat} {ep' : List Nat} {P' : List Nat} {it : Itm} (hF : ∀ n, F_X16_heightOf_b10 (n + L1) M li lp (iw (i : Int)) = F_X16_heightOf_b10 n N li lp (iw ((i + L1 : Nat) : Int))) (h : HG N H K lp dp' ep' P') (hi : IHt N H B li di ei I) (hs : SubI I (i + L1) [it]) (ho : it.op = 7 ∨ it.op = 9 ∨ it.op = 10) : ∀ n, F_X16_heightOf_b10 (n + (L1 + 1)) M li lp (iw (i : Int)) = F_X16_heightOf_b10 n N li lp (iw ((i + (L1 + 1) : Nat) : Int)) := fun n => by
  obtain ⟨s1, s2⟩ := hs.one
  have st := M_hOne h hi s1 n
  rw [s2] at st
  simp only [if_pos ho] at st
  rw [show n + (L1 + 1) = n + 1 + L1 by omega, hF (n + 1), st]
  rfl
theorem M_heights (hlp : H ≤ lp) : ∀ (e : Ex) (M : Mem) (dp : Nat) (ep : List Nat) (P : List Nat) (i : Nat), e.gd → HG M H K lp dp ep P → IHt M H B li di ei I → SubI I i (itm e) → P.length + e.nn ≤ K → RHx H K lp li M dp P i (itm e).length (3 * e.nn) e.hs
  | .lit p l b, M, dp, ep, P, i, g, h, hi, hs, hK => by
    have hK' : P.length + 1 ≤ K := hK
    exact M_hFin (L1 := 0) (qs := []) (cn := 0) (it := { op := 1, pl := p, n := l, bt := b }) (k := 0) (fun n => rfl) (by rw [List.append_nil]; exact h) (RHt.refl M H lp dp) hi hs (show ¬ ((1 : Int32) = 7 ∨ (1 : Int32) = 9 ∨ (1 : Int32) = 10) by decide) rfl rfl (fun x hx => by cases hx) hK' (by omega) (by show 0 + 1 ≤ 3 * 1; omega)
  | .nam p w, M, dp, ep, P, i, g, h, hi, hs, hK => by
    have hK' : P.length + 1 ≤ K := hK
    exact M_hFin (L1 := 0) (qs := []) (cn := 0) (it := { op := 2, pl := p, wd := w }) (k := 0) (fun n => rfl) (by rw [List.append_nil]; exact h) (RHt.refl M H lp dp) hi hs (show ¬ ((2 : Int32) = 7 ∨ (2 : Int32) = 9 ∨ (2 : Int32) = 10) by decide) rfl rfl (fun x hx => by cases hx) hK' (by omega) (by show 0 + 1 ≤ 3 * 1; omega)
  | .pre p s e, M, dp, ep, P, i, g, h, hi, hs, hK => by
    have hs' : SubI I i (itm e ++ [{ op := 4, pl := p, sg := txS s }]) := hs
    have hK' : P.length + (e.nn + 1) ≤ K := hK
    obtain ⟨N, dp', ep', f1, g1, r1⟩ := M_heights hlp e M dp ep P i g.2.1 h hi hs'.l (by omega)
    rw [hs_x e g.2.2] at g1
    have R := M_hFin f1 g1 r1 (hi.fh r1.1 hlp h.2.2.1.tg.2.1) hs'.r (show ¬ ((4 : Int32) = 7 ∨ (4 : Int32) = 9 ∨ (4 : Int32) = 10) by decide) (cn := 1) rfl rfl (fun x hx => by rw [List.mem_singleton.mp hx]; omega) (by omega) (by omega) (k' := 3 * (e.nn + 1)) (by omega)
    rw [show (itm (.pre p s e)).length = (itm e).length + 1 by show (itm e ++ [_]).length = _; rw [List.length_append, List.length_singleton]]
    have em : min (mxl [min e.ht 31] + 1) 31 = min (e.ht + 1) 31 := by show min (max (min e.ht 31) 0 + 1) 31 = _; omega
    rw [em] at R
    exact R
  | .cst p l e, M, dp, ep, P, i, g, h, hi, hs, hK => by
    have hs' : SubI I i (itm e ++ [{ op := 5, pl := p, n := l }]) := hs
    have hK' : P.length + (e.nn + 1) ≤ K := hK
    obtain ⟨N, dp', ep', f1, g1, r1⟩ := M_heights hlp e M dp ep P i g.2.1 h hi hs'.l (by omega)
    rw [hs_x e g.2.2] at g1
    have R := M_hFin f1 g1 r1 (hi.fh r1.1 hlp h.2.2.1.tg.2.1) hs'.r (show ¬ ((5 : Int32) = 7 ∨ (5 : Int32) = 9 ∨ (5 : Int32) = 10) by decide) (cn := 1) rfl rfl (fun x hx => by rw [List.mem_singleton.mp hx]; omega) (by omega) (by omega) (k' := 3 * (e.nn + 1)) (by omega)
    rw [show (itm (.cst p l e)).length = (itm e).length + 1 by show (itm e ++ [_]).length = _; rw [List.length_append, List.length_singleton]]
    have em : min (mxl [min e.ht 31] + 1) 31 = min (e.ht + 1) 31 := by show min (max (min e.ht 31) 0 + 1) 31 = _; omega
    rw [em] at R
    exact R
  | .bin p o a b, M, dp, ep, P, i, g, h, hi, hs, hK => by
    have hK' : P.length + (a.nn + b.nn + 1) ≤ K := hK
    have na := Ex.nn_pos a g.2.1.2
    have em : min (mxl ([min a.ht 31] ++ [min b.ht 31]) + 1) 31 = min (max a.ht b.ht + 1) 31 := by show min (max (min a.ht 31) (max (min b.ht 31) 0) + 1) 31 = _; omega
    have h2 : ∀ x ∈ [min a.ht 31] ++ [min b.ht 31], x ≤ 31 := fun x hx => by
      rcases List.mem_append.mp hx with q | q <;> rw [List.mem_singleton.mp q] <;> omega
    have t67 := h.2.2.1.tg.2.1
    by_cases sh : o = 18 ∨ o = 19
    · have ei' : itm (.bin p o a b) = itm a ++ [{ op := 7, pl := p, sg := sgT o }] ++ itm b ++ [{ op := 8, pl := p, sg := sgT o }] := by
        show (if o = 18 ∨ o = 19 then _ else _) = _
        rw [if_pos sh]
      rw [ei'] at hs ⊢
      obtain ⟨N, dp', ep', f1, g1, r1⟩ := M_heights hlp a M dp ep P i g.2.1.1 h hi hs.l.l.l (by omega)
      rw [hs_x a g.2.1.2] at g1
      have hi1 := hi.fh r1.1 hlp t67
      have f2 := M_hSkip f1 g1 hi1 hs.l.l.r (show (7 : Int32) = 7 ∨ (7 : Int32) = 9 ∨ (7 : Int32) = 10 from Or.inl rfl)
      have sb := hs.l.r
      have s8 := hs.r
      simp only [List.length_append, List.length_singleton] at sb s8 ⊢
      obtain ⟨N2, dp2, ep2, f3, g3, r3⟩ := M_heights hlp b N dp' ep' (P ++ [min a.ht 31]) (i + ((itm a).length + 1)) g.2.2.1 g1 hi1 sb (by rw [List.length_append, List.length_singleton]; omega)
      rw [hs_x b g.2.2.2, List.append_assoc] at g3
      have R := M_hFin (L1 := (itm a).length + 1 + (itm b).length) (fun n => by rw [show n + ((itm a).length + 1 + (itm b).length) = n + (itm b).length + ((itm a).length + 1) by omega, f2, f3, Nat.add_assoc]) g3 (r1.trans r3) (hi1.fh r3.1 hlp g1.2.2.1.tg.2.1) s8 (show ¬ ((8 : Int32) = 7 ∨ (8 : Int32) = 9 ∨ (8 : Int32) = 10) by decide) (cn := 2) rfl rfl h2 (by omega) (by omega) (k' := 3 * (a.nn + b.nn + 1)) (by omega)
      rw [em] at R
      exact R
    · have ei' : itm (.bin p o a b) = itm a ++ itm b ++ [{ op := 6, pl := p, sg := sgT o }] := by
        show (if o = 18 ∨ o = 19 then _ else _) = _
        rw [if_neg sh]
      rw [ei'] at hs ⊢
      obtain ⟨N, dp', ep', f1, g1, r1⟩ := M_heights hlp a M dp ep P i g.2.1.1 h hi hs.l.l (by omega)
      rw [hs_x a g.2.1.2] at g1
      have hi1 := hi.fh r1.1 hlp t67
      have sb := hs.l.r
      have s8 := hs.r
      simp only [List.length_append, List.length_singleton] at s8 ⊢
      obtain ⟨N2, dp2, ep2, f3, g3, r3⟩ := M_heights hlp b N dp' ep' (P ++ [min a.ht 31]) (i + (itm a).length) g.2.2.1 g1 hi1 sb (by rw [List.length_append, List.length_singleton]; omega)
      rw [hs_x b g.2.2.2, List.append_assoc] at g3
      have R := M_hFin (L1 := (itm a).length + (itm b).length) (fun n => by rw [show n + ((itm a).length + (itm b).length) = n + (itm b).length + (itm a).length by omega, f1, f3, Nat.add_assoc]) g3 (r1.trans r3) (hi1.fh r3.1 hlp g1.2.2.1.tg.2.1) s8 (show ¬ ((6 : Int32) = 7 ∨ (6 : Int32) = 9 ∨ (6 : Int32) = 10) by decide) (cn := 2) rfl rfl h2 (by omega) (by omega) (k' := 3 * (a.nn + b.nn + 1)) (by omega)
      rw [em] at R
      exact R
  | .cnd p z a b, M, dp, ep, P, i, g, h, hi, hs, hK => by
    have hK' : P.length + (z.nn + a.nn + b.nn + 1) ≤ K := hK
    have nz := Ex.nn_pos z g.1.2
    have na := Ex.nn_pos a g.2.1.2
    have em : min (mxl ([min z.ht 31] ++ ([min a.ht 31] ++ [min b.ht 31])) + 1) 31 = min (max z.ht (max a.ht b.ht) + 1) 31 := by show min (max (min z.ht 31) (max (min a.ht 31) (max (min b.ht 31) 0)) + 1) 31 = _; omega
    have h2 : ∀ x ∈ [min z.ht 31] ++ ([min a.ht 31] ++ [min b.ht 31]), x ≤ 31 := fun x hx => by
      rcases List.mem_append.mp hx with q | q
      · rw [List.mem_singleton.mp q]; omega
      · rcases List.mem_append.mp q with q | q <;> rw [List.mem_singleton.mp q] <;> omega
    have t67 := h.2.2.1.tg.2.1
    have ei' : itm (.cnd p z a b) = itm z ++ [{ op := 9, pl := p }] ++ itm a ++ [{ op := 10, pl := p }] ++ itm b ++ [{ op := 11, pl := p }] := rfl
    rw [ei'] at hs ⊢
    obtain ⟨N, dp', ep', f1, g1, r1⟩ := M_heights hlp z M dp ep P i g.1.1 h hi hs.l.l.l.l.l (by omega)
    rw [hs_x z g.1.2] at g1
    have hi1 := hi.fh r1.1 hlp t67
    have f2 := M_hSkip f1 g1 hi1 hs.l.l.l.l.r (show (9 : Int32) = 7 ∨ (9 : Int32) = 9 ∨ (9 : Int32) = 10 from Or.inr (Or.inl rfl))
    have sa := hs.l.l.l.r
    have s10 := hs.l.l.r
    have sb := hs.l.r
    have s11 := hs.r
    simp only [List.length_append, List.length_singleton] at sa s10 sb s11 ⊢
    obtain ⟨N2, dp2, ep2, f3, g3, r3⟩ := M_heights hlp a N dp' ep' (P ++ [min z.ht 31]) (i + ((itm z).length + 1)) g.2.1.1 g1 hi1 sa (by rw [List.length_append, List.length_singleton]; omega)
    rw [hs_x a g.2.1.2] at g3
    have hi2 := hi1.fh r3.1 hlp g1.2.2.1.tg.2.1
    have f4 := M_hSkip (L1 := (itm z).length + 1 + (itm a).length) (M := M) (i := i) (N := N2) (fun n => by rw [show n + ((itm z).length + 1 + (itm a).length) = n + (itm a).length + ((itm z).length + 1) by omega, f2, f3, Nat.add_assoc]) g3 hi2 s10 (show (10 : Int32) = 7 ∨ (10 : Int32) = 9 ∨ (10 : Int32) = 10 from Or.inr (Or.inr rfl))
    obtain ⟨N4, dp4, ep4, f5, g5, r5⟩ := M_heights hlp b N2 dp2 ep2 (P ++ [min z.ht 31] ++ [min a.ht 31]) (i + ((itm z).length + 1 + (itm a).length + 1)) g.2.2.1 g3 hi2 sb (by rw [List.length_append, List.length_append, List.length_singleton, List.length_singleton]; omega)
    rw [hs_x b g.2.2.2, List.append_assoc, List.append_assoc] at g5
    have R := M_hFin (L1 := (itm z).length + 1 + (itm a).length + 1 + (itm b).length) (fun n => by rw [show n + ((itm z).length + 1 + (itm a).length + 1 + (itm b).length) = n + (itm b).length + ((itm z).length + 1 + (itm a).length + 1) by omega, f4, f5, Nat.add_assoc]) g5 ((r1.trans r3).trans r5) (hi2.fh r5.1 hlp g3.2.2.1.tg.2.1) s11 (show ¬ ((11 : Int32) = 7 ∨ (11 : Int32) = 9 ∨ (11 : Int32) = 10) by decide) (cn := 3) rfl rfl h2 (by omega) (by omega) (k' := 3 * (z.nn + a.nn + b.nn + 1)) (by omega)
    rw [em] at R
    exact R
  | .cal p w r, M, dp, ep, P, i, g, h, hi, hs, hK => by
    have hs' : SubI I i (itm r ++ [{ op := 3, pl := p, wd := w, n := iw (r.cnt : Int) }]) := hs
    have hK' : P.length + (r.nn + 1) ≤ K := hK
    obtain ⟨N, dp', ep', f1, g1, r1⟩ := M_heights hlp r M dp ep P i g.2.1 h hi hs'.l (by omega)
    obtain ⟨c1, c2, c3⟩ := hs_r r g.2.2.1
    have cn := Ex.cnt_nn r g.2.2.1 g.2.1
    have kk := h.2.1.2.1
    have R := M_hFin f1 g1 r1 (hi.fh r1.1 hlp h.2.2.1.tg.2.1) hs'.r (show ¬ ((3 : Int32) = 7 ∨ (3 : Int32) = 9 ∨ (3 : Int32) = 10) by decide) (cn := r.cnt) rfl c2 c3 (by omega) (by omega) (k' := 3 * (r.nn + 1)) (by omega)
    rw [show (itm (.cal p w r)).length = (itm r).length + 1 by show (itm r ++ [_]).length = _; rw [List.length_append, List.length_singleton]]
    rw [c1, show min (min r.ht 31 + 1) 31 = min (r.ht + 1) 31 by omega] at R
    exact R
  | .anl, M, dp, ep, P, i, g, h, hi, hs, hK => ⟨M, dp, ep, fun n => rfl, by show HG M H K lp dp ep (P ++ []); rw [List.append_nil]; exact h, RHt.refl M H lp dp⟩
  | .acn e r, M, dp, ep, P, i, g, h, hi, hs, hK => by
    have hs' : SubI I i (itm e ++ itm r) := hs
    have hK' : P.length + (e.nn + r.nn) ≤ K := hK
    have ne := Ex.nn_pos e g.1.2
    obtain ⟨N, dp', ep', f1, g1, r1⟩ := M_heights hlp e M dp ep P i g.1.1 h hi hs'.l (by omega)
    rw [hs_x e g.1.2] at g1
    obtain ⟨N2, dp2, ep2, f2, g2, r2⟩ := M_heights hlp r N dp' ep' (P ++ [min e.ht 31]) (i + (itm e).length) g.2.1 g1 (hi.fh r1.1 hlp h.2.2.1.tg.2.1) hs'.r (by rw [List.length_append, List.length_singleton]; omega)
    have ln : (itm (.acn e r)).length = (itm e).length + (itm r).length := by show (itm e ++ itm r).length = _; rw [List.length_append]
    rw [ln]
    refine ⟨N2, dp2, ep2, fun n => by rw [show n + ((itm e).length + (itm r).length) = n + (itm r).length + (itm e).length by omega, f1, f2, Nat.add_assoc], ?_, ?_⟩
    · show HG N2 H K lp dp2 ep2 (P ++ (min e.ht 31 :: r.hs))
      simpa only [List.append_assoc, List.cons_append, List.nil_append] using g2
    · have := r1.trans r2
      exact ⟨this.1, by have := this.2.1; show m_nx N2 ≤ m_nx M + 3 * (e.nn + r.nn); omega, this.2.2⟩
end
/-- the height of an expression -/
theorem M_heightOf {M : Mem} {B li di : Nat} {ei : List Nat} {e : Ex} (st : ST M) (k0 : K0 M) (k4 : m_tg M 4 = 1091 ∧ m_ln M 4 = 0) (hi : IHt M (m_nx M) B li di ei (itm e)) (g : e.gd) (x : e.isx) (hn : e.nn ≤ 20000) : ∃ N, F_X16_heightOf M li = some (iw ((min e.ht 31 : Nat) : Int), N) ∧ Df n2 n2 n2 M N ∧ m_nx N ≤ m_nx M + 3 * e.nn + 1 ∧ m_sl N ≤ m_sl M + 6 * e.nn + 60 := by
  have h0 := st.1
  have c0 := NCl.start M 67
  have x67 : x_cn 67 = 3 := by decide
  obtain ⟨A, hA⟩ : ∃ A, A = mo M 67 := ⟨_, rfl⟩
  rw [← hA] at c0
  have iA : cI A (m_nx M) 4289 = 0 := by rw [hA]; show cI (m_new M 67 (x_cn 67)) _ _ = _; rw [cI_new, if_pos rfl]
  obtain ⟨D, d1, d2, d3, d4, d5⟩ := AL.init (by have := c0.2.1; omega) c0.2.2.2 iA
  have dMD : Df n2 n2 n2 M D := c0.1.then d3 (fun x i hx q => by unfold at1 at q; omega) (fun _ _ _ q => q) (fun x i hx q => by unfold at1 at q; omega)
  have tD : m_tg D (m_nx M) = 67 := d2.2.1
  have nD : m_nx D = m_nx M + 1 := by rw [d4]; exact c0.2.1
  have sD : m_sl D = m_sl M + x_cn 67 := by rw [d5]; exact c0.2.2.1
  have hg : HG D (m_nx M) (e.nn + 1) (m_nx M) 4 [] [] := ⟨⟨st.n dMD, k0.df st dMD (fun _ _ _ q => q) (fun _ _ _ q => q), (dMD.2.2 4 (by omega)).1.trans k4.1, (dMD.2.2 4 (by omega)).2.1.trans k4.2⟩, ⟨h0, by omega, Nat.le_refl _⟩, ⟨d2, Nat.zero_le _, Or.inl rfl⟩, fun q => by omega, rfl, fun i hi => absurd hi (Nat.not_lt_zero _)⟩
  have hiD : IHt D (m_nx M) B li di ei (itm e) := by
    obtain ⟨⟨h1, h2, h3⟩, h4, h5⟩ := hi
    exact ⟨⟨h1.df dMD (fun q => q) (fun q => q) (fun _ _ q => q), h2, h3⟩, h4, fun j hj => (h5 j hj).df dMD (fun _ _ _ _ _ => ⟨fun q => q, fun q => q, fun q => q⟩)⟩
  have hs : SubI (itm e) 0 (itm e) := ⟨by omega, fun j hj => by rw [Nat.zero_add]⟩
  obtain ⟨N, dp', ep', f1, g1, r1⟩ := M_heights (Nat.le_refl _) e D 4 [] [] 0 g hg hiD hs (by show 0 + e.nn ≤ _; omega)
  rw [hs_x e x, List.nil_append] at g1
  have hiN := hiD.fh r1.1 (Nat.le_refl _) tD
  have L := itm_len e
  have hx : xN = 1099511627776 := rfl
  have ll : hiN.1.1.len = hiN.1.1.len := rfl
  obtain ⟨bx, -⟩ := g1.2.2.2.2.2 0 (by show 0 < 1; omega)
  have gl : ep'.length = 1 := g1.2.2.2.2.1
  have fin : ∀ n, F_X16_heightOf_b10 (n + 1) N li (m_nx M) (iw ((0 + (itm e).length : Nat) : Int)) = some (iw ((min e.ht 31 : Nat) : Int), N) := fun n => by
    show F_X16_heightOf_b10_st (F_X16_heightOf_b10 n) N li (m_nx M) _ = _
    unfold F_X16_heightOf_b10_st
    rw [vg_of hiN.1.1.2.1 (show x_isa 67 67 = true by decide), Option.bind_some, hiN.1.1.size, Option.bind_some, hiN.2.1, if_neg (by rw [iw_le4 (by omega) (by omega)]; omega), vg_of g1.2.2.1.tg.2.1 (show x_isa 67 67 = true by decide), Option.bind_some, show F_J6_get N (m_nx M) 0 = _ from g1.2.2.1.1.get (show 0 < ep'.length by omega), Option.bind_some, bx.cc, Option.bind_some, bx.vg, Option.bind_some, bx.val, Option.bind_some]
    rfl
  refine ⟨N, ?_, ?_, by have := r1.2.1; omega, ?_⟩
  · unfold F_X16_heightOf
    dsimp only
    rw [← hA, ng_of c0.2.2.2 (by decide), Option.bind_some, d1, Option.bind_some]
    have := f1 (xN - (itm e).length)
    rw [show xN - (itm e).length + (itm e).length = xN by omega] at this
    rw [show (0 : Int32) = iw ((0 : Nat) : Int) from rfl, this, show xN - (itm e).length = xN - (itm e).length - 1 + 1 by omega]
    exact fin _
  · exact dMD.then r1.1 (fun y i hy q => by unfold at1 at q; omega) (fun _ _ _ q => q) (fun y i hy q => by omega)
  · have a1 := r1.2.2
    have a2 := g1.2.2.1.rcb
    omega
