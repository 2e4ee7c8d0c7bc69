/-! ===== FORMULAS, 72: what items mean: built-in functions ===== -/
section
variable {C : MeC} {M N : Mem} {V W : MeV} {P : List Int32} {O : List Mo} {B ia lm dm : Nat} {S : Sc} {Z : Nat → Prop}
/-- a cell that is none of the state's -/
theorem MeG.w5 (h : MeG C M V P O) {x : Nat} (hx : C.H ≤ x) (ht : m_tg M x = 1005) (i : Nat) (v : Int32) : MeG C (wI M x i v) V P O ∧ cst3 (wI M x i v) V = cst3 M V := by
  obtain ⟨h1, h2, h3, h6, h7⟩ := h
  obtain ⟨t1, t2, t3⟩ := h3.1.tg
  obtain ⟨u1, u2, u3⟩ := h6.tg
  obtain ⟨v1, v2, v3⟩ := h7.1.tg
  have b1 := h1.2.1.1
  have d : Df (at1 x) n2 n2 M (wI M x i v) := Df.wI v rfl
  have nx : ∀ y, m_tg M y ≠ 1005 → ∀ i, ¬ at1 x y i := fun y hy i q => by unfold at1 at q; rw [q] at hy; exact hy ht
  obtain ⟨p1, p2⟩ := h3.df d (nx _ (by omega) _) (fun q => q) (fun _ _ q => q) (fun y i hy q => by unfold at1 at q; omega)
  obtain ⟨q1, q2⟩ := h6.df d (nx _ (by omega) _) (fun q => q) (fun _ _ q => q)
  obtain ⟨r1, r2⟩ := h7.df d (nx _ (by omega) _) (fun q => q) (fun _ _ q => q) (fun y i hy => ⟨nx _ (by omega) _, fun q => q, fun q => q⟩)
  exact ⟨⟨h1.df d (fun y i q => by unfold at1 at q; omega) (fun y i q => q.elim), h2, p1, q1, r1⟩, by unfold cst3; rw [p2, q2, r2]⟩
theorem take_snoc {ls : List Int32} {m : Nat} (h : m < ls.length) : ls.take (m + 1) = ls.take m ++ [ls.getD m 0] := by
  rw [List.take_add_one, List.getD_eq_getElem?_getD, List.getElem?_eq_getElem h]
  rfl
/-- the lanes of the arguments are taken -/
theorem M_b14 {lr kk : Nat} {ls : List Int32} (hl : ls.length ≤ 100000) (hr0 : m_nx M ≤ lr) : ∀ (m fu : Nat) (N : Mem) (W : MeV), m ≤ ls.length → m + 1 ≤ fu → OKs C M V N W (P ++ ls.take m) O kk → (lr < m_nx N ∧ C.H ≤ lr ∧ m_tg N lr = 1005 ∧ m_ln N lr = ls.length) → (∀ i, m ≤ i → i < ls.length → cI N lr i = ls.getD i 0) → ∃ N' W', F_X45_call_b14 fu N C.v0 ia lr (iw ((m : Int) - 1)) = F_X45_call_b14 1 N' C.v0 ia lr (-1) ∧ OKs C M V N' W' P O kk ∧ lr < m_nx N' ∧ RIl N' lr ls := by
  intro m
  induction m with
  | zero =>
    intro fu N W hm hf ok hr hc
    obtain ⟨fu, rfl⟩ : ∃ k, fu = k + 1 := ⟨fu - 1, by omega⟩
    rw [List.take_zero, List.append_nil] at ok
    refine ⟨N, W, ?_, ok, hr.1, hr.2.2.1, hr.2.2.2, fun i hi => hc i (Nat.zero_le _) hi⟩
    have e : iw (((0 : Nat) : Int) - 1) = (-1 : Int32) := rfl
    rw [e]
    rw [show F_X45_call_b14 (fu + 1) N C.v0 ia lr (-1) = F_X45_call_b14_st (F_X45_call_b14 fu) N C.v0 ia lr (-1) from rfl, show F_X45_call_b14 1 N C.v0 ia lr (-1) = F_X45_call_b14_st (F_X45_call_b14 0) N C.v0 ia lr (-1) from rfl]
    unfold F_X45_call_b14_st
    rw [if_pos (by decide), if_pos (by decide)]
  | succ m ih =>
    intro fu N W hm hf ok hr hc
    obtain ⟨fu, rfl⟩ : ∃ k, fu = k + 1 := ⟨fu - 1, by omega⟩
    have ok' := ok
    rw [take_snoc (by omega), ← List.append_assoc] at ok'
    obtain ⟨N1, W1, n1, nq⟩ := OKs.take ok'.1
    have f1 := nq.2.1.1
    have tN1 : m_tg N1 lr = 1005 := (f1.2.2 lr hr.1).1.trans hr.2.2.1
    have lN1 : m_ln N1 lr = ls.length := (f1.2.2 lr hr.1).2.1.trans hr.2.2.2
    have nn := f1.1
    have tg := ok.1.tg3
    have ci : ∀ i, cI N1 lr i = cI N lr i := fun i => f1.cI hr.1 (fun q => by
      unfold pG' at q
      have := hr.2.2.1
      rcases q with q | q | q
      · rw [q] at this; omega
      · rw [q] at this; omega
      · rw [q] at this; omega)
    have e : iw (((m + 1 : Nat) : Int) - 1) = iw (m : Int) := by congr 1; omega
    obtain ⟨w1, w2⟩ := nq.1.w5 hr.2.1 tN1 m (ls.getD m 0)
    have tot := ok'.trans nq
    have ok2 : OKs C M V (wI N1 lr m (ls.getD m 0)) W1 (P ++ ls.take m) O kk := by
      refine ⟨w1, ⟨?_, tot.2.1.2.1, ?_⟩, tot.2.2⟩
      · exact tot.2.1.1.then (Df.wI (P := at1 lr) (Q := n2) (R := n2) _ rfl) (fun y i hy q => by unfold at1 at q; omega) (fun _ _ _ q => q) (fun _ _ _ q => q.elim)
      · rw [w2]; exact tot.2.1.2.2
    obtain ⟨N', W', x1, x2, x3, x4⟩ := ih fu (wI N1 lr m (ls.getD m 0)) W1 (by omega) (by omega) ok2 ⟨by show lr < m_nx N1; omega, hr.2.1, tN1, lN1⟩ (fun i i1 i2 => by
      rw [cI_wI]
      by_cases q : i = m
      · rw [if_pos ⟨rfl, q⟩, q]
      · rw [if_neg (fun z => q z.2), ci]; exact hc i (by omega) i2)
    refine ⟨N', W', ?_, x2, x3, x4⟩
    rw [e, show F_X45_call_b14 (fu + 1) N C.v0 ia lr (iw (m : Int)) = F_X45_call_b14_st (F_X45_call_b14 fu) N C.v0 ia lr (iw (m : Int)) from rfl]
    unfold F_X45_call_b14_st
    rw [if_neg (iw_nn0 (show m ≤ 2147483647 by omega)), ok.1.v, Option.bind_some, n1, Option.bind_some, si_of _ tN1 lN1 (show m < ls.length by omega) (by omega), Option.bind_some, show iw (m : Int) + -1 = iw ((m : Int) - 1) by rw [show (-1 : Int32) = iw (-1) from rfl, iw_add]; rfl]
    exact x1
/-- whether lanes are right, one after the other -/
theorem M_b67s {lr f : Nat} {ls : List Int32} {two wh : Bool} {n i p : Nat} (h : MeG C M V P O) (hi : IMm M B ia { op := 3, pl := p, wd := [], n := 0 } ∨ ∃ w m, IMm M B ia { op := 3, pl := p, wd := w, n := m }) (hr : RIl M lr ls) (hl : ls.length ≤ 1000000) (hi' : i < ls.length) (hk : Lk (ls.getD i 0)) : F_X45_built_b67 (n + 1) M C.v0 ia (iw (f : Int)) lr (mr two) (mr wh) (iw (i : Int)) = if inK wh (ls.getD i 0) then F_X45_built_b67 n M C.v0 ia (iw (f : Int)) lr (mr two) (mr wh) (iw ((i + 1 : Nat) : Int)) else some (.inr (m_nx M, mT M 2 (iw (p : Int)))) := by
  have gp : gi M ia 2881 = some (iw (p : Int)) := by
    rcases hi with q | ⟨w, m, q⟩
    · exact q.pl
    · exact q.pl
  rw [show F_X45_built_b67 (n + 1) M C.v0 ia (iw (f : Int)) lr (mr two) (mr wh) (iw (i : Int)) = F_X45_built_b67_st (F_X45_built_b67 n) M C.v0 ia (iw (f : Int)) lr (mr two) (mr wh) (iw (i : Int)) from rfl]
  unfold F_X45_built_b67_st F_X45_built_b97
  have g := ai_of hr.1 hr.2.1 hi' (by omega)
  rw [hr.2.2 i hi'] at g
  rw [an_of hr.1 (by decide) hr.2.1, Option.bind_some, if_pos (by rw [iw_le4 (by omega) (by omega)]; exact hi')]
  simp only [g, y_isNum hk, y_isWh hk, gp, h.v, iw_succ, Option.bind_some]
  cases wh with
  | false =>
    rw [if_pos (show mr false = 0 by decide)]
    by_cases q : isNk (ls.getD i 0)
    · rw [decide_eq_true q, show mr true = 1 from rfl, M_mustT h, tb_l, if_pos (inK_f.mpr q)]
    · rw [decide_eq_false q, show mr false = 0 from rfl, M_mustF h, if_neg (fun w => q (inK_f.mp w))]; rfl
  | true =>
    rw [if_neg (show ¬ mr true = 0 by decide)]
    by_cases q : isWk (ls.getD i 0)
    · rw [decide_eq_true q, show mr true = 1 from rfl, M_mustT h, tb_l, if_pos (inK_t.mpr q)]
    · rw [decide_eq_false q, show mr false = 0 from rfl, M_mustF h, if_neg (fun w => q (inK_t.mp w))]; rfl
/-- the step of a built-in function -/
def opF (f : Nat) (i : Int32) (ls : List Int32) : Mo := { op := 17, n := iw (f : Int), k := ls.getD 0 0, j := ls.getD (ls.length - 1) 0, to := i }
theorem M_b67e {lr f : Nat} {ls : List Int32} {wh : Bool} {n : Nat} (h : MeG C M V P O) (hr : RIl M lr ls) (hrn : lr < m_nx M) (hk : ∀ l ∈ ls, Lk l) (hf : f < 15) (hn : ls.length = if 2 ≤ f ∧ f ≤ 8 then 2 else 1) (hP : P.length + 1 ≤ C.K) (hO : O.length + 1 ≤ C.K) : ∃ N W, F_X45_built_b67 (n + 1) M C.v0 ia (iw (f : Int)) lr (mr (decide (2 ≤ f ∧ f ≤ 8))) (mr wh) (iw (ls.length : Int)) = some (.inl N) ∧ OKs C M V N W (P ++ [if 11 ≤ f then 7 else wdk (ls.getD 0 0) (ls.getD (ls.length - 1) 0)]) (O ++ [opF f (if 11 ≤ f then 7 else wdk (ls.getD 0 0) (ls.getD (ls.length - 1) 0)) ls]) 10 := by
  have l12 : 1 ≤ ls.length ∧ ls.length ≤ 2 := by rw [hn]; split <;> omega
  rw [show F_X45_built_b67 (n + 1) M C.v0 ia (iw (f : Int)) lr (mr (decide (2 ≤ f ∧ f ≤ 8))) (mr wh) (iw (ls.length : Int)) = F_X45_built_b67_st (F_X45_built_b67 n) M C.v0 ia (iw (f : Int)) lr (mr (decide (2 ≤ f ∧ f ≤ 8))) (mr wh) (iw (ls.length : Int)) from rfl]
  unfold F_X45_built_b67_st
  rw [an_of hr.1 (by decide) hr.2.1, Option.bind_some, if_neg (by rw [iw_le4 (by omega) (by omega)]; omega), h.v, Option.bind_some]
  obtain ⟨N1, W1, n1, n2⟩ := OKs.op h 17 hO
  obtain ⟨e1, n3⟩ := n2.pn (iw (f : Int))
  have tg := h.tg3
  have ntl : ∀ i, ¬ pG' C lr i := fun i q => by
    unfold pG' at q
    have := hr.1
    rcases q with q | q | q
    · rw [q] at this; omega
    · rw [q] at this; omega
    · rw [q] at this; omega
  have rr : ∀ {N : Mem}, FG C M N → RIl N lr ls := fun {N} f1 => hr.df f1 hrn ntl
  have ga : ∀ {N : Mem}, FG C M N → ∀ i, i < ls.length → ai N lr (iw (i : Int)) = some (ls.getD i 0) := fun {N} f1 i hi => by
    have z := rr f1
    rw [ai_of z.1 z.2.1 hi (by omega), z.2.2 i hi]
  rw [n1, Option.bind_some, e1, Option.bind_some, show ai _ lr 0 = _ from ga n3.1.2.1.1 0 (by omega), Option.bind_some]
  obtain ⟨e2, n4⟩ := n3.pk (ls.getD 0 0)
  rw [e2, Option.bind_some]
  have k0 : Lk (ls.getD 0 0) := hk _ (getD_in (by omega))
  have k1 : Lk (ls.getD (ls.length - 1) 0) := hk _ (getD_in (by omega))
  obtain ⟨N4, hN4⟩ : ∃ N4, N4 = wI (wI N1 (m_nx M) 3077 (iw (f : Int))) (m_nx M) 3074 (ls.getD 0 0) := ⟨_, rfl⟩
  rw [← hN4] at n4 ⊢
  have ej : (if mr (decide (2 ≤ f ∧ f ≤ 8)) = 0 then (ai N4 lr 0).bind fun t23 => F_X45_built_b148 N4 (m_nx M) t23 C.v0 (iw (f : Int)) (m_nx M) else (ai N4 lr 1).bind fun t24 => F_X45_built_b148 N4 (m_nx M) t24 C.v0 (iw (f : Int)) (m_nx M)) = F_X45_built_b148 N4 (m_nx M) (ls.getD (ls.length - 1) 0) C.v0 (iw (f : Int)) (m_nx M) := by
    by_cases q : 2 ≤ f ∧ f ≤ 8
    · rw [if_pos q] at hn
      rw [decide_eq_true q, if_neg (show ¬ mr true = 0 by decide), show ai N4 lr 1 = _ from ga n4.1.2.1.1 1 (by omega), Option.bind_some, hn]
    · rw [if_neg q] at hn
      rw [decide_eq_false q, if_pos (show mr false = 0 by decide), show ai N4 lr 0 = _ from ga n4.1.2.1.1 0 (by omega), Option.bind_some, hn]
  rw [ej]
  unfold F_X45_built_b148
  obtain ⟨e3, n5⟩ := n4.pj (ls.getD (ls.length - 1) 0)
  rw [e3, Option.bind_some]
  obtain ⟨N5, hN5⟩ : ∃ N5, N5 = wI N4 (m_nx M) 3075 (ls.getD (ls.length - 1) 0) := ⟨_, rfl⟩
  rw [← hN5] at n5 ⊢
  obtain ⟨to, hto⟩ : ∃ to, to = (if 11 ≤ f then 7 else wdk (ls.getD 0 0) (ls.getD (ls.length - 1) 0)) := ⟨_, rfl⟩
  have Lt : Lk to := by
    rw [hto]
    split
    · unfold Lk; decide
    · exact wdk_Lk k0 k1
  have g74 : gi N5 (m_nx M) 3074 = some (ls.getD 0 0) := by rw [gi_of n5.2.1.2.2 (show x_fi 48 3074 = true by decide), n5.2.2.1.2.2.2.1]
  have g75 : gi N5 (m_nx M) 3075 = some (ls.getD (ls.length - 1) 0) := by rw [gi_of n5.2.1.2.2 (show x_fi 48 3075 = true by decide), n5.2.2.1.2.2.2.2.1]
  have et : (if 10 < iw (f : Int) then F_X45_built_b177 N5 (m_nx M) 7 C.v0 (m_nx M) else (gi N5 (m_nx M) 3074).bind fun t6 => (gi N5 (m_nx M) 3075).bind fun t7 => (F_X16_wider t6 t7).bind fun z8 => F_X45_built_b177 N5 (m_nx M) z8 C.v0 (m_nx M)) = F_X45_built_b177 N5 (m_nx M) to C.v0 (m_nx M) := by
    rw [g74, Option.bind_some, g75, Option.bind_some, y_wider k0 k1, Option.bind_some, hto]
    by_cases q : 10 < f
    · rw [if_pos ((prmL_of hf).2.2.1.mpr q), if_pos (by omega)]
    · rw [if_neg (fun w => q ((prmL_of hf).2.2.1.mp w)), if_neg (by omega)]
  rw [et, ← hto]
  unfold F_X45_built_b177
  obtain ⟨e4, n6⟩ := n5.pto to
  have g76 : gi (wI N5 (m_nx M) 3076 to) (m_nx M) 3076 = some to := by rw [gi_of n6.2.1.2.2 (show x_fi 48 3076 = true by decide), cI_wI, if_pos ⟨rfl, rfl⟩]
  rw [e4, Option.bind_some, g76, Option.bind_some, n6.1.1.v, Option.bind_some]
  obtain ⟨N7, W7, x1, x2⟩ := OKs.give Lt n6.1.1 hP
  rw [x1, Option.bind_some]
  exact ⟨N7, W7, rfl, (n6.1.trans x2).mono (by omega)⟩
end
