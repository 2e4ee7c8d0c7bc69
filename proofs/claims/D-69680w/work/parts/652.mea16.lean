/-! ===== FORMULAS, 77: what items mean: whole ===== -/
section
variable {C : MeC} {B lm dm li di : Nat} {S : Sc} {Z : Nat → Prop} {ei : List Nat} {I : List Itm}
def IHx (C : MeC) (B lm dm li di : Nat) (S : Sc) (Z : Nat → Prop) (ei : List Nat) (I : List Itm) (e : Ex) : Prop := ∀ (M : Mem) (V : MeV) (P : List Int32) (O : List Mo) (i : Nat), e.gd → MeG C M V P O → CMx C M B S Z lm dm → ITx C M B li di ei I → SubI I i (itm e) → BDx C V P O e.nn → RMx C M V P O li i (itm e).length (50 * e.nn - 5 * e.wg) (ck S e)
theorem M_meanC (hS : S.ok) {p : Nat} {z a b : Ex} (ihz : IHx C B lm dm li di S Z ei I z) (iha : IHx C B lm dm li di S Z ei I a) (ihb : IHx C B lm dm li di S Z ei I b)
    (M : Mem) (V : MeV) (P : List Int32) (O : List Mo) (i : Nat) (g : (Ex.cnd p z a b).gd) (h : MeG C M V P O) (hc : CMx C M B S Z lm dm) (hi : ITx C M B li di ei I) (hs : SubI I i (itm (.cnd p z a b))) (hd : BDx C V P O (z.nn + a.nn + b.nn + 1)) : RMx C M V P O li i (itm (.cnd p z a b)).length (50 * (z.nn + a.nn + b.nn + 1) - 5 * 1) (ck S (.cnd p z a b)) := by
  obtain ⟨d1, d2, d3⟩ := hd
  have xz := Ex.wg_x z g.1.2
  have xa := Ex.wg_x a g.2.1.2
  have xb := Ex.wg_x b g.2.2.2
  have nz := Ex.nn_pos z g.1.2
  have na := Ex.nn_pos a g.2.1.2
  have nb := Ex.nn_pos b g.2.2.2
  have ei' : itm (.cnd p z a b) = itm z ++ [{ op := 9, pl := p }] ++ itm a ++ [{ op := 10, pl := p }] ++ itm b ++ [{ op := 11, pl := p }] := rfl
  rw [ei'] at hs ⊢
  have sz := hs.l.l.l.l.l
  have s9 := hs.l.l.l.l.r.one
  have sa := hs.l.l.l.r
  have s10 := hs.l.l.r.one
  have sb := hs.l.r
  have s11 := hs.r.one
  simp only [List.length_append, List.length_singleton] at sa s10 sb s11 ⊢
  show RMx C M V P O li i _ _ (cthen (ck S z) fun t => cthen (ck S a) fun x => cthen (ck S b) fun y => oft p (ckD t x y))
  have IZ := ihz M V P O i g.1.1 h hc hi sz ⟨by omega, by omega, by omega⟩
  cases hcz : ck S z with
  | inl q =>
    rw [hcz] at IZ
    exact IZ.err (by omega) (by omega)
  | inr t =>
  rw [hcz] at IZ
  obtain ⟨N, W, f1, ok⟩ := IZ
  obtain ⟨hkz, tz⟩ := ck_Lk hS g.1.1 g.1.2 hcz
  obtain ⟨wt1, -, -, -, wnn⟩ := ck_wt hS z t g.1.1 hcz
  have lz := (oM_len t O.length wt1).1 tz
  rw [wnn] at lz
  rw [Tx.pls_x t tz] at ok
  have hcN := hc.fg ok.2.1.1 h
  have hiN := hi.fg ok.2.1.1 h
  have im9 := hiN.2.2 _ s9.1
  rw [s9.2] at im9
  obtain ⟨Z0, hZ0⟩ : ∃ Z0, Z0 = oM t O.length := ⟨_, rfl⟩
  rw [← hZ0] at ok lz
  have l1 : (O ++ Z0).length = O.length + Z0.length := List.length_append
  obtain ⟨N2, W2, av, bv, m1, m2, m3, m4, m5, m6, m7⟩ := M_one9 ok.1 im9 (by omega) (by rw [ok.2.2.2]; omega)
  have st9 := fun n => M_stepI hiN ok.1 s9.1 n
  have f2 : ∀ n, F_X45_all_b2 (n + ((itm z).length + 1)) M C.v0 li (iw (i : Int)) = F_X45_all_b2 n N2 C.v0 li (iw ((i + ((itm z).length + 1) : Nat) : Int)) := fun n => by
    rw [show n + ((itm z).length + 1) = n + 1 + (itm z).length by omega, f1 (n + 1), st9 n, m1]
    rfl
  have r2 := ok.2.1.trans m3
  have hc2 := hcN.fg m3.1 ok.1
  have hi2 := hiN.fg m3.1 ok.1
  have l2 : (O ++ Z0 ++ [({ op := 15 } : Mo)]).length = O.length + Z0.length + 1 := by rw [List.length_append, List.length_singleton, l1]
  have eb2 : W2.eb.length = V.eb.length + 1 := by rw [m5, List.length_append, List.length_singleton, ok.2.2.2]
  have IA := iha N2 W2 P _ (i + ((itm z).length + 1)) g.2.1.1 m2 hc2 hi2 sa ⟨by omega, by omega, by omega⟩
  cases hca : ck S a with
  | inl q =>
    rw [hca] at IA
    exact RMx.pre f2 r2 IA (by omega) (by omega)
  | inr x =>
  rw [hca] at IA
  obtain ⟨N3, W3, f3, ok3⟩ := IA
  obtain ⟨hkx, tx⟩ := ck_Lk hS g.2.1.1 g.2.1.2 hca
  obtain ⟨wt2, -, -, -, wnn2⟩ := ck_wt hS a x g.2.1.1 hca
  have lx := (oM_len x (O.length + Z0.length + 1) wt2).1 tx
  rw [wnn2] at lx
  rw [Tx.pls_x x tx, l2] at ok3
  obtain ⟨X0, hX0⟩ : ∃ X0, X0 = oM x (O.length + Z0.length + 1) := ⟨_, rfl⟩
  rw [← hX0] at ok3 lx
  have hc3 := hc2.fg ok3.2.1.1 m2
  have hi3 := hi2.fg ok3.2.1.1 m2
  have im10 := hi3.2.2 _ s10.1
  rw [s10.2] at im10
  have b3 := m6.fg ok3.2.1.1 m2.tg3
  obtain ⟨fs3, hfs3⟩ := ok3.2.2.1
  have le : W.eo.length = (O ++ Z0).length := ok.1.2.2.2.2.2.1
  have eo3 : W3.eo.getD (O ++ Z0).length 0 = av := by
    rw [hfs3, m4, List.append_assoc, ← le, getD_r (Nat.le_refl _), Nat.sub_self]
    rfl
  have ok3g : MeG C N3 W3 (P ++ [x.ln]) ((O ++ Z0) ++ (({ op := 15 } : Mo) :: X0)) := by
    have := ok3.1
    simpa only [List.append_assoc, List.cons_append, List.nil_append] using this
  have r3 := r2.trans ok3.2.1
  have l3 : ((O ++ Z0) ++ (({ op := 15 } : Mo) :: X0)).length = O.length + Z0.length + 1 + X0.length := by rw [List.length_append, List.length_cons, l1]; omega
  have st10 := fun n => M_stepI hi3 ok3.1 s10.1 n
  obtain ⟨N4, W4, wv, gv, b2v, y1, y2, y3, y4, y5, y6, y7, y8, y9⟩ := M_one10 ok3g im10 (by rw [ok3.2.2.2, m5]) b3 eo3 (by omega) (by rw [ok3.2.2.2]; omega)
  have f4 : ∀ n, F_X45_all_b2 (n + ((itm z).length + 1 + (itm a).length + 1)) M C.v0 li (iw (i : Int)) = F_X45_all_b2 n N4 C.v0 li (iw ((i + ((itm z).length + 1 + (itm a).length + 1) : Nat) : Int)) := fun n => by
    rw [show n + ((itm z).length + 1 + (itm a).length + 1) = n + 1 + (itm a).length + ((itm z).length + 1) by omega, f2 (n + 1 + (itm a).length), f3 (n + 1), show i + ((itm z).length + 1) + (itm a).length = i + ((itm z).length + 1 + (itm a).length) by omega, st10 n, y1]
    rfl
  have nM : m_nx M ≤ m_nx N := ok.2.1.1.1
  have r4 : RG C M N4 V W4 (50 * z.nn - 5 * z.wg + 10 + (50 * a.nn - 5 * a.wg) + 10) := y3 M V _ r3 (Nat.le_trans nM m7)
  have f34 : FG C N3 N4 ∨ True := Or.inr trivial
  have hc4 : CMx C N4 B S Z lm dm := hc.fg r4.1 h
  have hi4 : ITx C N4 B li di ei I := hi.fg r4.1 h
  have l4 : ((O ++ Z0) ++ (({ op := 15, jp := iw (((O ++ Z0).length + X0.length + 3 : Nat) : Int) } : Mo) :: (X0 ++ [({ op := 5 } : Mo)] ++ [({ op := 16 } : Mo)]))).length = O.length + Z0.length + 1 + X0.length + 2 := by
    simp only [List.length_append, List.length_cons, List.length_nil]
    omega
  have y2' : MeG C N4 W4 P ((O ++ Z0) ++ (({ op := 15, jp := iw (((O ++ Z0).length + X0.length + 3 : Nat) : Int) } : Mo) :: (X0 ++ [({ op := 5 } : Mo)] ++ [({ op := 16 } : Mo)]))) := y2
  have eb4 : W4.eb.length = V.eb.length + 2 := by rw [y5, List.length_append, List.length_singleton, ok3.2.2.2]; omega
  have IB := ihb N4 W4 P _ (i + ((itm z).length + 1 + (itm a).length + 1)) g.2.2.1 y2' hc4 hi4 sb ⟨by omega, by omega, by omega⟩
  cases hcb : ck S b with
  | inl q =>
    rw [hcb] at IB
    exact RMx.pre f4 r4 IB (by omega) (by omega)
  | inr y =>
  rw [hcb] at IB
  obtain ⟨N5, W5, f5, ok5⟩ := IB
  obtain ⟨hky, ty⟩ := ck_Lk hS g.2.2.1 g.2.2.2 hcb
  obtain ⟨wt3, -, -, -, wnn3⟩ := ck_wt hS b y g.2.2.1 hcb
  have ly := (oM_len y (O.length + Z0.length + 1 + X0.length + 2) wt3).1 ty
  rw [wnn3] at ly
  rw [Tx.pls_x y ty, l4] at ok5
  obtain ⟨Y0, hY0⟩ : ∃ Y0, Y0 = oM y (O.length + Z0.length + 1 + X0.length + 2) := ⟨_, rfl⟩
  rw [← hY0] at ok5 ly
  have r5 := r4.trans ok5.2.1
  have hi5 := hi4.fg ok5.2.1.1 y2
  have im11 := hi5.2.2 _ s11.1
  rw [s11.2] at im11
  have c1 := y7.fg ok5.2.1.1 y2.tg3
  have c2 := y6.fg ok5.2.1.1 y2.tg3
  obtain ⟨Ow, hOw⟩ : ∃ Ow, Ow = (O ++ Z0) ++ (({ op := 15, jp := iw (((O ++ Z0).length + X0.length + 3 : Nat) : Int) } : Mo) :: X0) := ⟨_, rfl⟩
  have lOw : Ow.length = O.length + Z0.length + 1 + X0.length := by rw [hOw, List.length_append, List.length_cons, l1]; omega
  have eOw : (O ++ Z0) ++ (({ op := 15, jp := iw (((O ++ Z0).length + X0.length + 3 : Nat) : Int) } : Mo) :: (X0 ++ [({ op := 5 } : Mo)] ++ [({ op := 16 } : Mo)])) ++ Y0 = Ow ++ (({ op := 5 } : Mo) :: (({ op := 16 } : Mo) :: Y0)) := by rw [hOw]; simp only [List.append_assoc, List.cons_append, List.nil_append]
  have ok5g : MeG C N5 W5 (P ++ [y.ln]) (Ow ++ (({ op := 5 } : Mo) :: (({ op := 16 } : Mo) :: Y0))) := by rw [← eOw]; exact ok5.1
  obtain ⟨fs5, hfs5⟩ := ok5.2.2.1
  have le3 : W3.eo.length = Ow.length := by rw [ok3g.2.2.2.2.2.1, l3, lOw]
  have ew : W5.eo.getD Ow.length 0 = wv := by
    rw [hfs5, y4, List.append_assoc, List.append_assoc, ← le3, getD_r (Nat.le_refl _), Nat.sub_self]
    rfl
  have eg : W5.eo.getD (Ow.length + 1) 0 = gv := by
    rw [hfs5, y4, List.append_assoc, List.append_assoc, ← le3, getD_r (by omega), show W3.eo.length + 1 - W3.eo.length = 1 by omega]
    rfl
  have lO5 : (Ow ++ (({ op := 5 } : Mo) :: (({ op := 16 } : Mo) :: Y0))).length = O.length + Z0.length + 1 + X0.length + 2 + Y0.length := by rw [List.length_append, List.length_cons, List.length_cons, lOw]; omega
  have st11 := fun n => M_stepI hi5 ok5.1 s11.1 n
  have f6 : ∀ n, F_X45_all_b2 (n + ((itm z).length + 1 + (itm a).length + 1 + (itm b).length + 1)) M C.v0 li (iw (i : Int)) = tb (F_X45_one N5 C.v0 (ei.getD (i + ((itm z).length + 1 + (itm a).length + 1 + (itm b).length)) 0)) (fun z' => F_X45_all_b2 n z' C.v0 li (iw ((i + ((itm z).length + 1 + (itm a).length + 1 + (itm b).length) + 1 : Nat) : Int))) := fun n => by
    rw [show n + ((itm z).length + 1 + (itm a).length + 1 + (itm b).length + 1) = n + 1 + (itm b).length + ((itm z).length + 1 + (itm a).length + 1) by omega, f4 (n + 1 + (itm b).length), f5 (n + 1), show i + ((itm z).length + 1 + (itm a).length + 1) + (itm b).length = i + ((itm z).length + 1 + (itm a).length + 1 + (itm b).length) by omega, st11 n]
  show RMx C M V P O li i _ _ (oft p (ckD t x y))
  rcases M_one11 ok5g im11 (by rw [ok5.2.2.2, y5, ok3.2.2.2, m5]) c1 c2 ew eg hkx hky (by omega) (by omega) with ⟨q1, N6, W6, u1, u2, u3, ⟨fs6, u4⟩, u5⟩ | ⟨q1, q2⟩
  · have ckd : ckD t x y = some (.cnd (if x.ln = y.ln then x.ln else wdk x.ln y.ln) t x y) := by
      unfold ckD
      exact if_pos q1
    rw [ckd]
    obtain ⟨es0, he0⟩ := ok.2.2.1
    have nw : m_nx M ≤ wv := by
      have := r3.1.1
      omega
    refine ⟨N6, W6, fun n => by rw [f6 n, u1]; rfl, ?_, (u3 M V _ r5 nw).mono (by omega), ⟨es0 ++ [av] ++ fs3 ++ [wv] ++ [gv] ++ fs5 ++ fs6, by rw [u4, hfs5, y4, hfs3, m4, he0]; simp only [List.append_assoc]⟩, by rw [u5, ok.2.2.2]⟩
    obtain ⟨l, hl⟩ : ∃ l, l = (if x.ln = y.ln then x.ln else wdk x.ln y.ln) := ⟨_, rfl⟩
    rw [← hl] at u2 ⊢
    show MeG C N6 W6 (P ++ [l]) (O ++ oM (.cnd l t x y) O.length)
    have eC : oM (.cnd l t x y) O.length = Z0 ++ [{ op := 15, jp := iw ((O.length + Z0.length + 1 + X0.length + 2 : Nat) : Int) }] ++ X0 ++ [{ op := 5, k := x.ln, to := l }, { op := 16, jp := iw ((O.length + Z0.length + 1 + X0.length + 2 + (Y0 ++ wdn y.ln l).length : Nat) : Int) }] ++ (Y0 ++ wdn y.ln l) := by
      rw [hY0, hX0, hZ0]; rfl
    rw [eC]
    have p1 : (O ++ Z0).length + X0.length + 3 = O.length + Z0.length + 1 + X0.length + 2 := by omega
    have p2 : Ow.length + 2 + (Y0 ++ wdn y.ln l).length = O.length + Z0.length + 1 + X0.length + 2 + (Y0 ++ wdn y.ln l).length := by omega
    rw [p2, hOw, p1] at u2
    simpa only [List.append_assoc, List.cons_append, List.nil_append] using u2
  · have ckd : ckD t x y = none := by
      unfold ckD
      exact if_neg q1
    rw [ckd]
    intro n
    rw [f6 n]
    exact (ERs.pre r5 q2 (by omega)).tb
/-- items of an expression -/
theorem M_mean (hS : S.ok) : ∀ e : Ex, IHx C B lm dm li di S Z ei I e
  | .lit p l b, M, V, P, O, i, g, h, hc, hi, hs, ⟨d1, d2, d3⟩ => by
    have s1 := SubI.one (show SubI I i [{ op := 1, pl := p, n := l, bt := b }] from hs)
    have im := hi.2.2 _ s1.1
    rw [s1.2] at im
    have d1' : P.length + 1 ≤ C.K := d1
    have d2' : O.length + 5 * 1 ≤ C.K := d2
    obtain ⟨N, W, n1, n2⟩ := M_one1 h im g.1 d1' (by omega)
    refine ⟨N, W, fun n => ?_, n2.mono (by show 10 ≤ 50 * 1 - 5 * 1; omega)⟩
    show F_X45_all_b2 (n + 1) M C.v0 li (iw (i : Int)) = _
    rw [M_stepI hi h s1.1 n, n1]
    rfl
  | .nam p w, M, V, P, O, i, g, h, hc, hi, hs, ⟨d1, d2, d3⟩ => by
    have s1 := SubI.one (show SubI I i [{ op := 2, pl := p, wd := w }] from hs)
    have im := hi.2.2 _ s1.1
    rw [s1.2] at im
    have d1' : P.length + 1 ≤ C.K := d1
    have d2' : O.length + 5 * 1 ≤ C.K := d2
    have R := M_one2 h hc hS g im d1' (by omega)
    exact M_finX (L1 := 0) (fun n => rfl) (OKs.refl h) hi (by simpa using s1.1) R (by show 0 + 10 ≤ 50 * 1 - 5 * 1; omega) (fun t ht => ⟨(ckN_wt hS ht).2.1, by rw [ckN_ops ht]⟩)
  | .pre p s e, M, V, P, O, i, g, h, hc, hi, hs, ⟨d1, d2, d3⟩ => by
    have hs' : SubI I i (itm e ++ [{ op := 4, pl := p, sg := txS s }]) := hs
    have d1' : P.length + (e.nn + 1) ≤ C.K := d1
    have d2' : O.length + 5 * (e.nn + 1) ≤ C.K := d2
    have d3' : V.eb.length + 2 * (e.nn + 1) ≤ C.K := d3
    have xe := Ex.wg_x e g.2.2
    have ne := Ex.nn_pos e g.2.2
    have IE := M_mean hS e M V P O i g.2.1 h hc hi hs'.l ⟨by omega, by omega, by omega⟩
    have ln : (itm (.pre p s e)).length = (itm e).length + 1 := by show (itm e ++ [_]).length = _; rw [List.length_append, List.length_singleton]
    rw [ln]
    show RMx C M V P O li i _ (50 * (e.nn + 1) - 5 * 1) (cthen (ck S e) fun t => oft p (ckP s t))
    cases hce : ck S e with
    | inl q =>
      rw [hce] at IE
      exact IE.err (by omega) (by omega)
    | inr t =>
      rw [hce] at IE
      obtain ⟨N, W, f1, ok⟩ := IE
      obtain ⟨hk, tx⟩ := ck_Lk hS g.2.1 g.2.2 hce
      obtain ⟨wt1, -, -, -, wnn⟩ := ck_wt hS e t g.2.1 hce
      have lx := (oM_len t O.length wt1).1 tx
      rw [wnn] at lx
      rw [Tx.pls_x t tx] at ok
      have hi2 := hi.fg ok.2.1.1 h
      have s1 := hs'.r.one
      have im := hi2.2.2 _ s1.1
      rw [s1.2] at im
      have l1 : (O ++ oM t O.length).length = O.length + (oM t O.length).length := List.length_append
      exact M_finX f1 ok hi2 s1.1 (M_one4 ok.1 g.1 im hk (by omega) (by omega)) (by omega) (fun u hu => ckP_ops g.1 hu)
  | .cst p l e, M, V, P, O, i, g, h, hc, hi, hs, ⟨d1, d2, d3⟩ => by
    have hs' : SubI I i (itm e ++ [{ op := 5, pl := p, n := l }]) := hs
    have d1' : P.length + (e.nn + 1) ≤ C.K := d1
    have d2' : O.length + 5 * (e.nn + 1) ≤ C.K := d2
    have d3' : V.eb.length + 2 * (e.nn + 1) ≤ C.K := d3
    have xe := Ex.wg_x e g.2.2
    have ne := Ex.nn_pos e g.2.2
    have IE := M_mean hS e M V P O i g.2.1 h hc hi hs'.l ⟨by omega, by omega, by omega⟩
    have ln : (itm (.cst p l e)).length = (itm e).length + 1 := by show (itm e ++ [_]).length = _; rw [List.length_append, List.length_singleton]
    rw [ln]
    show RMx C M V P O li i _ (50 * (e.nn + 1) - 5 * 1) (cthen (ck S e) fun t => oft p (ckC l t))
    cases hce : ck S e with
    | inl q =>
      rw [hce] at IE
      exact IE.err (by omega) (by omega)
    | inr t =>
      rw [hce] at IE
      obtain ⟨N, W, f1, ok⟩ := IE
      obtain ⟨hk, tx⟩ := ck_Lk hS g.2.1 g.2.2 hce
      obtain ⟨wt1, -, -, -, wnn⟩ := ck_wt hS e t g.2.1 hce
      have lx := (oM_len t O.length wt1).1 tx
      rw [wnn] at lx
      rw [Tx.pls_x t tx] at ok
      have hi2 := hi.fg ok.2.1.1 h
      have s1 := hs'.r.one
      have im := hi2.2.2 _ s1.1
      rw [s1.2] at im
      have l1 : (O ++ oM t O.length).length = O.length + (oM t O.length).length := List.length_append
      exact M_finX f1 ok hi2 s1.1 (M_one5 ok.1 im hk g.1 (by omega) (by omega)) (by omega) (fun u hu => ckC_ops hu)
  | .bin p o a b, M, V, P, O, i, g, h, hc, hi, hs, hd => M_meanB hS (M_mean hS a) (M_mean hS b) M V P O i g h hc hi hs hd
  | .cnd p z a b, M, V, P, O, i, g, h, hc, hi, hs, hd => M_meanC hS (M_mean hS z) (M_mean hS a) (M_mean hS b) M V P O i g h hc hi hs hd
  | .cal p w r, M, V, P, O, i, g, h, hc, hi, hs, ⟨d1, d2, d3⟩ => by
    have hs' : SubI I i (itm r ++ [{ op := 3, pl := p, wd := w, n := iw (r.cnt : Int) }]) := hs
    have d1' : P.length + (r.nn + 1) ≤ C.K := d1
    have d2' : O.length + 5 * (r.nn + 1) ≤ C.K := d2
    have d3' : V.eb.length + 2 * (r.nn + 1) ≤ C.K := d3
    have xe := Ex.wg_r r g.2.2.1
    have ne := Ex.cnt_nn r g.2.2.1 g.2.1
    have kk := h.1.2.1.2
    have IE := M_mean hS r M V P O i g.2.1 h hc hi hs'.l ⟨by omega, by omega, by omega⟩
    have ln : (itm (.cal p w r)).length = (itm r).length + 1 := by show (itm r ++ [_]).length = _; rw [List.length_append, List.length_singleton]
    rw [ln]
    show RMx C M V P O li i _ (50 * (r.nn + 1) - 5 * 1) (cthen (ck S r) fun t => oft p (ckF S w t))
    cases hce : ck S r with
    | inl q =>
      rw [hce] at IE
      exact IE.err (by omega) (by omega)
    | inr t =>
      rw [hce] at IE
      obtain ⟨N, W, f1, ok⟩ := IE
      obtain ⟨wt1, -, w3, -, wnn⟩ := ck_wt hS r t g.2.1 hce
      obtain ⟨tr, tl⟩ := w3 g.2.2.1
      have lx := (oM_len t O.length wt1).2 tr
      rw [wnn, (als_lns t).1] at lx
      rw [Tx.pls_r t tr] at ok
      have hi2 := hi.fg ok.2.1.1 h
      have s1 := hs'.r.one
      have im := hi2.2.2 _ s1.1
      rw [s1.2, ← tl] at im
      have l1 : (O ++ oM t O.length).length = O.length + (oM t O.length).length := List.length_append
      exact M_finX f1 ok hi2 s1.1 (M_one3 ok.1 (hc.fg ok.2.1.1 h) hS g.1 im tr (wt_lns (fun k hk => (hS.1.1 k hk).2.2.2.1) t wt1 tr) (by omega) (by omega) (by omega)) (by omega) (fun u hu => ckF_ops tr hu)
  | .anl, M, V, P, O, i, g, h, hc, hi, hs, _ => ⟨M, V, fun n => rfl, by
      show OKs C M V M V (P ++ []) (O ++ []) 0
      rw [List.append_nil, List.append_nil]
      exact OKs.refl h⟩
  | .acn e r, M, V, P, O, i, g, h, hc, hi, hs, ⟨d1, d2, d3⟩ => by
    have hs' : SubI I i (itm e ++ itm r) := hs
    have d1' : P.length + (e.nn + r.nn) ≤ C.K := d1
    have d2' : O.length + 5 * (e.nn + r.nn) ≤ C.K := d2
    have d3' : V.eb.length + 2 * (e.nn + r.nn) ≤ C.K := d3
    have xe := Ex.wg_x e g.1.2
    have ne := Ex.nn_pos e g.1.2
    have wr := Ex.wg_nn r g.2.1
    have IE := M_mean hS e M V P O i g.1.1 h hc hi hs'.l ⟨by omega, by omega, by omega⟩
    have ln : (itm (.acn e r)).length = (itm e).length + (itm r).length := by show (itm e ++ itm r).length = _; rw [List.length_append]
    rw [ln]
    show RMx C M V P O li i _ (50 * (e.nn + r.nn) - 5 * (r.wg + 1)) (cthen (ck S e) fun x => cthen (ck S r) fun y => .inr (.acn 0 x y))
    cases hce : ck S e with
    | inl q =>
      rw [hce] at IE
      exact IE.err (by omega) (by omega)
    | inr x =>
      rw [hce] at IE
      obtain ⟨N, W, f1, ok⟩ := IE
      obtain ⟨hk, tx⟩ := ck_Lk hS g.1.1 g.1.2 hce
      obtain ⟨wt1, -, -, -, wnn⟩ := ck_wt hS e x g.1.1 hce
      have lx := (oM_len x O.length wt1).1 tx
      rw [wnn] at lx
      rw [Tx.pls_x x tx] at ok
      have l1 : (O ++ oM x O.length).length = O.length + (oM x O.length).length := List.length_append
      have IR := M_mean hS r N W (P ++ [x.ln]) _ (i + (itm e).length) g.2.1 ok.1 (hc.fg ok.2.1.1 h) (hi.fg ok.2.1.1 h) hs'.r ⟨by rw [List.length_append, List.length_singleton]; omega, by omega, by rw [ok.2.2.2]; omega⟩
      cases hcr : ck S r with
      | inl q =>
        rw [hcr] at IR
        exact RMx.pre f1 ok.2.1 IR (by omega) (by omega)
      | inr y =>
        rw [hcr] at IR
        obtain ⟨N2, W2, f2, ok2⟩ := IR
        obtain ⟨-, -, w3, -, -⟩ := ck_wt hS r y g.2.1 hcr
        obtain ⟨yr, -⟩ := w3 g.2.2
        rw [Tx.pls_r y yr, l1] at ok2
        refine ⟨N2, W2, fun n => ?_, ?_⟩
        · rw [show n + ((itm e).length + (itm r).length) = n + (itm r).length + (itm e).length by omega, f1, f2, Nat.add_assoc]
        · show OKs C M V N2 W2 (P ++ (x.ln :: y.lns)) (O ++ (oM x O.length ++ oM y (O.length + (oM x O.length).length))) _
          have := (ok.trans ok2).mono (show 50 * e.nn - 5 * e.wg + (50 * r.nn - 5 * r.wg) ≤ 50 * (e.nn + r.nn) - 5 * (r.wg + 1) by omega)
          simpa only [List.append_assoc, List.cons_append, List.nil_append] using this
end
