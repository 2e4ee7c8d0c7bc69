/-! ===== FORMULAS, 76: what items mean: the induction ===== -/
section
variable {C : MeC} {B lm dm li di : Nat} {S : Sc} {Z : Nat → Prop} {ei : List Nat} {I : List Itm}
theorem Ex.wg_nn : ∀ e : Ex, e.gd → e.wg ≤ e.nn
  | .lit _ _ _, _ => Nat.le_refl _
  | .nam _ _, _ => Nat.le_refl _
  | .pre _ _ _, _ => Nat.succ_le_succ (Nat.zero_le _)
  | .cst _ _ _, _ => Nat.succ_le_succ (Nat.zero_le _)
  | .bin _ _ _ _, _ => Nat.succ_le_succ (Nat.zero_le _)
  | .cnd _ _ _ _, _ => Nat.succ_le_succ (Nat.zero_le _)
  | .cal _ _ _, _ => Nat.succ_le_succ (Nat.zero_le _)
  | .anl, _ => Nat.le_refl _
  | .acn e r, g => by
    have := Ex.wg_nn r g.2.1
    have := Ex.nn_pos e g.1.2
    show r.wg + 1 ≤ e.nn + r.nn
    omega
theorem Ex.wg_x : ∀ e : Ex, e.isx → e.wg = 1
  | .lit _ _ _, _ => rfl
  | .nam _ _, _ => rfl
  | .pre _ _ _, _ => rfl
  | .cst _ _ _, _ => rfl
  | .bin _ _ _ _, _ => rfl
  | .cnd _ _ _ _, _ => rfl
  | .cal _ _ _, _ => rfl
  | .anl, h => h.elim
  | .acn _ _, h => h.elim
theorem Ex.wg_r : ∀ e : Ex, e.isr → e.wg = e.cnt
  | .anl, _ => rfl
  | .acn e r, h => by show r.wg + 1 = r.cnt + 1; rw [Ex.wg_r r h]
/-- the two ways of two parts -/
theorem M_meanB (hS : S.ok) {p : Nat} {o : Int32} {a b : Ex}
    (iha : ∀ (M : Mem) (V : MeV) (P : List Int32) (O : List Mo) (i : Nat), a.gd → MeG C M V P O → CMx C M B S Z lm dm → ITx C M B li di ei I → SubI I i (itm a) → BDx C V P O a.nn → RMx C M V P O li i (itm a).length (50 * a.nn - 5 * a.wg) (ck S a))
    (ihb : ∀ (M : Mem) (V : MeV) (P : List Int32) (O : List Mo) (i : Nat), b.gd → MeG C M V P O → CMx C M B S Z lm dm → ITx C M B li di ei I → SubI I i (itm b) → BDx C V P O b.nn → RMx C M V P O li i (itm b).length (50 * b.nn - 5 * b.wg) (ck S b))
    (M : Mem) (V : MeV) (P : List Int32) (O : List Mo) (i : Nat) (g : (Ex.bin p o a b).gd) (h : MeG C M V P O) (hc : CMx C M B S Z lm dm) (hi : ITx C M B li di ei I) (hs : SubI I i (itm (.bin p o a b))) (hd : BDx C V P O (a.nn + b.nn + 1)) : RMx C M V P O li i (itm (.bin p o a b)).length (50 * (a.nn + b.nn + 1) - 5 * 1) (ck S (.bin p o a b)) := by
  obtain ⟨d1, d2, d3⟩ := hd
  have xa := Ex.wg_x a g.2.1.2
  have xb := Ex.wg_x b g.2.2.2
  have na := Ex.nn_pos a g.2.1.2
  have nb := Ex.nn_pos b g.2.2.2
  show RMx C M V P O li i _ _ (cthen (ck S a) fun x => cthen (ck S b) fun y => oft p (ckB o x y))
  by_cases sh : o = 18 ∨ o = 19
  · have ei' : itm (.bin p o a b) = itm a ++ [{ op := 7, pl := p, sg := sgT o }] ++ itm b ++ [{ op := 8, pl := p, sg := sgT o }] := by
      show (if o = 18 ∨ o = 19 then _ else _) = _
      rw [if_pos sh]
    rw [ei'] at hs ⊢
    have sa := hs.l.l.l
    have s7 := hs.l.l.r.one
    have sb := hs.l.r
    have s8 := hs.r.one
    simp only [List.length_append, List.length_singleton] at sb s8 ⊢
    have IA := iha M V P O i g.2.1.1 h hc hi sa ⟨by omega, by omega, by omega⟩
    cases hca : ck S a with
    | inl q =>
      rw [hca] at IA
      exact IA.err (by omega) (by omega)
    | inr x =>
      rw [hca] at IA
      obtain ⟨N, W, f1, ok⟩ := IA
      obtain ⟨hk, tx⟩ := ck_Lk hS g.2.1.1 g.2.1.2 hca
      obtain ⟨wt1, -, -, -, wnn⟩ := ck_wt hS a x g.2.1.1 hca
      have lx := (oM_len x O.length wt1).1 tx
      rw [wnn] at lx
      rw [Tx.pls_x x tx] at ok
      have hcN := hc.fg ok.2.1.1 h
      have hiN := hi.fg ok.2.1.1 h
      have im := hiN.2.2 _ s7.1
      rw [s7.2] at im
      have l1 : (O ++ oM x O.length).length = O.length + (oM x O.length).length := List.length_append
      obtain ⟨N2, W2, av, bv, m1, m2, m3, m4, m5, m6, m7⟩ := M_one7 ok.1 sh im (by omega) (by rw [ok.2.2.2]; omega)
      have st7 := fun n => M_stepI hiN ok.1 s7.1 n
      have f2 : ∀ n, F_X45_all_b2 (n + ((itm a).length + 1)) M C.v0 li (iw (i : Int)) = F_X45_all_b2 n N2 C.v0 li (iw ((i + ((itm a).length + 1) : Nat) : Int)) := fun n => by
        rw [show n + ((itm a).length + 1) = n + 1 + (itm a).length by omega, f1 (n + 1), st7 n, m1]
        rfl
      have r2 := ok.2.1.trans m3
      have hc2 := hcN.fg m3.1 ok.1
      have hi2 := hiN.fg m3.1 ok.1
      have l2 : (O ++ oM x O.length ++ [({ op := 14, n := if o = 18 then 0 else 1 } : Mo)]).length = O.length + (oM x O.length).length + 1 := by rw [List.length_append, List.length_singleton, l1]
      have IB := ihb N2 W2 P _ (i + ((itm a).length + 1)) g.2.2.1 m2 hc2 hi2 sb ⟨by omega, by omega, by rw [m5, List.length_append, List.length_singleton, ok.2.2.2]; omega⟩
      cases hcb : ck S b with
      | inl q =>
        rw [hcb] at IB
        exact RMx.pre f2 r2 IB (by omega) (by omega)
      | inr y =>
        rw [hcb] at IB
        obtain ⟨N3, W3, f3, ok3⟩ := IB
        obtain ⟨hj, ty⟩ := ck_Lk hS g.2.2.1 g.2.2.2 hcb
        rw [Tx.pls_x y ty, l2] at ok3
        have hi3 := hi2.fg ok3.2.1.1 m2
        have im8 := hi3.2.2 _ s8.1
        rw [s8.2] at im8
        have b3 := m6.fg ok3.2.1.1 m2.tg3
        obtain ⟨fs, hfs⟩ := ok3.2.2.1
        have le : W.eo.length = (O ++ oM x O.length).length := ok.1.2.2.2.2.2.1
        have eo3 : W3.eo.getD (O ++ oM x O.length).length 0 = av := by
          rw [hfs, m4, List.append_assoc, ← le, getD_r (Nat.le_refl _), Nat.sub_self]
          rfl
        have ok3g : MeG C N3 W3 (P ++ [y.ln]) ((O ++ oM x O.length) ++ (({ op := 14, n := if o = 18 then 0 else 1 } : Mo) :: oM y (O.length + (oM x O.length).length + 1))) := by
          have := ok3.1
          simpa only [List.append_assoc, List.cons_append, List.nil_append] using this
        have r3 := r2.trans ok3.2.1
        have st8 := fun n => M_stepI hi3 ok3.1 s8.1 n
        have f4 : ∀ n, F_X45_all_b2 (n + ((itm a).length + 1 + (itm b).length + 1)) M C.v0 li (iw (i : Int)) = tb (F_X45_one N3 C.v0 (ei.getD (i + ((itm a).length + 1 + (itm b).length)) 0)) (fun z => F_X45_all_b2 n z C.v0 li (iw ((i + ((itm a).length + 1 + (itm b).length) + 1 : Nat) : Int))) := fun n => by
          rw [show n + ((itm a).length + 1 + (itm b).length + 1) = n + 1 + (itm b).length + ((itm a).length + 1) by omega, f2 (n + 1 + (itm b).length), f3 (n + 1), show i + ((itm a).length + 1) + (itm b).length = i + ((itm a).length + 1 + (itm b).length) by omega, st8 n]
        rcases M_one8 ok3g im8 (by rw [ok3.2.2.2, m5]) b3 eo3 (by omega) with ⟨z1, N4, W4, y1, y2, y3, y4, y5⟩ | ⟨z1, z2⟩
        · have ckb : ckB o x y = some (.sho o x y) := by
            unfold ckB
            rw [if_pos sh, if_pos z1]
          show RMx C M V P O li i _ _ (oft p (ckB o x y))
          rw [ckb]
          obtain ⟨es0, he0⟩ := ok.2.2.1
          refine ⟨N4, W4, fun n => by rw [f4 n, y1]; rfl, ?_, (y3 M V _ r3 (Nat.le_trans ok.2.1.1.1 m7)).mono (by omega), ⟨es0 ++ [av] ++ fs, by rw [y4, hfs, m4, he0]; simp only [List.append_assoc]⟩, by rw [y5, ok.2.2.2]⟩
          have ll : ((O ++ oM x O.length) ++ (({ op := 14, n := if o = 18 then 0 else 1 } : Mo) :: oM y (O.length + (oM x O.length).length + 1))).length = O.length + (oM x O.length).length + 1 + (oM y (O.length + (oM x O.length).length + 1)).length := by
            rw [List.length_append, List.length_cons, l1]
            omega
          rw [ll] at y2
          show MeG C N4 W4 (P ++ [0]) (O ++ (oM x O.length ++ [{ op := 14, n := if o = 18 then 0 else 1, jp := iw ((O.length + (oM x O.length).length + 1 + (oM y (O.length + (oM x O.length).length + 1)).length : Nat) : Int) }] ++ oM y (O.length + (oM x O.length).length + 1)))
          simpa only [List.append_assoc, List.cons_append, List.nil_append] using y2
        · have ckb : ckB o x y = none := by
            unfold ckB
            rw [if_pos sh, if_neg z1]
          show RMx C M V P O li i _ _ (oft p (ckB o x y))
          rw [ckb]
          intro n
          rw [f4 n]
          exact (ERs.pre r3 z2 (by omega)).tb
  · have ei' : itm (.bin p o a b) = itm a ++ itm b ++ [{ op := 6, pl := p, sg := sgT o }] := by
      show (if o = 18 ∨ o = 19 then _ else _) = _
      rw [if_neg sh]
    rw [ei'] at hs ⊢
    have sa := hs.l.l
    have sb := hs.l.r
    have s6 := hs.r.one
    simp only [List.length_append, List.length_singleton] at s6 ⊢
    have o17 : 1 ≤ o ∧ o ≤ 17 := by
      rcases op_cases g.1.1 g.1.2 with rfl | rfl | rfl | rfl | rfl | rfl | rfl | rfl | rfl | rfl | rfl | rfl | rfl | rfl | rfl | rfl | rfl | rfl | rfl <;> first | decide | (exfalso; revert sh; decide)
    have IA := iha M V P O i g.2.1.1 h hc hi sa ⟨by omega, by omega, by omega⟩
    cases hca : ck S a with
    | inl q =>
      rw [hca] at IA
      exact IA.err (by omega) (by omega)
    | inr x =>
      rw [hca] at IA
      obtain ⟨N, W, f1, ok⟩ := IA
      obtain ⟨hk, tx⟩ := ck_Lk hS g.2.1.1 g.2.1.2 hca
      obtain ⟨wt1, -, -, -, wnn⟩ := ck_wt hS a x g.2.1.1 hca
      have lx := (oM_len x O.length wt1).1 tx
      rw [wnn] at lx
      rw [Tx.pls_x x tx] at ok
      have l1 : (O ++ oM x O.length).length = O.length + (oM x O.length).length := List.length_append
      have IB := ihb N W (P ++ [x.ln]) _ (i + (itm a).length) g.2.2.1 ok.1 (hc.fg ok.2.1.1 h) (hi.fg ok.2.1.1 h) sb ⟨by rw [List.length_append, List.length_singleton]; omega, by omega, by rw [ok.2.2.2]; omega⟩
      cases hcb : ck S b with
      | inl q =>
        rw [hcb] at IB
        exact RMx.pre f1 ok.2.1 IB (by omega) (by omega)
      | inr y =>
        rw [hcb] at IB
        obtain ⟨N3, W3, f3, ok3⟩ := IB
        obtain ⟨hj, ty⟩ := ck_Lk hS g.2.2.1 g.2.2.2 hcb
        obtain ⟨wt2, -, -, -, wnn2⟩ := ck_wt hS b y g.2.2.1 hcb
        have ly := (oM_len y (O.length + (oM x O.length).length) wt2).1 ty
        rw [wnn2] at ly
        rw [Tx.pls_x y ty, l1] at ok3
        have ok4 := ok.trans ok3
        have hi3 := hi.fg ok4.2.1.1 h
        have im := hi3.2.2 _ s6.1
        rw [s6.2] at im
        have l3 : (O ++ oM x O.length ++ oM y (O.length + (oM x O.length).length)).length = O.length + (oM x O.length).length + (oM y (O.length + (oM x O.length).length)).length := by rw [List.length_append, l1]
        have R := M_one6 ok3.1 o17 im hk hj (by omega) (by omega)
        refine M_finX (N := N3) (W := W3) (L1 := (itm a).length + (itm b).length) (fun n => ?_) ok4 hi3 s6.1 R (by omega) (fun t ht => ?_)
        · rw [show n + ((itm a).length + (itm b).length) = n + (itm b).length + (itm a).length by omega, f1, f3, Nat.add_assoc]
        · rcases ckB_wt g.1 ht with ⟨i', l', rfl, -⟩ | ⟨rfl, q1, -⟩
          · refine ⟨trivial, ?_⟩
            show O ++ oM x O.length ++ oM y (O.length + (oM x O.length).length) ++ [_] = O ++ (oM x O.length ++ oM y (O.length + (oM x O.length).length) ++ [_])
            simp only [List.append_assoc]
          · exact (sh q1).elim
end
