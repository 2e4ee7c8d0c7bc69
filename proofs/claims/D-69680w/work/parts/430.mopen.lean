/-! ===== THE LOG, 12: the model opens it again ===== -/
theorem IB.cc {M : Mem} {x : Nat} {v : Int32} (h : IB M x v) : cc M x 80 = some () := by
  unfold Jvm.Pilot.CGridEngineLaw_law_r3943_d802ca.cc
  rcases h.2.1 with q | q <;> rw [q, if_pos (Or.inr (by decide))]
theorem IB.vg {M : Mem} {x : Nat} {v : Int32} (h : IB M x v) : vg M x 80 = some () := by
  rcases h.2.1 with q | q
  · exact vg_of q (by decide)
  · exact vg_of q (by decide)
theorem mw_loop {k38 : Mem → Nat → Int32 → Int32 → Int32 → Option (Int32 × Mem)} {M : Mem} {i a l : Nat} (h : ST M) (hl : a + l ≤ 60000) : ∀ (e N k : Nat), k + e = a + l → F_X16_reopen_b89 k38 (N + 1 + e) M 1068 (iw (i : Int)) (iw (a : Int)) 1 (iw (l : Int)) (iw (k : Int)) = F_X16_reopen_b131 k38 M 1068 (iw (i : Int)) (iw (a : Int)) (mr (eqn (cI M 1329) (cI M 1330) e k)) (iw (l : Int))
  | 0, N, k, hk => by
    show F_X16_reopen_b89_st k38 (F_X16_reopen_b89 k38 N) M _ _ _ _ _ _ = _
    unfold F_X16_reopen_b89_st
    rw [iw_nad, if_neg (by rw [iw_le4 (by omega) (by omega)]; omega)]
    rfl
  | e + 1, N, k, hk => by
    have n10 : ¬ (1 : Int32) = 0 := by decide
    have z : ∀ j, F_X16_reopen_b89 k38 (N + 1 + e) M 1068 (iw (i : Int)) (iw (a : Int)) 0 (iw (l : Int)) j = F_X16_reopen_b131 k38 M 1068 (iw (i : Int)) (iw (a : Int)) 0 (iw (l : Int)) := fun j => by
      rw [show N + 1 + e = N + e + 1 by omega]
      show F_X16_reopen_b89_st k38 (F_X16_reopen_b89 k38 (N + e)) M _ _ _ _ _ _ = _
      unfold F_X16_reopen_b89_st
      rw [if_pos rfl]
      split <;> rfl
    show F_X16_reopen_b89_st k38 (F_X16_reopen_b89 k38 (N + 1 + e)) M _ _ _ _ _ _ = F_X16_reopen_b131 k38 M 1068 (iw (i : Int)) (iw (a : Int)) (mr (decide (cI M 1329 k = cI M 1330 k) && eqn (cI M 1329) (cI M 1330) e (k + 1))) (iw (l : Int))
    unfold F_X16_reopen_b89_st F_X16_reopen_b124
    rw [iw_nad, if_pos (by rw [iw_le4 (by omega) (by omega)]; omega), if_neg n10]
    simp only [g1068_1129, g1068_1130, h, ab_of (Or.inr (Or.inl (t1329 h))) (l1329 h) (show k < 60000 by omega) (by decide), ab_of (Or.inr (Or.inl (t1330 h))) (l1330 h) (show k < 60000 by omega) (by decide), iw_succ, Option.bind_some]
    by_cases c : cI M 1329 k = cI M 1330 k
    · rw [if_pos c, decide_eq_true c, mw_loop h hl e N (k + 1) (by omega)]
      rfl
    · rw [if_neg c, decide_eq_false c, z]
      rfl
theorem M_whole {M : Mem} {rs : List Nat} {n d1 d2 : Nat} {e1 e2 : List Nat} (h : ST M) (hs : rs.sum ≤ 60000) (hn : n ≤ rs.sum) (hl13 : 13 * rs.length ≤ rs.sum) (h13 : ∀ i, i < rs.length → 13 ≤ rs.getD i 0) (hc : cI M 1068 1131 = iw (n : Int)) (a1 : AL M 1331 d1 e1) (a2 : AL M 1332 d2 e2) (l1 : e1.length = rs.length) (l2 : e2.length = rs.length) (ib : ∀ i, i < rs.length → IB M (e2.getD i 0) (iw (rs.getD i 0 : Nat))) : ∀ (e N i : Nat), i + e = rs.length → F_X16_reopen_b38 (N + 1 + e) M 1068 (iw (i : Int)) (iw (lst rs i : Nat)) 1 = F_X16_reopen_b146 M 1068 (iw (gdn (whr (cI M 1329) (cI M 1330) rs n) e i : Nat)) (iw (lst rs (gdn (whr (cI M 1329) (cI M 1330) rs n) e i) : Nat))
  | 0, N, i, hi => by
    have n10 : ¬ (1 : Int32) = 0 := by decide
    show F_X16_reopen_b38_st (F_X16_reopen_b38 N) M _ _ _ _ = _
    unfold F_X16_reopen_b38_st
    rw [if_neg n10]
    simp only [g1068_1133, h, v1331, a1.size, l1, Option.bind_some]
    rw [if_neg (by rw [iw_le4 (by omega) (by omega)]; omega)]
    rfl
  | e + 1, N, i, hi => by
    have hxN : xN = 1099511627776 := rfl
    have n10 : ¬ (1 : Int32) = 0 := by decide
    have hin : i < rs.length := by omega
    have ibi := ib i hin
    have ls := lst_succ hin
    have ls2 := lst_sum' (rs := rs) (i := i + 1) (by omega)
    have hli := h13 i hin
    obtain ⟨a, ha⟩ : ∃ a, a = lst rs i := ⟨_, rfl⟩
    obtain ⟨l, hl⟩ : ∃ l, l = rs.getD i 0 := ⟨_, rfl⟩
    rw [← ha, ← hl] at ls
    rw [← hl] at ibi hli
    have no : F_X16_reopen_b38 (N + 1 + e) M 1068 (iw (i : Int)) (iw (a : Int)) 0 = F_X16_reopen_b146 M 1068 (iw (i : Int)) (iw (a : Int)) := by
      rw [show N + 1 + e = N + e + 1 by omega]
      show F_X16_reopen_b38_st (F_X16_reopen_b38 (N + e)) M _ _ _ _ = _
      unfold F_X16_reopen_b38_st
      rw [if_pos rfl]
    show F_X16_reopen_b38_st (F_X16_reopen_b38 (N + 1 + e)) M _ _ _ _ = F_X16_reopen_b146 M 1068 (iw ((if whr (cI M 1329) (cI M 1330) rs n i = true then gdn (whr (cI M 1329) (cI M 1330) rs n) e (i + 1) else i : Nat) : Int)) (iw (lst rs (if whr (cI M 1329) (cI M 1330) rs n i = true then gdn (whr (cI M 1329) (cI M 1330) rs n) e (i + 1) else i) : Nat))
    unfold F_X16_reopen_b38_st F_X16_reopen_b85
    rw [if_neg n10]
    simp only [g1068_1133, h, v1331, a1.size, l1, Option.bind_some]
    rw [if_pos (by rw [iw_le4 (by omega) (by omega)]; omega)]
    simp only [g1068_1134, h, v1332, a2.get (show i < e2.length by omega), ibi.cc, ibi.vg, ibi.val, g1068_1131, hc, Option.bind_some]
    rw [← ha, iw_nad]
    have ew : whr (cI M 1329) (cI M 1330) rs n i = (decide (a + l ≤ n) && eqn (cI M 1329) (cI M 1330) l a) := by
      unfold whr
      rw [ls, ← hl, ← ha]
    rw [ew]
    by_cases c1 : n < a + l
    · rw [if_pos (by rw [iw_le4 (by omega) (by omega)]; exact c1), decide_eq_false (show ¬ a + l ≤ n by omega), Bool.false_and, if_neg (by decide), ← ha, ← no]
      obtain ⟨N2, hN2⟩ : ∃ N2, N2 + 1 = xN := ⟨xN - 1, by omega⟩
      rw [← hN2]
      show F_X16_reopen_b89_st _ (F_X16_reopen_b89 _ N2) M _ _ _ _ _ _ = _
      unfold F_X16_reopen_b89_st F_X16_reopen_b131 F_X16_reopen_b143
      rw [if_pos rfl, if_pos rfl]
      split <;> rfl
    · rw [if_neg (by rw [iw_le4 (by omega) (by omega)]; exact c1), decide_eq_true (show a + l ≤ n by omega), Bool.true_and]
      obtain ⟨N2, hN2⟩ : ∃ N2, N2 + 1 + l = xN := ⟨xN - 1 - l, by omega⟩
      rw [← hN2, mw_loop h (by omega) l N2 a (by omega)]
      unfold F_X16_reopen_b131 F_X16_reopen_b143
      cases eqn (cI M 1329) (cI M 1330) l a with
      | true =>
        rw [if_neg (by decide), if_pos rfl, ← M_whole h hs hn hl13 h13 hc a1 a2 l1 l2 ib e N (i + 1) (by omega), iw_nad, iw_succ, ls]
        rfl
      | false =>
        rw [if_pos (by decide), if_neg (by decide), ← ha]
        exact no
theorem take_last {e : List Nat} {m : Nat} (h : e.length = m + 1) : e = e.take m ++ [e.getD m 0] := by
  rw [List.getD_eq_getElem?_getD, List.getElem?_eq_getElem (by omega)]
  show e = e.take m ++ [e[m]]
  rw [List.take_append_getElem (by omega), List.take_of_length_le (by omega)]
theorem M_drop {g d1 d2 : Nat} (q1 : d1 = 4 ∨ 1334 ≤ d1) (q2 : d2 = 4 ∨ 1334 ≤ d2) (q3 : d1 = d2 → d1 = 4) : ∀ (e N : Nat) (e1 e2 : List Nat) (M : Mem), e1.length = g + e → e2.length = g + e → g + e ≤ 60000 → ST M → AL M 1331 d1 e1 → AL M 1332 d2 e2 → (∀ i, i < e1.length → (∃ v, IB M (e1.getD i 0) v) ∧ ∃ v, IB M (e2.getD i 0) v) → (∀ i, i < e1.length → (e1.getD i 0 < 1000 ∨ 1334 ≤ e1.getD i 0) ∧ (e2.getD i 0 < 1000 ∨ 1334 ≤ e2.getD i 0)) → ∃ M', F_X16_reopen_b151 (N + 1 + e) M 1068 (iw (g : Int)) = F_X16_reopen_b224 xN (wI M' 1068 1095 0) 1068 (iw (g : Int)) 0 0 ∧ AL M' 1331 d1 (e1.take g) ∧ AL M' 1332 d2 (e2.take g) ∧ Df pLs n2 (rLs d1 d2) M M' ∧ m_nx M' = m_nx M ∧ m_sl M' = m_sl M ∧ ST M' := by
  intro e
  induction e with
  | zero =>
    intro N e1 e2 M l1 l2 hg sM a1 a2 ib io
    refine ⟨M, ?_, by rw [List.take_of_length_le (by omega)]; exact a1, by rw [List.take_of_length_le (by omega)]; exact a2, Df.refl _ _ _ _, rfl, rfl, sM⟩
    show F_X16_reopen_b151_st (F_X16_reopen_b151 N) M _ _ = _
    unfold F_X16_reopen_b151_st
    simp only [g1068_1133, sM, v1331, a1.size, l1, Option.bind_some]
    rw [if_neg (by rw [iw_le4 (by omega) (by omega)]; omega)]
    rw [p1068_1095 sM (Or.inl rfl)]
    rfl
  | succ e ih =>
    intro N e1 e2 M l1 l2 hg sM a1 a2 ib io
    have h0 := sM.1
    have t1 := take_last (e := e1) (m := g + e) (by omega)
    have t2 := take_last (e := e2) (m := g + e) (by omega)
    have lt1 : (e1.take (g + e)).length = g + e := by rw [List.length_take]; omega
    have lt2 : (e2.take (g + e)).length = g + e := by rw [List.length_take]; omega
    obtain ⟨⟨w1, ib1⟩, w2, ib2⟩ := ib (g + e) (by omega)
    obtain ⟨io1, io2⟩ := io (g + e) (by omega)
    have a1' : AL M 1331 d1 (e1.take (g + e) ++ [e1.getD (g + e) 0]) := by rw [← t1]; exact a1
    obtain ⟨A, b1, b2, b3, b4, b5⟩ := a1'.pop
    rw [lt1] at b1
    have r1 : ∀ i, ¬ at1 d1 1332 i := fun i q => by unfold at1 at q; omega
    have b3' : Df pLs n2 (rLs d1 d2) M A := b3.mono (fun a i q => Or.inl q) (fun _ _ q => q) (fun x i q => by
      unfold at1 at q
      unfold rLs
      have := a1.lt
      rcases q1 with q1 | q1
      · -- a list that holds something has a row of its own
        exfalso
        rcases a1.2.2.2.2 with w | w
        · rw [w.1] at l1
          simp only [List.length_nil] at l1
          omega
        · omega
      · omega)
    have sA : ST A := sM.df b3' (rLs_st d1 d2)
    have hd2 : 1334 ≤ d2 := by
      rcases a2.2.2.2.2 with w | w
      · rw [w.1] at l2
        simp only [List.length_nil] at l2
        omega
      · omega
    have a2A : AL A 1332 d2 (e2.take (g + e) ++ [e2.getD (g + e) 0]) := by
      rw [← t2]
      exact a2.df b3 (by unfold at1; omega) (by unfold at1; omega) (fun i hi q => by unfold at1 at q; omega)
    have ib1A := ib1.df b3 (show ¬ at1 1331 _ 5120 by unfold at1; omega)
    have ib2A := ib2.df b3 (show ¬ at1 1331 _ 5120 by unfold at1; omega)
    have a1A : AL A 1331 d1 (e1.take (g + e)) := b2
    obtain ⟨B, c1, c2, c3, c4, c5⟩ := a2A.pop
    rw [lt2] at c1
    have c3' : Df pLs n2 (rLs d1 d2) A B := c3.mono (fun a i q => Or.inr q) (fun _ _ q => q) (fun x i q => by unfold at1 at q; unfold rLs; omega)
    have sB : ST B := sA.df c3' (rLs_st d1 d2)
    have a1B : AL B 1331 d1 (e1.take (g + e)) := a1A.df c3 (by unfold at1; omega) (by unfold at1; omega) (fun i hi q => by unfold at1 at q; omega)
    have ib2B := ib2A.df c3 (show ¬ at1 1332 _ 5120 by unfold at1; omega)
    have gt1 : ∀ i, i < g + e → (e1.take (g + e)).getD i 0 = e1.getD i 0 := fun i hi => by
      rw [List.getD_eq_getElem?_getD, List.getD_eq_getElem?_getD, List.getElem?_take_of_lt hi]
    have gt2 : ∀ i, i < g + e → (e2.take (g + e)).getD i 0 = e2.getD i 0 := fun i hi => by
      rw [List.getD_eq_getElem?_getD, List.getD_eq_getElem?_getD, List.getElem?_take_of_lt hi]
    obtain ⟨M', f1, f2, f3, f4, f5, f6, f7⟩ := ih N (e1.take (g + e)) (e2.take (g + e)) B lt1 lt2 (by omega) sB a1B c2 (fun i hi => by
      rw [lt1] at hi
      rw [gt1 i hi, gt2 i hi]
      obtain ⟨⟨v1, j1⟩, v2, j2⟩ := ib i (by omega)
      obtain ⟨o1, o2⟩ := io i (by omega)
      exact ⟨⟨v1, (j1.df b3 (show ¬ at1 1331 _ 5120 by unfold at1; omega)).df c3 (show ¬ at1 1332 _ 5120 by unfold at1; omega)⟩, v2, (j2.df b3 (show ¬ at1 1331 _ 5120 by unfold at1; omega)).df c3 (show ¬ at1 1332 _ 5120 by unfold at1; omega)⟩) (fun i hi => by
      rw [lt1] at hi
      rw [gt1 i hi, gt2 i hi]
      exact io i (by omega))
    rw [List.take_take, Nat.min_eq_left (by omega)] at f2 f3
    refine ⟨M', ?_, f2, f3, (b3'.trans c3').trans f4, by omega, by omega, f7⟩
    rw [← f1]
    show F_X16_reopen_b151_st (F_X16_reopen_b151 (N + 1 + e)) M _ _ = _
    unfold F_X16_reopen_b151_st
    simp only [g1068_1133, sM, v1331, a1.size, l1, Option.bind_some]
    rw [if_pos (by rw [iw_le4 (by omega) (by omega)]; omega), show (1 : Int32) = iw ((1 : Nat) : Int) from rfl, iw_nsub (by omega), show g + (e + 1) - 1 = g + e by omega]
    have s2 := a2A.size
    rw [List.length_append, lt2, List.length_singleton] at s2
    simp only [b1, ib1A.cc, ib1A.vg, ib1A.val, g1068_1134, sA, v1332, s2, Option.bind_some]
    rw [iw_nsub (by omega), show g + e + 1 - 1 = g + e by omega]
    simp only [c1, ib2B.cc, ib2B.vg, ib2B.val, Option.bind_some]
