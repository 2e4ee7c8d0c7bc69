/-! ===== reopen alike ===== -/
theorem isn_in {M : Mem} {a b nl : Nat} (h : ST M) (hn : nl ≤ 20) (ha : a + 5 + nl ≤ 60000) (hb : b + 5 + nl ≤ 60000) (he : cI M 1329 (a + 4) = iw (nl : Int)) : ∀ (e N k : Nat), k + e = nl → F_X16_isSameName_b56 (N + 1 + e) M 1068 (iw (a : Int)) (iw (b : Int)) (iw (k : Int)) = some (mr (eqn (fun k => cI M 1329 (a + 5 + k)) (fun k => cI M 1329 (b + 5 + k)) e k))
  | 0, N, k, hk => by
    show F_X16_isSameName_b56_st (F_X16_isSameName_b56 N) M _ _ _ _ = _
    unfold F_X16_isSameName_b56_st
    rw [show (4 : Int32) = iw ((4 : Nat) : Int) from rfl, iw_nad]
    simp only [g1068_1129, h, ab_of (Or.inr (Or.inl (t1329 h))) (l1329 h) (show a + 4 < 60000 by omega) (by decide), he, Option.bind_some]
    rw [if_neg (by rw [iw_le4 (by omega) (by omega)]; omega)]
    rfl
  | e + 1, N, k, hk => by
    show F_X16_isSameName_b56_st (F_X16_isSameName_b56 (N + 1 + e)) M _ _ _ _ = some (mr (decide (cI M 1329 (a + 5 + k) = cI M 1329 (b + 5 + k)) && eqn (fun k => cI M 1329 (a + 5 + k)) (fun k => cI M 1329 (b + 5 + k)) e (k + 1)))
    unfold F_X16_isSameName_b56_st
    rw [show (4 : Int32) = iw ((4 : Nat) : Int) from rfl, iw_nad, show (5 : Int32) = iw ((5 : Nat) : Int) from rfl, iw_nad, iw_nad, iw_nad, iw_nad]
    simp only [g1068_1129, h, ab_of (Or.inr (Or.inl (t1329 h))) (l1329 h) (show a + 4 < 60000 by omega) (by decide), he, Option.bind_some]
    rw [if_pos (by rw [iw_le4 (by omega) (by omega)]; omega)]
    simp only [g1068_1129, h, ab_of (Or.inr (Or.inl (t1329 h))) (l1329 h) (show a + 5 + k < 60000 by omega) (by decide), ab_of (Or.inr (Or.inl (t1329 h))) (l1329 h) (show b + 5 + k < 60000 by omega) (by decide), iw_succ, Option.bind_some]
    by_cases c : cI M 1329 (a + 5 + k) = cI M 1329 (b + 5 + k)
    · rw [if_pos c, decide_eq_true c, isn_in h hn ha hb he e N (k + 1) (by omega)]
      rfl
    · rw [if_neg c, decide_eq_false c]
      rfl
theorem M_snam {M : Mem} {rs : List Nat} {d1 g i j : Nat} {e1 : List Nat} (h : ST M) (a1 : AL M 1331 d1 e1) (hg : g ≤ e1.length) (ib : ∀ i, i < g → IB M (e1.getD i 0) (iw (lst rs i : Nat))) (hr : RcS (cI M 1329) rs g) (hi : i < g) (hj : j < g) : F_X16_isSameName M 1068 (iw (i : Int)) (iw (j : Int)) = some (mr (nmR (cI M 1329) rs i j)) := by
  have hxN : xN = 1099511627776 := rfl
  have b1 := ib i hi
  have b2 := ib j hj
  obtain ⟨-, r2, nl, r3, r4, r5, r6⟩ := hr i hi
  obtain ⟨-, s2, ml, s3, s4, s5, s6⟩ := hr j hj
  unfold F_X16_isSameName nmR sam
  simp only [g1068_1133, h, v1331, a1.get (show i < e1.length by omega), b1.cc, b1.vg, b1.val, a1.get (show j < e1.length by omega), b2.cc, b2.vg, b2.val, Option.bind_some]
  rw [show (4 : Int32) = iw ((4 : Nat) : Int) from rfl, iw_nad, iw_nad]
  simp only [g1068_1129, h, ab_of (Or.inr (Or.inl (t1329 h))) (l1329 h) (show lst rs i + 4 < 60000 by omega) (by decide), ab_of (Or.inr (Or.inl (t1329 h))) (l1329 h) (show lst rs j + 4 < 60000 by omega) (by decide), Option.bind_some]
  by_cases c : cI M 1329 (lst rs i + 4) = cI M 1329 (lst rs j + 4)
  · have hnn : nl = ml := by
      rw [r6, s6, iw_eq (by omega) (by omega) (by omega) (by omega)] at c
      omega
    obtain ⟨N, hN⟩ : ∃ N, N + 1 + nl = xN := ⟨xN - 1 - nl, by omega⟩
    rw [if_pos c, decide_eq_true c, r6, iw_toInt (by omega) (by omega), ← hN]
    exact isn_in h r4 (by omega) (by omega) r6 nl N 0 (by omega)
  · rw [if_neg c, decide_eq_false c]
    rfl
theorem M_cnt_in {k224 : Mem → Nat → Int32 → Int32 → Int32 → Option (Int32 × Mem)} {M : Mem} {rs : List Nat} {d1 g i : Nat} {e1 : List Nat} {v4 : Int32} (h : ST M) (a1 : AL M 1331 d1 e1) (hg : g ≤ e1.length) (hgs : g ≤ 60000) (ib : ∀ i, i < g → IB M (e1.getD i 0) (iw (lst rs i : Nat))) (hr : RcS (cI M 1329) rs g) (hi : i < g) : ∀ (e N j : Nat), j + e = g → F_X16_reopen_b239 k224 (N + 1 + e) M 1068 (iw (g : Int)) v4 (iw (i : Int)) 0 (iw (j : Int)) = F_X16_reopen_b266 k224 M 1068 (iw (g : Int)) v4 (iw (i : Int)) (mr (fany (fun j => nmR (cI M 1329) rs i j) e j))
  | 0, N, j, hj => by
    show F_X16_reopen_b239_st k224 (F_X16_reopen_b239 k224 N) M _ _ _ _ _ _ = _
    unfold F_X16_reopen_b239_st
    rw [if_neg (by rw [iw_le4 (by omega) (by omega)]; omega)]
    rfl
  | e + 1, N, j, hj => by
    show F_X16_reopen_b239_st k224 (F_X16_reopen_b239 k224 (N + 1 + e)) M _ _ _ _ _ _ = F_X16_reopen_b266 k224 M 1068 (iw (g : Int)) v4 (iw (i : Int)) (mr (nmR (cI M 1329) rs i j || fany (fun j => nmR (cI M 1329) rs i j) e (j + 1)))
    unfold F_X16_reopen_b239_st
    rw [if_pos (by rw [iw_le4 (by omega) (by omega)]; omega), if_pos rfl]
    simp only [v1068, h, M_snam h a1 hg ib hr hi (show j < g by omega), iw_succ, Option.bind_some]
    cases nmR (cI M 1329) rs i j with
    | false =>
      rw [Bool.false_or]
      exact M_cnt_in h a1 hg hgs ib hr hi e N (j + 1) (by omega)
    | true =>
      rw [Bool.true_or, show N + 1 + e = N + e + 1 by omega]
      show F_X16_reopen_b239_st k224 (F_X16_reopen_b239 k224 (N + e)) M _ _ _ _ _ _ = _
      unfold F_X16_reopen_b239_st
      rw [if_neg (show ¬ mr true = 0 by decide)]
      split <;> rfl
theorem M_cnt {M : Mem} {rs : List Nat} {d1 g : Nat} {e1 : List Nat} (h : ST M) (a1 : AL M 1331 d1 e1) (hg : g ≤ e1.length) (hgs : g ≤ 60000) (ib : ∀ i, i < g → IB M (e1.getD i 0) (iw (lst rs i : Nat))) (hr : RcS (cI M 1329) rs g) : ∀ (e N i : Nat), i + e = g → F_X16_reopen_b224 (N + 1 + e) M 1068 (iw (g : Int)) (iw (ctb (lst1 (nmR (cI M 1329) rs) g) i : Nat)) (iw (i : Int)) = some (iw (ctb (lst1 (nmR (cI M 1329) rs) g) g : Nat), M)
  | 0, N, i, hi => by
    have : i = g := by omega
    subst this
    show F_X16_reopen_b224_st (F_X16_reopen_b224 N) M _ _ _ _ = _
    unfold F_X16_reopen_b224_st
    rw [if_neg (fun q => Int32.lt_irrefl q)]
  | e + 1, N, i, hi => by
    have hxN : xN = 1099511627776 := rfl
    show F_X16_reopen_b224_st (F_X16_reopen_b224 (N + 1 + e)) M _ _ _ _ = _
    unfold F_X16_reopen_b224_st
    obtain ⟨N2, hN2⟩ : ∃ N2, N2 + 1 + (g - (i + 1)) = xN := ⟨xN - 1 - (g - (i + 1)), by omega⟩
    rw [if_pos (by rw [iw_le4 (by omega) (by omega)]; omega), ← hN2]
    simp only [iw_succ]
    rw [M_cnt_in h a1 hg hgs ib hr (show i < g by omega) (g - (i + 1)) N2 (i + 1) (by omega)]
    have ih := M_cnt h a1 hg hgs ib hr e N (i + 1) (by omega)
    have ec : ctb (lst1 (nmR (cI M 1329) rs) g) (i + 1) = ctb (lst1 (nmR (cI M 1329) rs) g) i + (if (!fany (fun j => nmR (cI M 1329) rs i j) (g - (i + 1)) (i + 1)) = true then 1 else 0) := rfl
    rw [ec] at ih
    unfold F_X16_reopen_b266 F_X16_reopen_b274
    cases ef : fany (fun j => nmR (cI M 1329) rs i j) (g - (i + 1)) (i + 1) with
    | true =>
      rw [ef, Bool.not_true, if_neg (by decide)] at ih
      rw [if_neg (by decide), ← ih, iw_succ]
      rfl
    | false =>
      rw [ef, Bool.not_false, if_pos rfl] at ih
      rw [if_pos (by decide), ← ih, iw_succ, iw_succ]
theorem gdn_congr {p q : Nat → Bool} : ∀ e i, (∀ j, i ≤ j → j < i + e → p j = q j) → gdn p e i = gdn q e i
  | 0, _, _ => rfl
  | e + 1, i, h => by
    show (if p i = true then gdn p e (i + 1) else i) = (if q i = true then gdn q e (i + 1) else i)
    rw [h i (Nat.le_refl _) (by omega), gdn_congr e (i + 1) (fun j h1 h2 => h j (by omega) (by omega))]
theorem whr_congr {f t f' t' : Nat → Int32} {rs : List Nat} {n i : Nat} (hi : i < rs.length) (h1 : ∀ j, j < n → f j = f' j) (h2 : ∀ j, j < rs.sum → t j = t' j) : whr f t rs n i = whr f' t' rs n i := by
  unfold whr
  by_cases c : lst rs (i + 1) ≤ n
  · have ls := lst_succ hi
    have l2 := lst_sum' (rs := rs) (i := i + 1) (by omega)
    rw [decide_eq_true c, Bool.true_and, Bool.true_and]
    exact eqn_congr (fun j a1 a2 => ⟨h1 j (by omega), h2 j (by omega)⟩)
  · rw [decide_eq_false c, Bool.false_and, Bool.false_and]
theorem sam_congr {f g : Nat → Int32} {a b nl : Nat} (hn : nl ≤ 20) (hf : f (a + 4) = iw (nl : Int)) (ha : ∀ k, k ≤ 5 + nl → f (a + k) = g (a + k)) (hb : ∀ k, k ≤ 5 + nl → f (b + k) = g (b + k)) : sam f a b = sam g a b := by
  unfold sam
  rw [← ha 4 (by omega), ← hb 4 (by omega), hf, iw_toInt (by omega) (by omega)]
  congr 1
  refine eqn_congr (fun j h1 h2 => ⟨?_, ?_⟩)
  · rw [show a + 5 + j = a + (5 + j) by omega]; exact ha _ (by omega)
  · rw [show b + 5 + j = b + (5 + j) by omega]; exact hb _ (by omega)
def pRo : Nat → Nat → Prop := fun a i => (a = 1000 ∧ (i = 97 ∨ i = 98)) ∨ (a = 1068 ∧ (i = 1095 ∨ i = 1131 ∨ i = 1132)) ∨ (a = 1051 ∧ i = 962) ∨ (a = 1052 ∧ i = 1025) ∨ a = 1331 ∨ a = 1332
theorem getD_take {l : List Nat} {g i : Nat} (h : i < g) : (l.take g).getD i 0 = l.getD i 0 := by
  rw [List.getD_eq_getElem?_getD, List.getD_eq_getElem?_getD, List.getElem?_take_of_lt h]
theorem lst_take {rs : List Nat} {g i : Nat} (h : i ≤ g) : lst (rs.take g) i = lst rs i := by
  unfold lst
  rw [List.take_take, Nat.min_eq_left h]
theorem c_reopen {M : Mem} {rs : List Nat} {d1 d2 : Nat} {e1 e2 : List Nat} {nn : Nat} (h : ST M) (h4 : I4 M) (h5 : I5 M) (h9 : I9w M rs d1 d2 e1 e2 nn) :
    ∃ (r : Int32) (M1 M2 : Mem) (rs' : List Nat) (e1' e2' : List Nat) (n' : Nat), F_X0_reopen M 1000 = some (r, M1) ∧ F_X16_reopen M1 1068 = some (r, M2) ∧ I4 M2 ∧ I5 M2 ∧ I9w M2 rs' d1 d2 e1' e2' n' ∧ Df pRo n2 (rLs d1 d2) M M2 ∧ m_nx M2 = m_nx M ∧ m_sl M2 = m_sl M := by
  have hxN : xN = 1099511627776 := rfl
  have h0 := h.1
  have h9x := h9
  have h4x := h4
  have h9l := h9.len
  obtain ⟨q1, q2, q3, q4, q5, q6, q7, q8, q9, q10, q11, q12, q13, q14, q15, q16, q17, q18⟩ := h9
  obtain ⟨p1, p2, p3, hcl, hcl2, ⟨op, o1, o2, o3⟩, p7⟩ := h4
  have n10 : ¬ (1 : Int32) = 0 := by decide
  rcases hcl with hc | hc
  · rw [hc] at hcl2
    refine ⟨-13, M, M, rs, e1, e2, nn, ?_, ?_, h4x, h5, h9x, Df.refl _ _ _ _, rfl, rfl⟩
    · simp only [F_X0_reopen, g1000_97, h, hc, Option.bind_some, if_true]
    · simp only [F_X16_reopen, g1068_1095, h, ← hcl2, Option.bind_some, if_true]
  · rw [hc] at hcl2
    by_cases co : op = 10
    · have o2' : cI M 1000 98 = 10 := by rw [o2, co]; rfl
      have o3' : cI M 1068 1132 = 10 := by rw [o3, co]; rfl
      refine ⟨-12, M, M, rs, e1, e2, nn, ?_, ?_, h4x, h5, h9x, Df.refl _ _ _ _, rfl, rfl⟩
      · simp only [F_X0_reopen, g1000_97, g1000_98, h, hc, n10, o2', Option.bind_some, if_true, if_false]
      · simp only [F_X16_reopen, g1068_1095, g1068_1132, h, ← hcl2, n10, o3', Option.bind_some, if_true, if_false]
    · have i10 : (10 : Int32) = iw ((10 : Nat) : Int) := rfl
      -- the engine
      obtain ⟨A0, hA0⟩ : ∃ A0, A0 = wI M 1000 98 (iw ((op + 1 : Nat) : Int)) := ⟨_, rfl⟩
      have sA0 : ST A0 := by rw [hA0]; exact h
      obtain ⟨A, hA⟩ : ∃ A, A = wI A0 1000 97 0 := ⟨_, rfl⟩
      have sA : ST A := by rw [hA]; exact sA0
      have dA : Df (fun a i => a = 1000 ∧ (i = 97 ∨ i = 98)) n2 n2 M A := by
        rw [hA, hA0]
        exact (Df.wI (P := fun a i => a = 1000 ∧ (i = 97 ∨ i = 98)) (Q := n2) (R := n2) (M := M) (a := 1000) (i := 98) _ ⟨rfl, Or.inr rfl⟩).trans (Df.wI (P := fun a i => a = 1000 ∧ (i = 97 ∨ i = 98)) (Q := n2) (R := n2) (a := 1000) (i := 97) _ ⟨rfl, Or.inl rfl⟩)
      have nA : m_nx A = m_nx M := by rw [hA, hA0]; rfl
      have lA : m_sl A = m_sl M := by rw [hA, hA0]; rfl
      have r30 : RcS (cI M 1330) rs rs.length := Rec.rcs q2 q17
      have r55 : RcS (cI M 1055) rs rs.length := r30.congr (Nat.le_refl _) (fun j hj => by rw [lst_end] at hj; exact q16 j hj)
      have c53 : cI A 1053 = cI M 1053 := funext (fun j => dA.cI (by omega) (by omega))
      have c55 : cI A 1055 = cI M 1055 := funext (fun j => dA.cI (by omega) (by omega))
      obtain ⟨z, B, b1, b2, b3, b4, b5, b6, b7, b8⟩ := E_open_loop (rs := rs) (n := nn) q2 q12 h9l rs.length (xN - 1 - rs.length) 0 A (by omega) sA (by rw [dA.cI (by omega) (by omega)]; exact q13) (by rw [c55]; exact r55) (fun j hj => by omega)
      rw [show xN - 1 - rs.length + 1 + rs.length = xN by omega, c53, c55] at b2
      rw [c53, c55] at b3 b4 b5
      obtain ⟨g, hg⟩ : ∃ g, g = gdn (whr (cI M 1053) (cI M 1055) rs nn) rs.length 0 := ⟨_, rfl⟩
      have hgw : ∀ j, j < g → whr (cI M 1053) (cI M 1055) rs nn j = true := fun j hj => gdn_t _ rs.length 0 j (by omega) (by rw [← hg]; exact hj)
      have hgl : g ≤ rs.length := by
        have := (gdn_ge (whr (cI M 1053) (cI M 1055) rs nn) rs.length 0).2
        omega
      rw [← hg] at b2 b3 b4 b5
      have sB : ST B := sA.n b6
      have dB : Df (fun a i => (a = 1000 ∧ (i = 97 ∨ i = 98)) ∨ pOp a i) n2 n2 M B := (dA.mono (fun a i q => Or.inl q) (fun _ _ q => q) (fun _ _ q => q)).trans (b6.mono (fun a i q => Or.inr q) (fun _ _ q => q) (fun _ _ q => q))
      have eE : F_X0_reopen M 1000 = some (iw (ctb (fst1 (nmR (cI M 1053) rs)) g : Nat), B) := by
        unfold F_X0_reopen F_X14_open
        simp only [g1000_97, g1000_98, h, hc, n10, o2, Option.bind_some, if_false]
        rw [if_neg (by rw [i10, iw_eq (by omega) (by omega) (by omega) (by omega)]; omega), iw_succ]
        simp only [p1000_98, h, ← hA0, p1000_97 sA0 (Or.inl rfl), ← hA, g1000_79, v1051, sA, Option.bind_some]
        have b1' : F_X14_behind A 1051 0 = some z := b1
        have b2' : F_X14_open_b10 xN A 1051 0 0 z = some (iw (ctb (fst1 (nmR (cI M 1053) rs)) g : Nat), B) := b2
        simp only [b1', b2', Option.bind_some]
      -- the model
      obtain ⟨C, hC⟩ : ∃ C, C = wI B 1068 1132 (iw ((op + 1 : Nat) : Int)) := ⟨_, rfl⟩
      have sC : ST C := by rw [hC]; exact sB
      have dC : Df (fun a i => (a = 1000 ∧ (i = 97 ∨ i = 98)) ∨ pOp a i ∨ (a = 1068 ∧ i = 1132)) n2 n2 M C := (dB.mono (fun a i q => by rcases q with q | q; exact Or.inl q; exact Or.inr (Or.inl q)) (fun _ _ q => q) (fun _ _ q => q)).trans (by rw [hC]; exact Df.wI _ (Or.inr (Or.inr ⟨rfl, rfl⟩)))
      have cC : ∀ a i, a < 1334 → a ≠ 1000 → a ≠ 1051 → a ≠ 1052 → (a ≠ 1068 ∨ i ≠ 1132) → cI C a i = cI M a i := fun a i h1 h2 h3 h4 h5 => dC.cI (by omega) (by unfold pOp; omega)
      have c29 : cI C 1329 = cI M 1329 := funext (fun j => cC _ _ (by decide) (by decide) (by decide) (by decide) (Or.inl (by decide)))
      have c30 : cI C 1330 = cI M 1330 := funext (fun j => cC _ _ (by decide) (by decide) (by decide) (by decide) (Or.inl (by decide)))
      have aC1 : AL C 1331 d1 e1 := q3.df dC (by unfold pOp; omega) (fun q => q) (fun _ _ q => q)
      have aC2 : AL C 1332 d2 e2 := q4.df dC (by unfold pOp; omega) (fun q => q) (fun _ _ q => q)
      have ibC : ∀ i, i < rs.length → IB C (e1.getD i 0) (iw (lst rs i : Nat)) ∧ IB C (e2.getD i 0) (iw (rs.getD i 0 : Nat)) := fun i hi => ⟨(q7 i hi).1.df dC (by have := (q8 i hi).1; unfold pOp; omega), (q7 i hi).2.df dC (by have := (q8 i hi).2; unfold pOp; omega)⟩
      have hgE : gdn (whr (cI M 1329) (cI M 1330) rs nn) rs.length 0 = g := by
        rw [hg]
        exact gdn_congr _ _ (fun j _ h2 => (whr_congr (by omega) q15 q16).symm)
      have mw := M_whole (M := C) (rs := rs) (n := nn) sC q2 q12 h9l (fun i hi => by
        obtain ⟨-, -, nl, r3, r4, r5, -⟩ := r30 i hi
        omega) (by rw [cC _ _ (by decide) (by decide) (by decide) (by decide) (by omega)]; exact q14) aC1 aC2 q5 q6 (fun i hi => (ibC i hi).2) rs.length (xN - 1 - rs.length) 0 (by omega)
      rw [show xN - 1 - rs.length + 1 + rs.length = xN by omega, c29, c30, hgE] at mw
      obtain ⟨D, hD⟩ : ∃ D, D = wI C 1068 1131 (iw (lst rs g : Nat)) := ⟨_, rfl⟩
      have sD : ST D := by rw [hD]; exact sC
      have dD : Df (fun a i => a = 1068 ∧ i = 1131) n2 n2 C D := by rw [hD]; exact Df.wI _ ⟨rfl, rfl⟩
      have nC : m_nx C = m_nx M := by rw [hC]; show m_nx B = _; omega
      have nD : m_nx D = m_nx M := by rw [hD]; exact nC
      obtain ⟨E, f1, f2, f3, f4, f5, f6, sE⟩ := M_drop (g := g) q9.2 q10.2 q11 (rs.length - g) (xN - 1 - (rs.length - g)) e1 e2 D (by omega) (by omega) (by omega) sD (aC1.df dD (by omega) (fun q => q) (fun _ _ q => q)) (aC2.df dD (by omega) (fun q => q) (fun _ _ q => q)) (fun i hi => ⟨⟨_, (ibC i (by omega)).1.df dD (by omega)⟩, _, (ibC i (by omega)).2.df dD (by omega)⟩) (fun i hi => q8 i (by omega))
      rw [show xN - 1 - (rs.length - g) + 1 + (rs.length - g) = xN by omega] at f1
      obtain ⟨G, hG⟩ : ∃ G, G = wI E 1068 1095 0 := ⟨_, rfl⟩
      rw [← hG] at f1
      have sG : ST G := by rw [hG]; exact sE
      have dG : Df (fun a i => a = 1068 ∧ i = 1095) n2 n2 E G := by rw [hG]; exact Df.wI _ ⟨rfl, rfl⟩
      have aG1 := f2.df dG (by omega) (fun q => q) (fun _ _ q => q)
      have aG2 := f3.df dG (by omega) (fun q => q) (fun _ _ q => q)
      have dM2 : Df pRo n2 (rLs d1 d2) M G := (((dC.mono (fun a i q => by unfold pOp at q; unfold pRo; omega) (fun _ _ q => q) (fun _ _ q => q.elim)).trans (dD.mono (fun a i q => by unfold pRo; omega) (fun _ _ q => q) (fun _ _ q => q.elim))).trans (f4.mono (fun a i q => by unfold pLs at q; unfold pRo; omega) (fun _ _ q => q) (fun _ _ q => q))).trans (dG.mono (fun a i q => by unfold pRo; omega) (fun _ _ q => q) (fun _ _ q => q.elim))
      have cG : ∀ a i, a < 1334 → ¬ pRo a i → cI G a i = cI M a i := fun a i h1 h2 => dM2.cI (by omega) h2
      have g29 : cI G 1329 = cI M 1329 := funext (fun j => cG _ _ (by decide) (by unfold pRo; omega))
      have g30 : cI G 1330 = cI M 1330 := funext (fun j => cG _ _ (by decide) (by unfold pRo; omega))
      have g53 : cI G 1053 = cI M 1053 := funext (fun j => cG _ _ (by decide) (by unfold pRo; omega))
      have g55 : cI G 1055 = cI M 1055 := funext (fun j => cG _ _ (by decide) (by unfold pRo; omega))
      obtain ⟨w1, w2⟩ := whr_eq (f := cI M 1053) (t := cI M 1055) (rs := rs) (n := nn) g hgw hgl
      have hlg := lst_sum' hgl
      have e29 : ∀ j, j < lst rs g → cI M 1329 j = cI M 1330 j := fun j hj => by rw [← q15 j (by omega), w2 j hj, q16 j (by omega)]
      have r29 : RcS (cI M 1329) rs g := RcS.congr hgl (fun i hi => r30 i (by omega)) e29
      have ibG : ∀ x v, IB M x v → (x < 1000 ∨ 1334 ≤ x) → IB G x v := fun x v hx hh => hx.df dM2 (by unfold pRo; omega)
      have lt1 : (e1.take g).length = g := by rw [List.length_take]; omega
      have lt2 : (e2.take g).length = g := by rw [List.length_take]; omega
      have ltr : (rs.take g).length = g := by rw [List.length_take]; omega
      have sumr : (rs.take g).sum = lst rs g := rfl
      have mc := M_cnt (M := G) (rs := rs) (g := g) sG aG1 (by omega) (by omega) (fun i hi => by
        rw [getD_take hi]
        exact ibG _ _ (q7 i (by omega)).1 (q8 i (by omega)).1) (by rw [g29]; exact r29) g (xN - 1 - g) 0 (by omega)
      rw [show xN - 1 - g + 1 + g = xN by omega, g29] at mc
      -- as many names
      have names : ctb (fst1 (nmR (cI M 1053) rs)) g = ctb (lst1 (nmR (cI M 1329) rs) g) g := by
        have e0 : ctb (fst1 (nmR (cI M 1053) rs)) g = ctb (fst1 (nmR (cI M 1329) rs)) g := by
          refine ctb_congr g (fun i hi => ?_)
          unfold fst1
          rw [fany_congr (q := fun j => nmR (cI M 1329) rs j i) i 0 (fun j _ hj => ?_)]
          unfold nmR
          obtain ⟨-, r2, nl, r3, r4, r5, r6⟩ := r29 j (by omega)
          obtain ⟨-, s2, ml, s3, s4, s5, s6⟩ := r29 i (by omega)
          have lj := lst_succ (rs := rs) (i := j) (by omega)
          have lj2 := lst_mono' (rs := rs) (i := j + 1) (j := g) (by omega) hgl
          have li := lst_succ (rs := rs) (i := i) (by omega)
          have li2 := lst_mono' (rs := rs) (i := i + 1) (j := g) (by omega) hgl
          have e53 : ∀ k, k < lst rs g → cI M 1053 k = cI M 1329 k := fun k hk => q15 k (by omega)
          by_cases cc' : nl = ml
          · exact sam_congr r4 (by rw [e53 _ (by omega)]; exact r6) (fun k hk => e53 _ (by omega)) (fun k hk => e53 _ (by omega))
          · have ne : ∀ f : Nat → Int32, f (lst rs j + 4) = iw (nl : Int) → f (lst rs i + 4) = iw (ml : Int) → sam f (lst rs j) (lst rs i) = false := fun f x1 x2 => by
              unfold sam
              rw [x1, x2, decide_eq_false (by rw [iw_eq (by omega) (by omega) (by omega) (by omega)]; omega), Bool.false_and]
            rw [ne _ (by rw [e53 _ (by omega)]; exact r6) (by rw [e53 _ (by omega)]; exact s6), ne _ r6 s6]
        rw [e0]
        exact cls_eq (R := nmR (cI M 1329) rs) (G := g) (fun i j _ _ q => sam_s q) (fun i j k _ _ _ x y => sam_t x y) g (Nat.le_refl _)
      have hR : ∀ a i, 1334 ≤ a → rLs d1 d2 a i → m_tg M a = 1010 := fun a i ha q => by
        unfold rLs at q
        rcases q with q | ⟨q, q' | q'⟩
        · omega
        · rcases q3.2.2.2.2 with w | w
          · omega
          · rw [q']; exact w.2.2.2.1
        · rcases q4.2.2.2.2 with w | w
          · omega
          · rw [q']; exact w.2.2.2.1
      have c98 : cI G 1000 98 = iw ((op + 1 : Nat) : Int) := by
        rw [dG.cI (by omega) (by omega), f4.cI (by omega) (by unfold pLs; omega), dD.cI (by omega) (by omega), hC, cI_wI, if_neg (by omega), b6.cI (by omega) (by unfold pOp; omega), hA, cI_wI, if_neg (by omega), hA0, cI_wI, if_pos ⟨rfl, rfl⟩]
      have c97 : cI G 1000 97 = 0 := by
        rw [dG.cI (by omega) (by omega), f4.cI (by omega) (by unfold pLs; omega), dD.cI (by omega) (by omega), hC, cI_wI, if_neg (by omega), b6.cI (by omega) (by unfold pOp; omega), hA, cI_wI, if_pos ⟨rfl, rfl⟩]
      have c95 : cI G 1068 1095 = 0 := by rw [hG, cI_wI, if_pos ⟨rfl, rfl⟩]
      have c132 : cI G 1068 1132 = iw ((op + 1 : Nat) : Int) := by
        rw [dG.cI (by omega) (by omega), f4.cI (by omega) (by unfold pLs; omega), dD.cI (by omega) (by omega), hC, cI_wI, if_pos ⟨rfl, rfl⟩]
      have c131 : cI G 1068 1131 = iw (lst rs g : Nat) := by
        rw [dG.cI (by omega) (by omega), f4.cI (by omega) (by unfold pLs; omega), hD, cI_wI, if_pos ⟨rfl, rfl⟩]
      have c25 : cI G 1052 1025 = iw (lst rs g : Nat) := by
        rw [dG.cI (by omega) (by omega), f4.cI (by omega) (by unfold pLs; omega), dD.cI (by omega) (by omega), hC, cI_wI, if_neg (by omega)]
        exact b3
      refine ⟨iw (ctb (fst1 (nmR (cI M 1053) rs)) g : Nat), B, G, rs.take g, e1.take g, e2.take g, lst rs g, eE, ?_, ?_, I5.df3 h dM2 (fun a i q1 q2 => by unfold pRo at q2; omega) qt_n2 hR (fun a i q w => by unfold pGr at q; unfold pRo at w; omega) (fun i => ⟨fun q => by unfold rLs at q; omega, fun q => by unfold rLs at q; omega⟩) h5, ?_, dM2, by rw [hG]; show m_nx E = _; omega, by rw [hG]; show m_sl E = _; rw [f6, hD]; show m_sl C = _; rw [hC]; show m_sl B = _; omega⟩
      · have cB : ∀ i, i ≠ 1132 → cI B 1068 i = cI M 1068 i := fun i hi => dB.cI (by omega) (by unfold pOp; omega)
        have b95 : cI B 1068 1095 = 1 := by rw [cB _ (by decide)]; exact hcl2.symm
        have b132 : cI B 1068 1132 = iw (op : Int) := by rw [dB.cI (by omega) (by unfold pOp; omega)]; exact o3
        unfold F_X16_reopen
        simp only [g1068_1095, g1068_1132, sB, b95, b132, n10, Option.bind_some, if_false]
        rw [if_neg (by rw [i10, iw_eq (by omega) (by omega) (by omega) (by omega)]; omega), iw_succ]
        simp only [p1068_1132, sB, ← hC, Option.bind_some]
        refine Eq.trans mw ?_
        unfold F_X16_reopen_b146
        simp only [p1068_1131, sC, ← hD, Option.bind_some]
        rw [f1, names]
        exact mc
      · refine ⟨?_, ?_, ?_, Or.inl c97, by rw [c97, c95], ⟨op + 1, by omega, c98, c132⟩, ?_⟩
        · rw [cG _ _ (by decide) (by unfold pRo; omega), cG _ _ (by decide) (by unfold pRo; omega)]; exact p1
        · rw [cG _ _ (by decide) (by unfold pRo; omega), cG _ _ (by decide) (by unfold pRo; omega)]; exact p2
        · rw [cG _ _ (by decide) (by unfold pRo; omega), cG _ _ (by decide) (by unfold pRo; omega)]; exact p3
        · obtain ⟨n, m, t1, t2, t3, t4, t5, t6⟩ := p7
          refine ⟨n, m, t1, t2, t3, by rw [cG _ _ (by decide) (by unfold pRo; omega)]; exact t4, by rw [cG _ _ (by decide) (by unfold pRo; omega)]; exact t5, fun i hi => by rw [cG _ _ (by decide) (by unfold pRo; omega), cG _ _ (by decide) (by unfold pRo; omega)]; exact t6 i hi⟩
      · refine ⟨by omega, by rw [sumr]; omega, aG1, aG2, by omega, by omega, fun i hi => ?_, fun i hi => ?_, q9, q10, q11, by rw [sumr]; exact Nat.le_refl _, c25, c131, fun i hi => ?_, fun i hi => ?_, fun i hi => ?_, fun _ => ⟨by rw [sumr], fun i hi => ?_, fun hne => ?_⟩⟩
        · rw [ltr] at hi
          rw [getD_take hi, getD_take hi, getD_take hi, lst_take (by omega)]
          exact ⟨ibG _ _ (q7 i (by omega)).1 (q8 i (by omega)).1, ibG _ _ (q7 i (by omega)).2 (q8 i (by omega)).2⟩
        · rw [ltr] at hi
          rw [getD_take hi, getD_take hi]
          exact q8 i (by omega)
        · rw [g53, g29]; exact q15 i (by omega)
        · rw [sumr] at hi
          rw [g55, g30]; exact q16 i (by omega)
        · rw [ltr] at hi
          rw [getD_take hi, lst_take (by omega), g30]
          exact q17 i (by omega)
        · rw [g29, g30]; exact e29 i hi
        · have hg0 : 0 < g := by
            rcases Nat.eq_zero_or_pos g with q | q
            · exact absurd (by rw [q]; rfl) hne
            · exact q
          rw [ltr, lst_take (by omega), dG.cI (by omega) (by omega), f4.cI (by omega) (by unfold pLs; omega), dD.cI (by omega) (by omega), hC, cI_wI, if_neg (by omega)]
          exact b4 hg0
