/-! ===== FORMULAS, 67: what items mean: what stands between ===== -/
theorem op_17 {o : Int32} (h : 1 ≤ o ∧ o ≤ 17) : o = 1 ∨ o = 2 ∨ o = 3 ∨ o = 4 ∨ o = 5 ∨ o = 6 ∨ o = 7 ∨ o = 8 ∨ o = 9 ∨ o = 10 ∨ o = 11 ∨ o = 12 ∨ o = 13 ∨ o = 14 ∨ o = 15 ∨ o = 16 ∨ o = 17 := by
  have ob2 : o ≤ 19 := Int32.le_trans h.2 (by decide)
  rcases op_cases h.1 ob2 with q | q | q | q | q | q | q | q | q | q | q | q | q | q | q | q | q | q | q
  · exact Or.inl q
  · exact Or.inr (Or.inl q)
  · exact Or.inr (Or.inr (Or.inl q))
  · exact Or.inr (Or.inr (Or.inr (Or.inl q)))
  · exact Or.inr (Or.inr (Or.inr (Or.inr (Or.inl q))))
  · exact Or.inr (Or.inr (Or.inr (Or.inr (Or.inr (Or.inl q)))))
  · exact Or.inr (Or.inr (Or.inr (Or.inr (Or.inr (Or.inr (Or.inl q))))))
  · exact Or.inr (Or.inr (Or.inr (Or.inr (Or.inr (Or.inr (Or.inr (Or.inl q)))))))
  · exact Or.inr (Or.inr (Or.inr (Or.inr (Or.inr (Or.inr (Or.inr (Or.inr (Or.inl q))))))))
  · exact Or.inr (Or.inr (Or.inr (Or.inr (Or.inr (Or.inr (Or.inr (Or.inr (Or.inr (Or.inl q)))))))))
  · exact Or.inr (Or.inr (Or.inr (Or.inr (Or.inr (Or.inr (Or.inr (Or.inr (Or.inr (Or.inr (Or.inl q))))))))))
  · exact Or.inr (Or.inr (Or.inr (Or.inr (Or.inr (Or.inr (Or.inr (Or.inr (Or.inr (Or.inr (Or.inr (Or.inl q)))))))))))
  · exact Or.inr (Or.inr (Or.inr (Or.inr (Or.inr (Or.inr (Or.inr (Or.inr (Or.inr (Or.inr (Or.inr (Or.inr (Or.inl q))))))))))))
  · exact Or.inr (Or.inr (Or.inr (Or.inr (Or.inr (Or.inr (Or.inr (Or.inr (Or.inr (Or.inr (Or.inr (Or.inr (Or.inr (Or.inl q)))))))))))))
  · exact Or.inr (Or.inr (Or.inr (Or.inr (Or.inr (Or.inr (Or.inr (Or.inr (Or.inr (Or.inr (Or.inr (Or.inr (Or.inr (Or.inr (Or.inl q))))))))))))))
  · exact Or.inr (Or.inr (Or.inr (Or.inr (Or.inr (Or.inr (Or.inr (Or.inr (Or.inr (Or.inr (Or.inr (Or.inr (Or.inr (Or.inr (Or.inr (Or.inl q)))))))))))))))
  · exact Or.inr (Or.inr (Or.inr (Or.inr (Or.inr (Or.inr (Or.inr (Or.inr (Or.inr (Or.inr (Or.inr (Or.inr (Or.inr (Or.inr (Or.inr (Or.inr q)))))))))))))))
  · rw [q] at h; exact absurd h.2 (by decide)
  · rw [q] at h; exact absurd h.2 (by decide)
theorem rk_fact {o : Int32} (h : 1 ≤ o ∧ o ≤ 17) : (((7 : Int32) < iw (lvO o : Nat)) ↔ o < 6) ∧ (iw (lvO o : Nat) = (6 : Int32) ↔ ¬ o < 9 ∧ o < 13) ∧ (iw (lvO o : Nat) = (7 : Int32) ↔ isSh o) ∧ (iw (lvO o : Nat) = (5 : Int32) ↔ ¬ o < 13 ∧ o < 15) ∧ (((4 : Int32) < iw (lvO o : Nat)) ↔ o < 15) := by
  rcases op_17 h with rfl | rfl | rfl | rfl | rfl | rfl | rfl | rfl | rfl | rfl | rfl | rfl | rfl | rfl | rfl | rfl | rfl <;> decide
theorem sg_fact {o : Int32} (h : 1 ≤ o ∧ o ≤ 17) : sgT o ∈ sgA ∧ opS (sgT o) = o ∧ o ≠ 0 := by
  rcases op_17 h with rfl | rfl | rfl | rfl | rfl | rfl | rfl | rfl | rfl | rfl | rfl | rfl | rfl | rfl | rfl | rfl | rfl <;> decide
theorem og_fact {o : Int32} (h : 1 ≤ o ∧ o ≤ 17) : ¬ (o = 18 ∨ o = 19) ∧ (isSh o → ¬ o < 6 ∧ o < 9) ∧ (o < 6 → ¬ isSh o ∧ o ≤ 12 ∧ ¬ (8 : Int32) < o) ∧ (¬ o < 9 → ¬ isSh o ∧ ¬ o < 6 ∧ (8 : Int32) < o) ∧ (o < 13 → o ≤ 12 ∧ o < 15) ∧ (¬ o < 13 → ¬ o ≤ 12 ∧ ¬ o < 9) ∧ (o < 15 → o ≤ 14) ∧ (¬ o < 15 → ¬ o ≤ 14 ∧ ¬ o < 13) ∧ (¬ o < 6 → o < 9 → isSh o) := by
  rcases op_17 h with rfl | rfl | rfl | rfl | rfl | rfl | rfl | rfl | rfl | rfl | rfl | rfl | rfl | rfl | rfl | rfl | rfl <;> decide
/-- the step of what stands between -/
def opB (o i : Int32) (x y : Tx) : List Mo := [{ op := if o < 6 then 10 else if o < 9 then 11 else if o < 15 then 12 else 13, tx := sgT o, k := x.ln, j := y.ln, to := i }]
def opT2 (x y : Tx) : Tx → List Mo
  | .bin o i _ _ _ => opB o i x y
  | _ => []
section
variable {C : MeC} {M N : Mem} {V W : MeV} {P : List Int32} {O : List Mo} {B ia : Nat}
theorem M_one6 {p : Nat} {o : Int32} {x y : Tx} (h : MeG C M V (P ++ [x.ln] ++ [y.ln]) O) (ho : 1 ≤ o ∧ o ≤ 17) (hi : IMm M B ia { op := 6, pl := p, sg := sgT o }) (hk : Lk x.ln) (hj : Lk y.ln) (hP : P.length + 1 ≤ C.K) (hO : O.length + 2 ≤ C.K) : RIt C M V P O 10 p (opT2 x y) (F_X45_one M C.v0 ia) (ckB o x y) := by
  have o19 : 1 ≤ o ∧ o ≤ 19 := ⟨ho.1, Int32.le_trans ho.2 (by decide)⟩
  obtain ⟨N1, W1, n1, n2⟩ := OKs.take h
  obtain ⟨N, W, m1, m2⟩ := OKs.take n2.1
  have nm := n2.trans m2
  have hiN := hi.fg nm.2.1.1 h.tg3
  have k0 := m2.1.1.1.2.1
  have tx : gr N ia 2882 = some (sgT o) := hiN.sgr (show ¬ ((6 : Int32) = 2 ∨ (6 : Int32) = 3) by decide)
  have o0 : gi M ia 2880 = some (6 : Int32) := by rw [gi_of hi.1.2.2 (show x_fi 45 2880 = true by decide)]; exact congrArg some hi.2.1
  have L0 : Lk 0 := by unfold Lk; decide
  have tb1 : ∀ x : Option (Mem ⊕ (Nat × Mem)), (tb x fun z46 => some (Sum.inl z46)) = x := fun x => by
    cases x with
    | none => rfl
    | some v => cases v <;> rfl
  obtain ⟨sg1, sg2, sg3⟩ := sg_fact ho
  have rk : F_X16_rankOf N (sgT o) = some (iw (lvO o : Nat), N) := by rw [M_rankOf k0 sg1, sg2, if_neg sg3]
  obtain ⟨R, hR⟩ : ∃ R, R = iw (lvO o : Nat) := ⟨_, rfl⟩
  obtain ⟨r1, r2, r3, r4, r5⟩ := rk_fact ho
  rw [← hR] at r1 r2 r3 r4 r5 rk
  obtain ⟨g1, g2, g3, g4, g5, g6, g7, g8, g9⟩ := og_fact ho
  unfold F_X45_one
  rw [o0, Option.bind_some, if_neg (by decide), if_neg (by decide), if_neg (by decide), if_neg (by decide), if_neg (by decide), if_pos rfl, h.v, Option.bind_some, tb1]
  unfold F_X45_binary
  rw [h.v, Option.bind_some, n1, Option.bind_some, n2.1.v, Option.bind_some, m1, Option.bind_some]
  have e65 : ∀ nu wh tr : Bool, F_X45_binary_b65 N (mr tr) C.v0 ia y.ln x.ln (mr nu) (mr wh) = F_X45_binary_b146 N (mr (gdB o nu wh tr)) C.v0 ia y.ln x.ln (mr tr) R := fun nu wh tr => by
    unfold F_X45_binary_b65 F_X45_binary_b90 F_X45_binary_b123 F_X45_binary_b141 gdB
    rw [tx, Option.bind_some, rk, Option.bind_some, if_neg g1]
    dsimp only
    by_cases q6 : o < 6
    · rw [if_pos (r1.mpr q6), if_neg (g3 q6).1, if_pos (g3 q6).2.1]
    rw [if_neg (fun w => q6 (r1.mp w))]
    by_cases q9 : o < 9
    · have sh := g9 q6 q9
      rw [if_neg (fun w => (r2.mp w).1 q9), if_pos (r3.mpr sh), if_pos sh]
    have ns := (g4 q9).1
    by_cases q13 : o < 13
    · rw [if_pos (r2.mpr ⟨q9, q13⟩), if_neg ns, if_pos (g5 q13).1]
    rw [if_neg (fun w => q13 (r2.mp w).2), if_neg (fun w => ns (r3.mp w)), if_neg ns, if_neg (g6 q13).1]
    by_cases q15 : o < 15
    · rw [if_pos (r4.mpr ⟨q13, q15⟩), if_pos (g7 q15)]
      cases nu <;> cases tr <;> rfl
    · rw [if_neg (fun w => q15 (r4.mp w).2), if_neg (g8 q15).1]
      cases wh <;> cases tr <;> rfl
  have e50 : ∀ nu wh : Bool, F_X45_binary_b50 N (mr wh) C.v0 ia y.ln x.ln (mr nu) = F_X45_binary_b65 N (mr (decide (x.ln = 0 ∧ y.ln = 0))) C.v0 ia y.ln x.ln (mr nu) (mr wh) := fun nu wh => by
    unfold F_X45_binary_b50 F_X45_binary_b64
    by_cases q1 : x.ln = 0 <;> by_cases q2 : y.ln = 0 <;> simp only [q1, q2, decide_true, decide_false, and_true, and_false, true_and, false_and, if_true, if_false] <;> rfl
  have e29 : ∀ nu : Bool, F_X45_binary_b29 N (mr nu) C.v0 ia y.ln x.ln = F_X45_binary_b50 N (mr (decide (isWk x.ln ∧ isWk y.ln))) C.v0 ia y.ln x.ln (mr nu) := fun nu => by
    unfold F_X45_binary_b29 F_X45_binary_b49
    simp only [y_isWh hk, y_isWh hj, Option.bind_some]
    by_cases q1 : isWk x.ln <;> by_cases q2 : isWk y.ln <;> simp only [q1, q2, decide_true, decide_false, and_true, and_false, true_and, false_and] <;> rfl
  have e0 : ((F_X16_isNumber x.ln).bind fun z24 => if z24 = 0 then F_X45_binary_b28 N C.v0 ia y.ln x.ln else (F_X16_isNumber y.ln).bind fun z25 => if z25 = 0 then F_X45_binary_b28 N C.v0 ia y.ln x.ln else F_X45_binary_b29 N 1 C.v0 ia y.ln x.ln) = F_X45_binary_b29 N (mr (decide (isNk x.ln ∧ isNk y.ln))) C.v0 ia y.ln x.ln := by
    unfold F_X45_binary_b28
    simp only [y_isNum hk, y_isNum hj, Option.bind_some]
    by_cases q1 : isNk x.ln <;> by_cases q2 : isNk y.ln <;> simp only [q1, q2, decide_true, decide_false, and_true, and_false, true_and, false_and] <;> rfl
  show RIt C M V P O 10 p (opT2 x y) ((F_X16_isNumber x.ln).bind fun z24 => if z24 = 0 then F_X45_binary_b28 N C.v0 ia y.ln x.ln else (F_X16_isNumber y.ln).bind fun z25 => if z25 = 0 then F_X45_binary_b28 N C.v0 ia y.ln x.ln else F_X45_binary_b29 N 1 C.v0 ia y.ln x.ln) _
  rw [e0, e29, e50, e65, ckB_eq o19]
  have c1 : (x.ln = 0 ∧ y.ln = 0) → ¬ (isNk x.ln ∧ isNk y.ln) := fun q w => by rw [q.1] at w; exact absurd w.1 (by decide)
  have c2 : (isWk x.ln ∧ isWk y.ln) → (isNk x.ln ∧ isNk y.ln) := fun q => ⟨Wk_Nk q.1, Wk_Nk q.2⟩
  unfold F_X45_binary_b146
  rw [hiN.pl, Option.bind_some, m2.1.v, Option.bind_some]
  cases hgd : gdB o (decide (isNk x.ln ∧ isNk y.ln)) (decide (isWk x.ln ∧ isWk y.ln)) (decide (x.ln = 0 ∧ y.ln = 0)) with
  | false =>
    rw [if_neg (show ¬ false = true by decide), show mr false = 0 from rfl, M_mustF m2.1]
    exact (nm.mono (by omega)).err rfl
  | true =>
    rw [if_pos rfl, if_neg g1, show mr true = 1 from rfl, M_mustT m2.1, tb_l]
    obtain ⟨oc, hoc⟩ : ∃ oc : Int32, oc = if o < 6 then 10 else if o < 9 then 11 else if o < 15 then 12 else 13 := ⟨_, rfl⟩
    have e146 : ∀ F : Int32 → Option (Mem ⊕ (Nat × Mem)), (if 7 < R then F 10 else if R = 7 then F 11 else if 4 < R then F 12 else F 13) = F oc := fun F => by
      rw [hoc]
      by_cases q6 : o < 6
      · rw [if_pos (r1.mpr q6), if_pos q6]
      rw [if_neg (fun w => q6 (r1.mp w)), if_neg q6]
      by_cases q9 : o < 9
      · rw [if_pos (r3.mpr (g9 q6 q9)), if_pos q9]
      rw [if_neg (fun w => (g4 q9).1 (r3.mp w)), if_neg q9]
      by_cases q15 : o < 15
      · rw [if_pos (r5.mpr q15), if_pos q15]
      · rw [if_neg (fun w => q15 (r5.mp w)), if_neg q15]
    rw [e146 (fun v => F_X45_binary_b196 N C.v0 v C.v0 ia y.ln x.ln (mr (decide (x.ln = 0 ∧ y.ln = 0))) R)]
    obtain ⟨i, hi'⟩ : ∃ i, i = inB o (decide (isNk x.ln ∧ isNk y.ln)) x.ln y.ln := ⟨_, rfl⟩
    obtain ⟨la, hla⟩ : ∃ la, la = laB o (decide (isWk x.ln ∧ isWk y.ln)) i := ⟨_, rfl⟩
    rw [← hi', ← hla]
    have wxx : wdk x.ln x.ln = wdk x.ln 4 := by rcases hk with q | q | q | q | q | q | q | q <;> rw [q] <;> decide
    unfold F_X45_binary_b196
    obtain ⟨N2, W2, f1, f2⟩ := OKs.op m2.1 oc (by omega)
    have hi2 := hiN.fg f2.1.2.1.1 m2.1.tg3
    rw [m2.1.v, Option.bind_some, f1, Option.bind_some, show gr N2 ia 2882 = some (sgT o) from hi2.sgr (show ¬ ((6 : Int32) = 2 ∨ (6 : Int32) = 3) by decide), Option.bind_some]
    obtain ⟨a1, f3⟩ := f2.ptx (sgT o)
    rw [a1, Option.bind_some]
    obtain ⟨a2, f4⟩ := f3.pk x.ln
    rw [a2, Option.bind_some]
    obtain ⟨a3, f5⟩ := f4.pj y.ln
    rw [a3, Option.bind_some]
    obtain ⟨N3, hN3⟩ : ∃ N3, N3 = wI (wI (wR N2 (m_nx N) 3073 (sgT o)) (m_nx N) 3074 x.ln) (m_nx N) 3075 y.ln := ⟨_, rfl⟩
    rw [← hN3] at f5 ⊢
    have e196 : (if mr (decide (x.ln = 0 ∧ y.ln = 0)) = 0 then (if R = 7 then (F_X16_wider x.ln x.ln).bind fun z11 => F_X45_binary_b253 N3 (m_nx N) z11 C.v0 R (m_nx N) else (F_X16_wider x.ln y.ln).bind fun z12 => F_X45_binary_b253 N3 (m_nx N) z12 C.v0 R (m_nx N)) else F_X45_binary_b253 N3 (m_nx N) 0 C.v0 R (m_nx N)) = F_X45_binary_b253 N3 (m_nx N) i C.v0 R (m_nx N) := by
      rw [hi']
      unfold inB
      rw [y_wider hk hk, y_wider hk hj, Option.bind_some, Option.bind_some, wxx]
      by_cases ht : x.ln = 0 ∧ y.ln = 0
      · have nn := c1 ht
        have nw : ¬ (isWk x.ln ∧ isWk y.ln) := fun q => nn (c2 q)
        have nsh : ¬ isSh o := fun q => by
          unfold gdB at hgd
          rw [if_neg g1, if_pos q, decide_eq_false nw] at hgd
          cases hgd
        rw [decide_eq_true ht, if_neg (show ¬ mr true = 0 by decide), if_neg nsh, decide_eq_false nn, if_neg (show ¬ false = true by decide)]
      · rw [decide_eq_false ht, if_pos (show mr false = 0 by decide)]
        by_cases q7 : isSh o
        · rw [if_pos (r3.mpr q7), if_pos q7]
        · rw [if_neg (fun w => q7 (r3.mp w)), if_neg q7]
          have nu : isNk x.ln ∧ isNk y.ln := by
            rcases Classical.em (isNk x.ln ∧ isNk y.ln) with q | q
            · exact q
            · exfalso
              have nw : ¬ (isWk x.ln ∧ isWk y.ln) := fun z => q (c2 z)
              unfold gdB at hgd
              rw [if_neg g1, if_neg q7, decide_eq_false q, decide_eq_false nw, decide_eq_false ht] at hgd
              revert hgd
              split
              · decide
              · split <;> decide
          rw [decide_eq_true nu, if_pos rfl]
    rw [e196]
    unfold F_X45_binary_b253 F_X45_binary_b270 F_X45_binary_b279
    obtain ⟨a4, f6⟩ := f5.pto i
    have gto : gi (wI N3 (m_nx N) 3076 i) (m_nx N) 3076 = some i := by rw [gi_of f6.2.1.2.2 (show x_fi 48 3076 = true by decide), cI_wI, if_pos ⟨rfl, rfl⟩]
    rw [a4, Option.bind_some]
    simp only [f6.1.1.v, gto, Option.bind_some]
    have iL : Lk i := by
      rw [hi']
      unfold inB
      have L4 : Lk 4 := by unfold Lk; decide
      split
      · exact wdk_Lk hk L4
      · split
        · exact wdk_Lk hk hj
        · exact L0
    have laL : Lk la := by
      rw [hla]
      unfold laB
      split
      · split
        · exact L0
        · split
          · exact iL
          · exact L0
      · exact iL
    have el : (if R = 5 then (F_X45_give (wI N3 (m_nx N) 3076 i) C.v0 0).bind fun z2 => some (Sum.inl z2) else if R = 6 then (F_X45_give (wI N3 (m_nx N) 3076 i) C.v0 0).bind fun z2 => some (Sum.inl z2) else (F_X45_give (wI N3 (m_nx N) 3076 i) C.v0 i).bind fun z2 => some (Sum.inl z2)) = (F_X45_give (wI N3 (m_nx N) 3076 i) C.v0 la).bind fun z2 => (some (Sum.inl z2) : Option (Mem ⊕ (Nat × Mem))) := by
      rw [hla]
      unfold laB
      by_cases q9 : o < 9
      · have n8 : ¬ (8 : Int32) < o := by
          by_cases q6 : o < 6
          · exact (g3 q6).2.2
          · have := g9 q6 q9
            rcases this with rfl | rfl | rfl <;> decide
        have n5 : ¬ R = 5 := fun w => by
          have := (r4.mp w).1
          exact (g6 this).2 q9
        rw [if_neg n5, if_neg (fun w => (r2.mp w).1 q9), if_neg n8]
      · rw [if_pos (g4 q9).2.2]
        by_cases q15 : o < 15
        · rw [if_pos q15]
          by_cases q13 : o < 13
          · rw [if_neg (fun w => (r4.mp w).1 q13), if_pos (r2.mpr ⟨q9, q13⟩)]
          · rw [if_pos (r4.mpr ⟨q13, q15⟩)]
        · rw [if_neg (fun w => q15 (r4.mp w).2), if_neg (fun w => (g8 q15).2 (r2.mp w).2), if_neg q15]
          by_cases hw : isWk x.ln ∧ isWk y.ln
          · rw [decide_eq_true hw, if_pos rfl]
          · rw [decide_eq_false hw, if_neg (show ¬ false = true by decide)]
            have i0 : i = 0 := by
              have nsh := (g4 q9).1
              have ht : x.ln = 0 ∧ y.ln = 0 := by
                unfold gdB at hgd
                rw [if_neg g1, if_neg nsh, if_neg (g6 (g8 q15).2).1, if_neg (g8 q15).1, decide_eq_false hw, Bool.false_or] at hgd
                exact of_decide_eq_true hgd
              rw [hi']
              unfold inB
              rw [if_neg nsh, decide_eq_false (c1 ht), if_neg (by decide)]
            rw [i0]
    rw [el]
    obtain ⟨N4, W4, b1, b2⟩ := OKs.give laL f6.1.1 hP
    rw [b1, Option.bind_some]
    refine ⟨N4, W4, rfl, ?_⟩
    show OKs C M V N4 W4 (P ++ [la]) (O ++ [{ op := if o < 6 then 10 else if o < 9 then 11 else if o < 15 then 12 else 13, tx := sgT o, k := x.ln, j := y.ln, to := i }]) 10
    rw [← hoc]
    exact ((nm.trans f6.1).trans b2).mono (by omega)
end
