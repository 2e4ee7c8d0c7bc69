/-! ===== FORMULAS, 66: what items mean: what stands ahead, casts, between ===== -/
/-- a fault was found -/
def ERs (C : MeC) (M : Mem) (V : MeV) (k : Nat) (x : Option (Mem ⊕ (Nat × Mem))) (q : Nat) : Prop := ∃ N W P' O', x = some (.inr (m_nx N, mT N 2 (iw (q : Int)))) ∧ MeG C N W P' O' ∧ RG C M N V W k
section
variable {C : MeC} {M N : Mem} {V W : MeV} {P : List Int32} {O : List Mo} {B ia : Nat}
theorem OKs.err {k p : Nat} {x : Option (Mem ⊕ (Nat × Mem))} {P' : List Int32} {O' : List Mo} (h : OKs C M V N W P' O' k) (hx : x = some (.inr (m_nx N, mT N 2 (iw (p : Int))))) : ERs C M V k x p := ⟨N, W, P', O', hx, h.1, h.2.1⟩
/-- an item of an expression that has its operands -/
def RIt (C : MeC) (M : Mem) (V : MeV) (P : List Int32) (O : List Mo) (k p : Nat) (ops : Tx → List Mo) (x : Option (Mem ⊕ (Nat × Mem))) : Option Tx → Prop
  | some t => ∃ N W, x = some (.inl N) ∧ OKs C M V N W (P ++ [t.ln]) (O ++ ops t) k
  | none => ERs C M V k x p
theorem IMm.pl {t : Itm} (h : IMm M B ia t) : gi M ia 2881 = some (iw (t.pl : Int)) := by rw [gi_of h.1.2.2 (show x_fi 45 2881 = true by decide), h.2.2.1]
theorem IMm.sgr {t : Itm} (h : IMm M B ia t) (ho : ¬ (t.op = 2 ∨ t.op = 3)) : gr M ia 2882 = some t.sg := by rw [gr_of h.1.2.2 (show x_fr 45 2882 = true by decide), h.2.2.2.2.2.2 ho]
theorem IMm.ni {t : Itm} (h : IMm M B ia t) : gi M ia 2883 = some t.n := by rw [gi_of h.1.2.2 (show x_fi 45 2883 = true by decide), h.2.2.2.1]
/-- the steps of a sign ahead -/
def opU (s : Int32) (e : Tx) (l : Int32) : List Mo := wdn e.ln l ++ [if s = 33 then { op := 8 } else { op := if s = 45 then 7 else 9, k := l }]
def opT1 (e : Tx) : Tx → List Mo
  | .pre s l _ => opU s e l
  | .cst l _ => [{ op := 6, k := e.ln, to := l }]
  | _ => []
theorem M_one4 {p : Nat} {s : Int32} {e : Tx} (h : MeG C M V (P ++ [e.ln]) O) (hs : s = 45 ∨ s = 33 ∨ s = 126) (hi : IMm M B ia { op := 4, pl := p, sg := txS s }) (hl : Lk e.ln) (hP : P.length + 1 ≤ C.K) (hO : O.length + 2 ≤ C.K) : RIt C M V P O 10 p (opT1 e) (F_X45_one M C.v0 ia) (ckP s e) := by
  obtain ⟨N, W, n1, n2⟩ := OKs.take h
  have hiN := hi.fg n2.2.1.1 h.tg3
  have k0 := n2.1.1.1.2.1
  have tx : gr N ia 2882 = some (txS s) := hiN.sgr (show ¬ ((4 : Int32) = 2 ∨ (4 : Int32) = 3) by decide)
  have o0 : gi M ia 2880 = some (4 : Int32) := by rw [gi_of hi.1.2.2 (show x_fi 45 2880 = true by decide)]; exact congrArg some hi.2.1
  have L4 : Lk 4 := by unfold Lk; decide
  have L0 : Lk 0 := by unfold Lk; decide
  have tb1 : ∀ x : Option (Mem ⊕ (Nat × Mem)), (tb x fun z46 => some (Sum.inl z46)) = x := fun x => by
    cases x with
    | none => rfl
    | some v => cases v <;> rfl
  unfold F_X45_one
  rw [o0, Option.bind_some, if_neg (by decide), if_neg (by decide), if_neg (by decide), if_pos rfl, h.v, Option.bind_some, tb1]
  unfold F_X45_unary
  rw [h.v, Option.bind_some, n1, Option.bind_some, tx, Option.bind_some]
  have bd : 20 ≤ txS s ∧ txS s < 65 := by rcases hs with rfl | rfl | rfl <;> decide
  rw [k0.vg bd.1 bd.2, Option.bind_some, k0.eq bd.1 bd.2 (show 20 ≤ 23 by decide) (by decide), Option.bind_some]
  have e23 : (txS s = 23) ↔ s = 33 := by rcases hs with rfl | rfl | rfl <;> decide
  have e34 : (txS s = 34) ↔ s = 45 := by rcases hs with rfl | rfl | rfl <;> decide
  unfold ckP
  by_cases s1 : s = 33
  · rw [if_pos (e23.mpr s1), if_neg (show ¬ (1 : Int32) = 0 by decide), if_pos s1]
    unfold F_X45_unary_b27
    rw [hiN.pl, Option.bind_some, Option.bind_some, n2.1.v, Option.bind_some, Option.bind_some]
    by_cases q : e.ln = 0
    · rw [if_pos q, if_pos q, M_mustT n2.1, tb_l, n2.1.v, Option.bind_some]
      obtain ⟨N2, W2, m1, m2⟩ := OKs.op n2.1 8 (by omega)
      rw [m1, Option.bind_some, m2.1.1.v, Option.bind_some]
      obtain ⟨N3, W3, g1, g2⟩ := OKs.give L0 m2.1.1 hP
      rw [g1, Option.bind_some]
      refine ⟨N3, W3, rfl, ?_⟩
      show OKs C M V N3 W3 (P ++ [0]) (O ++ (wdn e.ln 0 ++ [if (33 : Int32) = 33 then { op := 8 } else _])) 10
      rw [if_pos rfl, show wdn e.ln 0 = [] by unfold wdn; rw [if_pos q], List.nil_append]
      exact ((n2.trans m2.1).trans g2).mono (by omega)
    · rw [if_neg q, if_neg q, M_mustF n2.1]
      exact (n2.mono (by omega)).err rfl
  rw [if_neg (fun w => s1 (e23.mp w)), if_pos rfl, if_neg s1, Option.bind_some, k0.vg bd.1 bd.2, Option.bind_some, k0.eq bd.1 bd.2 (show 20 ≤ 34 by decide) (by decide), Option.bind_some]
  -- a number or a whole one
  have fin : ∀ (g : Bool) (s' : Int32), s' = s → (s' = 45 ∨ s' = 126) → RIt C M V P O 10 p (opT1 e) (F_X45_unary_b71 N C.v0 (mr g) C.v0 ia e.ln) (if g = true then some (.pre s' (wdk e.ln 4) e) else none) := fun g s' hs' hs2 => by
    unfold F_X45_unary_b71
    rw [hiN.pl, Option.bind_some, n2.1.v, Option.bind_some]
    cases g with
    | false =>
      rw [show mr false = 0 from rfl, M_mustF n2.1]
      exact (n2.mono (by omega)).err rfl
    | true =>
      have w4 : wdk e.ln e.ln = wdk e.ln 4 := by rcases hl with q | q | q | q | q | q | q | q <;> rw [q] <;> decide
      rw [show mr true = 1 from rfl, M_mustT n2.1, tb_l, y_wider hl hl, Option.bind_some, w4, n2.1.v, Option.bind_some]
      obtain ⟨N2, W2, m1, m2⟩ := OKs.widen (f := e.ln) (t := wdk e.ln 4) n2.1 (by omega)
      have hi2 := hiN.fg m2.2.1.1 n2.1.tg3
      have k2 := m2.1.1.1.2.1
      rw [m1, Option.bind_some, show gr N2 ia 2882 = some (txS s) from hi2.sgr (show ¬ ((4 : Int32) = 2 ∨ (4 : Int32) = 3) by decide), Option.bind_some, k2.vg bd.1 bd.2, Option.bind_some, k2.eq bd.1 bd.2 (show 20 ≤ 34 by decide) (by decide), Option.bind_some]
      have lw : (O ++ wdn e.ln (wdk e.ln 4)).length ≤ O.length + 1 := by
        rw [List.length_append]
        unfold wdn
        split
        · show _ + 0 ≤ _; omega
        · show _ + 1 ≤ _; omega
      have fin2 : ∀ oc : Int32, (oc = if s' = 45 then 7 else 9) → RIt C M V P O 10 p (opT1 e) (F_X45_unary_b110 N2 C.v0 oc C.v0 (wdk e.ln 4)) (some (.pre s' (wdk e.ln 4) e)) := fun oc hoc => by
        unfold F_X45_unary_b110
        obtain ⟨N3, W3, g1, g2⟩ := OKs.op m2.1 oc (by omega)
        rw [m2.1.v, Option.bind_some, g1, Option.bind_some]
        obtain ⟨e1, g3⟩ := g2.pk (wdk e.ln 4)
        rw [e1, Option.bind_some, g3.1.1.v, Option.bind_some]
        obtain ⟨N4, W4, f1, f2⟩ := OKs.give (wdk_Lk hl L4) g3.1.1 hP
        rw [f1, Option.bind_some]
        refine ⟨N4, W4, rfl, ?_⟩
        show OKs C M V N4 W4 (P ++ [wdk e.ln 4]) (O ++ (wdn e.ln (wdk e.ln 4) ++ [if s' = 33 then { op := 8 } else { op := if s' = 45 then 7 else 9, k := wdk e.ln 4 }])) 10
        rw [if_neg (by rw [hs']; exact s1), ← hoc, ← List.append_assoc]
        exact (((n2.trans m2).trans g3.1).trans f2).mono (by omega)
      rw [if_pos rfl]
      by_cases q : s = 45
      · rw [if_pos (e34.mpr q), if_neg (show ¬ (1 : Int32) = 0 by decide)]
        exact fin2 7 (by rw [if_pos (hs'.trans q)])
      · rw [if_neg (fun w => q (e34.mp w)), if_pos rfl]
        exact fin2 9 (by rw [if_neg (fun w => q (hs'.symm.trans w))])
  by_cases s2 : s = 126
  · have s3 : ¬ s = 45 := by rw [s2]; decide
    rw [if_neg (fun w => s3 (e34.mp w)), if_pos rfl, if_pos s2, y_isWh hl, Option.bind_some]
    have := fin (decide (isWk e.ln)) 126 s2.symm (Or.inr rfl)
    by_cases q : isWk e.ln
    · rw [decide_eq_true q] at this ⊢; rw [if_pos q]; exact this
    · rw [decide_eq_false q] at this ⊢; rw [if_neg q]; exact this
  · have s3 : s = 45 := by
      rcases hs with q | q | q
      · exact q
      · exact (s1 q).elim
      · exact (s2 q).elim
    rw [if_pos (e34.mpr s3), if_neg (show ¬ (1 : Int32) = 0 by decide), if_neg s2, y_isNum hl, Option.bind_some]
    have := fin (decide (isNk e.ln)) 45 s3.symm (Or.inl rfl)
    by_cases q : isNk e.ln
    · rw [decide_eq_true q] at this ⊢; rw [if_pos q]; exact this
    · rw [decide_eq_false q] at this ⊢; rw [if_neg q]; exact this
theorem M_one5 {p : Nat} {l : Int32} {e : Tx} (h : MeG C M V (P ++ [e.ln]) O) (hi : IMm M B ia { op := 5, pl := p, n := l }) (hk : Lk e.ln) (hl : Lk l) (hP : P.length + 1 ≤ C.K) (hO : O.length + 2 ≤ C.K) : RIt C M V P O 10 p (opT1 e) (F_X45_one M C.v0 ia) (ckC l e) := by
  obtain ⟨N, W, n1, n2⟩ := OKs.take h
  have hiN := hi.fg n2.2.1.1 h.tg3
  have gn : gi N ia 2883 = some l := hiN.ni
  have o0 : gi M ia 2880 = some (5 : Int32) := by rw [gi_of hi.1.2.2 (show x_fi 45 2880 = true by decide)]; exact congrArg some hi.2.1
  unfold F_X45_one
  rw [o0, Option.bind_some, if_neg (by decide), if_neg (by decide), if_neg (by decide), if_neg (by decide), if_pos rfl, h.v, Option.bind_some, n1, Option.bind_some, gn, Option.bind_some]
  have good : RIt C M V P O 10 p (opT1 e) (F_X45_one_b130 N C.v0 C.v0 ia e.ln) (some (.cst l e)) := by
    unfold F_X45_one_b130 F_X45_one_b135
    rw [hiN.pl, Option.bind_some, n2.1.v, Option.bind_some, M_mustT n2.1, tb_l, n2.1.v, Option.bind_some]
    obtain ⟨N2, W2, m1, m2⟩ := OKs.op n2.1 6 (by omega)
    rw [m1, Option.bind_some]
    obtain ⟨e1, m3⟩ := m2.pk e.ln
    have hi3 := hiN.fg m3.1.2.1.1 n2.1.tg3
    rw [e1, Option.bind_some, hi3.ni, Option.bind_some]
    obtain ⟨e2, m4⟩ := m3.pto l
    have hi4 := hiN.fg m4.1.2.1.1 n2.1.tg3
    rw [show ({ op := 5, pl := p, n := l } : Itm).n = l from rfl, e2, Option.bind_some, hi4.ni, Option.bind_some, m4.1.1.v, Option.bind_some]
    obtain ⟨N3, W3, g1, g2⟩ := OKs.give hl m4.1.1 hP
    rw [show ({ op := 5, pl := p, n := l } : Itm).n = l from rfl, g1, Option.bind_some]
    exact ⟨N3, W3, rfl, ((n2.trans m4.1).trans g2).mono (by omega)⟩
  have bad : RIt C M V P O 10 p (opT1 e) (F_X45_one_b134 N C.v0 C.v0 ia e.ln) none := by
    unfold F_X45_one_b134 F_X45_one_b135
    rw [hiN.pl, Option.bind_some, n2.1.v, Option.bind_some, M_mustF n2.1]
    exact (n2.mono (by omega)).err rfl
  unfold ckC
  by_cases q : e.ln = l
  · rw [if_pos q, if_pos (Or.inl q)]
    exact good
  rw [if_neg q, y_isNum hk, Option.bind_some]
  by_cases q2 : isNk e.ln
  · rw [decide_eq_true q2, if_neg (show ¬ mr true = 0 by decide), Option.bind_some, y_isNum hl, Option.bind_some]
    by_cases q3 : isNk l
    · rw [decide_eq_true q3, if_neg (show ¬ mr true = 0 by decide), if_pos (Or.inr ⟨q2, q3⟩)]
      exact good
    · rw [decide_eq_false q3, if_pos (show mr false = 0 by decide), if_neg (fun w => w.elim q (fun z => q3 z.2))]
      exact bad
  · rw [decide_eq_false q2, if_pos (show mr false = 0 by decide), if_neg (fun w => w.elim q (fun z => q2 z.1))]
    exact bad
end
