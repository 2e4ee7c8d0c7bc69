/-! ===== FORMULAS, 74: what items mean: all items of an expression ===== -/
/-- the lanes that are left -/
def Tx.pls : Tx → List Int32
  | .anl => []
  | .acn _ e r => e.ln :: r.lns
  | .lit l _ => [l]
  | .par _ l => [l]
  | .opd _ l => [l]
  | .spt _ => [4]
  | .pre _ l _ => [l]
  | .cst l _ => [l]
  | .bin _ _ l _ _ => [l]
  | .sho _ _ _ => [0]
  | .cnd l _ _ _ => [l]
  | .bui _ i _ => [i]
  | .cal _ l _ => [l]
theorem Tx.pls_x : ∀ t : Tx, t.isx → t.pls = [t.ln]
  | .anl, h => h.elim
  | .acn _ _ _, h => h.elim
  | .lit _ _, _ => rfl
  | .par _ _, _ => rfl
  | .opd _ _, _ => rfl
  | .spt _, _ => rfl
  | .pre _ _ _, _ => rfl
  | .cst _ _, _ => rfl
  | .bin _ _ _ _ _, _ => rfl
  | .sho _ _ _, _ => rfl
  | .cnd _ _ _ _, _ => rfl
  | .bui _ _ _, _ => rfl
  | .cal _ _ _, _ => rfl
theorem Tx.pls_r : ∀ t : Tx, t.isr → t.pls = t.lns
  | .anl, _ => rfl
  | .acn _ _ _, _ => rfl
def Ex.wg : Ex → Nat
  | .anl => 0
  | .acn _ r => r.wg + 1
  | _ => 1
section
variable {fs : List Fn} {ps : List Int32} {op : Nat → Int32 → Prop}
theorem wdn_len (f t : Int32) : (wdn f t).length ≤ 1 := by unfold wdn; split; exact Nat.zero_le _; exact Nat.le_refl _
theorem oM_len : ∀ (t : Tx) (p : Nat), wt fs ps op t → (t.isx → (oM t p).length + 1 ≤ 5 * t.nn) ∧ (t.isr → (oM t p).length + t.als.length ≤ 5 * t.nn)
  | .lit _ _, _, _ => ⟨fun _ => by show 1 + 1 ≤ 5 * 1; omega, fun h => h.elim⟩
  | .par _ _, _, _ => ⟨fun _ => by show 1 + 1 ≤ 5 * 1; omega, fun h => h.elim⟩
  | .opd _ _, _, _ => ⟨fun _ => by show 1 + 1 ≤ 5 * 1; omega, fun h => h.elim⟩
  | .spt _, _, _ => ⟨fun _ => by show 1 + 1 ≤ 5 * 1; omega, fun h => h.elim⟩
  | .pre s l e, p, w => ⟨fun _ => by
      have E := (oM_len e p w.1).1 w.2.1
      have D := wdn_len e.ln l
      show (oM e p ++ wdn e.ln l ++ [_]).length + 1 ≤ 5 * (e.nn + 1)
      rw [List.length_append, List.length_append, List.length_singleton]
      omega, fun h => h.elim⟩
  | .cst l e, p, w => ⟨fun _ => by
      have E := (oM_len e p w.1).1 w.2.1
      show (oM e p ++ [_]).length + 1 ≤ 5 * (e.nn + 1)
      rw [List.length_append, List.length_singleton]
      omega, fun h => h.elim⟩
  | .bin o i l a b, p, w => ⟨fun _ => by
      have A := (oM_len a p w.1).1 w.2.1
      have B := (oM_len b (p + (oM a p).length) w.2.2.1).1 w.2.2.2.1
      show (oM a p ++ oM b (p + (oM a p).length) ++ [_]).length + 1 ≤ 5 * (a.nn + b.nn + 1)
      rw [List.length_append, List.length_append, List.length_singleton]
      omega, fun h => h.elim⟩
  | .sho o a b, p, w => ⟨fun _ => by
      have A := (oM_len a p w.1).1 w.2.1
      have B := (oM_len b (p + (oM a p).length + 1) w.2.2.1).1 w.2.2.2.1
      show (oM a p ++ [_] ++ oM b (p + (oM a p).length + 1)).length + 1 ≤ 5 * (a.nn + b.nn + 1)
      rw [List.length_append, List.length_append, List.length_singleton]
      omega, fun h => h.elim⟩
  | .cnd l c a b, p, w => ⟨fun _ => by
      have C := (oM_len c p w.1).1 w.2.1
      have A := (oM_len a (p + (oM c p).length + 1) w.2.2.1).1 w.2.2.2.1
      have B := (oM_len b (p + (oM c p).length + 1 + (oM a (p + (oM c p).length + 1)).length + 2) w.2.2.2.2.1).1 w.2.2.2.2.2.1
      have D := wdn_len b.ln l
      show (oM c p ++ [_] ++ oM a (p + (oM c p).length + 1) ++ [_, _] ++ (oM b (p + (oM c p).length + 1 + (oM a (p + (oM c p).length + 1)).length + 2) ++ wdn b.ln l)).length + 1 ≤ 5 * (c.nn + a.nn + b.nn + 1)
      simp only [List.length_append, List.length_cons, List.length_nil] at *
      omega, fun h => h.elim⟩
  | .bui f i r, p, w => ⟨fun _ => by
      have R := (oM_len r p w.1).2 w.2.1
      show (oM r p ++ [_]).length + 1 ≤ 5 * (r.nn + 1)
      rw [List.length_append, List.length_singleton]
      omega, fun h => h.elim⟩
  | .cal f l r, p, w => ⟨fun _ => by
      have R := (oM_len r p w.1).2 w.2.1
      show (oM r p ++ [_] ++ r.als.map _).length + 1 ≤ 5 * (r.nn + 1)
      rw [List.length_append, List.length_append, List.length_singleton, List.length_map]
      omega, fun h => h.elim⟩
  | .anl, _, _ => ⟨fun h => h.elim, fun _ => Nat.le_refl _⟩
  | .acn t e r, p, w => ⟨fun h => h.elim, fun h => by
      have E := (oM_len e p w.1).1 w.2.1
      have R := (oM_len r (p + (oM e p).length) w.2.2.1).2 w.2.2.2
      show (oM e p ++ oM r (p + (oM e p).length)).length + (r.als.length + 1) ≤ 5 * (e.nn + r.nn)
      rw [List.length_append]
      omega⟩
theorem oM_tk : ∀ (r : Tx) (ls : List Int32) (p : Nat), r.isr → oM (r.tk ls) p = oM r p
  | .anl, _, _, _ => rfl
  | .acn t e r, ls, p, h => by
    show oM e p ++ oM (r.tk ls.tail) _ = oM e p ++ oM r _
    rw [oM_tk r ls.tail _ h]
end
/-- the items lie in a list -/
def ITx (C : MeC) (M : Mem) (B li di : Nat) (ei : List Nat) (I : List Itm) : Prop := (AL M li di ei ∧ li < C.H ∧ (1334 ≤ di → di < C.H)) ∧ ei.length = I.length ∧ ∀ j, j < I.length → IMm M B (ei.getD j 0) (I.getD j itm0)
section
variable {C : MeC} {M N : Mem} {V W : MeV} {P P1 : List Int32} {O O1 : List Mo} {B lm dm li di : Nat} {S : Sc} {Z : Nat → Prop} {ei : List Nat} {I : List Itm}
theorem ITx.fg (h : ITx C M B li di ei I) (f : FG C M N) (g : MeG C M V P O) : ITx C N B li di ei I := by
  obtain ⟨⟨h1, h2, h3⟩, h4, h5⟩ := h
  obtain ⟨e1, e2, e3⟩ := g.1.2.2.2.2.1
  refine ⟨⟨h1.df f (fun q => by unfold pG' at q; omega) (fun q => by unfold rG' at q; omega) (fun i hi q => by unfold rG' at q; have := h3 hi; omega), h2, h3⟩, h4, fun j hj => (h5 j hj).fg f g.tg3⟩
theorem M_stepI (h : ITx C M B li di ei I) (g : MeG C M V P O) {i : Nat} (hi : i < I.length) (n : Nat) : F_X45_all_b2 (n + 1) M C.v0 li (iw (i : Int)) = tb (F_X45_one M C.v0 (ei.getD i 0)) (fun z => F_X45_all_b2 n z C.v0 li (iw ((i + 1 : Nat) : Int))) := by
  obtain ⟨⟨h1, h2, h3⟩, h4, h5⟩ := h
  have L := h1.len
  show F_X45_all_b2_st (F_X45_all_b2 n) M C.v0 li _ = _
  unfold F_X45_all_b2_st
  rw [vg_of h1.2.1 (show x_isa 67 67 = true by decide), Option.bind_some, h1.size, Option.bind_some, if_pos (by rw [iw_le4 (by omega) (by omega)]; omega), Option.bind_some, h1.get (show i < ei.length by omega), Option.bind_some, cc_of (h5 i hi).1.2.2 (show x_cast 45 45 = true by decide), Option.bind_some, g.v, Option.bind_some, iw_succ]
/-- what looking at items comes to -/
def RMx (C : MeC) (M : Mem) (V : MeV) (P : List Int32) (O : List Mo) (li i L k : Nat) : CkR → Prop
  | .inl q => ∀ n, ERs C M V k (F_X45_all_b2 (n + L) M C.v0 li (iw (i : Int))) q
  | .inr t => ∃ N W, (∀ n, F_X45_all_b2 (n + L) M C.v0 li (iw (i : Int)) = F_X45_all_b2 n N C.v0 li (iw ((i + L : Nat) : Int))) ∧ OKs C M V N W (P ++ t.pls) (O ++ oM t O.length) k
theorem ERs.pre {k j k' q : Nat} {x : Option (Mem ⊕ (Nat × Mem))} (h : RG C M N V W k) (g : ERs C N W j x q) (hk : k + j ≤ k') : ERs C M V k' x q := by
  obtain ⟨N', W', P', O', g1, g2, g3⟩ := g
  exact ⟨N', W', P', O', g1, g2, (h.trans g3).mono hk⟩
theorem ERs.tb {k q : Nat} {x : Option (Mem ⊕ (Nat × Mem))} {y : Mem → Option (Mem ⊕ (Nat × Mem))} (g : ERs C M V k x q) : ERs C M V k (Jvm.Pilot.CGridEngineLaw_law_r3943_d802ca.tb x y) q := by
  obtain ⟨N', W', P', O', g1, g2, g3⟩ := g
  exact ⟨N', W', P', O', by rw [g1]; rfl, g2, g3⟩
/-- the last item of an expression -/
theorem M_finX {i L1 k1 k2 k p : Nat} {ops : Tx → List Mo} {x : Option Tx} (hF : ∀ n, F_X45_all_b2 (n + L1) M C.v0 li (iw (i : Int)) = F_X45_all_b2 n N C.v0 li (iw ((i + L1 : Nat) : Int))) (ok : OKs C M V N W P1 O1 k1) (it : ITx C N B li di ei I) (hi : i + L1 < I.length) (R : RIt C N W P O1 k2 p ops (F_X45_one N C.v0 (ei.getD (i + L1) 0)) x) (hk : k1 + k2 ≤ k) (hops : ∀ t, x = some t → t.isx ∧ O1 ++ ops t = O ++ oM t O.length) : RMx C M V P O li i (L1 + 1) k (oft p x) := by
  have st := fun n => M_stepI it ok.1 hi n
  have e0 : ∀ n, F_X45_all_b2 (n + (L1 + 1)) M C.v0 li (iw (i : Int)) = Jvm.Pilot.CGridEngineLaw_law_r3943_d802ca.tb (F_X45_one N C.v0 (ei.getD (i + L1) 0)) (fun z => F_X45_all_b2 n z C.v0 li (iw ((i + L1 + 1 : Nat) : Int))) := fun n => by
    rw [show n + (L1 + 1) = (n + 1) + L1 by omega, hF (n + 1), st n]
  cases x with
  | none =>
    intro n
    rw [e0 n]
    exact (ERs.pre ok.2.1 R hk).tb
  | some t =>
    obtain ⟨N2, W2, r1, r2⟩ := R
    obtain ⟨o1, o2⟩ := hops t rfl
    refine ⟨N2, W2, fun n => by rw [e0 n, r1]; rfl, ?_⟩
    rw [Tx.pls_x t o1, ← o2]
    exact (ok.trans r2).mono hk
end
