/-! ===== FORMULAS, 63: what items mean: the state ===== -/
/-- what stays: from where on new cells lie, how long lists may be, the object, its lists, its owner, the functions -/
structure MeC where
  H : Nat
  K : Nat
  v0 : Nat
  lp : Nat
  lb : Nat
  cd : Nat
  lo : Nat
  ow : Nat
  fa : List Nat
/-- rows and entries of its lists -/
structure MeV where
  dp : Nat
  db : Nat
  dq : Nat
  ep : List Nat
  eb : List Nat
  eo : List Nat
/-- a step -/
def MOq (M : Mem) (H : Nat) (fa : List Nat) (a : Nat) (o : Mo) : Prop := (H ≤ a ∧ a < m_nx M ∧ m_tg M a = 48) ∧ cI M a 3072 = o.op ∧ cR M a 3073 = o.tx ∧ cI M a 3074 = o.k ∧ cI M a 3075 = o.j ∧ cI M a 3076 = o.to ∧ cI M a 3077 = o.n ∧ cI M a 3078 = o.jp ∧ cJ M a 3079 = o.bt ∧ cR M a 3080 = (if o.fn = 0 then 0 else fa.getD (o.fn - 1) 0)
/-- the object and what it needs -/
def MeA (C : MeC) (M : Mem) : Prop := (ST M ∧ K0 M ∧ m_tg M 4 = 1091 ∧ m_ln M 4 = 0) ∧ (1334 ≤ C.H ∧ C.K ≤ 50000) ∧ (C.H ≤ C.v0 ∧ C.v0 < m_nx M ∧ m_tg M C.v0 = 46 ∧ cR M C.v0 2944 = 1068 ∧ cR M C.v0 2945 = C.ow ∧ cR M C.v0 2946 = C.lp ∧ cR M C.v0 2947 = C.lb ∧ cR M C.v0 2948 = C.cd) ∧ (C.H ≤ C.cd ∧ C.cd < m_nx M ∧ m_tg M C.cd = 47 ∧ cR M C.cd 3008 = C.lo) ∧ (C.H ≤ C.lp ∧ C.H ≤ C.lb ∧ C.H ≤ C.lo) ∧ C.lp ≠ C.lb ∧ C.lp ≠ C.lo ∧ C.lb ≠ C.lo
def MeS (C : MeC) (V : MeV) : Prop := ((1334 ≤ V.dp → C.H ≤ V.dp) ∧ (1334 ≤ V.db → C.H ≤ V.db) ∧ (1334 ≤ V.dq → C.H ≤ V.dq)) ∧ (V.dp = V.db → V.dp = 4) ∧ (V.dp = V.dq → V.dp = 4) ∧ (V.db = V.dq → V.db = 4)
def MeP (C : MeC) (M : Mem) (V : MeV) (P : List Int32) : Prop := AQ M C.lp V.dp V.ep C.K ∧ V.ep.length = P.length ∧ ∀ i, i < P.length → IB M (V.ep.getD i 0) (P.getD i 0) ∧ V.ep.getD i 0 < 1000
def MeO (C : MeC) (M : Mem) (V : MeV) (O : List Mo) : Prop := AQ M C.lo V.dq V.eo C.K ∧ V.eo.length = O.length ∧ (∀ i, i < O.length → MOq M C.H C.fa (V.eo.getD i 0) (O.getD i mo0)) ∧ ∀ i j, i < j → j < V.eo.length → V.eo.getD i 0 < V.eo.getD j 0
def MeG (C : MeC) (M : Mem) (V : MeV) (P : List Int32) (O : List Mo) : Prop := MeA C M ∧ MeS C V ∧ MeP C M V P ∧ AQ M C.lb V.db V.eb C.K ∧ MeO C M V O
def pG' (C : MeC) : Nat → Nat → Prop := fun x _ => x = C.lp ∨ x = C.lb ∨ x = C.lo
def rG' (C : MeC) (M : Mem) : Nat → Nat → Prop := fun x _ => x = C.lp ∨ x = C.lb ∨ x = C.lo ∨ (C.H ≤ x ∧ m_tg M x = 1010)
/-- what changed: the lists alone -/
def FG (C : MeC) (M N : Mem) : Prop := Df (pG' C) n2 (rG' C M) M N
def cst3 (M : Mem) (V : MeV) : Nat := rcs M V.dp + rcs M V.db + rcs M V.dq
def RG (C : MeC) (M N : Mem) (V W : MeV) (k : Nat) : Prop := FG C M N ∧ m_nx N ≤ m_nx M + k ∧ m_sl N + cst3 M V ≤ m_sl M + 10 * k + cst3 N W
theorem FG.refl (C : MeC) (M : Mem) : FG C M M := Df.refl _ _ _ _
theorem FG.trans {C : MeC} {M N O : Mem} (h : FG C M N) (g : FG C N O) : FG C M O := by
  refine Df.then h g (fun x i hx q => q) (fun x i hx q => q) (fun x i hx q => ?_)
  unfold rG' at *
  rw [(h.2.2 x hx).1] at q
  exact q
theorem RG.refl (C : MeC) (M : Mem) (V : MeV) : RG C M M V V 0 := ⟨FG.refl C M, by omega, by omega⟩
theorem RG.trans {C : MeC} {M N O : Mem} {V W X : MeV} {k j : Nat} (h : RG C M N V W k) (g : RG C N O W X j) : RG C M O V X (k + j) := ⟨h.1.trans g.1, by have := h.2.1; have := g.2.1; omega, by have := h.2.2; have := g.2.2; omega⟩
theorem RG.mono {C : MeC} {M N : Mem} {V W : MeV} {k j : Nat} (h : RG C M N V W k) (hk : k ≤ j) : RG C M N V W j := ⟨h.1, by have := h.2.1; omega, by have := h.2.2; omega⟩
section
variable {C : MeC} {M N : Mem} {V : MeV} {P : List Int32} {O : List Mo} {P' Q' R' : Nat → Nat → Prop}
theorem MOq.df {H a : Nat} {fa : List Nat} {o : Mo} (h : MOq M H fa a o) (d : Df P' Q' R' M N) (hP : ∀ i, ¬ P' a i) (hQ : ∀ i, ¬ Q' a i) (hR : ∀ i, ¬ R' a i) : MOq N H fa a o := by
  obtain ⟨⟨h1, h2, h3⟩, h⟩ := h
  have e1 : ∀ g, cI N a g = cI M a g := fun g => d.cI h2 (hP g)
  have e2 : ∀ g, cR N a g = cR M a g := fun g => d.cR h2 (hR g)
  have e3 : ∀ g, cJ N a g = cJ M a g := fun g => ((d.2.2 a h2).2.2 g).2.1 (hQ g)
  have nn := d.1
  unfold MOq
  simp only [e1, e2, e3]
  exact ⟨⟨h1, by omega, (d.2.2 a h2).1.trans h3⟩, h⟩
theorem MeA.df (h : MeA C M) (d : Df P' Q' R' M N) (hP : ∀ x i, P' x i → C.H ≤ x) (hR : ∀ x i, R' x i → C.H ≤ x ∧ (m_tg M x ≠ 46 ∧ m_tg M x ≠ 47)) : MeA C N := by
  obtain ⟨⟨a1, a2, a3, a4⟩, ⟨b1, b2⟩, ⟨c1, c2, c3, c4, c5, c6, c7, c8⟩, ⟨d1, d2, d3, d4⟩, e⟩ := h
  have st0 := a1.1
  have nn := d.1
  have rv : ∀ i, ¬ R' C.v0 i := fun i q => (hR _ _ q).2.1 c3
  have rc : ∀ i, ¬ R' C.cd i := fun i q => (hR _ _ q).2.2 d3
  refine ⟨⟨a1.df d (fun p hp q => by have := (hR _ _ q).1; have := stR_lt p hp; omega), a2.df a1 d (fun a i h1 q => by have := hP _ _ q; omega) (fun a i h1 q => by have := (hR _ _ q).1; omega), (d.2.2 4 (by omega)).1.trans a3, (d.2.2 4 (by omega)).2.1.trans a4⟩, ⟨b1, b2⟩, ⟨c1, by omega, (d.2.2 _ c2).1.trans c3, ?_, ?_, ?_, ?_, ?_⟩, ⟨d1, by omega, (d.2.2 _ d2).1.trans d3, ?_⟩, e⟩
  · rw [d.cR c2 (rv _)]; exact c4
  · rw [d.cR c2 (rv _)]; exact c5
  · rw [d.cR c2 (rv _)]; exact c6
  · rw [d.cR c2 (rv _)]; exact c7
  · rw [d.cR c2 (rv _)]; exact c8
  · rw [d.cR d2 (rc _)]; exact d4
theorem MeP.df (h : MeP C M V P) (d : Df P' Q' R' M N) (hP : ¬ P' C.lp 4289) (hR : ¬ R' C.lp 4288) (hD : ∀ i, 1334 ≤ V.dp → ¬ R' V.dp i) (hB : ∀ x i, x < 1000 → ¬ P' x i) : MeP C N V P ∧ rcs N V.dp = rcs M V.dp := by
  obtain ⟨h1, h2, h3⟩ := h
  obtain ⟨g1, g2⟩ := h1.df d hP hR hD
  exact ⟨⟨g1, h2, fun i hi => ⟨(h3 i hi).1.df d (hB _ _ (h3 i hi).2), (h3 i hi).2⟩⟩, g2⟩
theorem MeO.df (h : MeO C M V O) (d : Df P' Q' R' M N) (hP : ¬ P' C.lo 4289) (hR : ¬ R' C.lo 4288) (hD : ∀ i, 1334 ≤ V.dq → ¬ R' V.dq i) (hT : ∀ x i, m_tg M x = 48 → ¬ P' x i ∧ ¬ Q' x i ∧ ¬ R' x i) : MeO C N V O ∧ rcs N V.dq = rcs M V.dq := by
  obtain ⟨h1, h2, h3, h4⟩ := h
  obtain ⟨g1, g2⟩ := h1.df d hP hR hD
  exact ⟨⟨g1, h2, fun i hi => (h3 i hi).df d (fun j => (hT _ j (h3 i hi).1.2.2).1) (fun j => (hT _ j (h3 i hi).1.2.2).2.1) (fun j => (hT _ j (h3 i hi).1.2.2).2.2), h4⟩, g2⟩
/-- lists and their rows have their tags -/
theorem AQ.tg {a ds K : Nat} {es : List Nat} (h : AQ M a ds es K) : a < m_nx M ∧ m_tg M a = 67 ∧ (1334 ≤ ds → m_tg M ds = 1010 ∧ ds < m_nx M) := ⟨h.1.1, h.1.tg⟩
/-- new cells -/
theorem MeG.new (h : MeG C M V P O) (d : Df n2 n2 n2 M N) : MeG C N V P O ∧ cst3 N V = cst3 M V := by
  obtain ⟨h1, h2, h3, h4, h5⟩ := h
  obtain ⟨a1, a2⟩ := h3.df d (fun q => q) (fun q => q) (fun _ _ q => q) (fun _ _ _ q => q)
  obtain ⟨b1, b2⟩ := h4.df d (fun q => q) (fun q => q) (fun _ _ q => q)
  obtain ⟨c1, c2⟩ := h5.df d (fun q => q) (fun q => q) (fun _ _ q => q) (fun _ _ _ => ⟨fun q => q, fun q => q, fun q => q⟩)
  exact ⟨⟨h1.df d (fun _ _ q => q.elim) (fun _ _ q => q.elim), h2, a1, b1, c1⟩, by unfold cst3; rw [a2, b2, c2]⟩
/-- the lane on top is taken -/
theorem M_takeS {l : Int32} (h : MeG C M V (P ++ [l]) O) : ∃ N W, F_X45_take M C.v0 = some (l, N) ∧ MeG C N W P O ∧ RG C M N V W 0 ∧ W.eo = V.eo ∧ W.eb = V.eb := by
  obtain ⟨h1, h2, ⟨h3, h4, h5⟩, h6, h7⟩ := h
  have hl : (P ++ [l]).length = P.length + 1 := by rw [List.length_append, List.length_singleton]
  rw [hl] at h4 h5
  obtain ⟨es, x, ex⟩ : ∃ es x, V.ep = es ++ [x] := ⟨V.ep.dropLast, V.ep.getLast (fun q => by rw [q] at h4; cases h4), (List.dropLast_concat_getLast _).symm⟩
  have le : es.length = P.length := by rw [ex, List.length_append, List.length_singleton] at h4; omega
  have bx : IB M x l ∧ x < 1000 := by
    have := h5 P.length (by omega)
    rw [ex, getD_r (by omega), getD_r (Nat.le_refl _), le, Nat.sub_self] at this
    exact this
  have h3' := h3
  rw [ex] at h3'
  obtain ⟨N, n1, n2', n3, n4, n5, n6⟩ := h3'.pop
  obtain ⟨t1, t2, t3⟩ := h3.tg
  obtain ⟨u1, u2, u3⟩ := h6.tg
  obtain ⟨v1, v2, v3⟩ := h7.1.tg
  have sz : F_J6_size M C.lp = some (iw ((P.length + 1 : Nat) : Int)) := by rw [h3.1.size, h4]
  obtain ⟨⟨⟨a1, a2, a3, a4⟩, ⟨b1, b2⟩, ⟨c1, c2, c3, c4, c5, c6, c7, c8⟩, ⟨d1, d2, d3, d4⟩, ⟨e1, e2, e3⟩, e4, e5, e6⟩, ⟨⟨f1, f2, f3⟩, f4, f5, f6⟩⟩ := (⟨h1, h2⟩ : MeA C M ∧ MeS C V)
  have dp4 : 1334 ≤ V.dp := by
    rcases h3.1.2.2.2.2 with q | q
    · rw [q.1] at h4; cases h4
    · exact q.1
  have h1n : MeA C N := h1.df n3 (fun x i q => by unfold at1 at q; omega) (fun x i q => by unfold at1 at q; rw [q]; have := (t3 dp4).1; have := f1 dp4; omega)
  obtain ⟨b3, b4⟩ := h6.df n3 (fun q => by unfold at1 at q; omega) (fun q => by unfold at1 at q; have := (t3 dp4).1; rw [q] at u2; omega) (fun i hi q => by unfold at1 at q; have := f4 q.symm; omega)
  obtain ⟨g3, g4⟩ := h7.df n3 (fun q => by unfold at1 at q; omega) (fun q => by unfold at1 at q; have := (t3 dp4).1; rw [q] at v2; omega) (fun i hi q => by unfold at1 at q; have := f5 q.symm; omega) (fun x i ht => ⟨fun q => by unfold at1 at q; rw [q] at ht; omega, fun q => q, fun q => by unfold at1 at q; rw [q] at ht; have := (t3 dp4).1; omega⟩)
  refine ⟨N, { V with ep := es }, ?_, ⟨h1n, ⟨⟨f1, f2, f3⟩, f4, f5, f6⟩, ⟨n2', le, fun i hi => ?_⟩, b3, g3⟩, ⟨?_, by omega, ?_⟩, rfl, rfl⟩
  · unfold F_X45_take
    have bN : IB N x l := bx.1.df n3 (fun q => by unfold at1 at q; omega)
    rw [gr_of c3 (show x_fr 46 2946 = true by decide), c6, Option.bind_some, Option.bind_some, vg_of t2 (show x_isa 67 67 = true by decide), Option.bind_some, sz, Option.bind_some, Option.bind_some, show iw ((P.length + 1 : Nat) : Int) - 1 = iw (es.length : Int) by rw [le]; show iw ((P.length + 1 : Nat) : Int) - iw ((1 : Nat) : Int) = _; rw [iw_sub]; congr 1; omega, n1, Option.bind_some, bN.cc, Option.bind_some, bN.vg, Option.bind_some, bN.val, Option.bind_some]
  · have := h5 i (by omega)
    rw [ex, getD_l (by omega), getD_l (by omega)] at this
    exact ⟨this.1.df n3 (fun q => by unfold at1 at q; omega), this.2⟩
  · exact (Df.refl _ _ _ M).then n3 (fun x i hx q => Or.inl q) (fun x i hx q => q) (fun x i hx q => by unfold at1 at q; rw [q]; exact Or.inr (Or.inr (Or.inr ⟨f1 dp4, (t3 dp4).1⟩)))
  · unfold cst3
    show m_sl N + _ ≤ m_sl M + 10 * 0 + (rcs N V.dp + rcs N V.db + rcs N V.dq)
    omega
/-- a lane is put on top -/
theorem M_giveS {l : Int32} (hl : Lk l) (h : MeG C M V P O) (hK : P.length + 1 ≤ C.K) : ∃ N W, F_X45_give M C.v0 l = some N ∧ MeG C N W (P ++ [l]) O ∧ RG C M N V W 1 ∧ W.eo = V.eo ∧ W.eb = V.eb := by
  obtain ⟨h1, h2, ⟨h3, h4, h5⟩, h6, h7⟩ := h
  obtain ⟨t1, t2, t3⟩ := h3.tg
  obtain ⟨u1, u2, u3⟩ := h6.tg
  obtain ⟨v1, v2, v3⟩ := h7.1.tg
  obtain ⟨⟨⟨a1, a2, a3, a4⟩, ⟨b1, b2⟩, ⟨c1, c2, c3, c4, c5, c6, c7, c8⟩, ⟨d1, d2, d3, d4⟩, ⟨e1, e2, e3⟩, e4, e5, e6⟩, ⟨⟨f1, f2, f3⟩, f4, f5, f6⟩⟩ := (⟨h1, h2⟩ : MeA C M ∧ MeS C V)
  have st0 := a1.1
  obtain ⟨x, x1, x2, x3⟩ := J_box0 a1.1 a2 hl
  obtain ⟨N, ds, n1, n2', n3, n4, n5, n6, n7⟩ := h3.add a1.1 ⟨a3, a4⟩ (by omega) (by omega) (Or.inr ⟨by omega, x2.asg⟩)
  have h1n : MeA C N := h1.df n4 (fun x i q => by unfold at1 at q; omega) (fun x i q => by
    rcases q with ⟨q, -⟩ | ⟨q, q2⟩
    · rw [q]; omega
    · rw [q]; have := (t3 q2).1; have := f1 q2; omega)
  obtain ⟨b3, b4⟩ := h6.df n4 (fun q => by unfold at1 at q; omega) (fun q => by
    rcases q with ⟨q, -⟩ | ⟨q, q2⟩
    · omega
    · have := (t3 q2).1; rw [q] at u2; omega) (fun i hi q => by
    rcases q with ⟨q, -⟩ | ⟨q, q2⟩
    · have := (u3 hi).1; rw [q] at this; omega
    · have := f4 q.symm; omega)
  obtain ⟨g3, g4⟩ := h7.df n4 (fun q => by unfold at1 at q; omega) (fun q => by
    rcases q with ⟨q, -⟩ | ⟨q, q2⟩
    · omega
    · have := (t3 q2).1; rw [q] at v2; omega) (fun i hi q => by
    rcases q with ⟨q, -⟩ | ⟨q, q2⟩
    · have := (v3 hi).1; rw [q] at this; omega
    · have := f5 q.symm; omega) (fun x i ht => ⟨fun q => by unfold at1 at q; rw [q] at ht; omega, fun q => q, fun q => by
    rcases q with ⟨q, -⟩ | ⟨q, q2⟩
    · rw [q] at ht; omega
    · have := (t3 q2).1; rw [q] at ht; omega⟩)
  have hl2 : (P ++ [l]).length = P.length + 1 := by rw [List.length_append, List.length_singleton]
  refine ⟨N, { V with dp := ds, ep := V.ep ++ [x] }, ?_, ⟨h1n, ⟨⟨fun _ => ?_, f2, f3⟩, fun q => ?_, fun q => ?_, f6⟩, ⟨n2', by rw [List.length_append, List.length_singleton, hl2, h4], fun i hi => ?_⟩, b3, g3⟩, ⟨?_, by omega, ?_⟩, rfl, rfl⟩
  · unfold F_X45_give
    rw [gr_of c3 (show x_fr 46 2946 = true by decide), c6, Option.bind_some, x1, Option.bind_some, vg_of t2 (show x_isa 67 67 = true by decide), Option.bind_some, n1, Option.bind_some]
  · show C.H ≤ ds
    rcases n3 with q | q
    · rw [q]; exact f1 (by omega)
    · omega
  · have q' : ds = V.db := q
    rcases n3 with z | z
    · have := f4 (z.symm.trans q'); omega
    · have := u3 (by omega); omega
  · have q' : ds = V.dq := q
    rcases n3 with z | z
    · have := f5 (z.symm.trans q'); omega
    · have := v3 (by omega); omega
  · show IB N ((V.ep ++ [x]).getD i 0) _ ∧ (V.ep ++ [x]).getD i 0 < 1000
    rw [hl2] at hi
    by_cases q : i < P.length
    · rw [getD_l (by omega), getD_l q]
      exact ⟨(h5 i q).1.df n4 (fun q => by unfold at1 at q; have := (h5 i (by assumption)).2; omega), (h5 i q).2⟩
    · obtain rfl : i = P.length := by omega
      rw [getD_r (by omega), getD_r (Nat.le_refl _), h4, Nat.sub_self]
      exact ⟨x2.df n4 (fun q => by unfold at1 at q; omega), x3⟩
  · exact (Df.refl _ _ _ M).then n4 (fun x i hx q => Or.inl q) (fun x i hx q => q) (fun x i hx q => by
      rcases q with ⟨q, -⟩ | ⟨q, q2⟩
      · exact Or.inl q
      · rw [q]; exact Or.inr (Or.inr (Or.inr ⟨f1 q2, (t3 q2).1⟩)))
  · unfold cst3
    show m_sl N + _ ≤ m_sl M + 10 * 1 + (rcs N ds + rcs N V.db + rcs N V.dq)
    omega
end
