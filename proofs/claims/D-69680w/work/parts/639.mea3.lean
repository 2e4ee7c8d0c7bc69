/-! ===== FORMULAS, 64: what items mean: steps, what is begun ===== -/
section
variable {C : MeC} {M N : Mem} {V : MeV} {P : List Int32} {O : List Mo}
theorem MeG.v (h : MeG C M V P O) : vg M C.v0 46 = some () := vg_of h.1.2.2.1.2.2.1 (show x_isa 46 46 = true by decide)
/-- a step is added -/
theorem M_opS (h : MeG C M V P O) (o : Int32) (hK : O.length + 1 ≤ C.K) : ∃ N W, F_X45_op M C.v0 o = some (m_nx M, N) ∧ MeG C N W P (O ++ [{ op := o }]) ∧ RG C M N V W 2 ∧ W.eo = V.eo ++ [m_nx M] ∧ W.eb = V.eb ∧ W.ep = V.ep := by
  obtain ⟨A, eA⟩ : ∃ A, A = wI (wR (mo M 48) (m_nx M) 3073 20) (m_nx M) 3072 o := ⟨_, rfl⟩
  have t0 : m_tg (mo M 48) (m_nx M) = 48 := (NCl.start M 48).2.2.2
  have dA : Df n2 n2 n2 M A := by
    rw [eA]
    exact ((NCl.start M 48).1.then (Df.wR (P := n2) (Q := n2) (R := at1 (m_nx M)) 20 rfl) (fun x i hx q => q) (fun x i hx q => q) (fun x i hx q => by unfold at1 at q; omega)).then (Df.wI (P := at1 (m_nx M)) (Q := n2) (R := n2) o rfl) (fun x i hx q => by unfold at1 at q; omega) (fun x i hx q => q) (fun x i hx q => q)
  have sA : m_nx A = m_nx M + 1 ∧ m_sl A = m_sl M + x_cn 48 := by rw [eA]; exact ⟨rfl, rfl⟩
  have x48 : x_cn 48 ≤ 10 := by decide
  have tA : m_tg A (m_nx M) = 48 := by rw [eA]; exact t0
  have qA : MOq A C.H C.fa (m_nx M) { op := o } := by
    have hH : C.H ≤ m_nx M := by have := h.1.2.2.1; omega
    refine ⟨⟨hH, by omega, tA⟩, ?_, ?_, ?_, ?_, ?_, ?_, ?_, ?_, ?_⟩
    · rw [eA, cI_wI, if_pos ⟨rfl, rfl⟩]
    · rw [eA, cR_wI, cR_wR, if_pos ⟨rfl, rfl⟩]
    · rw [eA, cI_wI, if_neg (by omega), cI_wR]; show cI (m_new M 48 (x_cn 48)) _ _ = 0; rw [cI_new, if_pos rfl]
    · rw [eA, cI_wI, if_neg (by omega), cI_wR]; show cI (m_new M 48 (x_cn 48)) _ _ = 0; rw [cI_new, if_pos rfl]
    · rw [eA, cI_wI, if_neg (by omega), cI_wR]; show cI (m_new M 48 (x_cn 48)) _ _ = 0; rw [cI_new, if_pos rfl]
    · rw [eA, cI_wI, if_neg (by omega), cI_wR]; show cI (m_new M 48 (x_cn 48)) _ _ = 0; rw [cI_new, if_pos rfl]
    · rw [eA, cI_wI, if_neg (by omega), cI_wR]; show cI (m_new M 48 (x_cn 48)) _ _ = 0; rw [cI_new, if_pos rfl]
    · rw [eA]; show cJ (m_new M 48 (x_cn 48)) _ _ = 0; rw [cJ_new, if_pos rfl]
    · rw [eA, cR_wI, cR_wR, if_neg (by omega)]; show cR (m_new M 48 (x_cn 48)) _ _ = 0; rw [cR_new, if_pos rfl]
  have hx : F_X45_op M C.v0 o = (gr A C.v0 2948).bind fun t5 => (gr A t5 3008).bind fun t6 => (vg A t6 67).bind fun _ => (F_J6_add A t6 (m_nx M)).bind fun z8 => some (m_nx M, z8.2) := by
    unfold F_X45_op F_X47_init
    have t1 : m_tg (wR (mo M 48) (m_nx M) 3073 20) (m_nx M) = 48 := t0
    simp only [ng_of t0 (show (48 : Nat) ≠ 0 by decide), pr_of 20 t0 (show x_wr 48 3073 = true by decide), pi_of o t1 (show x_wi 48 3072 = true by decide) rfl, Option.bind_some, ← eA]
  obtain ⟨g, gc⟩ := h.new dA
  obtain ⟨h1, h2, h3, h6, ⟨o1, o2, o3, o4⟩⟩ := g
  obtain ⟨t1, t2, t3⟩ := h3.1.tg
  obtain ⟨u1, u2, u3⟩ := h6.tg
  obtain ⟨v1, v2, v3⟩ := o1.tg
  obtain ⟨⟨⟨a1, a2, a3, a4⟩, ⟨b1, b2⟩, ⟨c1, c2, c3, c4, c5, c6, c7, c8⟩, ⟨d1, d2, d3, d4⟩, ⟨e1, e2, e3⟩, e4, e5, e6⟩, ⟨⟨f1, f2, f3⟩, f4, f5, f6⟩⟩ := (⟨h1, h2⟩ : MeA C A ∧ MeS C V)
  have st0 := a1.1
  obtain ⟨N, ds, n1, n2', n3, n4, n5, n6, n7⟩ := o1.add a1.1 ⟨a3, a4⟩ (by omega) (by omega) (Or.inr ⟨(show m_nx M < m_nx A by omega), by rw [tA]; decide⟩)
  have h1n : MeA C N := h1.df n4 (fun x i q => by unfold at1 at q; omega) (fun x i q => by
    rcases q with ⟨q, -⟩ | ⟨q, q2⟩
    · rw [q]; omega
    · rw [q]; have := (v3 q2).1; have := f3 q2; omega)
  obtain ⟨b3, b4⟩ := h6.df n4 (fun q => by unfold at1 at q; omega) (fun q => by
    rcases q with ⟨q, -⟩ | ⟨q, q2⟩
    · omega
    · have := (v3 q2).1; rw [q] at u2; omega) (fun i hi q => by
    rcases q with ⟨q, -⟩ | ⟨q, q2⟩
    · have := (u3 hi).1; rw [q] at this; omega
    · have := f6 q; omega)
  obtain ⟨g3, g4⟩ := h3.df n4 (fun q => by unfold at1 at q; omega) (fun q => by
    rcases q with ⟨q, -⟩ | ⟨q, q2⟩
    · omega
    · have := (v3 q2).1; rw [q] at t2; omega) (fun i hi q => by
    rcases q with ⟨q, -⟩ | ⟨q, q2⟩
    · have := (t3 hi).1; rw [q] at this; omega
    · have := f5 q; omega) (fun x i hx q => by unfold at1 at q; omega)
  have hl2 : (O ++ [({ op := o } : Mo)]).length = O.length + 1 := by rw [List.length_append, List.length_singleton]
  have nt : ∀ x, m_tg A x = 48 → (∀ i, ¬ at1 C.lo x i) ∧ ∀ i, ¬ ((x = C.lo ∧ i = 4288) ∨ (x = V.dq ∧ 1334 ≤ V.dq)) := fun x hx => ⟨fun i q => by unfold at1 at q; rw [q] at hx; omega, fun i q => by
    rcases q with ⟨q, -⟩ | ⟨q, q2⟩
    · rw [q] at hx; omega
    · have := (v3 q2).1; rw [q] at hx; omega⟩
  have big : ∀ i, i < O.length → V.eo.getD i 0 < m_nx M := fun i hi => (h.2.2.2.2.2.2.1 i hi).1.2.1
  refine ⟨N, { V with dq := ds, eo := V.eo ++ [m_nx M] }, ?_, ⟨h1n, ⟨⟨f1, f2, fun _ => ?_⟩, f4, fun q => ?_, fun q => ?_⟩, g3, b3, ⟨n2', by rw [List.length_append, List.length_singleton, hl2, o2], fun i hi => ?_, fun i j hij hj => ?_⟩⟩, ⟨?_, by omega, ?_⟩, rfl, rfl, rfl⟩
  · rw [hx, gr_of c3 (show x_fr 46 2948 = true by decide), c8, Option.bind_some, gr_of d3 (show x_fr 47 3008 = true by decide), d4, Option.bind_some, vg_of v2 (show x_isa 67 67 = true by decide), Option.bind_some, n1, Option.bind_some]
  · show C.H ≤ ds
    rcases n3 with q | q
    · rw [q]; exact f3 (by omega)
    · omega
  · have q' : V.dp = ds := q
    rcases n3 with z | z
    · have := f5 (q'.trans z); exact this
    · exfalso; have := t3 (by omega); omega
  · have q' : V.db = ds := q
    rcases n3 with z | z
    · have := f6 (q'.trans z); exact this
    · exfalso; have := u3 (by omega); omega
  · show MOq N C.H C.fa ((V.eo ++ [m_nx M]).getD i 0) _
    rw [hl2] at hi
    by_cases q : i < O.length
    · rw [getD_l (by omega), getD_l q]
      have z := o3 i q
      exact z.df n4 (nt _ z.1.2.2).1 (fun i q => q) (nt _ z.1.2.2).2
    · obtain rfl : i = O.length := by omega
      rw [getD_r (by omega), getD_r (Nat.le_refl _), o2, Nat.sub_self]
      exact qA.df n4 (nt _ tA).1 (fun i q => q) (nt _ tA).2
  · show (V.eo ++ [m_nx M]).getD i 0 < (V.eo ++ [m_nx M]).getD j 0
    have hj' : j < V.eo.length + 1 := by
      have : j < (V.eo ++ [m_nx M]).length := hj
      rw [List.length_append, List.length_singleton] at this
      exact this
    by_cases q : j < V.eo.length
    · rw [getD_l q, getD_l (by omega)]
      exact o4 i j hij q
    · obtain rfl : j = V.eo.length := by omega
      rw [getD_r (l := V.eo) (Nat.le_refl _), getD_l hij, Nat.sub_self]
      exact big i (by omega)
  · have dN : Df (at1 C.lo) n2 (fun x i => (x = C.lo ∧ i = 4288) ∨ (x = V.dq ∧ 1334 ≤ V.dq)) A N := n4
    refine ((Df.refl _ _ _ M).then dA (fun _ _ _ q => q.elim) (fun _ _ _ q => q.elim) (fun _ _ _ q => q.elim)).then dN (fun x i hx q => Or.inr (Or.inr q)) (fun x i hx q => q) (fun x i hx q => ?_)
    rcases q with ⟨q, -⟩ | ⟨q, q2⟩
    · exact Or.inr (Or.inr (Or.inl q))
    · have e1 := (v3 q2).1
      rw [← q, (dA.2.2 x hx).1] at e1
      exact Or.inr (Or.inr (Or.inr ⟨by rw [q]; exact f3 q2, e1⟩))
  · unfold cst3 at *
    show m_sl N + _ ≤ m_sl M + 10 * 2 + (rcs N V.dp + rcs N V.db + rcs N ds)
    omega
/-- a step is told more -/
theorem M_setS {j a : Nat} {o' : Mo} (h : MeG C M V P O) (hj : j < O.length) (ha : V.eo.getD j 0 = a) (d : Df (at1 a) (at1 a) (at1 a) M N) (hq : MOq N C.H C.fa a o') : MeG C N V P (O.set j o') ∧ cst3 N V = cst3 M V := by
  obtain ⟨h1, h2, h3, h6, ⟨o1, o2, o3, o4⟩⟩ := h
  have ta := (o3 j hj).1
  rw [ha] at ta
  obtain ⟨t1, t2, t3⟩ := h3.1.tg
  obtain ⟨u1, u2, u3⟩ := h6.tg
  obtain ⟨v1, v2, v3⟩ := o1.tg
  have b1 := h1.2.1.1
  have na : ∀ x, m_tg M x ≠ 48 → ∀ i, ¬ at1 a x i := fun x hx i q => by unfold at1 at q; rw [q] at hx; exact hx ta.2.2
  obtain ⟨g1, g2⟩ := h3.df d (na _ (by omega) _) (na _ (by omega) _) (fun i hi => na _ (by have := (t3 hi).1; omega) _) (fun x i hx q => by unfold at1 at q; omega)
  obtain ⟨b3, b4⟩ := h6.df d (na _ (by omega) _) (na _ (by omega) _) (fun i hi => na _ (by have := (u3 hi).1; omega) _)
  obtain ⟨c3, c4⟩ := o1.df d (na _ (by omega) _) (na _ (by omega) _) (fun i hi => na _ (by have := (v3 hi).1; omega) _)
  refine ⟨⟨h1.df d (fun x i q => by unfold at1 at q; omega) (fun x i q => by unfold at1 at q; rw [q]; omega), h2, g1, b3, ⟨c3, by rw [List.length_set]; exact o2, fun i hi => ?_, o4⟩⟩, by unfold cst3; rw [g2, b4, c4]⟩
  rw [List.length_set] at hi
  rw [List.getD_eq_getElem?_getD (l := O.set j o'), List.getElem?_set]
  by_cases q : j = i
  · rw [if_pos q, if_pos (by omega), ← q, ha]
    exact hq
  · rw [if_neg q, ← List.getD_eq_getElem?_getD]
    have ne : V.eo.getD i 0 ≠ a := by
      rw [← ha]
      rcases Nat.lt_or_gt_of_ne q with w | w
      · have := o4 j i w (by omega); omega
      · have := o4 i j w (by omega); omega
    exact (o3 i hi).df d (fun _ z => ne z) (fun _ z => ne z) (fun _ z => ne z)
/-- frames over such writes -/
theorem RG.set {M0 : Mem} {V0 : MeV} {k a : Nat} (r : RG C M0 M V0 V k) (d : Df (at1 a) (at1 a) (at1 a) M N) (ha : m_nx M0 ≤ a) (h1 : m_nx N = m_nx M) (h2 : m_sl N = m_sl M) (h3 : cst3 N V = cst3 M V) : RG C M0 N V0 V k := by
  refine ⟨r.1.then d (fun x i hx q => by unfold at1 at q; omega) (fun x i hx q => by unfold at1 at q; omega) (fun x i hx q => by unfold at1 at q; omega), by have := r.2.1; omega, by have := r.2.2; omega⟩
theorem M_mustT (h : MeG C M V P O) (p : Int32) : F_X45_must M C.v0 1 p = some (.inl M) := by
  have st := h.1.1.1
  unfold F_X45_must F_X17_must
  rw [gr_of h.1.2.2.1.2.2.1 (show x_fr 46 2944 = true by decide), h.1.2.2.1.2.2.2.1, Option.bind_some, g1068_1103 st, Option.bind_some, v1075 st, Option.bind_some, if_neg (by decide)]
  rfl
theorem M_mustF (h : MeG C M V P O) (p : Int32) : F_X45_must M C.v0 0 p = some (.inr (m_nx M, mT M 2 p)) := by
  have st := h.1.1.1
  have tm : m_tg (mT M 2 p) (m_nx M) = 64 := by
    show m_tg (m_new (wI (wI M 1075 1152 2) 1075 1153 p) 64 (x_cn 64)) (m_nx M) = 64
    exact tg_new.trans (if_pos rfl)
  unfold F_X45_must F_X17_must
  simp only [gr_of h.1.2.2.1.2.2.1 (show x_fr 46 2944 = true by decide), h.1.2.2.1.2.2.2.1, g1068_1103 st, v1075 st, M_at st, Option.bind_some, if_true]
  unfold ie
  rw [if_pos tm]
  rfl
/-- what was begun -/
def BGd (M : Mem) (b a o : Nat) (l : Int32) : Prop := b < m_nx M ∧ m_tg M b = 49 ∧ cR M b 3136 = a ∧ cR M b 3137 = o ∧ cI M b 3138 = l
theorem BGd.fg {b a o : Nat} {l : Int32} (h : BGd M b a o l) (f : FG C M N) (hC : m_tg M C.lp = 67 ∧ m_tg M C.lb = 67 ∧ m_tg M C.lo = 67) : BGd N b a o l := by
  obtain ⟨h1, h2, h3, h4, h5⟩ := h
  have nr : ∀ i, ¬ rG' C M b i := fun i q => by
    unfold rG' at q
    rcases q with q | q | q | q
    · rw [q] at h2; omega
    · rw [q] at h2; omega
    · rw [q] at h2; omega
    · omega
  have np : ∀ i, ¬ pG' C b i := fun i q => by
    unfold pG' at q
    rcases q with q | q | q
    · rw [q] at h2; omega
    · rw [q] at h2; omega
    · rw [q] at h2; omega
  have nn := f.1
  exact ⟨by omega, (f.2.2 b h1).1.trans h2, by rw [f.cR h1 (nr _)]; exact h3, by rw [f.cR h1 (nr _)]; exact h4, by rw [f.cI h1 (np _)]; exact h5⟩
theorem MeG.tg3 (h : MeG C M V P O) : m_tg M C.lp = 67 ∧ m_tg M C.lb = 67 ∧ m_tg M C.lo = 67 := ⟨h.2.2.1.1.tg.2.1, h.2.2.2.1.tg.2.1, h.2.2.2.2.1.tg.2.1⟩
/-- something is begun -/
theorem M_begS {b : Nat} (h : MeG C M V P O) (hb : b < m_nx M ∧ m_tg M b = 49) (hK : V.eb.length + 1 ≤ C.K) : ∃ N W, F_J6_add M C.lb b = some (1, N) ∧ MeG C N W P O ∧ RG C M N V W 1 ∧ W.eo = V.eo ∧ W.eb = V.eb ++ [b] := by
  obtain ⟨h1, h2, h3, h6, h7⟩ := h
  obtain ⟨t1, t2, t3⟩ := h3.1.tg
  obtain ⟨u1, u2, u3⟩ := h6.tg
  obtain ⟨v1, v2, v3⟩ := h7.1.tg
  obtain ⟨⟨⟨a1, a2, a3, a4⟩, ⟨b1, b2⟩, ⟨c1, c2, c3, c4, c5, c6, c7, c8⟩, ⟨d1, d2, d3, d4⟩, ⟨e1, e2, e3⟩, e4, e5, e6⟩, ⟨⟨f1, f2, f3⟩, f4, f5, f6⟩⟩ := (⟨h1, h2⟩ : MeA C M ∧ MeS C V)
  have st0 := a1.1
  obtain ⟨N, ds, n1, n2', n3, n4, n5, n6, n7⟩ := h6.add a1.1 ⟨a3, a4⟩ (by omega) (by omega) (Or.inr ⟨hb.1, by rw [hb.2]; decide⟩)
  have h1n : MeA C N := h1.df n4 (fun x i q => by unfold at1 at q; omega) (fun x i q => by
    rcases q with ⟨q, -⟩ | ⟨q, q2⟩
    · rw [q]; omega
    · rw [q]; have := (u3 q2).1; have := f2 q2; omega)
  obtain ⟨b3, b4⟩ := h3.df n4 (fun q => by unfold at1 at q; omega) (fun q => by
    rcases q with ⟨q, -⟩ | ⟨q, q2⟩
    · omega
    · have := (u3 q2).1; rw [q] at t2; omega) (fun i hi q => by
    rcases q with ⟨q, -⟩ | ⟨q, q2⟩
    · have := (t3 hi).1; rw [q] at this; omega
    · have := f4 q; omega) (fun x i hx q => by unfold at1 at q; omega)
  obtain ⟨g3, g4⟩ := h7.df n4 (fun q => by unfold at1 at q; omega) (fun q => by
    rcases q with ⟨q, -⟩ | ⟨q, q2⟩
    · omega
    · have := (u3 q2).1; rw [q] at v2; omega) (fun i hi q => by
    rcases q with ⟨q, -⟩ | ⟨q, q2⟩
    · have := (v3 hi).1; rw [q] at this; omega
    · have := f6 q.symm; omega) (fun x i ht => ⟨fun q => by unfold at1 at q; rw [q] at ht; omega, fun q => q, fun q => by
    rcases q with ⟨q, -⟩ | ⟨q, q2⟩
    · rw [q] at ht; omega
    · have := (u3 q2).1; rw [q] at ht; omega⟩)
  refine ⟨N, { V with db := ds, eb := V.eb ++ [b] }, n1, ⟨h1n, ⟨⟨f1, fun _ => ?_, f3⟩, fun q => ?_, f5, fun q => ?_⟩, b3, n2', g3⟩, ⟨?_, by omega, ?_⟩, rfl, rfl⟩
  · show C.H ≤ ds
    rcases n3 with q | q
    · rw [q]; exact f2 (by omega)
    · omega
  · have q' : V.dp = ds := q
    rcases n3 with z | z
    · exact f4 (q'.trans z)
    · exfalso; have := t3 (by omega); omega
  · have q' : ds = V.dq := q
    rcases n3 with z | z
    · have := f6 (z.symm.trans q'); omega
    · have := v3 (by omega); omega
  · exact (Df.refl _ _ _ M).then n4 (fun x i hx q => Or.inr (Or.inl q)) (fun x i hx q => q) (fun x i hx q => by
      rcases q with ⟨q, -⟩ | ⟨q, q2⟩
      · exact Or.inr (Or.inl q)
      · rw [q]; exact Or.inr (Or.inr (Or.inr ⟨f2 q2, (u3 q2).1⟩)))
  · unfold cst3
    show m_sl N + _ ≤ m_sl M + 10 * 1 + (rcs N V.dp + rcs N ds + rcs N V.dq)
    omega
/-- something is ended -/
theorem M_endS {b : Nat} {es : List Nat} (h : MeG C M V P O) (he : V.eb = es ++ [b]) (hb : m_tg M b = 49 ∧ b < m_nx M) : ∃ N W, F_X45_ended M C.v0 = some (b, N) ∧ MeG C N W P O ∧ RG C M N V W 0 ∧ W.eo = V.eo ∧ W.eb = es := by
  obtain ⟨h1, h2, h3, h6, h7⟩ := h
  have h6' := h6
  rw [he] at h6'
  obtain ⟨N, n1, n2', n3, n4, n5, n6⟩ := h6'.pop
  obtain ⟨t1, t2, t3⟩ := h3.1.tg
  obtain ⟨u1, u2, u3⟩ := h6.tg
  obtain ⟨v1, v2, v3⟩ := h7.1.tg
  have sz : F_J6_size M C.lb = some (iw ((es.length + 1 : Nat) : Int)) := by rw [h6.1.size, he, List.length_append, List.length_singleton]
  obtain ⟨⟨⟨a1, a2, a3, a4⟩, ⟨b1, b2⟩, ⟨c1, c2, c3, c4, c5, c6, c7, c8⟩, ⟨d1, d2, d3, d4⟩, ⟨e1, e2, e3⟩, e4, e5, e6⟩, ⟨⟨f1, f2, f3⟩, f4, f5, f6⟩⟩ := (⟨h1, h2⟩ : MeA C M ∧ MeS C V)
  have db4 : 1334 ≤ V.db := by
    rcases h6.1.2.2.2.2 with q | q
    · rw [q.1] at he; have := congrArg List.length he; rw [List.length_append, List.length_singleton] at this; cases this
    · exact q.1
  have h1n : MeA C N := h1.df n3 (fun x i q => by unfold at1 at q; omega) (fun x i q => by unfold at1 at q; rw [q]; have := (u3 db4).1; have := f2 db4; omega)
  obtain ⟨b3, b4⟩ := h3.df n3 (fun q => by unfold at1 at q; omega) (fun q => by unfold at1 at q; have := (u3 db4).1; rw [q] at t2; omega) (fun i hi q => by unfold at1 at q; have := f4 q; omega) (fun x i hx q => by unfold at1 at q; omega)
  obtain ⟨g3, g4⟩ := h7.df n3 (fun q => by unfold at1 at q; omega) (fun q => by unfold at1 at q; have := (u3 db4).1; rw [q] at v2; omega) (fun i hi q => by unfold at1 at q; have := f6 q.symm; omega) (fun x i ht => ⟨fun q => by unfold at1 at q; rw [q] at ht; omega, fun q => q, fun q => by unfold at1 at q; rw [q] at ht; have := (u3 db4).1; omega⟩)
  refine ⟨N, { V with eb := es }, ?_, ⟨h1n, ⟨⟨f1, f2, f3⟩, f4, f5, f6⟩, b3, n2', g3⟩, ⟨?_, by omega, ?_⟩, rfl, rfl⟩
  · unfold F_X45_ended
    rw [gr_of c3 (show x_fr 46 2947 = true by decide), c7, Option.bind_some, Option.bind_some, vg_of u2 (show x_isa 67 67 = true by decide), Option.bind_some, sz, Option.bind_some, Option.bind_some, show iw ((es.length + 1 : Nat) : Int) - 1 = iw (es.length : Int) by show iw ((es.length + 1 : Nat) : Int) - iw ((1 : Nat) : Int) = _; rw [iw_sub]; congr 1; omega, n1, Option.bind_some, cc_of ((n3.2.2 b hb.2).1.trans hb.1) (show x_cast 49 49 = true by decide), Option.bind_some]
  · exact (Df.refl _ _ _ M).then n3 (fun x i hx q => Or.inr (Or.inl q)) (fun x i hx q => q) (fun x i hx q => by unfold at1 at q; rw [q]; exact Or.inr (Or.inr (Or.inr ⟨f2 db4, (u3 db4).1⟩)))
  · unfold cst3
    show m_sl N + _ ≤ m_sl M + 10 * 0 + (rcs N V.dp + rcs N V.db + rcs N V.dq)
    omega
end
