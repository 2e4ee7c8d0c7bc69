/-! ===== CALLS: missing ===== -/
def pCo : Nat → Nat → Prop := fun a i => pp n2 a i ∨ pNE a i
def rCo : Nat → Nat → Prop := fun a i => rsc a i ∨ rE a i
theorem noT_pCo {Z : Nat → Prop} {M : Mem} (hZ : ∀ x, Z x → 1334 ≤ x ∧ x < m_nx M) : noT pCo rCo Z := by
  have q0 : ∀ a i, pCo a i → psc a i ∨ pNE a i := fun a i q => q.elim (fun q => q.elim Or.inl (fun q => q.elim)) Or.inr
  have r0 : ∀ a i, rCo a i → a < 1334 ∧ a ≠ 1040 ∧ a ≠ 1324 := fun a i q => by
    rcases q with q | q
    · have := q.1; omega
    · unfold rE at q; omega
  have p1 : ∀ i, ¬ psc 1039 i := fun i q => by unfold psc at q; omega
  have p2 : ¬ psc 1037 771 := fun q => by unfold psc at q; omega
  have p3 : ∀ i, ¬ psc 1068 i := fun i q => by unfold psc at q; omega
  have p4 : ¬ psc 1038 833 := fun q => by unfold psc at q; omega
  have pn : ∀ a i, a ≠ 1004 → ¬ pNE a i := fun a i q k => q k.1
  exact ⟨fun x i q k => (q0 x i k).elim (qt_psc x i (hZ x q).1) (pn x i (by have := (hZ x q).1; omega)), fun x i q k => by have := r0 x i k; have := hZ x q; omega, fun i k => (q0 _ i k).elim (p1 i) (pn _ _ (by decide)), fun k => (q0 _ _ k).elim p2 (pn _ _ (by decide)), fun k => (q0 _ _ k).elim (p3 _) (pn _ _ (by decide)), fun k => (q0 _ _ k).elim p4 (pn _ _ (by decide)), fun k => (q0 _ _ k).elim (p3 _) (pn _ _ (by decide)), fun i k => (r0 _ i k).2.1 rfl, fun i k => (r0 _ i k).2.2 rfl⟩
/-- what the engine does with a row of values -/
noncomputable def rowE (A : Mem) (R : Nat) (k : Int32) : Option (Int32 × Mem) := (F_X0_rowShape A 1000 (iw (R : Int))).bind fun z10 => (gr z10 1000 81).bind fun t11 => (vg z10 1000 1).bind fun _ => (F_X0_made z10 1000 k t11).bind fun z13 => some (z13.1, z13.2)
noncomputable def rowM (B : Mem) (R : Nat) (k : Int32) : Option (Int32 × Mem) := (F_X16_oneSize B (iw (R : Int))).bind fun z8 => (gr z8.2 1068 1100).bind fun t9 => (vg z8.2 1068 17).bind fun _ => (F_X16_made z8.2 1068 k z8.1 t9).bind fun z11 => some (z11.1, z11.2)
theorem psc_sh : ∀ a i, (a = 1062 ∨ (a = 1000 ∧ i = 89)) → psc a i := fun a i q => by
  rcases q with rfl | q
  · unfold psc; omega
  · exact Or.inl q
/-- both make a row of values -/
theorem mkCol {M A : Mem} {R : Nat} {k : Int32} {val : Nat → Int64} (h : ST M) (h5 : I5 M) (hk : Lk k) (hR : R ≤ 4096) (dA : Df (pp n2) qsc rsc M A) (nA : m_nx A = m_nx M) (lA : m_sl A = m_sl M) (hv : ∀ i, i < R → cJ A 1057 i = val i ∧ vb k (val i)) :
    ∃ (ρ : Int32) (M1 : Mem) (b : Bool), rowE A R k = some (ρ, M1) ∧ ST M1 ∧ Df pCo qsc rCo M M1 ∧ F_X16_isRoom M1 1068 ((iw (R : Int)).toInt64) 1 = some (mr b) ∧ (b = false → ρ = -12 ∧ I5 M1 ∧ Df (pg n2) qsc (rG M) M M1 ∧ m_nx M1 ≤ m_nx M + 20 ∧ bud M1 ≤ bud M + 200) ∧
      (b = true → ∀ B, Df n2 (fun a _ => a = 1073) n2 M1 B → m_nx B = m_nx M1 → m_sl B = m_sl M1 → (∀ i, i < R → cJ B 1073 i = val i) → ∃ M2, rowM B R k = some (ρ, M2) ∧ I5 M2 ∧ Df (pg n2) qsc (rG M) M M2 ∧ m_nx M2 ≤ m_nx M + 20 ∧ bud M2 ≤ bud M + 200) := by
  have h0 := h.1
  have sA : ST A := h.df dA (fun p hp q => q.2 p hp ⟨rfl, rfl⟩)
  obtain ⟨m, w, K, n, Zz, S, T, X, Y, C, D, L, P, h5⟩ := h5
  obtain ⟨A2, a1, a2, a3, a4, a5, a6⟩ := E_rowShape (n := R) sA
  have sA2 : ST A2 := sA.n a4
  have dA2 : Df (pp n2) qsc rsc M A2 := dA.trans (a4.mono (fun a i q => Or.inl (psc_sh a i q)) (fun _ _ q => q.elim) (fun _ _ q => q.elim))
  have hp : prd (fun _ => R) 1 = R := by show 1 * R = R; omega
  obtain ⟨M1, g1, g2, g3, g4, gA, g5⟩ := mkBs (k := k) (n' := 1) (z := fun _ => R) (r := 1057) h h5 dA2 qt_n2 noGr_n2 val hk (by decide) (fun i hi => by
    have : i = 0 := by omega
    subst this
    rw [a6]
    exact ⟨rfl, hR⟩) (by rw [a5]) (fun _ => ⟨by decide, by decide, by omega, t1057 sA2, by rw [l1057 sA2, hp]; omega, by rw [l1057 sA2]; decide⟩) (fun _ i hi => by rw [hp] at hi; rw [a4.cJ (by omega) (fun q => q)]; exact hv i hi)
  rw [hp] at g1 gA g5
  have nM1 := g3.1
  have dM1 : Df pCo qsc rCo M M1 := (dA2.mono (fun _ _ q => Or.inl q) (fun _ _ q => q) (fun _ _ q => Or.inl q)).trans (g3.mono (fun _ _ q => Or.inr q) (fun _ _ q => q.elim) (fun _ _ q => Or.inr q))
  have eg : rowE A R k = some ((if room m w 1 R = true then iw ((m + 1 : Nat) : Int) else -12), M1) := by
    unfold rowE
    simp only [a1, g1000_81, v1000, sA2, g1, Option.bind_some]
  have r1 := (g5 M1 (Df.refl _ _ _ _)).1
  rw [← i64_iw (show R < 2147483648 by omega)] at r1
  refine ⟨_, M1, room m w 1 R, eg, g2, dM1, r1, fun hb => ?_, fun hb B dB nB lB hval => ?_⟩
  · obtain ⟨-, rr2, -⟩ := g5 M1 (Df.refl _ _ _ _)
    obtain ⟨rr3, rr4, rr5⟩ := rr2 hb
    have e1 := gA hb
    rw [hb, if_neg (by decide)]
    have n1 : m_sl M1 = m_sl A2 := by rw [e1]
    exact ⟨rfl, rr3, rr4, by omega, by omega⟩
  · have h10 := g2.1
    have sB : ST B := g2.df dB n2_st
    obtain ⟨B2, f1, f2, f3, f4, f5⟩ := M_oneSize (B := B) (by omega) (iw (R : Int))
    have sB2 : ST B2 := sB.n f4
    have dB2 : Df (pp n2) qsc rsc M1 B2 := (dB.mono (fun _ _ q => q.elim) (fun a i q => by show a < 1334; omega) (fun _ _ q => q.elim)).trans (f4.mono (fun _ _ q => q.elim) (fun _ _ q => q.elim) (fun _ _ q => q.elim))
    obtain ⟨M2, o1, o2, o3, o4, -, o5⟩ := (g5 B2 dB2).2.2 hb (m_nx B) 1073 f5 ⟨by decide, by decide, by omega, t1073 sB2, by rw [l1073 sB2]; omega, by rw [l1073 sB2]; decide⟩ (fun i hi => by
      rw [f4.cJ (by omega) (fun q => q)]
      exact hval i hi)
    rw [hb, if_pos rfl]
    refine ⟨M2, ?_, o2, o3, by omega, by omega⟩
    unfold rowM
    rw [f1]
    simp only [g1068_1100, v1068, sB2, o1, Option.bind_some]
/-- the engine's tables stay when longs are written -/
theorem TEc.j {M N : Mem} {t C R : Nat} {cs : List (List Int32 × Bool)} {Q : Nat → Nat → Prop} (h : TEc M t C R cs) (d : Df n2 Q n2 M N) (h1 : t < m_nx M) (h2 : cR M t 3396 < m_nx M) (h3 : cR M t 3397 < m_nx M) : TEc N t C R cs := by
  obtain ⟨a1, a2, a3, a4, a5, a6, a7, a8, a9, a10, a11, a12⟩ := h
  have h0 := a1.1
  have r6 : cR N t 3396 = cR M t 3396 := d.cR h1 (fun q => q)
  have r7 : cR N t 3397 = cR M t 3397 := d.cR h1 (fun q => q)
  unfold TEc
  rw [r6, r7]
  refine ⟨a1.df d n2_st, a2.df a1 d (fun _ _ _ q => q) (fun _ _ _ q => q), (d.2.2 t h1).1.trans a3, by rw [d.cI h1 (fun q => q)]; exact a4, by rw [d.cI h1 (fun q => q)]; exact a5, a6, a7, (d.2.2 _ h2).1.trans a8, (d.2.2 _ h2).2.1.trans a9, (d.2.2 _ h3).1.trans a10, (d.2.2 _ h3).2.1.trans a11, fun k hk => ?_⟩
  obtain ⟨k1, k2, k3, s, k4, k5, k6⟩ := a12 k hk
  exact ⟨by rw [d.cI h3 (fun q => q)]; exact k1, k2, k3, s, by rw [d.cI h2 (fun q => q)]; exact k4, k5, fun i hi => by rw [d.cI (by omega) (fun q => q)]; exact k6 i hi⟩
noncomputable def msv (d : TD) (c : Nat) (r : Nat) : Int64 := pif (msg (cl d.2.2.2 (d.1 * r + c))) 1 0
theorem E_missing {M : Mem} {Z : Nat → Prop} {W t c : Nat} {d : TD} (h : ST M) (k0 : K0 M) (hW : W ≤ 65536) (g : GT d) (te : TE M Z W t d) (hZ : ∀ x, Z x → 1334 ≤ x ∧ x < m_nx M) (hc : c < d.1) : ∃ A, F_X0_missing_b26 xN M 1000 (iw (c : Int)) t 0 = rowE A d.2.1 0 ∧ Df n2 (fun a _ => a = 1057) n2 M A ∧ (∀ r, r < d.2.1 → cJ A 1057 r = msv d c r) ∧ m_nx A = m_nx M ∧ m_sl A = m_sl M := by
  have h0 := h.1
  have tc := te.c g h k0 hW
  have hR := g.2.2.1
  have b := tc.b
  have z1 := (hZ _ te.1.1).2
  have z6 := (hZ _ te.2.2.2.2.1.1.1).2
  have z7 := (hZ _ te.2.2.2.2.1.2.1.1).2
  have lo := upl0 (β := Option (Int32 × Mem)) (σ := Unit) (fun N M _ i => F_X0_missing_b26 N M 1000 (iw (c : Int)) t i) (n := d.2.1) (by omega) (fun j N _ => Df n2 (fun a _ => a = 1057) n2 M N ∧ (∀ r, r < j → cJ N 1057 r = msv d c r) ∧ m_nx N = m_nx M ∧ m_sl N = m_sl M) (fun K N _ i hi hJ => by
    obtain ⟨j1, j2, j3, j4⟩ := hJ
    have tn := tc.j j1 z1 z6 z7
    have sN := tn.1
    have hk : d.1 * i + c < d.1 * d.2.1 := cr_lt hc hi
    obtain ⟨N1, hN1⟩ : ∃ N1, N1 = wJ N 1057 i (msv d c i) := ⟨_, rfl⟩
    have s1 : sj N 1057 (iw (i : Int)) (msv d c i) = some N1 := by rw [sj_of _ (t1057 sN) (l1057 sN) (show i < 100000 by omega) (by decide), ← hN1]
    refine ⟨N1, (), ?_, j1.trans (by rw [hN1]; exact Df.wJ _ rfl), fun r hr => ?_, by rw [hN1]; exact j3, by rw [hN1]; exact j4⟩
    · show F_X0_missing_b26_st (F_X0_missing_b26 K) N 1000 (iw (c : Int)) t (iw (i : Int)) = _
      unfold F_X0_missing_b26_st F_X0_missing_b62
      rw [tn.g.1, Option.bind_some, if_pos (show iw (i : Int) < iw (d.2.1 : Int) by rw [iw_le4 (by omega) (by omega)]; exact hi)]
      simp only [g1000_81, sN, tn.g.2.1, tn.g.2.2, iw_nml, iw_nad, E_miss tn hk, Option.bind_some]
      by_cases q : msg (cl d.2.2.2 (d.1 * i + c))
      · have e : msv d c i = 1 := by unfold msv; rw [tpif q]
        rw [tpif q, if_neg (by decide), ← e, s1, Option.bind_some, iw_succ]
      · have e : msv d c i = 0 := by unfold msv; rw [fpif q]
        rw [fpif q, if_pos rfl, ← e, s1, Option.bind_some, iw_succ]
    · rw [hN1, cJ_wJ]
      by_cases e : r = i
      · rw [if_pos ⟨rfl, e⟩, e]
      · rw [if_neg (by omega)]; exact j2 r (by omega)) (M := M) (s := ()) ⟨Df.refl _ _ _ _, fun i hi => by omega, rfl, rfl⟩
  obtain ⟨K, N, -, e1, j1, j2, j3, j4⟩ := lo
  have tn := tc.j j1 z1 z6 z7
  refine ⟨N, ?_, j1, j2, j3, j4⟩
  refine Eq.trans e1 ?_
  show F_X0_missing_b26_st (F_X0_missing_b26 K) N 1000 (iw (c : Int)) t (iw (d.2.1 : Int)) = _
  unfold F_X0_missing_b26_st rowE
  rw [tn.g.1, Option.bind_some, if_neg (show ¬ iw (d.2.1 : Int) < iw (d.2.1 : Int) by rw [iw_le4 (by omega) (by omega)]; omega), Option.bind_some, v1000 tn.1, Option.bind_some]
theorem TMt.j {M N : Mem} {Z : Nat → Prop} {t : Nat} {d : TD} {Q : Nat → Nat → Prop} (h : TMt M Z t d) (e : Df n2 Q n2 M N) (hZ : ∀ x, Z x → x < m_nx M) : TMt N Z t d := h.df e hZ (fun _ _ _ q => q) (fun _ _ _ q => q)
theorem M_missing {M : Mem} {Z : Nat → Prop} {t c : Nat} {d : TD} (h : ST M) (k0 : K0 M) (g : GT d) (tm : TMt M Z t d) (hZ : ∀ x, Z x → 1334 ≤ x ∧ x < m_nx M) (hc : c < d.1) : ∃ B, F_X16_missing_b47 xN M 1068 (iw (c : Int)) t (iw (d.2.1 : Int)) 0 = rowM B d.2.1 0 ∧ Df n2 (fun a _ => a = 1073) n2 M B ∧ (∀ r, r < d.2.1 → cJ B 1073 r = msv d c r) ∧ m_nx B = m_nx M ∧ m_sl B = m_sl M := by
  have h0 := h.1
  have hR := g.2.2.1
  have lo := upl0 (β := Option (Int32 × Mem)) (σ := Unit) (fun N M _ i => F_X16_missing_b47 N M 1068 (iw (c : Int)) t (iw (d.2.1 : Int)) i) (n := d.2.1) (by omega) (fun j N _ => ST N ∧ K0 N ∧ Df n2 (fun a _ => a = 1073) n2 M N ∧ (∀ r, r < j → cJ N 1073 r = msv d c r) ∧ m_nx N = m_nx M ∧ m_sl N = m_sl M) (fun K N _ i hi hJ => by
    obtain ⟨sN, kN, j1, j2, j3, j4⟩ := hJ
    obtain ⟨⟨ln, dn, en, lc, dc, ec, q⟩, -⟩ := tm.j j1 (fun x hx => (hZ x hx).2)
    have tn := q.c g kN (fun x hx => by have := hZ x hx; omega)
    obtain ⟨a1, a2⟩ := M_atT tn hi hc
    obtain ⟨N1, hN1⟩ : ∃ N1, N1 = wJ N 1073 i (msv d c i) := ⟨_, rfl⟩
    have s1 : sj N 1073 (iw (i : Int)) (msv d c i) = some N1 := by rw [sj_of _ (t1073 sN) (l1073 sN) (show i < 100000 by omega) (by decide), ← hN1]
    have dN1 : Df n2 (fun a _ => a = 1073) n2 N N1 := by rw [hN1]; exact Df.wJ _ rfl
    refine ⟨N1, (), ?_, sN.df dN1 n2_st, kN.df sN dN1 (fun _ _ _ q => q) (fun _ _ _ q => q), j1.trans dN1, fun r hr => ?_, by rw [hN1]; exact j3, by rw [hN1]; exact j4⟩
    · show F_X16_missing_b47_st (F_X16_missing_b47 K) N 1068 (iw (c : Int)) t (iw (d.2.1 : Int)) (iw (i : Int)) = _
      unfold F_X16_missing_b47_st F_X16_missing_b78
      rw [if_pos (show iw (i : Int) < iw (d.2.1 : Int) by rw [iw_le4 (by omega) (by omega)]; exact hi)]
      simp only [g1068_1100, sN, tn.g.2.2.2.2.2.2, a1, a2.g.2.2.1, M_cmiss a2, Option.bind_some]
      by_cases q : msg (cl d.2.2.2 (d.1 * i + c))
      · have e : msv d c i = 1 := by unfold msv; rw [tpif q]
        rw [tpif q, if_neg (by decide), ← e, s1, Option.bind_some, iw_succ]
      · have e : msv d c i = 0 := by unfold msv; rw [fpif q]
        rw [fpif q, if_pos rfl, ← e, s1, Option.bind_some, iw_succ]
    · rw [hN1, cJ_wJ]
      by_cases e : r = i
      · rw [if_pos ⟨rfl, e⟩, e]
      · rw [if_neg (by omega)]; exact j2 r (by omega)) (M := M) (s := ()) ⟨h, k0, Df.refl _ _ _ _, fun i hi => by omega, rfl, rfl⟩
  obtain ⟨K, N, -, e1, sN, kN, j1, j2, j3, j4⟩ := lo
  refine ⟨N, ?_, j1, j2, j3, j4⟩
  refine Eq.trans e1 ?_
  show F_X16_missing_b47_st (F_X16_missing_b47 K) N 1068 (iw (c : Int)) t (iw (d.2.1 : Int)) (iw (d.2.1 : Int)) = _
  unfold F_X16_missing_b47_st rowM
  rw [if_neg (show ¬ iw (d.2.1 : Int) < iw (d.2.1 : Int) by rw [iw_le4 (by omega) (by omega)]; omega)]
/-- the model's look at a column after the engine has worked -/
theorem colAfter {M M1 : Mem} {Z : Nat → Prop} {v c : Int32} {k m j : Nat} {d : TD} (h : ST M) (k0 : K0 M) (h6 : I6 M Z) (s1 : ST M1) (r3 : Df pCo qsc rCo M M1) (a2 : cI M 1068 1095 = 0) (e23 : cI M 1068 1123 = iw (m : Int)) (ev : v = iw (k : Int)) (k1 : 1 ≤ k) (k2 : k ≤ m) (m40 : m ≤ 40) (z2 : 1334 ≤ cR M 1324 k) (g : GT d) (tm : TMt M Z (cR M 1324 k) d) (ec : c = iw (j : Int)) (j1 : j < d.1) : K0 M1 ∧ TMt M1 Z (cR M 1324 k) d ∧ (∀ x, Z x → 1334 ≤ x ∧ x < m_nx M1) ∧ I6 M1 Z ∧ F_X16_codeOfColumn M1 1068 v c = some 0 ∧ ar M1 1324 v = some (cR M 1324 k) := by
  have h0 := h.1
  have nn := r3.1
  have hnoT := noT_pCo (M := M) h6.1
  have p68 : ∀ i, ¬ pCo 1068 i := fun i q => by
    rcases q with q | q
    · rcases q with q | q
      · unfold psc at q; omega
      · exact q
    · unfold pNE at q; omega
  have k1' : K0 M1 := k0.df h r3 (fun a i q kk => by
    rcases kk with kk | kk
    · rcases kk with kk | kk
      · unfold psc at kk; omega
      · exact kk
    · unfold pNE at kk; omega) (fun a i q kk => by
    rcases kk with kk | kk
    · have := kk.1; omega
    · unfold rE at kk; omega)
  have tm1 : TMt M1 Z (cR M 1324 k) d := tm.df r3 (fun x hx => (h6.1 x hx).2) hnoT.1 hnoT.2.1
  have rr : cR M1 1324 k = cR M 1324 k := r3.cR (by omega) (hnoT.2.2.2.2.2.2.2.2 k)
  have hZ1 : ∀ x, Z x → 1334 ≤ x ∧ x < m_nx M1 := fun x hx => by have := h6.1 x hx; omega
  have cm := codeM s1 k1' (by rw [r3.cI (by omega) (p68 _)]; exact a2) (by rw [r3.cI (by omega) (p68 _)]; exact e23) ev k1 k2 m40 rr z2 g tm1 hZ1 ec j1
  exact ⟨k1', tm1, hZ1, h6.df r3 h0 hnoT, cm.2.2.1, cm.2.2.2⟩
theorem c_missing {M : Mem} {Z : Nat → Prop} (h : ST M) (k0 : K0 M) (h4 : I4 M) (h5 : I5 M) (h6 : I6 M Z) (v c : Int32) : CR (pg n2) (rG M) (fun _ => True) M (fun M => F_X0_missing M 1000 v c) (fun M => F_X16_missing M 1068 v c) := by
  have h0 := h.1
  have p0 : ¬ (0 : Int32) < 0 := by decide
  rcases colT h k0 h4 h6 v c with ⟨q, e, z, -, q1, q2, q3, q4, -⟩ | ⟨a1, a2, d, W, k, j, ec, j1, w65, g, te, tm, fT, z1, z2, cr, cc', ar2, m, ev, k1, k2, m40, e23⟩
  · refine CR.no h h5 (-q) M M ?_ ?_ trivial (Df.refl _ _ _ _) (fun _ _ q => q.elim) qt_n2 noGr_n2 (by omega) (by omega)
    · simp only [F_X0_missing, v1000, h, q2, q3, q1, if_true, Option.bind_some]
    · simp only [F_X16_missing, v1068, h, q4, q1, if_true, Option.bind_some]
  · obtain ⟨A, e1, e2, e3, e4, e5⟩ := E_missing h k0 w65 g te h6.1 j1
    have dA : Df (pp n2) qsc rsc M A := e2.mono (fun _ _ q => q.elim) (fun a i q => by show a < 1334; omega) (fun _ _ q => q.elim)
    have hR := g.2.2.1
    obtain ⟨ρ, M1, b, r1, r2, r3, r4, r5, r6⟩ := mkCol (k := 0) (val := msv d j) h h5 (Or.inl rfl) (show d.2.1 ≤ 4096 by omega) dA e4 e5 (fun i hi => ⟨e3 i hi, by
      unfold msv
      rw [vb_lo (by decide), if_pos rfl]
      by_cases q : msg (cl d.2.2.2 (d.1 * i + j))
      · rw [tpif q]; exact Or.inr rfl
      · rw [fpif q]; exact Or.inl rfl⟩)
    have eE : F_X0_missing M 1000 v c = some (ρ, M1) := by
      simp only [F_X0_missing, v1000, h, fT, cr, p0, if_false, Option.bind_some]
      rw [ec, e1]
      exact r1
    obtain ⟨y1, y2, y3, y4, y5, y6⟩ := colAfter h k0 h6 r2 r3 a2 e23 ev k1 k2 m40 z2 g tm ec j1
    obtain ⟨s1, s2, -⟩ := y2.rows g y1 y3
    cases hb : b with
    | false =>
      rw [hb] at r4
      obtain ⟨x1, x2, x3, x4, x5⟩ := r5 hb
      refine ⟨ρ, M1, M1, eE, ?_, trivial, x2, x3, by omega, by omega⟩
      show F_X16_missing M1 1068 v c = _
      simp only [F_X16_missing, v1068, r2, y5, p0, g1068_1122, y6, s2, s1, r4, show mr false = 0 by decide, if_true, if_false, Option.bind_some]
      rw [x1]
    | true =>
      rw [hb] at r4
      obtain ⟨B, f1, f2, f3, f4, f5⟩ := M_missing r2 y1 g y2 y3 j1
      obtain ⟨M2, o1, o2, o3, o4, o5⟩ := r6 hb B f2 f4 f5 f3
      refine ⟨ρ, M1, M2, eE, ?_, trivial, o2, o3, by omega, by omega⟩
      show F_X16_missing M1 1068 v c = _
      simp only [F_X16_missing, v1068, r2, y5, p0, g1068_1122, y6, s2, s1, r4, show ¬ mr true = 0 by decide, if_false, Option.bind_some]
      rw [ec, f1]
      exact o1
