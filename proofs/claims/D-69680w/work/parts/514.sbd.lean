/-! ===== TEXTS THAT GROW (StringBuilder) ===== -/
/-- a builder at a, its row ds with room for c signs, what it holds -/
def BD (M : Mem) (a ds c : Nat) (x : List Int32) : Prop := a < m_nx M ∧ m_tg M a = 75 ∧ cR M a 4736 = ds ∧ cI M a 4737 = 0 ∧ cI M a 4739 = iw (x.length : Nat) ∧ 1334 ≤ ds ∧ ds < m_nx M ∧ ds ≠ a ∧ m_tg M ds = 1002 ∧ m_ln M ds = c ∧ x.length ≤ c ∧ c ≤ 150000 ∧ ∀ i, i < x.length → cI M ds i = x.getD i 0
theorem BD.df {P Q R : Nat → Nat → Prop} {M N : Mem} {a ds c : Nat} {x : List Int32} (h : BD M a ds c x) (d : Df P Q R M N) (hP : ∀ i, ¬ P a i) (hP2 : ∀ i, ¬ P ds i) (hR : ¬ R a 4736) : BD N a ds c x := by
  have nn := d.1
  obtain ⟨h1, h2, h3, h4, h5, h6, h7, h8, h9, h10, h11, h12, h13⟩ := h
  exact ⟨by omega, (d.2.2 a h1).1.trans h2, by rw [d.cR h1 hR]; exact h3, by rw [d.cI h1 (hP _)]; exact h4, by rw [d.cI h1 (hP _)]; exact h5, h6, by omega, h8, (d.2.2 ds h7).1.trans h9, (d.2.2 ds h7).2.1.trans h10, h11, h12, fun i hi => by rw [d.cI h7 (hP2 i)]; exact h13 i hi⟩
theorem fit_4737 : x_fit (x_ft 4737) 0 = true := by decide
theorem fit_4739 (v : Int32) : x_fit (x_ft 4739) v = true := rfl
theorem fit_4865 : x_fit (x_ft 4865) 0 = true := by decide
theorem ishl0 {L : Nat} (h : L < 2147483648) : j_ishl (iw (L : Int)) 0 = iw (L : Int) := by
  rw [ish_l, iw_nat]
  show ni (ui (ni L) * 2 ^ (0 % 32)) = ni L
  rw [ui_ni (by omega)]
  simp
theorem BD.init13 {M : Mem} {a c : Nat} (ha : a < m_nx M) (ht : m_tg M a = 75) (h0 : cI M a 4739 = 0) (h1 : 1334 ≤ m_nx M) (hc : c ≤ 150000) :
    ∃ M', F_J13_init M a (iw (c : Int)) = some M' ∧ BD M' a (m_nx M) c [] ∧ Df (at1 a) n2 (at1 a) M M' ∧ m_nx M' = m_nx M + 1 ∧ m_sl M' = m_sl M + c := by
  obtain ⟨A, hA⟩ : ∃ A, A = m_new M 1002 c := ⟨_, rfl⟩
  obtain ⟨B, hB⟩ : ∃ B, B = wR A a 4736 (m_nx M) := ⟨_, rfl⟩
  obtain ⟨C, hC⟩ : ∃ C, C = wI B a 4737 0 := ⟨_, rfl⟩
  have tA : m_tg A a = 75 := by rw [hA, tg_new, if_neg (by omega)]; exact ht
  have tB : m_tg B a = 75 := by rw [hB]; exact tA
  have e1 : ¬ (1 : Int32) = 0 := by decide
  have nA : m_nx A = m_nx M + 1 := by rw [hA]; rfl
  have nC : m_nx C = m_nx M + 1 := by rw [hC, hB]; exact nA
  have tC : ∀ x, m_tg C x = m_tg A x := fun x => by rw [hC, hB]; rfl
  have lC : ∀ x, m_ln C x = m_ln A x := fun x => by rw [hC, hB]; rfl
  refine ⟨C, ?_, ⟨by omega, (tC a).trans tA, ?_, ?_, ?_, h1, by omega, by omega, ?_, ?_, Nat.zero_le _, hc, fun i hi => by cases hi⟩, ?_, nC, by rw [hC, hB, hA]; rfl⟩
  · unfold F_J13_init F_J13_init_b38
    rw [ng_of ht (by decide), if_neg e1, mk_of (by omega), ← hA]
    simp only [Option.bind_some, pr_of _ tA (show x_wr 75 4736 = true by decide), ← hB, pi_of 0 tB (show x_wi 75 4737 = true by decide) fit_4737, ← hC]
  · rw [hC]; show cR B a 4736 = _; rw [hB, cR_wR, if_pos ⟨rfl, rfl⟩]
  · rw [hC, cI_wI, if_pos ⟨rfl, rfl⟩]
  · rw [hC, cI_wI, if_neg (by omega)]
    show cI B a 4739 = _
    rw [hB]
    show cI A a 4739 = _
    rw [hA, cI_new, if_neg (by omega), h0]
    rfl
  · rw [tC, hA, tg_new, if_pos rfl]
  · rw [lC, hA, ln_new, if_pos rfl]
  · rw [hC, hB, hA]
    exact ((Df.new (P := at1 a) (Q := n2) (R := at1 a) (M := M) 1002 c).trans (Df.wR _ rfl)).trans (Df.wI _ rfl)
theorem BD.init {M : Mem} {a c : Nat} (ha : a < m_nx M) (ht : m_tg M a = 75) (h0 : cI M a 4739 = 0) (h1 : 1334 ≤ m_nx M) (hc : c ≤ 150000) :
    ∃ M', F_J14_init M a (iw (c : Int)) = some M' ∧ BD M' a (m_nx M) c [] ∧ Df (at1 a) n2 (at1 a) M M' ∧ m_nx M' = m_nx M + 1 ∧ m_sl M' = m_sl M + c := by
  obtain ⟨M', f1, f2⟩ := BD.init13 ha ht h0 h1 hc
  refine ⟨M', ?_, f2⟩
  unfold F_J14_init
  rw [ng_of ht (by decide), Option.bind_some, f1]
  rfl
theorem BD.init2 {M : Mem} {a : Nat} (ha : a < m_nx M) (ht : m_tg M a = 75) (h0 : cI M a 4739 = 0) (h1 : 1334 ≤ m_nx M) :
    ∃ M', F_J14_init_2 M a = some M' ∧ BD M' a (m_nx M) 16 [] ∧ Df (at1 a) n2 (at1 a) M M' ∧ m_nx M' = m_nx M + 1 ∧ m_sl M' = m_sl M + 16 := by
  obtain ⟨M', f1, f2⟩ := BD.init13 (c := 16) ha ht h0 h1 (by decide)
  refine ⟨M', ?_, f2⟩
  have f1 : F_J13_init M a (16 : Int32) = some M' := f1
  unfold F_J14_init_2
  rw [ng_of ht (by decide), Option.bind_some, f1]
  rfl
theorem BD.lat {M : Mem} {a : Nat} (ht : m_tg M a = 75) (h : cI M a 4737 = 0) : F_J13_isLatin1 M a = some 1 := by
  have e1 : ¬ (1 : Int32) = 0 := by decide
  unfold F_J13_isLatin1
  rw [if_neg e1, gi_of ht (show x_fi 75 4737 = true by decide), h, Option.bind_some, if_pos rfl]
  rfl
/-- room for one sign more -/
theorem BD.ens {M : Mem} {a ds c : Nat} {x : List Int32} (h : BD M a ds c x) (hl : x.length ≤ 70000) (h0 : 1334 ≤ m_nx M) : ∃ M' ds' c', F_J13_ensureCapacityInternal M a (iw (x.length : Nat) + 1) = some M' ∧ BD M' a ds' c' x ∧ x.length < c' ∧ (ds' = ds ∨ m_nx M ≤ ds') ∧ Df n2 n2 (at1 a) M M' ∧
    c ≤ c' ∧ c' ≤ max c (2 * x.length + 2) ∧ m_nx M' + c ≤ m_nx M + c' ∧ m_sl M' + 2 * c ≤ m_sl M + 2 * c' := by
  have hB := h
  obtain ⟨h1, h2, h3, h4, h5, h6, h7, h8, h9, h10, h11, h12, h13⟩ := h
  have a1 : an M ds = some (iw (c : Int)) := an_of h9 (by decide) h10
  have gR := gr_of h2 (show x_fr 75 4736 = true by decide)
  have gI := gi_of h2 (show x_fi 75 4737 = true by decide)
  rw [h3] at gR
  rw [h4] at gI
  have s1 : iw (x.length : Nat) + 1 = iw ((x.length + 1 : Nat) : Int) := iw_succ _
  unfold F_J13_ensureCapacityInternal F_J13_ensureCapacityInternal_b38
  simp only [gR, gI, a1, s1, Option.bind_some, ishr0 (show c < 2147483648 by omega)]
  by_cases cf : x.length < c
  · refine ⟨M, ds, c, ?_, hB, cf, Or.inl rfl, Df.refl _ _ _ _, by omega, by omega, by omega, by omega⟩
    rw [if_neg]
    rw [iw_sub, show (0 : Int32) = iw 0 from rfl, iw_lt (by omega) (by omega) (by omega) (by omega)]
    omega
  · have hx : x.length = c := by omega
    rw [if_pos (by rw [iw_sub, show (0 : Int32) = iw 0 from rfl, iw_lt (by omega) (by omega) (by omega) (by omega)]; omega)]
    obtain ⟨G, g1, g2, g3, g4, g5, g6, g7⟩ := J_copyOf (n := 2 * c + 2) h9 h7 (by omega) (by omega)
    have nc : F_J13_newCapacity M a (iw ((x.length + 1 : Nat) : Int)) = some (iw ((2 * c + 2 : Nat) : Int)) := by
      unfold F_J13_newCapacity F_J9_newLength
      simp only [gR, gI, a1, Option.bind_some]
      rw [ishl0 (by omega), iw_nsub (by omega), show j_ishl (2 : Int32) 0 = iw ((2 : Nat) : Int) by decide, iw_nad, J_max0 (by omega) (by omega)]
      simp only [Option.bind_some]
      rw [iw_nad, show c + max (x.length + 1 - c) (c + 2) = 2 * c + 2 by omega, if_pos (by rw [show (0 : Int32) = iw ((0 : Nat) : Int) from rfl, iw_le4 (by omega) (by omega)]; omega), if_neg (by rw [show (2147483639 : Int32) = iw ((2147483639 : Nat) : Int) from rfl, iw_le4 (by omega) (by omega)]; omega)]
      simp only [Option.bind_some]
      rw [if_neg (by rw [show (2147483647 : Int32) = iw ((2147483647 : Nat) : Int) from rfl, iw_eq (by omega) (by omega) (by omega) (by omega)]; omega), ishr0 (by omega)]
    have tG : m_tg G a = 75 := (g2.2.2 a h1).1.trans h2
    obtain ⟨W, hW⟩ : ∃ W, W = wR G a 4736 (m_nx M) := ⟨_, rfl⟩
    refine ⟨W, m_nx M, 2 * c + 2, ?_, ⟨by rw [hW]; show a < m_nx G; omega, by rw [hW]; exact tG, by rw [hW, cR_wR, if_pos ⟨rfl, rfl⟩], ?_, ?_, h0, by rw [hW]; show m_nx M < m_nx G; omega, by omega, by rw [hW]; exact g5, by rw [hW]; exact g6, by omega, by omega, fun i hi => ?_⟩, by omega, Or.inr (Nat.le_refl _), ?_, by omega, by omega, by rw [hW]; show m_nx G + c ≤ _; omega, by rw [hW]; show m_sl G + 2 * c ≤ _; omega⟩
    · rw [vg_of h2 (show x_isa 75 74 = true by decide), Option.bind_some, nc]
      simp only [Option.bind_some, ishl0 (show 2 * c + 2 < 2147483648 by omega), g1, pr_of _ tG (show x_wr 75 4736 = true by decide), ← hW]
    · rw [hW]; show cI G a 4737 = 0; rw [g2.cI h1 (fun q => q)]; exact h4
    · rw [hW]; show cI G a 4739 = _; rw [g2.cI h1 (fun q => q)]; exact h5
    · rw [hW]; show cI G (m_nx M) i = _; rw [g7 i (by omega) (by omega)]; exact h13 i hi
    · rw [hW]
      exact (g2.mono (fun _ _ q => q) (fun _ _ q => q) (fun _ _ q => q.elim)).trans (Df.wR _ rfl)
/-- a sign more -/
theorem BD.app {M : Mem} {a ds c : Nat} {x : List Int32} {v : Int32} (h : BD M a ds c x) (hv : asc v) (hl : x.length ≤ 70000) (h0 : 1334 ≤ m_nx M) : ∃ M' ds' c', F_J14_append M a v = some (a, M') ∧ BD M' a ds' c' (x ++ [v]) ∧ (ds' = ds ∨ m_nx M ≤ ds') ∧ Df (fun y _ => y = a ∨ y = ds) n2 (at1 a) M M' ∧
    c ≤ c' ∧ c' ≤ max c (2 * x.length + 2) ∧ m_nx M' + c ≤ m_nx M + c' ∧ m_sl M' + 2 * c ≤ m_sl M + 2 * c' := by
  obtain ⟨N, ds', c', e1, e2, e3, e4, e5, e6, e7, e8, e9⟩ := h.ens hl h0
  rw [iw_succ] at e1
  have ht := h.2.1
  have hc5 := h.2.2.2.2.1
  obtain ⟨h1, h2, h3, h4, h5, h6, h7, h8, h9, h10, h11, h12, h13⟩ := e2
  obtain ⟨v1, v2, v3, v4⟩ := hv.ok
  obtain ⟨A, hA⟩ : ∃ A, A = wI N a 4739 (iw ((x.length + 1 : Nat) : Int)) := ⟨_, rfl⟩
  obtain ⟨B, hB⟩ : ∃ B, B = wI A ds' x.length v := ⟨_, rfl⟩
  have hl' : (x ++ [v]).length = x.length + 1 := by rw [List.length_append, List.length_singleton]
  have nz : ¬ (1 : Int32) = 0 := by decide
  have n1 : ¬ (1 : Int32) &&& 1 = 0 := by decide
  have ce : F_J17_canEncode v = some 1 := by
    unfold F_J17_canEncode
    rw [if_neg hv.gt]
    rfl
  have sbv : sb A ds' (iw (x.length : Nat)) v = some B := by
    rw [sb_of (n := c') v (by rw [hA]; exact h9) (by rw [hA]; exact h10) e3 (by omega), v4, ← hB]
  refine ⟨B, ds', c', ?_, ⟨by rw [hB, hA]; exact h1, by rw [hB, hA]; exact h2, by rw [hB, hA]; exact h3, ?_, ?_, h6, by rw [hB, hA]; exact h7, h8, by rw [hB, hA]; exact h9, by rw [hB, hA]; exact h10, by omega, h12, fun i hi => ?_⟩, e4, ?_, e6, e7, by rw [hB, hA]; exact e8, by rw [hB, hA]; exact e9⟩
  · unfold F_J14_append F_J13_append F_J13_append_b75
    rw [ng_of ht (by decide), gi_of ht (show x_fi 75 4739 = true by decide), hc5]
    simp only [Option.bind_some, vg_of ht (show x_isa 75 74 = true by decide), e1, vg_of h2 (show x_isa 75 74 = true by decide), BD.lat h2 h4, nz, if_false, ce, gr_of h2 (show x_fr 75 4736 = true by decide), gi_of h2 (show x_fi 75 4739 = true by decide), h3, h5, iw_succ, pi_of _ h2 (show x_wi 75 4739 = true by decide) (fit_4739 _), ← hA, v4, sbv]
  · rw [hB, cI_wI, if_neg (by omega)]; rw [hA, cI_wI, if_neg (by omega)]; exact h4
  · rw [hB, cI_wI, if_neg (by omega)]; rw [hA, cI_wI, if_pos ⟨rfl, rfl⟩, hl']
  · rw [hl'] at hi
    rw [hB, cI_wI, List.getD_eq_getElem?_getD]
    by_cases k : i = x.length
    · rw [if_pos ⟨rfl, k⟩, k, List.getElem?_append_right (Nat.le_refl _), Nat.sub_self]
      rfl
    · rw [if_neg (fun q => k q.2), List.getElem?_append_left (by omega), ← List.getD_eq_getElem?_getD, hA, cI_wI, if_neg (by omega)]
      exact h13 i (by omega)
  · have d1 : Df (fun y _ => y = a ∨ y = ds') n2 n2 N B := by
      rw [hB, hA]
      exact (Df.wI (P := fun y _ => y = a ∨ y = ds') (Q := n2) (R := n2) _ (Or.inl rfl)).trans (Df.wI _ (Or.inr rfl))
    refine (e5.mono (P' := fun y _ => y = a ∨ y = ds) (fun _ _ q => q.elim) (fun _ _ q => q) (fun _ _ q => q)).then d1 (fun y i hy q => ?_) (fun _ _ _ q => q) (fun _ _ _ q => q.elim)
    rcases q with q | q
    · exact Or.inl q
    · rcases e4 with k | k
      · exact Or.inr (by omega)
      · omega
/-- the text -/
theorem BD.str {M : Mem} {a ds c : Nat} {x : List Int32} (h : BD M a ds c x) (hl : x.length ≤ 70000) (h0 : 1334 ≤ m_nx M) : ∃ M', F_J14_toString M a = some (m_nx M, M') ∧ SB M' (m_nx M) x ∧ m_tg M' (m_nx M) = 76 ∧ cR M' (m_nx M) 4864 = m_nx M + 1 ∧ Df n2 n2 n2 M M' ∧ m_nx M' = m_nx M + 2 ∧ m_sl M' = m_sl M + x.length + x_cn 76 := by
  obtain ⟨h1, h2, h3, h4, h5, h6, h7, h8, h9, h10, h11, h12, h13⟩ := h
  obtain ⟨A, hA⟩ : ∃ A, A = mo M 76 := ⟨_, rfl⟩
  have dA : Df n2 n2 n2 M A := by rw [hA]; exact Df.new _ _
  have nA : m_nx A = m_nx M + 1 := by rw [hA]; rfl
  have sA : m_sl A = m_sl M + x_cn 76 := by rw [hA]; rfl
  have tN : m_tg A (m_nx M) = 76 := by rw [hA]; show m_tg (m_new M 76 _) _ = _; rw [tg_new, if_pos rfl]
  have tA : m_tg A a = 75 := (dA.2.2 a h1).1.trans h2
  have cA3 : cR A a 4736 = ds := by rw [dA.cR h1 (fun q => q)]; exact h3
  have cA4 : cI A a 4737 = 0 := by rw [dA.cI h1 (fun q => q)]; exact h4
  have cA5 : cI A a 4739 = iw (x.length : Nat) := by rw [dA.cI h1 (fun q => q)]; exact h5
  obtain ⟨B, hB⟩ : ∃ B, B = wI A (m_nx M) 4865 0 := ⟨_, rfl⟩
  have nB : m_nx B = m_nx M + 1 := by rw [hB]; exact nA
  have u := dA.2.2 ds h7
  have tD : m_tg B ds = 1002 := by rw [hB]; exact u.1.trans h9
  have lD : m_ln B ds = c := by rw [hB]; exact u.2.1.trans h10
  obtain ⟨G, g1, g2, g3, g4, g5, g6, g7⟩ := J_copyR (M := B) (s := ds) (n := x.length) tD (by omega) (by omega) (by omega)
  have tG : m_tg G (m_nx M) = 76 := (g2.2.2 _ (by omega)).1.trans (by rw [hB]; exact tN)
  obtain ⟨W, hW⟩ : ∃ W, W = wR G (m_nx M) 4864 (m_nx B) := ⟨_, rfl⟩
  have cW : cR W (m_nx M) 4864 = m_nx M + 1 := by rw [hW, cR_wR, if_pos ⟨rfl, rfl⟩, nB]
  have n1 : ¬ (1 : Int32) = 0 := by decide
  refine ⟨W, ?_, ⟨Or.inr (by rw [hW]; exact tG), ?_, ?_, ?_, hl, fun i hi => ?_⟩, by rw [hW]; exact tG, cW, ?_, by rw [hW]; show m_nx G = _; omega, ?_⟩
  · unfold F_J14_toString F_J15_init F_J15_init_2 F_J15_init_2_b97 F_J13_getValue F_J14_length F_J13_length
    simp only [← hA, ng_of tN (by decide), ng_of tA (by decide), vg_of tA (show x_isa 75 74 = true by decide), vg_of tA (show x_isa 75 75 = true by decide), gr_of tA (show x_fr 75 4736 = true by decide), gi_of tA (show x_fi 75 4739 = true by decide), cA3, cA5, BD.lat tA cA4, n1, if_false, pi_of 0 tN (show x_wi 76 4865 = true by decide) fit_4865, ← hB, g1, pr_of _ tG (show x_wr 76 4864 = true by decide), ← hW, Option.bind_some]
  · rw [hW]; show cI G _ 4865 = 0; rw [g2.cI (by omega) (fun q => q), hB, cI_wI, if_pos ⟨rfl, rfl⟩]
  · right; rw [cW, ← nB, hW]; exact g5
  · rw [cW, ← nB, hW]; exact g6
  · rw [cW, ← nB, hW]
    show cI G (m_nx B) i = _
    rw [g7 i hi (by omega), hB, cI_wI, if_neg (by omega), dA.cI h7 (fun q => q)]
    exact h13 i hi
  · have d1 : Df (at1 (m_nx M)) n2 (at1 (m_nx M)) A W := by
      rw [hW]
      refine ((Df.wI (P := at1 (m_nx M)) (Q := n2) (R := at1 (m_nx M)) (M := A) (a := m_nx M) (i := 4865) 0 rfl).trans ?_).trans (Df.wR _ rfl)
      rw [← hB]
      exact g2.mono (fun _ _ q => q.elim) (fun _ _ q => q) (fun _ _ q => q.elim)
    exact dA.then d1 (fun y _ hy q => by unfold at1 at q; omega) (fun _ _ _ q => q) (fun y _ hy q => by unfold at1 at q; omega)
  · rw [hW]
    show m_sl G = _
    rw [g4, hB]
    show m_sl A + _ = _
    omega
