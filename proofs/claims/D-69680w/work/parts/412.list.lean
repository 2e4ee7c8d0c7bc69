/-! ===== LISTS that grow (ArrayList) ===== -/
/-- a list of references at an address; its row -/
def AL (M : Mem) (a ds : Nat) (es : List Nat) : Prop := a < m_nx M ∧ m_tg M a = 67 ∧ cR M a 4288 = ds ∧ cI M a 4289 = iw (es.length : Nat) ∧
  ((es = [] ∧ ds = 4) ∨ (1334 ≤ ds ∧ ds < m_nx M ∧ ds ≠ a ∧ m_tg M ds = 1010 ∧ 0 < m_ln M ds ∧ es.length ≤ m_ln M ds ∧ m_ln M ds ≤ 200000 ∧ ∀ i, i < es.length → cR M ds i = es.getD i 0))
theorem AL.len {M : Mem} {a ds : Nat} {es : List Nat} (h : AL M a ds es) : es.length ≤ 200000 := by
  rcases h.2.2.2.2 with q | q
  · rw [q.1]; decide
  · omega
theorem AL.size {M : Mem} {a ds : Nat} {es : List Nat} (h : AL M a ds es) : F_J6_size M a = some (iw (es.length : Nat)) := by
  unfold F_J6_size
  rw [gi_of h.2.1 (show x_fi 67 4289 = true by decide), h.2.2.2.1]
  rfl
theorem AL.get {M : Mem} {a ds i : Nat} {es : List Nat} (h : AL M a ds es) (hi : i < es.length) : F_J6_get M a (iw (i : Int)) = some (es.getD i 0) := by
  have hl := h.len
  obtain ⟨h1, h2, h3, h4, h5⟩ := h
  rcases h5 with q | ⟨q1, q2, q3, q4, q5, q6, q7, q8⟩
  · rw [q.1] at hi; cases hi
  · unfold F_J6_get F_J6_elementData F_J11_checkIndex F_J12_checkIndex
    simp only [gi_of h2 (show x_fi 67 4289 = true by decide), h4, gr_of h2 (show x_fr 67 4288 = true by decide), h3, vg_of h2 (show x_isa 67 67 = true by decide), Option.bind_some]
    rw [if_neg (by rw [iw_lt0 (by omega) (by omega)]; omega), if_pos (by rw [iw_le4 (by omega) (by omega)]; exact hi)]
    simp only [Option.bind_some]
    rw [ar_of (by omega) rfl (show i < m_ln M ds by omega) (by omega), q8 i hi]
    rfl
theorem AL.df {P Q R : Nat → Nat → Prop} {M N : Mem} {a ds : Nat} {es : List Nat} (h : AL M a ds es) (d : Df P Q R M N) (hP : ¬ P a 4289) (hR : ¬ R a 4288) (hD : ∀ i, 1334 ≤ ds → ¬ R ds i) : AL N a ds es := by
  have nn := d.1
  obtain ⟨h1, h2, h3, h4, h5⟩ := h
  refine ⟨by omega, (d.2.2 a h1).1.trans h2, by rw [d.cR h1 hR]; exact h3, by rw [d.cI h1 hP]; exact h4, h5.imp id ?_⟩
  rintro ⟨q1, q2, q3, q4, q5, q6, q7, q8⟩
  have u := d.2.2 ds q2
  exact ⟨q1, by omega, q3, u.1.trans q4, by rw [u.2.1]; exact q5, by rw [u.2.1]; exact q6, by rw [u.2.1]; exact q7, fun i hi => by rw [d.cR q2 (hD i q1)]; exact q8 i hi⟩
theorem AL.init {M : Mem} {a : Nat} (ha : a < m_nx M) (ht : m_tg M a = 67) (h0 : cI M a 4289 = 0) : ∃ M', F_J6_init_2 M a = some M' ∧ AL M' a 4 [] ∧ Df (at1 a) n2 (at1 a) M M' ∧ m_nx M' = m_nx M ∧ m_sl M' = m_sl M := by
  obtain ⟨A, hA⟩ : ∃ A, A = wI M a 4224 0 := ⟨_, rfl⟩
  have tA : m_tg A a = 67 := by rw [hA]; exact ht
  obtain ⟨B, hB⟩ : ∃ B, B = wR A a 4288 4 := ⟨_, rfl⟩
  refine ⟨B, ?_, ⟨by rw [hB, hA]; exact ha, by rw [hB]; exact tA, by rw [hB, cR_wR, if_pos ⟨rfl, rfl⟩], ?_, Or.inl ⟨rfl, rfl⟩⟩, ?_, by rw [hB, hA]; rfl, by rw [hB, hA]; rfl⟩
  · unfold F_J6_init_2 F_J5_init F_J4_init
    simp only [ng_of ht (by decide), pi_of 0 ht (show x_wi 67 4224 = true by decide) (by decide), ← hA, pr_of 4 tA (show x_wr 67 4288 = true by decide), ← hB, Option.bind_some]
  · have : cI B a 4289 = cI M a 4289 := by rw [hB, hA]; show cI (wI M a 4224 0) a 4289 = _; rw [cI_wI, if_neg (by omega)]
    rw [this, h0]
    rfl
  · rw [hB, hA]
    exact (Df.wI (P := at1 a) (Q := n2) (R := at1 a) (M := M) (a := a) (i := 4224) 0 rfl).trans (Df.wR (P := at1 a) (Q := n2) (R := at1 a) (a := a) (i := 4288) 4 rfl)
theorem fit_4224 (v : Int32) : x_fit (x_ft 4224) v = true := rfl
theorem fit_4289 (v : Int32) : x_fit (x_ft 4289) v = true := rfl
/-- the row of a list, and what adding writes there -/
theorem AL_put {N : Mem} {a ds : Nat} {es : List Nat} {v : Nat} (h1 : a < m_nx N) (h2 : m_tg N a = 67) (h3 : cR N a 4288 = ds) (q1 : 1334 ≤ ds) (q2 : ds < m_nx N) (q3 : ds ≠ a) (q4 : m_tg N ds = 1010) (q6 : es.length < m_ln N ds) (q7 : m_ln N ds ≤ 200000) (q8 : ∀ i, i < es.length → cR N ds i = es.getD i 0) (hv : v = 0 ∨ x_asg (m_tg N v) 1010 = true) :
    ∃ M', F_J6_add_2_b11 N a v ds (iw (es.length : Nat)) = some M' ∧ AL M' a ds (es ++ [v]) ∧ Df (at1 a) n2 (at1 ds) N M' ∧ m_nx M' = m_nx N ∧ m_sl M' = m_sl N := by
  obtain ⟨A, hA⟩ : ∃ A, A = wR N ds es.length v := ⟨_, rfl⟩
  obtain ⟨B, hB⟩ : ∃ B, B = wI A a 4289 (iw ((es.length + 1 : Nat) : Int)) := ⟨_, rfl⟩
  have tA : m_tg A a = 67 := by rw [hA]; exact h2
  have hl : (es ++ [v]).length = es.length + 1 := by rw [List.length_append, List.length_singleton]
  refine ⟨B, ?_, ⟨by rw [hB, hA]; exact h1, by rw [hB]; exact tA, ?_, by rw [hB, cI_wI, if_pos ⟨rfl, rfl⟩, hl], Or.inr ⟨q1, by rw [hB, hA]; exact q2, q3, by rw [hB, hA]; exact q4, ?_, ?_, by rw [hB, hA]; exact q7, fun i hi => ?_⟩⟩, ?_, by rw [hB, hA]; rfl, by rw [hB, hA]; rfl⟩
  · unfold F_J6_add_2_b11
    rw [sr_of (by rw [q4]; decide) rfl q6 (by omega) (by rw [q4]; exact hv), ← hA]
    simp only [Option.bind_some, iw_succ, pi_of _ tA (show x_wi 67 4289 = true by decide) (fit_4289 _), ← hB]
  · rw [hB]
    show cR A a 4288 = ds
    rw [hA, cR_wR, if_neg (fun q => q3 q.1.symm)]
    exact h3
  · rw [hB, hA]
    show 0 < m_ln N ds
    omega
  · rw [hl, hB, hA]
    show es.length + 1 ≤ m_ln N ds
    omega
  · rw [hl] at hi
    rw [hB]
    show cR A ds i = _
    rw [hA, cR_wR, List.getD_eq_getElem?_getD]
    by_cases c : i = es.length
    · rw [if_pos ⟨rfl, c⟩, c, List.getElem?_append_right (Nat.le_refl _), Nat.sub_self]
      rfl
    · rw [if_neg (fun q => c q.2), List.getElem?_append_left (by omega), ← List.getD_eq_getElem?_getD]
      exact q8 i (by omega)
  · rw [hB, hA]
    exact (Df.wR (P := at1 a) (Q := n2) (R := at1 ds) (M := N) (a := ds) (i := es.length) v rfl).trans (Df.wI (P := at1 a) (Q := n2) (R := at1 ds) (a := a) (i := 4289) _ rfl)
theorem ishr1 {L : Nat} (h : L < 2147483648) : j_ishr (iw (L : Int)) 1 = iw ((L / 2 : Nat) : Int) := by
  refine Int32.toInt_inj.mp ?_
  rw [ish_r, iw_toInt (by omega) (by omega), iw_toInt (by omega) (by omega)]
  rfl
theorem J_max0 {x y : Nat} (hx : x ≤ 2147483647) (hy : y ≤ 2147483647) : F_J7_max (iw (x : Int)) (iw (y : Int)) = some (iw ((max x y : Nat) : Int)) := by
  unfold F_J7_max F_J7_max_b10
  by_cases c : x < y
  · rw [if_pos ((iw_le4 hx hy).mpr c), show max x y = y by omega]
  · rw [if_neg (fun q => c ((iw_le4 hx hy).mp q)), show max x y = x by omega]
theorem AL.add {M : Mem} {a ds : Nat} {es : List Nat} {v : Nat} (h : AL M a ds es) (h0 : 1334 ≤ m_nx M) (k4 : m_tg M 4 = 1091 ∧ m_ln M 4 = 0) (hl : es.length ≤ 60000) (hv : v = 0 ∨ (v < m_nx M ∧ x_asg (m_tg M v) 1010 = true)) :
    ∃ M' ds', F_J6_add M a v = some (1, M') ∧ AL M' a ds' (es ++ [v]) ∧ (ds' = ds ∨ m_nx M ≤ ds') ∧ Df (at1 a) n2 (fun x i => (x = a ∧ i = 4288) ∨ (x = ds ∧ 1334 ≤ ds)) M M' ∧ m_nx M' ≤ m_nx M + 1 ∧ m_sl M' ≤ m_sl M + (2 * es.length + 10) := by
  obtain ⟨h1, h2, h3, h4, h5⟩ := h
  obtain ⟨A, hA⟩ : ∃ A, A = wI M a 4224 (cI M a 4224 + 1) := ⟨_, rfl⟩
  have dA : Df (at1 a) n2 (fun x i => (x = a ∧ i = 4288) ∨ (x = ds ∧ 1334 ≤ ds)) M A := by rw [hA]; exact Df.wI _ rfl
  have tA : ∀ x, m_tg A x = m_tg M x := fun x => by rw [hA]; rfl
  have lA : ∀ x, m_ln A x = m_ln M x := fun x => by rw [hA]; rfl
  have rA : ∀ x i, cR A x i = cR M x i := fun x i => by rw [hA]; rfl
  have nA : m_nx A = m_nx M := by rw [hA]; rfl
  have sA : m_sl A = m_sl M := by rw [hA]; rfl
  have cA : cI A a 4289 = iw (es.length : Nat) := by rw [hA, cI_wI, if_neg (by omega)]; exact h4
  have head : F_J6_add M a v = (F_J6_add_2 A a v ds (iw (es.length : Nat))).bind fun z6 => some (1, z6) := by
    unfold F_J6_add
    simp only [gi_of h2 (show x_fi 67 4224 = true by decide), pi_of _ h2 (show x_wi 67 4224 = true by decide) (fit_4224 _), ← hA, gr_of ((tA a).trans h2) (show x_fr 67 4288 = true by decide), gi_of ((tA a).trans h2) (show x_fi 67 4289 = true by decide), rA, h3, cA, vg_of ((tA a).trans h2) (show x_isa 67 67 = true by decide), Option.bind_some]
  have hvA : v = 0 ∨ x_asg (m_tg A v) 1010 = true := hv.imp id (fun q => by rw [tA]; exact q.2)
  -- the row is full: a new one
  have grow : ∀ (G : Mem) (ds' cap : Nat), Df n2 n2 n2 A G → m_nx G = m_nx A + 1 → ds' = m_nx A → m_tg G ds' = 1010 → m_ln G ds' = cap → es.length < cap → cap ≤ 200000 → m_sl G = m_sl A + cap → (∀ i, i < es.length → cR G ds' i = es.getD i 0) → cap ≤ 2 * es.length + 10 → F_J6_add_2 A a v ds (iw (es.length : Nat)) = F_J6_add_2_b11 (wR G a 4288 ds') a v ds' (iw (es.length : Nat)) →
      ∃ M' ds', F_J6_add M a v = some (1, M') ∧ AL M' a ds' (es ++ [v]) ∧ (ds' = ds ∨ m_nx M ≤ ds') ∧ Df (at1 a) n2 (fun x i => (x = a ∧ i = 4288) ∨ (x = ds ∧ 1334 ≤ ds)) M M' ∧ m_nx M' ≤ m_nx M + 1 ∧ m_sl M' ≤ m_sl M + (2 * es.length + 10) := by
    intro G ds' cap dG nG hds tG lG hc1 hc2 sG rG' hc3 hrun
    have u := dG.2.2 a (by omega)
    obtain ⟨M', f1, f2, f3, f4, f5⟩ := AL_put (N := wR G a 4288 ds') (a := a) (ds := ds') (es := es) (v := v) (by show a < m_nx G; omega) (u.1.trans ((tA a).trans h2)) (by rw [cR_wR, if_pos ⟨rfl, rfl⟩]) (by omega) (by show ds' < m_nx G; omega) (by omega) tG (by show es.length < m_ln G ds'; omega) (by show m_ln G ds' ≤ _; omega) (fun i hi => by rw [cR_wR, if_neg (fun q => by omega)]; exact rG' i hi) (by
      rcases hv with q | q
      · exact Or.inl q
      · right
        have w := dG.2.2 v (by omega)
        show x_asg (m_tg G v) 1010 = true
        rw [w.1, tA]
        exact q.2)
    have dW : Df (at1 a) n2 (fun x i => (x = a ∧ i = 4288) ∨ (x = ds ∧ 1334 ≤ ds)) M (wR G a 4288 ds') := (dA.trans (dG.mono (fun _ _ q => q.elim) (fun _ _ q => q) (fun _ _ q => q.elim))).trans (Df.wR _ (Or.inl ⟨rfl, rfl⟩))
    refine ⟨M', ds', ?_, f2, Or.inr (by omega), dW.then f3 (fun _ _ _ q => q) (fun _ _ _ q => q) (fun x i hx q => by unfold at1 at q; omega), by rw [f4]; show m_nx G ≤ _; omega, by rw [f5]; show m_sl G ≤ _; omega⟩
    rw [head, hrun, f1]
    rfl
  rcases h5 with ⟨q1, q2⟩ | ⟨q1, q2, q3, q4, q5, q6, q7, q8⟩
  · -- nothing yet
    have hes0 : es.length = 0 := by rw [q1]; rfl
    refine grow (m_new A 1010 10) (m_nx A) 10 (Df.new _ _) rfl rfl (by rw [tg_new, if_pos rfl]) (by rw [ln_new, if_pos rfl]) (by omega) (by decide) rfl (fun i hi => by omega) (by omega) ?_
    have an4 : an A 4 = some (iw ((0 : Nat) : Int)) := an_of ((tA 4).trans k4.1) (by decide) ((lA 4).trans k4.2)
    have i00 : iw ((0 : Nat) : Int) = 0 := rfl
    have tG : m_tg (m_new A 1010 10) a = 67 := by rw [tg_new, if_neg (by omega)]; exact (tA a).trans h2
    have ac4 : ac 4 4 = true := by decide
    have mx : F_J7_max 10 (iw ((0 : Nat) : Int) + 1) = some (iw ((10 : Nat) : Int)) := by rw [iw_succ]; exact J_max0 (x := 10) (y := 1) (by decide) (by decide)
    have h00 : ¬ (0 : Int32) < 0 := by decide
    have gr4 : F_J6_grow A a = some (m_nx A, wR (m_new A 1010 10) a 4288 (m_nx A)) := by
      unfold F_J6_grow F_J6_grow_2
      simp only [gi_of ((tA a).trans h2) (show x_fi 67 4289 = true by decide), cA, hes0, vg_of ((tA a).trans h2) (show x_isa 67 67 = true by decide), gr_of ((tA a).trans h2) (show x_fr 67 4288 = true by decide), rA, h3, q2, an4, i00, h00, ac4, if_true, if_false, Option.bind_some]
      rw [← i00, mx]
      simp only [Option.bind_some]
      rw [mk_of (by decide)]
      simp only [Option.bind_some, pr_of _ tG (show x_wr 67 4288 = true by decide)]
    unfold F_J6_add_2
    rw [q2, an4]
    simp only [Option.bind_some]
    rw [hes0, if_pos rfl, vg_of ((tA a).trans h2) (show x_isa 67 67 = true by decide), gr4]
    rfl
  · have anD : an A ds = some (iw (m_ln M ds : Nat)) := an_of ((tA ds).trans q4) (by decide) (lA ds)
    by_cases cf : es.length = m_ln M ds
    · -- full
      obtain ⟨cap, hcap⟩ : ∃ cap, cap = es.length + max 1 (es.length / 2) := ⟨_, rfl⟩
      obtain ⟨G0, hG0⟩ : ∃ G0, G0 = m_new A 1010 cap := ⟨_, rfl⟩
      obtain ⟨G, hG⟩ : ∃ G, G = uR G0 (m_nx A) (va_cpy (cR G0 ds) (cR G0 (m_nx A)) 0 0 es.length) := ⟨_, rfl⟩
      have tG0 : m_tg G0 (m_nx A) = 1010 := by rw [hG0, tg_new, if_pos rfl]
      have lG0 : m_ln G0 (m_nx A) = cap := by rw [hG0, ln_new, if_pos rfl]
      have tD : m_tg G0 ds = 1010 := by rw [hG0, tg_new, if_neg (by omega)]; exact (tA ds).trans q4
      have lD : m_ln G0 ds = m_ln M ds := by rw [hG0, ln_new, if_neg (by omega)]; exact lA ds
      have rD : ∀ i, cR G0 ds i = cR M ds i := fun i => by rw [hG0, cR_new, if_neg (by omega)]; exact rA ds i
      have i00 : iw ((0 : Nat) : Int) = 0 := rfl
      have tGa : m_tg G a = 67 := by
        have : m_tg G a = m_tg G0 a := by rw [hG]; rfl
        rw [this, hG0, tg_new, if_neg (by omega)]
        exact (tA a).trans h2
      have hes : 0 < es.length := by omega
      have dG : Df n2 n2 n2 A G := by
        refine ⟨by rw [hG, hG0]; show m_nx A ≤ m_nx A + 1; omega, by rw [hG, hG0]; show m_sl A ≤ m_sl A + cap; omega, fun x hx => ⟨?_, ?_, fun i => ⟨fun _ => ?_, fun _ => ?_, fun _ => ?_⟩⟩⟩
        · have : m_tg G x = m_tg G0 x := by rw [hG]; rfl
          rw [this, hG0, tg_new, if_neg (by omega)]
        · have : m_ln G x = m_ln G0 x := by rw [hG]; rfl
          rw [this, hG0, ln_new, if_neg (by omega)]
        · have : cI G x i = cI G0 x i := by rw [hG]; rfl
          rw [this, hG0, cI_new, if_neg (by omega)]
        · have : cJ G x i = cJ G0 x i := by rw [hG]; rfl
          rw [this, hG0]
          exact (Df.new (P := n2) (Q := n2) (R := n2) (M := A) 1010 cap).cJ hx (fun q => q)
        · have : cR G x i = cR G0 x i := by
            rw [hG]
            show (if x = m_nx A then _ else cR G0 x) i = _
            rw [if_neg (by omega)]
          rw [this, hG0, cR_new, if_neg (by omega)]
      have e0 : (0 : Int32).toNatClampNeg = 0 := rfl
      have eN : (iw (es.length : Nat)).toNatClampNeg = es.length := by rw [iw_clamp (by omega) (by omega)]; rfl
      have mc : m_copy G0 ds 0 (m_nx A) 0 (iw (es.length : Nat)) = some G := by
        unfold m_copy
        rw [e0, eN, if_pos ⟨by omega, by decide, by decide, by rw [iw_lt0 (by omega) (by omega)]; omega, by omega, by omega⟩, if_neg (fun q => by rcases q with ⟨q | q, -⟩ <;> rw [tD] at q <;> omega), if_pos ⟨Or.inl tD, tG0⟩, ← hG]
      have grw : F_J6_grow A a = some (m_nx A, wR G a 4288 (m_nx A)) := by
        have mk0 : mk A 1010 (iw (cap : Int)) = some G0 := by rw [hG0]; exact mk_of (by omega)
        have an0 : an G0 ds = some (iw (es.length : Nat)) := by rw [cf]; exact an_of tD (by decide) lD
        have mn : F_J7_min_2 (iw (es.length : Nat)) (iw (cap : Int)) = some (iw (es.length : Nat)) := by
          rw [J_min2 (by omega) (by omega), Nat.min_eq_left (by omega)]
        have nl' : F_J9_newLength (iw (es.length : Nat)) (iw (es.length : Nat) + 1 - iw (es.length : Nat)) (j_ishr (iw (es.length : Nat)) 1) = some (iw (cap : Int)) := by
          unfold F_J9_newLength
          rw [iw_succ, iw_nsub (by omega), ishr1 (by omega), show es.length + 1 - es.length = 1 by omega, J_max0 (by decide) (by omega)]
          simp only [Option.bind_some]
          rw [iw_nad, ← hcap, if_pos (by rw [show (0 : Int32) = iw ((0 : Nat) : Int) from rfl, iw_le4 (by omega) (by omega)]; omega), if_neg (by rw [show (2147483639 : Int32) = iw ((2147483639 : Nat) : Int) from rfl, iw_le4 (by omega) (by omega)]; omega)]
        have cp3 : F_J10_copyOf_2 A ds (iw (cap : Int)) = some (m_nx A, G) := by
          have g2 : gcl A ds = some 2 := by unfold gcl; rw [if_pos (Or.inl ((tA ds).trans q4))]
          have ac2 : ac 2 2 = true := by decide
          unfold F_J10_copyOf_2 F_J10_copyOf_3
          simp only [vg_of ((tA ds).trans q4) (show x_isa 1010 1010 = true by decide), g2, ac2, if_true, mk0, an0, mn, mc, Option.bind_some]
        have pz : (0 : Int32) < iw (m_ln M ds : Nat) := by rw [show (0 : Int32) = iw ((0 : Nat) : Int) from rfl, iw_le4 (by omega) (by omega)]; omega
        unfold F_J6_grow F_J6_grow_2 F_J6_grow_2_b20
        simp only [gi_of ((tA a).trans h2) (show x_fi 67 4289 = true by decide), cA, vg_of ((tA a).trans h2) (show x_isa 67 67 = true by decide), gr_of ((tA a).trans h2) (show x_fr 67 4288 = true by decide), rA, h3, anD, pz, if_true, Option.bind_some]
        rw [← cf, nl']
        simp only [cp3, pr_of _ tGa (show x_wr 67 4288 = true by decide), Option.bind_some]
      refine grow G (m_nx A) cap dG (by rw [hG, hG0]; rfl) rfl (by rw [hG]; exact tG0) (by rw [hG]; exact lG0) (by omega) (by omega) (by rw [hG, hG0]; rfl) (fun i hi => ?_) (by omega) ?_
      · rw [hG]
        show (if m_nx A = m_nx A then va_cpy (cR G0 ds) (cR G0 (m_nx A)) 0 0 es.length else _) i = _
        rw [if_pos rfl]
        unfold va_cpy
        rw [if_pos ⟨Nat.zero_le _, by omega⟩, Nat.zero_add, Nat.sub_zero, rD]
        exact q8 i hi
      · unfold F_J6_add_2
        rw [anD]
        simp only [Option.bind_some]
        rw [if_pos (by rw [cf]), vg_of ((tA a).trans h2) (show x_isa 67 67 = true by decide), grw]
        rfl
    · -- there is room
      obtain ⟨M', f1, f2, f3, f4, f5⟩ := AL_put (N := A) (a := a) (ds := ds) (es := es) (v := v) (by omega) ((tA a).trans h2) ((rA a 4288).trans h3) q1 (by omega) q3 ((tA ds).trans q4) (by rw [lA]; omega) (by rw [lA]; exact q7) (fun i hi => by rw [rA]; exact q8 i hi) hvA
      refine ⟨M', ds, ?_, f2, Or.inl rfl, dA.trans (f3.mono (fun _ _ q => q) (fun _ _ q => q) (fun x i q => Or.inr ⟨q, q1⟩)), by omega, by omega⟩
      rw [head]
      unfold F_J6_add_2
      rw [anD]
      simp only [Option.bind_some]
      rw [if_neg (by rw [iw_eq (by omega) (by omega) (by omega) (by omega)]; omega), f1]
      rfl
theorem AL.pop {M : Mem} {a ds x : Nat} {es : List Nat} (h : AL M a ds (es ++ [x])) : ∃ M', F_J6_remove M a (iw (es.length : Nat)) = some (x, M') ∧ AL M' a ds es ∧ Df (at1 a) n2 (at1 ds) M M' ∧ m_nx M' = m_nx M ∧ m_sl M' = m_sl M := by
  have hl := h.len
  have hlen : (es ++ [x]).length = es.length + 1 := by rw [List.length_append, List.length_singleton]
  rw [hlen] at hl
  obtain ⟨h1, h2, h3, h4, h5⟩ := h
  rw [hlen] at h4
  rcases h5 with q | ⟨q1, q2, q3, q4, q5, q6, q7, q8⟩
  · exfalso
    have := congrArg List.length q.1
    rw [hlen] at this
    cases this
  · rw [hlen] at q6 q8
    obtain ⟨A, hA⟩ : ∃ A, A = wI M a 4224 (cI M a 4224 + 1) := ⟨_, rfl⟩
    obtain ⟨B, hB⟩ : ∃ B, B = wI A a 4289 (iw (es.length : Nat)) := ⟨_, rfl⟩
    obtain ⟨C, hC⟩ : ∃ C, C = wR B ds es.length 0 := ⟨_, rfl⟩
    have tA : m_tg A a = 67 := by rw [hA]; exact h2
    have tB : m_tg B ds = 1010 := by rw [hB, hA]; exact q4
    have lB : m_ln B ds = m_ln M ds := by rw [hB, hA]; rfl
    have cA : cI A a 4289 = iw ((es.length + 1 : Nat) : Int) := by rw [hA, cI_wI, if_neg (by omega)]; exact h4
    have rC : ∀ y i, ¬ (y = ds ∧ i = es.length) → cR C y i = cR M y i := fun y i hy => by rw [hC, cR_wR, if_neg hy, hB, hA]; rfl
    refine ⟨C, ?_, ⟨by rw [hC, hB, hA]; exact h1, by rw [hC, hB]; exact tA, by rw [rC a 4288 (fun q => q3 q.1.symm)]; exact h3, ?_, Or.inr ⟨q1, by rw [hC, hB, hA]; exact q2, q3, by rw [hC]; exact tB, by rw [hC]; show 0 < m_ln B ds; omega, by rw [hC]; show es.length ≤ m_ln B ds; omega, by rw [hC]; show m_ln B ds ≤ _; omega, fun i hi => ?_⟩⟩, ?_, by rw [hC, hB, hA]; rfl, by rw [hC, hB, hA]; rfl⟩
    · have ex : cR M ds es.length = x := by
        rw [q8 es.length (by omega), List.getD_eq_getElem?_getD, List.getElem?_append_right (Nat.le_refl _), Nat.sub_self]
        rfl
      unfold F_J6_remove F_J6_fastRemove F_J6_fastRemove_b34 F_J11_checkIndex F_J12_checkIndex
      simp only [gi_of h2 (show x_fi 67 4289 = true by decide), h4, Option.bind_some]
      rw [if_neg (by rw [iw_lt0 (by omega) (by omega)]; omega), if_pos (by rw [iw_le4 (by omega) (by omega)]; omega)]
      simp only [gr_of h2 (show x_fr 67 4288 = true by decide), h3, ar_of (show 1010 ≤ m_tg M ds by omega) rfl (show es.length < m_ln M ds by omega) (by omega), ex, vg_of h2 (show x_isa 67 67 = true by decide), gi_of h2 (show x_fi 67 4224 = true by decide), pi_of _ h2 (show x_wi 67 4224 = true by decide) (fit_4224 _), ← hA, gi_of tA (show x_fi 67 4289 = true by decide), cA, Option.bind_some]
      rw [show (1 : Int32) = iw ((1 : Nat) : Int) from rfl, iw_nsub (by omega), show es.length + 1 - 1 = es.length by omega, if_neg (by rw [iw_le4 (by omega) (by omega)]; omega), pi_of _ tA (show x_wi 67 4289 = true by decide) (fit_4289 _), ← hB]
      simp only [Option.bind_some]
      rw [sr_of (by rw [tB]; decide) lB (show es.length < m_ln M ds by omega) (by omega) (Or.inl rfl), ← hC]
      rfl
    · rw [hC]
      show cI B a 4289 = _
      rw [hB, cI_wI, if_pos ⟨rfl, rfl⟩]
    · rw [rC ds i (fun q => by omega), q8 i (by omega), List.getD_eq_getElem?_getD, List.getElem?_append_left hi, ← List.getD_eq_getElem?_getD]
    · rw [hC, hB, hA]
      exact ((Df.wI (P := at1 a) (Q := n2) (R := at1 ds) (M := M) (a := a) (i := 4224) _ rfl).trans (Df.wI (P := at1 a) (Q := n2) (R := at1 ds) (a := a) (i := 4289) _ rfl)).trans (Df.wR (P := at1 a) (Q := n2) (R := at1 ds) (a := ds) (i := es.length) 0 rfl)
/-- an Integer -/
def IB (M : Mem) (x : Nat) (v : Int32) : Prop := x < m_nx M ∧ (m_tg M x = 80 ∨ m_tg M x = 91) ∧ cI M x 5120 = v
theorem IB.val {M : Mem} {x : Nat} {v : Int32} (h : IB M x v) : F_J19_intValue M x = some v := by
  unfold F_J19_intValue
  rcases h.2.1 with q | q
  · rw [gi_of q (show x_fi 80 5120 = true by decide), h.2.2]; rfl
  · rw [gi_of q (show x_fi 91 5120 = true by decide), h.2.2]; rfl
theorem IB.asg {M : Mem} {x : Nat} {v : Int32} (h : IB M x v) : x_asg (m_tg M x) 1010 = true := by
  rcases h.2.1 with q | q <;> rw [q] <;> decide
theorem IB.df {P Q R : Nat → Nat → Prop} {M N : Mem} {x : Nat} {v : Int32} (h : IB M x v) (d : Df P Q R M N) (hP : ¬ P x 5120) : IB N x v := by
  have := d.1
  exact ⟨by have := h.1; omega, by rw [(d.2.2 x h.1).1]; exact h.2.1, by rw [d.cI h.1 hP]; exact h.2.2⟩
theorem J_box {M : Mem} (h0 : 1334 ≤ m_nx M) (k0 : K0 M) (v : Int32) : ∃ x M', F_J19_valueOf M v = some (x, M') ∧ IB M' x v ∧ Df n2 n2 n2 M M' ∧ m_nx M' ≤ m_nx M + 1 ∧ m_sl M' ≤ m_sl M + 10 ∧ ((x < 1000 ∧ M' = M) ∨ m_nx M ≤ x) := by
  have new : ∃ x M', F_J19_valueOf_b23 M v = some (x, M') ∧ IB M' x v ∧ Df n2 n2 n2 M M' ∧ m_nx M' ≤ m_nx M + 1 ∧ m_sl M' ≤ m_sl M + 10 ∧ ((x < 1000 ∧ M' = M) ∨ m_nx M ≤ x) := by
    obtain ⟨A, hA⟩ : ∃ A, A = mo M 80 := ⟨_, rfl⟩
    have tA : m_tg A (m_nx M) = 80 := by rw [hA]; show m_tg (m_new M 80 (x_cn 80)) (m_nx M) = 80; rw [tg_new, if_pos rfl]
    have dA : Df n2 n2 n2 M A := by rw [hA]; exact Df.new _ _
    obtain ⟨B, hB⟩ : ∃ B, B = wI A (m_nx M) 5120 v := ⟨_, rfl⟩
    have x80 : x_cn 80 ≤ 10 := by decide
    refine ⟨m_nx M, B, ?_, ⟨by rw [hB, hA]; show m_nx M < m_nx M + 1; omega, Or.inl (by rw [hB]; exact tA), by rw [hB, cI_wI, if_pos ⟨rfl, rfl⟩]⟩, ?_, by rw [hB, hA]; show m_nx M + 1 ≤ _; omega, by rw [hB, hA]; show m_sl M + x_cn 80 ≤ _; omega, Or.inr (Nat.le_refl _)⟩
    · unfold F_J19_valueOf_b23 F_J19_init F_J8_init
      simp only [← hA, ng_of tA (by decide), pi_of v tA (show x_wi 80 5120 = true by decide) rfl, ← hB, Option.bind_some]
    · rw [hB]
      exact dA.then (Df.wI (P := at1 (m_nx M)) (Q := n2) (R := n2) v rfl) (fun x i h1 h2 => by unfold at1 at h2; omega) (fun _ _ _ q => q) (fun _ _ _ q => q)
  unfold F_J19_valueOf
  by_cases c1 : v < -128
  · rw [if_pos c1]; exact new
  · rw [if_neg c1]
    by_cases c2 : 127 < v
    · rw [if_pos c2]; exact new
    · rw [if_neg c2]
      rw [Int32.lt_iff_toInt_lt] at c1 c2
      have m1 : (-128 : Int32).toInt = -128 := rfl
      have m2 : (127 : Int32).toInt = 127 := rfl
      obtain ⟨i, hi⟩ : ∃ i : Nat, (i : Int) = v.toInt + 128 := ⟨(v.toInt + 128).toNat, by omega⟩
      have hi2 : i < 256 := by omega
      obtain ⟨-, -, -, -, -, t5, l5, r5⟩ := k0
      obtain ⟨r1, r2, r3⟩ := r5 i hi2
      have ev : v + 128 = iw (i : Int) := by
        rw [show (128 : Int32) = iw 128 from rfl, show v + iw 128 = iw v.toInt + iw 128 by rw [iw_of], iw_add, hi]
      have ec : cI M (300 + i) 5120 = v := by
        rw [r3, show Int32.ofNat i = iw (i : Int) from rfl, show (128 : Int32) = iw 128 from rfl, iw_sub, hi, show v.toInt + 128 - 128 = v.toInt by omega, iw_of]
      refine ⟨300 + i, M, ?_, ⟨by omega, Or.inr r2, ec⟩, Df.refl _ _ _ _, by omega, by omega, Or.inl ⟨by omega, rfl⟩⟩
      rw [ev, ar_of (show 1010 ≤ m_tg M 5 by omega) l5 hi2 (by decide), r1]
      rfl
