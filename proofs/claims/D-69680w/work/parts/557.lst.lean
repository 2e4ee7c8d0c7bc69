/-! ===== LISTS: what adding costs, summed up ===== -/
/-- how a list's row grows -/
def GRw (M M' : Mem) (ds ds' l : Nat) : Prop := (1334 ≤ ds ∧ ds' = ds ∧ m_sl M' = m_sl M) ∨ (1334 ≤ ds' ∧ m_sl M' = m_sl M + m_ln M' ds' ∧ ((l = 0 ∧ ds = 4 ∧ m_ln M' ds' = 10) ∨ (1334 ≤ ds ∧ l = m_ln M ds ∧ m_ln M' ds' = l + max 1 (l / 2))))
theorem AL.addA {M : Mem} {a ds : Nat} {es : List Nat} {v : Nat} (h : AL M a ds es) (h0 : 1334 ≤ m_nx M) (k4 : m_tg M 4 = 1091 ∧ m_ln M 4 = 0) (hl : es.length ≤ 60000) (hv : v = 0 ∨ (v < m_nx M ∧ x_asg (m_tg M v) 1010 = true)) :
    ∃ M' ds', F_J6_add M a v = some (1, M') ∧ AL M' a ds' (es ++ [v]) ∧ (ds' = ds ∨ m_nx M ≤ ds') ∧ Df (at1 a) n2 (fun x i => (x = a ∧ i = 4288) ∨ (x = ds ∧ 1334 ≤ ds)) M M' ∧ m_nx M' ≤ m_nx M + 1 ∧ GRw M M' ds ds' es.length := by
  obtain ⟨h1, h2, h3, h4, h5⟩ := h
  obtain ⟨A, hA⟩ : ∃ A, A = wI M a 4224 (cI M a 4224 + 1) := ⟨_, rfl⟩
  have dA : Df (at1 a) n2 (fun x i => (x = a ∧ i = 4288) ∨ (x = ds ∧ 1334 ≤ ds)) M A := by rw [hA]; exact Df.wI _ rfl
  have tA : ∀ x, m_tg A x = m_tg M x := fun x => by rw [hA]; rfl
  have lA : ∀ x, m_ln A x = m_ln M x := fun x => by rw [hA]; rfl
  have rA : ∀ x i, cR A x i = cR M x i := fun x i => by rw [hA]; rfl
  have nA : m_nx A = m_nx M := by rw [hA]; rfl
  have sA : m_sl A = m_sl M := by rw [hA]; rfl
  have cA : cI A a 4289 = iw (es.length : Nat) := by rw [hA, cI_wI, if_neg (by omega)]; exact h4
  have head : F_J6_add M a v = (F_J6_add_2 A a v ds (iw (es.length : Nat))).bind fun z6 => some (1, z6) := by
    unfold F_J6_add
    simp only [gi_of h2 (show x_fi 67 4224 = true by decide), pi_of _ h2 (show x_wi 67 4224 = true by decide) (fit_4224 _), ← hA, gr_of ((tA a).trans h2) (show x_fr 67 4288 = true by decide), gi_of ((tA a).trans h2) (show x_fi 67 4289 = true by decide), rA, h3, cA, vg_of ((tA a).trans h2) (show x_isa 67 67 = true by decide), Option.bind_some]
  have hvA : v = 0 ∨ x_asg (m_tg A v) 1010 = true := hv.imp id (fun q => by rw [tA]; exact q.2)
  -- the row is full: a new one
  have grow : ∀ (G : Mem) (ds' cap : Nat), Df n2 n2 n2 A G → m_nx G = m_nx A + 1 → ds' = m_nx A → m_tg G ds' = 1010 → m_ln G ds' = cap → es.length < cap → cap ≤ 200000 → m_sl G = m_sl A + cap → (∀ i, i < es.length → cR G ds' i = es.getD i 0) → ((es.length = 0 ∧ ds = 4 ∧ cap = 10) ∨ (1334 ≤ ds ∧ es.length = m_ln M ds ∧ cap = es.length + max 1 (es.length / 2))) → F_J6_add_2 A a v ds (iw (es.length : Nat)) = F_J6_add_2_b11 (wR G a 4288 ds') a v ds' (iw (es.length : Nat)) →
      ∃ M' ds', F_J6_add M a v = some (1, M') ∧ AL M' a ds' (es ++ [v]) ∧ (ds' = ds ∨ m_nx M ≤ ds') ∧ Df (at1 a) n2 (fun x i => (x = a ∧ i = 4288) ∨ (x = ds ∧ 1334 ≤ ds)) M M' ∧ m_nx M' ≤ m_nx M + 1 ∧ GRw M M' ds ds' es.length := by
    intro G ds' cap dG nG hds tG lG hc1 hc2 sG rG' hc3 hrun
    have u := dG.2.2 a (by omega)
    obtain ⟨M', f1, f2, f3, f4, f5⟩ := AL_put (N := wR G a 4288 ds') (a := a) (ds := ds') (es := es) (v := v) (by show a < m_nx G; omega) (u.1.trans ((tA a).trans h2)) (by rw [cR_wR, if_pos ⟨rfl, rfl⟩]) (by omega) (by show ds' < m_nx G; omega) (by omega) tG (by show es.length < m_ln G ds'; omega) (by show m_ln G ds' ≤ _; omega) (fun i hi => by rw [cR_wR, if_neg (fun q => by omega)]; exact rG' i hi) (by
      rcases hv with q | q
      · exact Or.inl q
      · right
        have w := dG.2.2 v (by omega)
        show x_asg (m_tg G v) 1010 = true
        rw [w.1, tA]
        exact q.2)
    have dW : Df (at1 a) n2 (fun x i => (x = a ∧ i = 4288) ∨ (x = ds ∧ 1334 ≤ ds)) M (wR G a 4288 ds') := (dA.trans (dG.mono (fun _ _ q => q.elim) (fun _ _ q => q) (fun _ _ q => q.elim))).trans (Df.wR _ (Or.inl ⟨rfl, rfl⟩))
    refine ⟨M', ds', ?_, f2, Or.inr (by omega), dW.then f3 (fun _ _ _ q => q) (fun _ _ _ q => q) (fun x i hx q => by unfold at1 at q; omega), by rw [f4]; show m_nx G ≤ _; omega, Or.inr ⟨by omega, by rw [f5, (f3.2.2 ds' (by show ds' < m_nx G; omega)).2.1]; show m_sl G = m_sl M + m_ln G ds'; omega, by rw [(f3.2.2 ds' (by show ds' < m_nx G; omega)).2.1]; show (es.length = 0 ∧ ds = 4 ∧ m_ln G ds' = 10) ∨ (1334 ≤ ds ∧ es.length = m_ln M ds ∧ m_ln G ds' = es.length + max 1 (es.length / 2)); rw [lG]; exact hc3⟩⟩
    rw [head, hrun, f1]
    rfl
  rcases h5 with ⟨q1, q2⟩ | ⟨q1, q2, q3, q4, q5, q6, q7, q8⟩
  · -- nothing yet
    have hes0 : es.length = 0 := by rw [q1]; rfl
    refine grow (m_new A 1010 10) (m_nx A) 10 (Df.new _ _) rfl rfl (by rw [tg_new, if_pos rfl]) (by rw [ln_new, if_pos rfl]) (by omega) (by decide) rfl (fun i hi => by omega) (Or.inl ⟨hes0, q2, rfl⟩) ?_
    have an4 : an A 4 = some (iw ((0 : Nat) : Int)) := an_of ((tA 4).trans k4.1) (by decide) ((lA 4).trans k4.2)
    have i00 : iw ((0 : Nat) : Int) = 0 := rfl
    have tG : m_tg (m_new A 1010 10) a = 67 := by rw [tg_new, if_neg (by omega)]; exact (tA a).trans h2
    have ac4 : ac 4 4 = true := by decide
    have mx : F_J7_max 10 (iw ((0 : Nat) : Int) + 1) = some (iw ((10 : Nat) : Int)) := by rw [iw_succ]; exact J_max0 (x := 10) (y := 1) (by decide) (by decide)
    have h00 : ¬ (0 : Int32) < 0 := by decide
    have gr4 : F_J6_grow A a = some (m_nx A, wR (m_new A 1010 10) a 4288 (m_nx A)) := by
      unfold F_J6_grow F_J6_grow_2
      simp only [gi_of ((tA a).trans h2) (show x_fi 67 4289 = true by decide), cA, hes0, vg_of ((tA a).trans h2) (show x_isa 67 67 = true by decide), gr_of ((tA a).trans h2) (show x_fr 67 4288 = true by decide), rA, h3, q2, an4, i00, h00, ac4, if_true, if_false, Option.bind_some]
      rw [← i00, mx]
      simp only [Option.bind_some]
      rw [mk_of (by decide)]
      simp only [Option.bind_some, pr_of _ tG (show x_wr 67 4288 = true by decide)]
    unfold F_J6_add_2
    rw [q2, an4]
    simp only [Option.bind_some]
    rw [hes0, if_pos rfl, vg_of ((tA a).trans h2) (show x_isa 67 67 = true by decide), gr4]
    rfl
  · have anD : an A ds = some (iw (m_ln M ds : Nat)) := an_of ((tA ds).trans q4) (by decide) (lA ds)
    by_cases cf : es.length = m_ln M ds
    · -- full
      obtain ⟨cap, hcap⟩ : ∃ cap, cap = es.length + max 1 (es.length / 2) := ⟨_, rfl⟩
      obtain ⟨G0, hG0⟩ : ∃ G0, G0 = m_new A 1010 cap := ⟨_, rfl⟩
      obtain ⟨G, hG⟩ : ∃ G, G = uR G0 (m_nx A) (va_cpy (cR G0 ds) (cR G0 (m_nx A)) 0 0 es.length) := ⟨_, rfl⟩
      have tG0 : m_tg G0 (m_nx A) = 1010 := by rw [hG0, tg_new, if_pos rfl]
      have lG0 : m_ln G0 (m_nx A) = cap := by rw [hG0, ln_new, if_pos rfl]
      have tD : m_tg G0 ds = 1010 := by rw [hG0, tg_new, if_neg (by omega)]; exact (tA ds).trans q4
      have lD : m_ln G0 ds = m_ln M ds := by rw [hG0, ln_new, if_neg (by omega)]; exact lA ds
      have rD : ∀ i, cR G0 ds i = cR M ds i := fun i => by rw [hG0, cR_new, if_neg (by omega)]; exact rA ds i
      have i00 : iw ((0 : Nat) : Int) = 0 := rfl
      have tGa : m_tg G a = 67 := by
        have : m_tg G a = m_tg G0 a := by rw [hG]; rfl
        rw [this, hG0, tg_new, if_neg (by omega)]
        exact (tA a).trans h2
      have hes : 0 < es.length := by omega
      have dG : Df n2 n2 n2 A G := by
        refine ⟨by rw [hG, hG0]; show m_nx A ≤ m_nx A + 1; omega, by rw [hG, hG0]; show m_sl A ≤ m_sl A + cap; omega, fun x hx => ⟨?_, ?_, fun i => ⟨fun _ => ?_, fun _ => ?_, fun _ => ?_⟩⟩⟩
        · have : m_tg G x = m_tg G0 x := by rw [hG]; rfl
          rw [this, hG0, tg_new, if_neg (by omega)]
        · have : m_ln G x = m_ln G0 x := by rw [hG]; rfl
          rw [this, hG0, ln_new, if_neg (by omega)]
        · have : cI G x i = cI G0 x i := by rw [hG]; rfl
          rw [this, hG0, cI_new, if_neg (by omega)]
        · have : cJ G x i = cJ G0 x i := by rw [hG]; rfl
          rw [this, hG0]
          exact (Df.new (P := n2) (Q := n2) (R := n2) (M := A) 1010 cap).cJ hx (fun q => q)
        · have : cR G x i = cR G0 x i := by
            rw [hG]
            show (if x = m_nx A then _ else cR G0 x) i = _
            rw [if_neg (by omega)]
          rw [this, hG0, cR_new, if_neg (by omega)]
      have e0 : (0 : Int32).toNatClampNeg = 0 := rfl
      have eN : (iw (es.length : Nat)).toNatClampNeg = es.length := by rw [iw_clamp (by omega) (by omega)]; rfl
      have mc : m_copy G0 ds 0 (m_nx A) 0 (iw (es.length : Nat)) = some G := by
        unfold m_copy
        rw [e0, eN, if_pos ⟨by omega, by decide, by decide, by rw [iw_lt0 (by omega) (by omega)]; omega, by omega, by omega⟩, if_neg (fun q => by rcases q with ⟨q | q, -⟩ <;> rw [tD] at q <;> omega), if_pos ⟨Or.inl tD, tG0⟩, ← hG]
      have grw : F_J6_grow A a = some (m_nx A, wR G a 4288 (m_nx A)) := by
        have mk0 : mk A 1010 (iw (cap : Int)) = some G0 := by rw [hG0]; exact mk_of (by omega)
        have an0 : an G0 ds = some (iw (es.length : Nat)) := by rw [cf]; exact an_of tD (by decide) lD
        have mn : F_J7_min_2 (iw (es.length : Nat)) (iw (cap : Int)) = some (iw (es.length : Nat)) := by
          rw [J_min2 (by omega) (by omega), Nat.min_eq_left (by omega)]
        have nl' : F_J9_newLength (iw (es.length : Nat)) (iw (es.length : Nat) + 1 - iw (es.length : Nat)) (j_ishr (iw (es.length : Nat)) 1) = some (iw (cap : Int)) := by
          unfold F_J9_newLength
          rw [iw_succ, iw_nsub (by omega), ishr1 (by omega), show es.length + 1 - es.length = 1 by omega, J_max0 (by decide) (by omega)]
          simp only [Option.bind_some]
          rw [iw_nad, ← hcap, if_pos (by rw [show (0 : Int32) = iw ((0 : Nat) : Int) from rfl, iw_le4 (by omega) (by omega)]; omega), if_neg (by rw [show (2147483639 : Int32) = iw ((2147483639 : Nat) : Int) from rfl, iw_le4 (by omega) (by omega)]; omega)]
        have cp3 : F_J10_copyOf_2 A ds (iw (cap : Int)) = some (m_nx A, G) := by
          have g2 : gcl A ds = some 2 := by unfold gcl; rw [if_pos (Or.inl ((tA ds).trans q4))]
          have ac2 : ac 2 2 = true := by decide
          unfold F_J10_copyOf_2 F_J10_copyOf_3
          simp only [vg_of ((tA ds).trans q4) (show x_isa 1010 1010 = true by decide), g2, ac2, if_true, mk0, an0, mn, mc, Option.bind_some]
        have pz : (0 : Int32) < iw (m_ln M ds : Nat) := by rw [show (0 : Int32) = iw ((0 : Nat) : Int) from rfl, iw_le4 (by omega) (by omega)]; omega
        unfold F_J6_grow F_J6_grow_2 F_J6_grow_2_b20
        simp only [gi_of ((tA a).trans h2) (show x_fi 67 4289 = true by decide), cA, vg_of ((tA a).trans h2) (show x_isa 67 67 = true by decide), gr_of ((tA a).trans h2) (show x_fr 67 4288 = true by decide), rA, h3, anD, pz, if_true, Option.bind_some]
        rw [← cf, nl']
        simp only [cp3, pr_of _ tGa (show x_wr 67 4288 = true by decide), Option.bind_some]
      refine grow G (m_nx A) cap dG (by rw [hG, hG0]; rfl) rfl (by rw [hG]; exact tG0) (by rw [hG]; exact lG0) (by omega) (by omega) (by rw [hG, hG0]; rfl) (fun i hi => ?_) (Or.inr ⟨q1, cf, hcap⟩) ?_
      · rw [hG]
        show (if m_nx A = m_nx A then va_cpy (cR G0 ds) (cR G0 (m_nx A)) 0 0 es.length else _) i = _
        rw [if_pos rfl]
        unfold va_cpy
        rw [if_pos ⟨Nat.zero_le _, by omega⟩, Nat.zero_add, Nat.sub_zero, rD]
        exact q8 i hi
      · unfold F_J6_add_2
        rw [anD]
        simp only [Option.bind_some]
        rw [if_pos (by rw [cf]), vg_of ((tA a).trans h2) (show x_isa 67 67 = true by decide), grw]
        rfl
    · -- there is room
      obtain ⟨M', f1, f2, f3, f4, f5⟩ := AL_put (N := A) (a := a) (ds := ds) (es := es) (v := v) (by omega) ((tA a).trans h2) ((rA a 4288).trans h3) q1 (by omega) q3 ((tA ds).trans q4) (by rw [lA]; omega) (by rw [lA]; exact q7) (fun i hi => by rw [rA]; exact q8 i hi) hvA
      refine ⟨M', ds, ?_, f2, Or.inl rfl, dA.trans (f3.mono (fun _ _ q => q) (fun _ _ q => q) (fun x i q => Or.inr ⟨q, q1⟩)), by omega, Or.inl ⟨q1, rfl, by omega⟩⟩
      rw [head]
      unfold F_J6_add_2
      rw [anD]
      simp only [Option.bind_some]
      rw [if_neg (by rw [iw_eq (by omega) (by omega) (by omega) (by omega)]; omega), f1]
      rfl
/-- a list whose rows have cost no more than they should -/
def ALs (M : Mem) (a ds : Nat) (es : List Nat) (B : Nat) : Prop := AL M a ds es ∧ ((es.length = 0 ∧ ds = 4 ∧ m_sl M ≤ B) ∨ (1334 ≤ ds ∧ m_sl M ≤ B + 4 * m_ln M ds ∧ 2 * m_ln M ds ≤ 3 * es.length + 20))
theorem ALs.sl {M : Mem} {a ds B : Nat} {es : List Nat} (h : ALs M a ds es B) : m_sl M ≤ B + 6 * es.length + 40 := by
  rcases h.2 with q | q
  · omega
  · omega
theorem ALs.add {M : Mem} {a ds B : Nat} {es : List Nat} {v : Nat} (h : ALs M a ds es B) (h0 : 1334 ≤ m_nx M) (k4 : m_tg M 4 = 1091 ∧ m_ln M 4 = 0) (hl : es.length ≤ 60000) (hv : v = 0 ∨ (v < m_nx M ∧ x_asg (m_tg M v) 1010 = true)) :
    ∃ M' ds', F_J6_add M a v = some (1, M') ∧ ALs M' a ds' (es ++ [v]) B ∧ (ds' = ds ∨ m_nx M ≤ ds') ∧ Df (at1 a) n2 (fun x i => (x = a ∧ i = 4288) ∨ (x = ds ∧ 1334 ≤ ds)) M M' ∧ m_nx M' ≤ m_nx M + 1 := by
  obtain ⟨h1, h2⟩ := h
  obtain ⟨M', ds', f1, f2, f3, f4, f5, f6⟩ := h1.addA h0 k4 hl hv
  refine ⟨M', ds', f1, ⟨f2, Or.inr ?_⟩, f3, f4, f5⟩
  rw [List.length_append, List.length_singleton]
  have hln := h1.2.2.2.2
  rcases f6 with ⟨g1, g2, g3⟩ | ⟨g1, g2, g3⟩
  · have hd : ds < m_nx M ∧ es.length ≤ m_ln M ds := by
      rcases hln with q | q
      · omega
      · exact ⟨q.2.1, q.2.2.2.2.2.1⟩
    have e := (f4.2.2 ds hd.1).2.1
    rw [g2, e]
    rcases h2 with q | q
    · omega
    · exact ⟨g1, by omega, by omega⟩
  · refine ⟨g1, ?_, ?_⟩
    · rcases h2 with q | q
      · omega
      · omega
    · omega
