/-! ===== FORMULAS, 29: the engine's primary ===== -/
section
variable {B v0 n : Nat} {f : Nat → Int32} {re rp ru : Mem → Nat → Int32 → Option ((Nat × Mem) ⊕ (Nat × Mem))} {rb : Mem → Nat → Int32 → Int32 → Option ((Nat × Mem) ⊕ (Nat × Mem))}
/-- what stands for an inner reader: none if it may not go deeper -/
def InX (re : Mem → Nat → Int32 → Option ((Nat × Mem) ⊕ (Nat × Mem))) (B v0 : Nat) (f : Nat → Int32) (n : Nat) : Nat → Option PRs → Prop
  | 0, E => E = none
  | d + 1, E => ∃ p, E = some p ∧ SimX (fun M => re M v0 (iw ((25 - d : Nat) : Int))) p B v0 f n
theorem pPri_5 (E : Option PRs) {k : Nat} (hk : k ≤ n) (h5 : (tok f n k).kd = 5) : pPri E (tks f n k) = .inl (tok f n k).pl := by
  unfold pPri
  simp only [hdt_tks f hk]
  rw [if_neg (by rw [h5]; decide), if_neg (fun q => by rw [h5] at q; exact absurd q.1 (by decide)), if_neg (by rw [h5]; decide)]
theorem tok_tf {k : Nat} (h2 : (tok f n k).kd = 2) : (¬ 0 ≤ lnW (tok f n k).wd) ↔ ((tok f n k).wd = (cty 61).1 ∨ (tok f n k).wd = (cty 56).1) := by
  have ky := (tok_fact f n k).1 h2
  obtain ⟨l1, l2, -⟩ := lnW_tf
  constructor
  · intro q
    unfold isKy at ky
    rw [Bool.or_eq_true, Bool.or_eq_true, decide_eq_true_iff, decide_eq_true_iff, decide_eq_true_iff] at ky
    rcases ky with w | w | w
    · exact (q w).elim
    · exact Or.inl w
    · exact Or.inr w
  · rintro (q | q) w
    · rw [q, l1] at w; exact absurd w (by decide)
    · rw [q, l2] at w; exact absurd w (by decide)
theorem sgA_tf {s : Nat} (h : s ∈ sgA) : s ≠ 61 ∧ s ≠ 56 := by
  have hh : sgA.all (fun s => decide (s ≠ 61) && decide (s ≠ 56)) = true := by decide
  have := List.all_eq_true.mp hh s h
  simp only [Bool.and_eq_true, decide_eq_true_eq] at this
  exact this
theorem E_isT {M : Mem} {k : Nat} (h : SP M B v0 f n k) : F_X5_is M 1012 61 = some (mr (decide ((tok f n k).kd = 2 ∧ (tok f n k).wd = (cty 61).1))) ∧ F_X5_is M 1012 56 = some (mr (decide ((tok f n k).kd = 2 ∧ (tok f n k).wd = (cty 56).1))) := by
  have n1 : ¬ ((tok f n k).kd = 4 ∧ (tok f n k).sg = 61) := fun q => (sgA_tf ((tok_fact f n k).2.2.1 q.1)).1 q.2
  have n2 : ¬ ((tok f n k).kd = 4 ∧ (tok f n k).sg = 56) := fun q => (sgA_tf ((tok_fact f n k).2.2.1 q.1)).2 q.2
  rw [E_isG h (by decide) (by decide), E_isG h (by decide) (by decide), decide_eq_false n1, decide_eq_false n2, Bool.false_or, Bool.false_or]
  exact ⟨rfl, rfl⟩
theorem E_b75 {M : Mem} {k : Nat} (h : SP M B v0 f n k) (h2 : (tok f n k).kd = 2) : RE M B v0 f n k (F_X26_primary_b75 rp ru rb re M v0 (iw ((tok f n k).pl : Int))) (.inr (.lit (tok f n k).pl 0 (if (tok f n k).wd = (cty 61).1 then 1 else 0), (tks f n k).tail)) := by
  have kn0 : (tok f n k).kd ≠ 0 := by rw [h2]; decide
  have c0 := NCl.start M 31
  have hN := h.n2 c0.1
  unfold F_X26_primary_b75 F_X26_primary_b98
  simp only [hN.g, v1012, hN.st, (E_isT hN).1, h2, true_and, ng_of c0.2.2.2 (show (31 : Nat) ≠ 0 by decide), Option.bind_some]
  by_cases q : (tok f n k).wd = (cty 61).1
  · rw [decide_eq_true q, if_neg (show ¬ mr true = 0 by decide), if_pos q]
    exact E_litN h kn0 0 1
  · rw [decide_eq_false q, if_pos (show mr false = 0 by decide), if_neg q]
    exact E_litN h kn0 0 0
theorem E_primary {d : Nat} (hd : d ≤ 24) {E : Option PRs} (hE : InX re B v0 f n d E) : SimX (fun M => F_X26_primary_o rp ru rb re M v0 (iw ((25 - d : Nat) : Int))) (pPri E) B v0 f n := by
  refine ⟨fun k hk h5 => pPri_5 E hk h5, fun M k h => ?_⟩
  have hk := h.2.2.1
  have hS := h.st
  have n4 := h.len
  obtain ⟨hB1, hB2⟩ := h.2.2.2.2.1
  have hv := h.2.2.2.1.2.2
  unfold pPri
  simp only [hdt_tks f hk]
  show RE M B v0 f n k (F_X26_primary_o rp ru rb re M v0 (iw ((25 - d : Nat) : Int))) _
  unfold F_X26_primary_o
  simp only [h.g, g1012_388, g1012_387, v1012, hS, (E_isT h).1, (E_isT h).2, h.1.2.1, h.1.2.2.1, Option.bind_some]
  by_cases c3 : (tok f n k).kd = 3
  · rw [if_pos c3, if_pos c3]
    have c0 := NCl.start M 31
    have hN := h.n2 c0.1
    obtain ⟨r1, r2⟩ := hN.1.2.2.2.2.2.2 c3
    simp only [hN.g, g1012_391, g1012_392, hN.st, r1, r2, ng_of c0.2.2.2 (show (31 : Nat) ≠ 0 by decide), Option.bind_some]
    exact E_litN h (by rw [c3]; decide) _ _
  rw [if_neg c3, if_neg c3]
  by_cases c2 : (tok f n k).kd = 2 ∧ ¬ 0 ≤ lnW (tok f n k).wd
  · rw [if_pos c2]
    have tf := (tok_tf c2.1).mp c2.2
    by_cases q : (tok f n k).wd = (cty 61).1
    · rw [decide_eq_true (show (tok f n k).kd = 2 ∧ (tok f n k).wd = (cty 61).1 from ⟨c2.1, q⟩), if_neg (show ¬ mr true = 0 by decide)]
      exact E_b75 h c2.1
    · have q2 := tf.resolve_left q
      rw [decide_eq_false (fun w => q w.2), if_pos (show mr false = 0 by decide), decide_eq_true (show (tok f n k).kd = 2 ∧ (tok f n k).wd = (cty 56).1 from ⟨c2.1, q2⟩), if_neg (show ¬ mr true = 0 by decide)]
      exact E_b75 h c2.1
  rw [if_neg c2]
  have n61 : ¬ ((tok f n k).kd = 2 ∧ (tok f n k).wd = (cty 61).1) := fun q => c2 ⟨q.1, (tok_tf q.1).mpr (Or.inl q.2)⟩
  have n56 : ¬ ((tok f n k).kd = 2 ∧ (tok f n k).wd = (cty 56).1) := fun q => c2 ⟨q.1, (tok_tf q.1).mpr (Or.inr q.2)⟩
  rw [decide_eq_false n61, if_pos (show mr false = 0 by decide), decide_eq_false n56, if_pos (show mr false = 0 by decide)]
  unfold F_X5_name
  rw [g1012_387 hS, Option.bind_some, h.1.2.1]
  by_cases c1 : (tok f n k).kd = 1
  · have kn0 : (tok f n k).kd ≠ 0 := by rw [c1]; decide
    obtain ⟨t1, t2, t3, t4⟩ := tail_tks f hk kn0 h.2.1
    have t4' : LT f n k = LT f n (tok f n k).to + 1 := t4
    have hw : NmW M B (cR M 1012 390) (tok f n k).wd := h.1.2.2.2.2.1 (Or.inl c1)
    rw [if_pos c1, if_pos c1, g1012_390 hS, Option.bind_some, v1012 hS, Option.bind_some, t1, hdt_tks f t2]
    have eb : ∀ y : Nat × Mem → Option ((Nat × Mem) ⊕ (Nat × Mem)), tb (tb (F_X5_next M 1012) fun z4 => some (Sum.inl (cR M 1012 390, z4))) y = tb (F_X5_next M 1012) fun z4 => y (cR M 1012 390, z4) := fun y => by
      cases F_X5_next M 1012 with
      | none => rfl
      | some v => cases v <;> rfl
    rw [eb]
    refine RE.nx (WB.refl M f n k) h kn0 (fun h5 => ?_) (fun N wN wMN hN => ?_)
    · have n28 : isS (tok f n (tok f n k).to) 28 = false := by unfold isS; rw [h5]; simp
      rw [n28, if_neg (by decide)]
      exact Or.inr ⟨_, rfl, trivial, by show 1 + _ ≤ _; omega⟩
    · have hwN := hw.kk wMN.1 hB1
      have nN := wMN.1.1
      simp only [hN.g, v1012, hN.st, E_isS hN (show 28 ∈ sgB by decide), Option.bind_some]
      cases c28 : isS (tok f n (tok f n k).to) 28 with
      | false =>
        rw [if_pos (show mr false = 0 by decide), if_neg (show ¬ false = true by decide)]
        obtain ⟨O, e1, e2, e3⟩ := E_mkNam (M := N) (B := B) (tok f n k).pl hwN
        have x32 : x_cn 32 = 6 := by decide
        have g1 := e2.2.1
        have g2 := e2.2.2.1
        rw [ng_of (NCl.start N 32).2.2.2 (by decide), Option.bind_some, e1, Option.bind_some]
        refine ⟨trivial, (tok f n k).to, O, rfl, t2, by show 1 + _ ≤ _; omega, wN.new e2.1 (by omega) (by omega), hN.1.1.n2 e2.1, Or.inr ⟨hN.2.1, m_nx N, rfl, hN.n2 e2.1, NEx.mono _ e3 nN (Nat.le_refl _)⟩⟩
      | true =>
        rw [if_neg (show ¬ mr true = 0 by decide), if_pos rfl, hN.v, Option.bind_some]
        cases d with
        | zero =>
          have hE0 : E = none := hE
          rw [hE0, show iw ((25 - 0 : Nat) : Int) = iw ((25 : Nat) : Int) from rfl, E_deep0 hN]
          exact RE.err wN hN.1.1 t2 rfl
        | succ d =>
          obtain ⟨p, hp, hX⟩ := hE
          have kn2 : (tok f n (tok f n k).to).kd ≠ 0 := by rw [(isS_t.mp c28).1]; decide
          obtain ⟨u1, u2, u3, u4⟩ := tail_tks f t2 kn2 hN.2.1
          have u4' : LT f n (tok f n k).to = LT f n (tok f n (tok f n k).to).to + 1 := u4
          have l2 := LT_pos f u2
          rw [hp, E_deep1 hd, tb_l]
          simp only [hN.g, v1012, hN.st, Option.bind_some]
          rw [u1]
          show RE M B v0 f n k _ (pAr p (tok f n k).pl (tok f n k).wd (LT f n k) [] (tks f n (tok f n (tok f n k).to).to))
          refine RE.nx wN hN kn2 (fun h5 => ?_) (fun O wO wNO hO => ?_)
          · left
            obtain ⟨m', hm'⟩ : ∃ m', LT f n k = m' + 1 := ⟨LT f n k - 1, by omega⟩
            rw [hm']
            show pthen (p (tks f n (tok f n (tok f n k).to).to)) _ = _
            rw [hX.1 _ u2 h5]
            rfl
          · have nO := wNO.1.1
            have c0 := NCl.start O 67
            obtain ⟨A, hA⟩ : ∃ A, A = mo O 67 := ⟨_, rfl⟩
            rw [← hA] at c0
            have iA : cI A (m_nx O) 4289 = 0 := by rw [hA]; show cI (m_new O 67 _) _ _ = _; rw [cI_new, if_pos rfl]
            have x67 : x_cn 67 = 3 := by decide
            have g1 := c0.2.1
            have g2 := c0.2.2.1
            obtain ⟨C, i1, i2, i3, i4, i5, i6⟩ := AP.initN (c := 2) (by omega) c0.2.2.2 iA (by omega) (by decide) (by decide)
            have dOC : Df n2 n2 n2 O C := c0.1.then i3 (fun x i hx q => (show False by unfold at1 at q; omega)) (fun _ _ _ q => q) (fun x i hx q => (show False by unfold at1 at q; omega))
            have rcC : rcs C (m_nx A) = 8 := by unfold rcs; rw [if_neg (by omega), i6]
            have w2 := wO.2.1
            have w3 := wO.2.2
            rw [← hA, ng_of c0.2.2.2 (by decide), Option.bind_some, show F_J6_init A (m_nx O) 2 = some C from i1, Option.bind_some]
            have dMC : Df pK qK rK M C := wO.1.then dOC (fun _ _ _ q => q.elim) (fun _ _ _ q => q.elim) (fun _ _ _ q => q.elim)
            exact E_args hX (M0 := M) (k0 := k) (la := m_nx O) (by omega) (by omega) hk n4 hv.2 hB2 hB1 (LT f n k) xN [] [] C (tok f n (tok f n k).to).to (m_nx A) (m_nx M) (hO.n2 dOC) (by omega) (by have : xN = 1099511627776 := rfl; have := LT_le f n k; omega) dMC (by show _ + 19 * 0 + 20 ≤ _; omega) (by show _ + 150 * 0 + 150 ≤ _; omega) i2 (by omega) (by omega) (by omega) ⟨rfl, Nat.le_refl _⟩ (by omega) ((hwN.kk wNO.1 hB1).n2 dOC) (by show 0 + _ + 2 ≤ _; omega)
  · rw [if_neg c1, if_neg c1]
    have e := E_wrongK (α := Nat × Mem) hS
    rw [e]
    exact RE.err (WB.refl M f n k) h.1.1 hk (by rw [h.1.2.2.1]; rfl)
end
