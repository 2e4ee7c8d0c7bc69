/-! ===== FORMULAS, 17: the model spells a word ===== -/
section
variable {B0 M : Mem} {o lt lw n dt dw : Nat} {f : Nat → Int32} {et ew : List Nat} {ts : List Tok} {ws : List (List Int32)}
theorem M_spellN (h : CU B0 M o lt lw f n dt et dw ew ts ws) {a e : Nat} (h2 : e ≤ n) (h3 : ∀ i, a ≤ i → i < e → isNm f n i = true) (ha : a ≤ e) (h12 : e - a ≤ 12) (hl : ws.length ≤ 50000) : ∃ C z34 s M' dw', C = mo M 75 ∧ ng C (m_nx M) = some () ∧ F_J14_init_2 C (m_nx M) = some z34 ∧ F_X41_spelled_b114 xN z34 o (iw (e : Int)) (m_nx M) (iw (a : Int)) = some (s, M') ∧ CU B0 M' o lt lw f n dt et dw' (ew ++ [s]) ts (ws ++ [sgs f a (e - a)]) ∧ WDm M' (m_nx B0) s (sgs f a (e - a)) ∧ m_nx M' ≤ m_nx M + 60 ∧ m_sl M' + rcs M dt + rcs M dw ≤ m_sl M + 150 + rcs M' dt + rcs M' dw' := by
  have hxN : xN = 1099511627776 := rfl
  have n4 := h.2.2.1.2.2.1
  have hb : ∀ i, i < n → bt (f i) := fun i hi => (h.2.2.1.2.2.2 i hi).2
  have h1334 := h.1.1
  have hnx := h.1.2.1.1
  obtain ⟨C, hC⟩ : ∃ C, C = mo M 75 := ⟨_, rfl⟩
  have dC : Df n2 n2 n2 M C := by rw [hC]; exact Df.new _ _
  have tC : m_tg C (m_nx M) = 75 := by rw [hC]; show m_tg (m_new M 75 _) _ = _; rw [tg_new, if_pos rfl]
  have iC : cI C (m_nx M) 4739 = 0 := by rw [hC]; show cI (m_new M 75 _) _ _ = _; rw [cI_new, if_pos rfl]
  have nC : m_nx C = m_nx M + 1 ∧ m_sl C = m_sl M + 4 := by rw [hC]; exact ⟨rfl, rfl⟩
  obtain ⟨D, x1, x2, x3, x4, x5⟩ := BD.init2 (by omega) tC iC (by omega)
  have dD : Df n2 n2 n2 M D := dC.then x3 (fun x i hx q => (show False by unfold at1 at q; omega)) (fun _ _ _ q => q) (fun x i hx q => (show False by unfold at1 at q; omega))
  have loop : ∀ (m N i : Nat) (K : Mem), i + m = e - a → m + 1 ≤ N → NB M (m_nx M) (e - a) (fun i => f (a + i)) i K → ∃ K' N', F_X41_spelled_b114 N K o (iw (e : Int)) (m_nx M) (iw ((a + i : Nat) : Int)) = F_X41_spelled_b114 (N' + 1) K' o (iw (e : Int)) (m_nx M) (iw (e : Int)) ∧ NB M (m_nx M) (e - a) (fun i => f (a + i)) (e - a) K' := by
    intro m
    induction m with
    | zero =>
      intro N i K hi hN hK
      obtain ⟨N', rfl⟩ : ∃ N', N = N' + 1 := ⟨N - 1, by omega⟩
      obtain rfl : i = e - a := by omega
      exact ⟨K, N', by rw [show a + (e - a) = e by omega], hK⟩
    | succ m ih =>
      intro N i K hi hN hK
      obtain ⟨N', rfl⟩ : ∃ N', N = N' + 1 := ⟨N - 1, by omega⟩
      obtain ⟨K1, k1, k2⟩ := hK.step (by omega) (by omega) (show i < e - a by omega) (hb (a + i) (by omega))
      obtain ⟨K', N2, e1, e2⟩ := ih N' (i + 1) K1 (by omega) (by omega) k2
      refine ⟨K', N2, ?_, e2⟩
      rw [← e1]
      obtain ⟨ds, c, y1, y2, -⟩ := hK
      have cK := (h.new y2).1
      have LK := M_code cK (k := a + i) (by omega)
      rw [lk_and (show a + i < n by omega)] at LK
      show F_X41_spelled_b114_st (F_X41_spelled_b114 N') K _ _ _ _ = _
      unfold F_X41_spelled_b114_st
      simp only [if_pos ((iw_le4 (show a + i ≤ 2147483647 by omega) (show e ≤ 2147483647 by omega)).mpr (by omega)), cK.vg, LK, vg_of y1.2.1 (show x_isa 75 75 = true by decide), k1, Option.bind_some, iw_succ]
      rfl
  obtain ⟨K, N2, e1, ds, c, y1, y2, y3, y4, y5, y6, y7⟩ := loop (e - a) xN 0 D (by omega) (by omega) ⟨m_nx C, 16, x2, dD, Nat.le_refl _, by omega, by omega, by omega, by omega⟩
  rw [Nat.add_zero] at e1
  obtain ⟨G, g1, g2, g3, g4, ⟨u1, u2, u3⟩, g5, g6, g7⟩ := y1.str2 (by rw [bsl_len]; omega) (by have := y2.1; omega)
  have nK := y2.1
  rw [bsl_len] at g7
  have x76 : x_cn 76 = 4 := by decide
  obtain ⟨cK, -, -⟩ := h.new y2
  obtain ⟨cG, rG1, rG2⟩ := h.new (y2.trans g5)
  have asw : ascs (sgs f a (e - a)) := fun i hi => by
    rw [sgs_bsl, bsl_len] at hi
    unfold wf
    rw [sgs_bsl, bsl_get hi]
    have q := h3 (a + i) (by omega) (by omega)
    exact (nm_asc q (hb _ (isNm_lt q))).1
  have wG : WDm G (m_nx B0) (m_nx K) (sgs f a (e - a)) := ⟨⟨g2, g3, ⟨by omega, by omega⟩, by rw [g4]; omega, by rw [g4]; omega⟩, ⟨by rw [g4]; exact u1, Or.inl u2, Or.inl u3⟩, asw, by rw [sgs_len]; omega⟩
  obtain ⟨M', dw', w1, w2, w3, w4, w5⟩ := cG.addw wG hl
  have awM := w2.2.2.2.2.2.1.1.1
  have ll : (ew ++ [m_nx K]).length = ew.length + 1 := by rw [List.length_append, List.length_singleton]
  have wl := h.2.2.2.2.2.2.2.2.2.1
  have gt := awM.get (i := ew.length) (by omega)
  rw [getD_r (Nat.le_refl _), Nat.sub_self] at gt
  have sz := awM.size
  rw [ll] at sz
  refine ⟨C, D, m_nx K, M', dw', hC, ng_of tC (by decide), x1, ?_, w2, w3, by omega, by omega⟩
  rw [e1]
  show F_X41_spelled_b114_st _ K _ _ _ _ = _
  unfold F_X41_spelled_b114_st
  rw [if_neg (by rw [iw_le4 (by omega) (by omega)]; omega), gr_of cK.2.1.2.2 (show x_fr 42 2691 = true by decide), cK.2.2.2.1.2]
  simp only [vg_of y1.2.1 (show x_isa 75 75 = true by decide), g1, vg_of cG.2.2.2.2.2.1.1.1.2.1 (show x_isa 67 67 = true by decide), w1, gr_of w2.2.1.2.2 (show x_fr 42 2691 = true by decide), w2.2.2.2.1.2, vg_of awM.2.1 (show x_isa 67 67 = true by decide), sz, Option.bind_some]
  rw [show iw ((ew.length + 1 : Nat) : Int) - (1 : Int32) = iw (ew.length : Nat) by rw [show (1 : Int32) = iw ((1 : Nat) : Int) from rfl, iw_nsub (by omega), Nat.add_sub_cancel], gt]
  show (cc M' (m_nx K) 76).bind _ = _
  rw [cc_of w3.1.2.1 (show x_cast 76 76 = true by decide), Option.bind_some]
  rfl
theorem M_spelled (h : CU B0 M o lt lw f n dt et dw ew ts ws) {a e : Nat} (h2 : e ≤ n) (h3 : ∀ i, a ≤ i → i < e → isNm f n i = true) (ha : a ≤ e) (h12 : e - a ≤ 12) (hl : ws.length ≤ 50000) : ∃ s M' dw' ew' ws', F_X41_spelled M o (iw (a : Int)) (iw (e : Int)) = some (s, M') ∧ CU B0 M' o lt lw f n dt et dw' ew' ts ws' ∧ WDm M' (m_nx B0) s (sgs f a (e - a)) ∧ ws'.length ≤ ws.length + 1 ∧ m_nx M' ≤ m_nx M + 60 ∧ m_sl M' + rcs M dt + rcs M dw ≤ m_sl M + 150 + rcs M' dt + rcs M' dw' := by
  have hxN : xN = 1099511627776 := rfl
  have wl := h.2.2.2.2.2.2.2.2.2.1
  have al := h.2.2.2.2.2.1.1.1
  have loop : ∀ (m N k : Nat), k + m = ws.length → m + 1 ≤ N → ∃ s M' dw' ew' ws', F_X41_spelled_b2 N M o (iw (a : Int)) (iw (e : Int)) (iw (k : Int)) = some (s, M') ∧ CU B0 M' o lt lw f n dt et dw' ew' ts ws' ∧ WDm M' (m_nx B0) s (sgs f a (e - a)) ∧ ws'.length ≤ ws.length + 1 ∧ m_nx M' ≤ m_nx M + 60 ∧ m_sl M' + rcs M dt + rcs M dw ≤ m_sl M + 150 + rcs M' dt + rcs M' dw' := by
    intro m
    induction m with
    | zero =>
      intro N k hk hN
      obtain ⟨N', rfl⟩ : ∃ N', N = N' + 1 := ⟨N - 1, by omega⟩
      obtain ⟨C, z34, s, M', dw', y1, y2, y3, y4, y5, y6, y7, y8⟩ := M_spellN h h2 h3 ha h12 hl
      refine ⟨s, M', dw', _, _, ?_, y5, y6, by rw [List.length_append, List.length_singleton]; omega, y7, y8⟩
      rw [← y4]
      show F_X41_spelled_b2_st _ M o _ _ _ = _
      unfold F_X41_spelled_b2_st
      rw [gr_of h.2.1.2.2 (show x_fr 42 2691 = true by decide), h.2.2.2.1.2]
      simp only [vg_of al.2.1 (show x_isa 67 67 = true by decide), al.size, Option.bind_some]
      rw [if_neg (by rw [iw_le4 (by omega) (by omega)]; omega), ← y1]
      simp only [y2, y3, Option.bind_some]
    | succ m ih =>
      intro N k hk hN
      obtain ⟨N', rfl⟩ : ∃ N', N = N' + 1 := ⟨N - 1, by omega⟩
      obtain ⟨s, M', dw', ew', ws', i1, i2⟩ := ih N' (k + 1) (by omega) (by omega)
      have wk := h.2.2.2.2.2.2.2.2.2.2 k (by omega)
      have e0 : F_X41_spelled_b2 (N' + 1) M o (iw (a : Int)) (iw (e : Int)) (iw (k : Int)) = F_X41_spelled_b89 (F_X41_spelled_b2 N') M o (iw (a : Int)) (iw (e : Int)) (iw (k : Int)) (ew.getD k 0) (pif (ws.getD k [] = sgs f a (e - a)) 1 0) := by
        rw [← M_spell42 h wk h2 h3 ha]
        show F_X41_spelled_b2_st _ M o _ _ _ = _
        unfold F_X41_spelled_b2_st
        rw [gr_of h.2.1.2.2 (show x_fr 42 2691 = true by decide), h.2.2.2.1.2]
        simp only [vg_of al.2.1 (show x_isa 67 67 = true by decide), al.size, Option.bind_some, if_pos ((iw_le4 (show k ≤ 2147483647 by omega) (show ew.length ≤ 2147483647 by omega)).mpr (by omega)), al.get (show k < ew.length by omega), cc_of wk.1.2.1 (show x_cast 76 76 = true by decide), wk.1.1.vg]
        rfl
      rw [e0]
      unfold F_X41_spelled_b89
      by_cases q : ws.getD k [] = sgs f a (e - a)
      · rw [pif_pos q, if_neg (by decide)]
        exact ⟨_, M, dw, ew, ws, rfl, h, by rw [← q]; exact wk, by omega, by omega, by omega⟩
      · rw [pif_neg q, if_pos rfl]
        simp only [iw_succ]
        exact ⟨s, M', dw', ew', ws', i1, i2⟩
  exact loop ws.length xN 0 (by omega) (by omega)
end
