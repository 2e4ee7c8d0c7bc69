/-! ===== GRIDS, 10: a new grid, the model whole ===== -/
theorem M_fin {M : Mem} {k : Int32} {n sa c p m w : Nat} {z : Nat → Nat} (h : ST M) (hn : n ≤ 4) (hz : ∀ i, i < n → z i ≤ 4096) (hm : m < 400) (hw : w + p ≤ 100000) (k1 : cI M 1068 1093 = iw m) (k2 : cI M 1068 1094 = iw w) (hs : IRw M sa n (fun i => iw (z i))) (hc : 1334 ≤ c ∧ c < m_nx M) :
    ∃ M', F_X16_made_b44 M 1068 k sa (iw (p : Int)) c = some (iw ((m + 1 : Nat) : Int), M') ∧ m_nx M' = m_nx M + 2 ∧ m_sl M' = m_sl M + x_cn 23 + n ∧ GM M' (m_nx M) k n z (fun i => iw (mfx z n (n - 1 - i) : Nat)) 0 c 0 ∧ cI M' 1068 1093 = iw ((m + 1 : Nat) : Int) ∧ cI M' 1068 1094 = iw ((w + p : Nat) : Int) ∧ cR M' 1070 (m + 1) = m_nx M ∧ Df pNM n2 (rNM m) M M' := by
  have h0 := h.1
  obtain ⟨A, hA⟩ : ∃ A, A = m_nx M := ⟨_, rfl⟩
  obtain ⟨B, hB⟩ : ∃ B, B = mo (wI M 1068 1094 (iw ((w + p : Nat) : Int))) 23 := ⟨_, rfl⟩
  have nB : m_nx B = A + 1 := by rw [hB, hA]; rfl
  have sB : m_sl B = m_sl M + x_cn 23 := by rw [hB]; rfl
  have tB : m_tg B A = 23 := by
    rw [hB]
    show m_tg (m_new (wI M 1068 1094 (iw ((w + p : Nat) : Int))) 23 (x_cn 23)) A = 23
    rw [tg_new, if_pos (show A = m_nx (wI M 1068 1094 (iw ((w + p : Nat) : Int))) from hA)]
  have dB : Df (fun a i => a = 1068 ∧ i = 1094) n2 n2 M B := by
    rw [hB]
    exact (Df.wI (P := fun a i => a = 1068 ∧ i = 1094) (Q := n2) (R := n2) _ ⟨rfl, rfl⟩).trans (Df.new _ _)
  have cB : cI B 1068 1094 = iw ((w + p : Nat) : Int) := by
    rw [hB]
    show cI (m_new (wI M 1068 1094 (iw ((w + p : Nat) : Int))) 23 (x_cn 23)) 1068 1094 = _
    rw [cI_new, if_neg (by show ¬ 1068 = m_nx M; omega), cI_wI, if_pos ⟨rfl, rfl⟩]
  have hsB : IRw B sa n (fun i => iw (z i)) := hs.df dB (fun a i q1 q2 => by omega)
  obtain ⟨S, s1, s2, s3, s4, s5⟩ := M_strides hn hz hsB
  have tS : m_tg S A = 23 := (s4.2.2 A (by omega)).1.trans tB
  obtain ⟨O, hO⟩ : ∃ O, O = wI (wR (wI (wR (wR (wI S A 1472 k) A 1473 sa) A 1474 (m_nx B)) A 1475 0) A 1476 c) A 1477 0 := ⟨_, rfl⟩
  have i1 : F_X22_init S A k sa (m_nx B) 0 c 0 = some O := by rw [hO]; exact M_init tS (Or.inl rfl)
  have dO : Df (fun a i => a = 1068 ∧ i = 1094) n2 n2 M O := by
    refine ⟨by rw [hO]; show m_nx M ≤ m_nx S; omega, by rw [hO]; show m_sl M ≤ m_sl S; omega, fun b hb => ?_⟩
    have hne : ¬ b = A := by omega
    have a1 := dB.2.2 b hb
    have a2 := s4.2.2 b (by omega)
    refine ⟨?_, ?_, fun i => ⟨fun np => ?_, fun _ => ?_, fun _ => ?_⟩⟩
    · rw [hO]; show m_tg S b = _; exact a2.1.trans a1.1
    · rw [hO]; show m_ln S b = _; exact a2.2.1.trans a1.2.1
    · rw [hO]; simp only [cI_wI, cI_wR, hne, false_and, if_false]
      rw [(a2.2.2 i).1 (fun hh => hh), (a1.2.2 i).1 np]
    · rw [hO]; show cJ S b i = _
      rw [(a2.2.2 i).2.1 (fun hh => hh), (a1.2.2 i).2.1 (fun hh => hh)]
    · rw [hO]; simp only [cR_wI, cR_wR, hne, false_and, if_false]
      rw [(a2.2.2 i).2.2 (fun hh => hh), (a1.2.2 i).2.2 (fun hh => hh)]
  have hOst : ST O := h.n dO
  have tO : m_tg O A = 23 := by rw [hO]; exact tS
  have cO : cI O 1068 1093 = iw m := by rw [dO.cI (by omega) (by omega), k1]
  have u1 : iw (w : Int) + iw (p : Int) = iw ((w + p : Nat) : Int) := by rw [iw_add]; rfl
  have num := M_num (A := A) hOst hm cO tO
  have nO : m_nx O = m_nx M + 2 := by rw [hO]; show m_nx S = _; omega
  have run : F_X16_made_b44 M 1068 k sa (iw (p : Int)) c = some (iw ((m + 1 : Nat) : Int), wR (wI O 1068 1093 (iw ((m + 1 : Nat) : Int))) 1070 (m + 1) A) := by
    unfold F_X16_made_b44
    rw [g1068_1094 h, k2]
    simp only [Option.bind_some]
    rw [p1068_1094 h, u1]
    simp only [Option.bind_some]
    rw [← hB, s1]
    simp only [Option.bind_some]
    rw [show m_nx (wI M 1068 1094 (iw ((w + p : Nat) : Int))) = A from hA.symm, ng_of tS (by decide)]
    simp only [Option.bind_some]
    rw [i1]
    simp only [Option.bind_some]
    rw [v1068 hOst]
    simp only [Option.bind_some]
    rw [num]
    rfl
  have dF : Df pNM n2 (rNM m) M (wR (wI O 1068 1093 (iw ((m + 1 : Nat) : Int))) 1070 (m + 1) A) := (dO.mono (P' := pNM) (Q' := n2) (R' := rNM m) (fun a i q => ⟨q.1, Or.inr q.2⟩) (fun _ _ q => q) (fun _ _ q => q.elim)).trans ((Df.wI _ ⟨rfl, Or.inl rfl⟩).trans (Df.wR _ ⟨rfl, rfl⟩))
  refine ⟨_, run, nO, by rw [hO]; show m_sl S = _; omega, ?_, ?_, ?_, ?_, dF⟩
  · have nA4 : ¬ A = 1068 := by omega
    have nA5 : ¬ A = 1070 := by omega
    have e : ∀ i, cR (wR (wI O 1068 1093 (iw ((m + 1 : Nat) : Int))) 1070 (m + 1) A) A i = cR O A i := fun i => by rw [cR_wR, if_neg (fun hh => nA5 hh.1)]; rfl
    have f : ∀ i, cI (wR (wI O 1068 1093 (iw ((m + 1 : Nat) : Int))) 1070 (m + 1) A) A i = cI O A i := fun i => by rw [cI_wR, cI_wI, if_neg (fun hh => nA4 hh.1)]
    have q0 : qt pNM := fun a i q1 q2 => by unfold pNM at q2; omega
    rw [← hA]
    refine ⟨by omega, by show A < m_nx O; omega, tO, ?_, ?_, ?_, ?_, ?_, ?_⟩
    · rw [f, hO]; simp only [cI_wI, cI_wR, Nat.reduceEqDiff, and_false, if_false, and_self, if_true]
    · rw [e, show cR O A 1473 = sa by rw [hO]; simp only [cR_wI, cR_wR, Nat.reduceEqDiff, and_false, if_false, and_self, if_true]]
      exact hs.df dF q0
    · rw [e, show cR O A 1474 = m_nx B by rw [hO]; simp only [cR_wI, cR_wR, Nat.reduceEqDiff, and_false, if_false, and_self, if_true]]
      obtain ⟨x1, x2, x3, x4, x5⟩ := s5
      refine ⟨x1, by show m_nx B < m_nx O; omega, ?_, ?_, fun i hi => ?_⟩
      · show m_tg O (m_nx B) = _
        rw [hO]; exact x3
      · show m_ln O (m_nx B) = _
        rw [hO]; exact x4
      · rw [cI_wR, cI_wI, if_neg (by omega), hO]
        simp only [cI_wI, cI_wR, show ¬ m_nx B = A by omega, false_and, if_false]
        exact x5 i hi
    · rw [f, hO]; simp only [cI_wI, cI_wR, Nat.reduceEqDiff, and_false, if_false, and_self, if_true]
    · rw [e, hO]; simp only [cR_wI, cR_wR, and_self, if_true]
    · rw [f, hO]; simp only [cI_wI, and_self, if_true]
  · rw [cI_wR, cI_wI, if_pos ⟨rfl, rfl⟩]
  · rw [cI_wR, cI_wI, if_neg (by decide), hO]
    simp only [cI_wI, cI_wR, show ¬ 1068 = A by omega, false_and, if_false]
    rw [s4.cI (by omega) (fun hh => hh), cB]
  · rw [cR_wR, if_pos ⟨rfl, rfl⟩, hA]
/-- the model's made -/
theorem M_made {M : Mem} {k : Int32} {n m w r sa : Nat} {z : Nat → Nat} (h : ST M) (hn : n ≤ 4) (hz : ∀ i, i < n → z i ≤ 4096) (hs : IRw M sa n (fun i => iw (z i))) (hp : prd z n ≤ 100000) (hm : m < 400) (hw : w + prd z n ≤ 100000) (k1 : cI M 1068 1093 = iw m) (k2 : cI M 1068 1094 = iw w) (hr : r = 0 ∨ (r ≠ 0 ∧ r ≠ 6 ∧ r < m_nx M ∧ m_tg M r = 1006 ∧ prd z n ≤ m_ln M r ∧ m_ln M r ≤ 100000)) :
    ∃ M', F_X16_made M 1068 k sa r = some (iw ((m + 1 : Nat) : Int), M') ∧ m_nx M' = m_nx M + 3 ∧ m_sl M' = m_sl M + (prd z n + x_cn 23 + n) ∧ GM M' (m_nx M + 1) k n z (fun i => iw (mfx z n (n - 1 - i) : Nat)) 0 (m_nx M) 0 ∧
      m_tg M' (m_nx M) = 1006 ∧ m_ln M' (m_nx M) = prd z n ∧ (∀ i, i < prd z n → cJ M' (m_nx M) i = if r = 0 then 0 else cJ M r i) ∧ cI M' 1068 1093 = iw ((m + 1 : Nat) : Int) ∧ cI M' 1068 1094 = iw ((w + prd z n : Nat) : Int) ∧ cR M' 1070 (m + 1) = m_nx M + 1 ∧ Df pNM n2 (rNM m) M M' := by
  have h0 := h.1
  have r6 : r ≠ 6 := by
    rcases hr with e | e
    · rw [e]; decide
    · exact e.2.1
  have hrlt : r < m_nx M := by
    rcases hr with e | e
    · omega
    · exact e.2.2.1
  have hcnt := M_count16 (n := n) (z := z) hs.2.2.1 hs.2.2.2.1 (Nat.le_refl _) hn (fun i hi => ⟨hs.2.2.2.2 i hi, hz i hi⟩)
  obtain ⟨M4, hM4⟩ : ∃ M4, M4 = m_new M 1006 (prd z n) := ⟨_, rfl⟩
  have d4 : Df n2 n2 n2 M M4 := by rw [hM4]; exact Df.new _ _
  have n4 : m_nx M4 = m_nx M + 1 := by rw [hM4]; rfl
  have s4 : m_sl M4 = m_sl M + prd z n := by rw [hM4]; rfl
  have tC : m_tg M4 (m_nx M) = 1006 := by rw [hM4, tg_new, if_pos rfl]
  have lC : m_ln M4 (m_nx M) = prd z n := by rw [hM4, ln_new, if_pos rfl]
  have zC : ∀ x, cJ M4 (m_nx M) x = 0 := fun x => by rw [hM4, cJ_new, if_pos rfl]
  obtain ⟨M5, g1, g2, g3, g4, g5⟩ := M_copy (k := k) (r := r) (sa := sa) (c := m_nx M) (p := prd z n) hp r6 (by omega) (prd z n) xN 0 M4 (by omega) (by have : xN = 1099511627776 := rfl; omega) tC lC (fun hr0 => by
    rcases hr with e | e
    · exact absurd e hr0
    · rw [(d4.2.2 r hrlt).1, (d4.2.2 r hrlt).2.1]
      exact ⟨e.2.2.2.1, e.2.2.2.2.1, e.2.2.2.2.2⟩) (fun x hx => by omega) (fun _ => zC)
  have h4 : ST M4 := h.n d4
  have h5 : ST M5 := h4.n g4
  have ci5 : ∀ a, a < m_nx M → ∀ i, cI M5 a i = cI M a i := fun a ha i => by rw [g4.cI (by omega) (fun hh => hh), d4.cI ha (fun hh => hh)]
  have hs5 : IRw M5 sa n (fun i => iw (z i)) := (hs.df d4 qt_n2).df g4 qt_n2
  obtain ⟨M6, e1, e2, e3, e4, e5, e6, e7, e8⟩ := M_fin (k := k) (n := n) (sa := sa) (c := m_nx M) (p := prd z n) (m := m) (w := w) (z := z) h5 hn hz hm hw (by rw [ci5 _ (by omega)]; exact k1) (by rw [ci5 _ (by omega)]; exact k2) hs5 ⟨by omega, by omega⟩
  have n5 : m_nx M5 = m_nx M + 1 := by omega
  rw [n5] at e4 e7
  refine ⟨M6, ?_, by omega, by omega, e4, ?_, ?_, fun i hi => ?_, e5, e6, e7, ?_⟩
  · rw [← e1, ← g1]
    unfold F_X16_made
    rw [an_of hs.2.2.1 (by decide) hs.2.2.2.1]
    simp only [Option.bind_some]
    rw [hcnt]
    simp only [Option.bind_some]
    rw [nl_i32', mk_of (by omega)]
    simp only [Option.bind_some]
    rw [← hM4]
    rfl
  · rw [(e8.2.2 _ (by omega)).1, (g4.2.2 _ (by omega)).1, tC]
  · rw [(e8.2.2 _ (by omega)).2.1, (g4.2.2 _ (by omega)).2.1, lC]
  · rw [e8.cJ (by omega) (fun hh => hh), g5 i hi]
    by_cases hr0 : r = 0
    · rw [if_pos hr0, if_pos hr0]
    · rw [if_neg hr0, if_neg hr0, d4.cJ hrlt (fun hh => hh)]
  · refine ⟨by omega, by omega, fun a ha => ?_⟩
    have a1 := e8.2.2 a (by omega)
    have a2 := g4.2.2 a (by omega)
    have a3 := d4.2.2 a ha
    refine ⟨a1.1.trans (a2.1.trans a3.1), a1.2.1.trans (a2.2.1.trans a3.2.1), fun i => ⟨fun np => ?_, fun _ => ?_, fun nr => ?_⟩⟩
    · rw [(a1.2.2 i).1 np, (a2.2.2 i).1 (fun hh => hh), (a3.2.2 i).1 (fun hh => hh)]
    · rw [(a1.2.2 i).2.1 (fun hh => hh), (a2.2.2 i).2.1 (by omega), (a3.2.2 i).2.1 (fun hh => hh)]
    · rw [(a1.2.2 i).2.2 nr, (a2.2.2 i).2.2 (fun hh => hh), (a3.2.2 i).2.2 (fun hh => hh)]
