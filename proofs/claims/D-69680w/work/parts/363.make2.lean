/-! ===== GRIDS, 8: a new grid, the engine whole ===== -/
theorem E_make {M : Mem} {k : Int32} {n m w r : Nat} {z : Nat → Nat} (h : ST M) (hn : n ≤ 4) (hz : ∀ i, i < n → cI M 1062 i = iw (z i) ∧ z i ≤ 4096) (hp : prd z n ≤ 100000) (hm : m < 400) (hw : w + prd z n ≤ 100000) (k1 : cI M 1004 193 = iw m) (k2 : cI M 1004 194 = iw w) (hr : r = 0 ∨ (r ≠ 0 ∧ r ≠ 6 ∧ r < m_nx M ∧ m_tg M r = 1006 ∧ prd z n ≤ m_ln M r ∧ m_ln M r ≤ 100000)) :
    ∃ M', F_X2_make M 1004 k 1062 (iw (n : Int)) r = some (iw ((m + 1 : Nat) : Int), M') ∧ m_nx M' = m_nx M + 4 ∧ m_sl M' = m_sl M + (n + n + prd z n + x_cn 22) ∧ GE M' (m_nx M + 3) k n z (fun i => iw (sfx z n (n - 1 - i) : Nat)) 0 (m_nx M + 2) 0 ∧
      m_tg M' (m_nx M + 2) = 1006 ∧ m_ln M' (m_nx M + 2) = prd z n ∧ (∀ i, i < prd z n → cJ M' (m_nx M + 2) i = if r = 0 then 0 else cJ M r i) ∧ cI M' 1004 193 = iw ((m + 1 : Nat) : Int) ∧ cI M' 1004 194 = iw ((w + prd z n : Nat) : Int) ∧ cR M' 1005 (m + 1) = m_nx M + 3 ∧ Df pNE n2 (rNE m) M M' := by
  have h0 := h.1
  have r6 : r ≠ 6 := by
    rcases hr with e | e
    · rw [e]; decide
    · exact e.2.1
  have hrlt : r < m_nx M := by
    rcases hr with e | e
    · omega
    · exact e.2.2.1
  have hcnt := E_cnt (t1062 h) (l1062 h) (by decide) hn hz
  have ecn : cnt z n = iw (prd z n : Nat) := by unfold cnt; rw [if_neg (by omega)]
  rw [ecn] at hcnt
  obtain ⟨M2, hM2⟩ : ∃ M2, M2 = m_new (m_new M 1005 n) 1005 n := ⟨_, rfl⟩
  have d2 : Df n2 n2 n2 M M2 := by rw [hM2]; exact (Df.new _ _).trans (Df.new _ _)
  have n2' : m_nx M2 = m_nx M + 2 := by rw [hM2]; rfl
  have s2 : m_sl M2 = m_sl M + n + n := by rw [hM2]; rfl
  have h2 : ST M2 := h.n d2
  have tS : m_tg M2 (m_nx M) = 1005 := by rw [hM2, tg_new, if_neg (by show ¬ m_nx M = m_nx M + 1; omega), tg_new, if_pos rfl]
  have lS : m_ln M2 (m_nx M) = n := by rw [hM2, ln_new, if_neg (by show ¬ m_nx M = m_nx M + 1; omega), ln_new, if_pos rfl]
  have tT : m_tg M2 (m_nx M + 1) = 1005 := by rw [hM2, tg_new, if_pos (show m_nx M + 1 = m_nx (m_new M 1005 n) from rfl)]
  have lT : m_ln M2 (m_nx M + 1) = n := by rw [hM2, ln_new, if_pos (show m_nx M + 1 = m_nx (m_new M 1005 n) from rfl)]
  obtain ⟨M3, f1, f2, f3, f4, f5⟩ := E_fill (k := k) (r := r) (c5 := iw (prd z n : Nat)) (sa := m_nx M) (ta := m_nx M + 1) hn (fun i hi => (hz i hi).2) (by omega) (by omega) (by omega) n xN 0 M2 (by omega) (by have : xN = 1099511627776 := rfl; omega) h2 tS lS tT lT (fun i hi => by rw [d2.cI (by omega) (fun hh => hh)]; exact (hz i hi).1) (fun i a b => by omega)
  have h3 : ST M3 := h2.n f4
  have run1 : F_X2_make M 1004 k 1062 (iw (n : Int)) r = ((mk M3 1006 (iw (prd z n : Nat))).bind fun M12 => F_X2_make_b74 xN M12 1004 k (iw (n : Int)) r (iw (prd z n : Nat)) (m_nx M) (m_nx M + 1) (m_nx M3) 0) := by
    rw [← f1]
    unfold F_X2_make
    rw [hcnt]
    simp only [Option.bind_some]
    rw [mk_of (by omega)]
    simp only [Option.bind_some]
    rw [mk_of (by omega)]
    simp only [Option.bind_some]
    rw [← hM2, show (1 : Int32) = iw ((1 : Nat) : Int) from rfl, iw_sub, show (n : Int) - ((1 : Nat) : Int) = (n : Int) - 1 - ((0 : Nat) : Int) by omega]
    rfl
  rw [run1, mk_of (by omega)]
  simp only [Option.bind_some]
  obtain ⟨M4, hM4⟩ : ∃ M4, M4 = m_new M3 1006 (prd z n) := ⟨_, rfl⟩
  rw [← hM4]
  have d4 : Df n2 n2 n2 M3 M4 := by rw [hM4]; exact Df.new _ _
  have n3 : m_nx M3 = m_nx M + 2 := by omega
  have n4 : m_nx M4 = m_nx M + 3 := by rw [hM4]; show m_nx M3 + 1 = _; omega
  have s4 : m_sl M4 = m_sl M + n + n + prd z n := by rw [hM4]; show m_sl M3 + _ = _; omega
  have tC : m_tg M4 (m_nx M3) = 1006 := by rw [hM4, tg_new, if_pos rfl]
  have lC : m_ln M4 (m_nx M3) = prd z n := by rw [hM4, ln_new, if_pos rfl]
  have zC : ∀ x, cJ M4 (m_nx M3) x = 0 := fun x => by rw [hM4, cJ_new, if_pos rfl]
  -- the row keeps its longs
  have keepJ : ∀ a, a < m_nx M → ∀ x, cJ M4 a x = cJ M a x := fun a ha x => by
    rw [d4.cJ (by omega) (fun hh => hh), f4.cJ (by omega) (fun hh => hh), d2.cJ ha (fun hh => hh)]
  have keepT : ∀ a, a < m_nx M → m_tg M4 a = m_tg M a ∧ m_ln M4 a = m_ln M a := fun a ha => by
    have a1 := d4.2.2 a (by omega)
    have a2 := f4.2.2 a (by omega)
    have a3 := d2.2.2 a ha
    exact ⟨a1.1.trans (a2.1.trans a3.1), a1.2.1.trans (a2.2.1.trans a3.2.1)⟩
  obtain ⟨M5, g1, g2, g3, g4, g5⟩ := E_copy (k := k) (n := iw (n : Int)) (r := r) (sa := m_nx M) (ta := m_nx M + 1) (c := m_nx M3) (p := prd z n) hp r6 (by omega) (prd z n) xN 0 M4 (by omega) (by have : xN = 1099511627776 := rfl; omega) tC lC (fun hr0 => by
    rcases hr with e | e
    · exact absurd e hr0
    · rw [(keepT r hrlt).1, (keepT r hrlt).2]
      exact ⟨e.2.2.2.1, e.2.2.2.2.1, e.2.2.2.2.2⟩) (fun x hx => by omega) (fun _ => zC)
  rw [show (0 : Int32) = iw ((0 : Nat) : Int) from rfl, g1]
  have h4 : ST M4 := h3.n d4
  have h5 : ST M5 := h4.n g4
  have ci5 : ∀ a, a < m_nx M3 → ∀ i, cI M5 a i = cI M3 a i := fun a ha i => by rw [g4.cI (by omega) (fun hh => hh), d4.cI ha (fun hh => hh)]
  have tg5 : ∀ a, a < m_nx M3 → m_tg M5 a = m_tg M3 a ∧ m_ln M5 a = m_ln M3 a := fun a ha => by
    have a1 := g4.2.2 a (by omega)
    have a2 := d4.2.2 a ha
    exact ⟨a1.1.trans a2.1, a1.2.1.trans a2.2.1⟩
  have tg3 : ∀ a, a < m_nx M2 → m_tg M3 a = m_tg M2 a ∧ m_ln M3 a = m_ln M2 a := fun a ha => ⟨(f4.2.2 a ha).1, (f4.2.2 a ha).2.1⟩
  have irS : IRw M5 (m_nx M) n (fun i => iw (z i)) := ⟨by omega, by omega, by rw [(tg5 _ (by omega)).1, (tg3 _ (by omega)).1]; exact tS, by rw [(tg5 _ (by omega)).2, (tg3 _ (by omega)).2]; exact lS, fun i hi => by rw [ci5 _ (by omega)]; exact (f5 i hi).1⟩
  have irT : IRw M5 (m_nx M + 1) n (fun i => iw (sfx z n (n - 1 - i) : Nat)) := ⟨by omega, by omega, by rw [(tg5 _ (by omega)).1, (tg3 _ (by omega)).1]; exact tT, by rw [(tg5 _ (by omega)).2, (tg3 _ (by omega)).2]; exact lT, fun i hi => by rw [ci5 _ (by omega)]; exact (f5 i hi).2⟩
  have cc5 : ∀ i, cI M5 1004 i = cI M 1004 i := fun i => by rw [ci5 _ (by omega), f4.cI (by omega) (by omega), d2.cI (by omega) (fun hh => hh)]
  obtain ⟨M6, e1, e2, e3, e4, e5, e6, e7, e8⟩ := E_fin (k := k) (n := n) (sa := m_nx M) (ta := m_nx M + 1) (c := m_nx M3) (p := prd z n) (m := m) (w := w) (z := z) (s := fun i => iw (sfx z n (n - 1 - i) : Nat)) h5 hn hm hw (by rw [cc5]; exact k1) (by rw [cc5]; exact k2) irS irT ⟨by omega, by omega⟩
  have n5 : m_nx M5 = m_nx M + 3 := by omega
  have hcE : m_nx M3 = m_nx M + 2 := n3
  rw [n5, hcE] at e4
  rw [n5] at e7
  refine ⟨M6, e1, by omega, by omega, e4, ?_, ?_, fun i hi => ?_, e5, e6, e7, ?_⟩
  · rw [(e8.2.2 _ (by omega)).1, ← hcE, (g4.2.2 _ (by omega)).1, tC]
  · rw [(e8.2.2 _ (by omega)).2.1, ← hcE, (g4.2.2 _ (by omega)).2.1, lC]
  · rw [e8.cJ (by omega) (fun hh => hh), ← hcE, g5 i hi]
    by_cases hr0 : r = 0
    · rw [if_pos hr0, if_pos hr0]
    · rw [if_neg hr0, if_neg hr0, keepJ r hrlt]
  · -- nothing else
    refine ⟨by omega, by omega, fun a ha => ?_⟩
    have a1 := e8.2.2 a (by omega)
    have a2 := g4.2.2 a (by omega)
    have a3 := d4.2.2 a (by omega)
    have a4 := f4.2.2 a (by omega)
    have a5 := d2.2.2 a ha
    refine ⟨a1.1.trans (a2.1.trans (a3.1.trans (a4.1.trans a5.1))), a1.2.1.trans (a2.2.1.trans (a3.2.1.trans (a4.2.1.trans a5.2.1))), fun i => ⟨fun np => ?_, fun _ => ?_, fun nr => ?_⟩⟩
    · rw [(a1.2.2 i).1 np, (a2.2.2 i).1 (fun hh => hh), (a3.2.2 i).1 (fun hh => hh), (a4.2.2 i).1 (by omega), (a5.2.2 i).1 (fun hh => hh)]
    · rw [(a1.2.2 i).2.1 (fun hh => hh), (a2.2.2 i).2.1 (by omega), (a3.2.2 i).2.1 (fun hh => hh), (a4.2.2 i).2.1 (fun hh => hh), (a5.2.2 i).2.1 (fun hh => hh)]
    · rw [(a1.2.2 i).2.2 nr, (a2.2.2 i).2.2 (fun hh => hh), (a3.2.2 i).2.2 (fun hh => hh), (a4.2.2 i).2.2 (fun hh => hh), (a5.2.2 i).2.2 (fun hh => hh)]
/-- the engine's made: no room, or a new grid -/
theorem E_made {M : Mem} {k : Int32} {n m w r : Nat} {z : Nat → Nat} (h : ST M) (hn : n ≤ 4) (hz : ∀ i, i < n → cI M 1062 i = iw (z i) ∧ z i ≤ 4096) (ha : cI M 1000 89 = iw n) (hm : m ≤ 400) (hw : w ≤ 100000) (k1 : cI M 1004 193 = iw m) (k2 : cI M 1004 194 = iw w) (hr : prd z n ≤ 100000 → r = 0 ∨ (r ≠ 0 ∧ r ≠ 6 ∧ r < m_nx M ∧ m_tg M r = 1006 ∧ prd z n ≤ m_ln M r ∧ m_ln M r ≤ 100000)) :
    (room m w 1 (prd z n) = false ∧ F_X0_made M 1000 k r = some (-12, M)) ∨ (room m w 1 (prd z n) = true ∧ prd z n ≤ 100000 ∧ m < 400 ∧ w + prd z n ≤ 100000 ∧
    ∃ M', F_X0_made M 1000 k r = some (iw ((m + 1 : Nat) : Int), M') ∧ m_nx M' = m_nx M + 4 ∧ m_sl M' = m_sl M + (n + n + prd z n + x_cn 22) ∧ GE M' (m_nx M + 3) k n z (fun i => iw (sfx z n (n - 1 - i) : Nat)) 0 (m_nx M + 2) 0 ∧
      m_tg M' (m_nx M + 2) = 1006 ∧ m_ln M' (m_nx M + 2) = prd z n ∧ (∀ i, i < prd z n → cJ M' (m_nx M + 2) i = if r = 0 then 0 else cJ M r i) ∧ cI M' 1004 193 = iw ((m + 1 : Nat) : Int) ∧ cI M' 1004 194 = iw ((w + prd z n : Nat) : Int) ∧ cR M' 1005 (m + 1) = m_nx M + 3 ∧ Df pNE n2 (rNE m) M M') := by
  have hcnt := E_cnt (t1062 h) (l1062 h) (by decide) hn hz
  have hroom := E_room (z := z) (n := n) (g := 1) h hm hw (by decide) k1 k2
  have hroom : F_X2_hasRoom M 1004 1 (cnt z n) = some (mr (room m w 1 (prd z n))) := hroom
  cases hb : room m w 1 (prd z n) with
  | false =>
    left
    refine ⟨rfl, ?_⟩
    rw [hb] at hroom
    simp only [F_X0_made, g1000_68, g1000_88, g1000_89, v1004, h, ha, hcnt, hroom, Option.bind_some]
    rfl
  | true =>
    right
    have hd := of_decide_eq_true hb
    obtain ⟨M', e1, e2⟩ := E_make (k := k) h hn hz (by omega) (show m < 400 by omega) (by omega) k1 k2 (hr (by omega))
    refine ⟨rfl, by omega, by omega, by omega, M', ?_, e2⟩
    rw [hb] at hroom
    have mt : ¬ mr true = 0 := by decide
    simp only [F_X0_made, g1000_68, g1000_88, g1000_89, v1004, h, ha, hcnt, hroom, Option.bind_some, mt, if_false, e1]
