/-! ===== FORMULAS, 16: the model's words ===== -/
section
variable {B0 M : Mem} {o lt lw n dt dw : Nat} {f : Nat → Int32} {et ew : List Nat} {ts : List Tok} {ws : List (List Int32)}
theorem CU.new {N : Mem} (h : CU B0 M o lt lw f n dt et dw ew ts ws) (d : Df n2 n2 n2 M N) : CU B0 N o lt lw f n dt et dw ew ts ws ∧ rcs N dt = rcs M dt ∧ rcs N dw = rcs M dw := by
  obtain ⟨⟨b1, b2, b3, b4, b5, b6⟩, ⟨o1, o2, o3⟩, ⟨x1, x2, x3, x4⟩, ⟨y1, y2⟩, ⟨p1, p2, p3⟩, ⟨q1, q2, q3⟩, r1, r2, ⟨t1, t2⟩, w1, w2⟩ := h
  have nn := b2.1
  have nT0 : nTk n2 n2 n2 M (m_nx B0) := fun x i _ _ _ => ⟨fun q => q, fun q => q, fun q => q⟩
  have tg4 := d.2.2 4 (by omega)
  have dn := d.1
  obtain ⟨a1, a2⟩ := p1.df d (fun q => q) (fun q => q) (fun _ _ q => q)
  obtain ⟨c1, c2⟩ := q1.df d (fun q => q) (fun q => q) (fun _ _ q => q)
  refine ⟨⟨⟨b1, b2.trans d, b3.df d (fun _ _ q => q), b4.df b3 d (fun _ _ _ q => q) (fun _ _ _ q => q), tg4.1.trans b5, tg4.2.1.trans b6⟩, ⟨o1, by omega, (d.2.2 o o2).1.trans o3⟩, ⟨by rw [d.cR o2 (fun q => q)]; exact x1, by rw [d.cI o2 (fun q => q)]; exact x2, x3, fun i hi => by rw [d.cI (by omega) (fun q => q)]; exact x4 i hi⟩, ⟨by rw [d.cR o2 (fun q => q)]; exact y1, by rw [d.cR o2 (fun q => q)]; exact y2⟩, ⟨a1, p2, p3⟩, ⟨c1, q2, q3⟩, r1, r2, ⟨t1, fun i hi => (t2 i hi).df d nT0⟩, w1, fun i hi => (w2 i hi).df d nT0⟩, a2, c2⟩
theorem CU.hs {N : Mem} {x : Nat} {v : List Int32} (h : CU B0 M o lt lw f n dt et dw ew ts ws) (hx : WDm M (m_nx B0) x v) (d : Df (pHs x) n2 n2 M N) (hv : HS N x v) : CU B0 N o lt lw f n dt et dw ew ts ws ∧ rcs N dt = rcs M dt ∧ rcs N dw = rcs M dw := by
  obtain ⟨⟨b1, b2, b3, b4, b5, b6⟩, ⟨o1, o2, o3⟩, ⟨x1, x2, x3, x4⟩, ⟨y1, y2⟩, ⟨p1, p2, p3⟩, ⟨q1, q2, q3⟩, r1, r2, ⟨t1, t2⟩, w1, w2⟩ := h
  have nn := b2.1
  have hx76 := hx.1.2.1
  have hxB := hx.1.2.2.1.1
  have ne : ∀ a, m_tg M a ≠ 76 → a ≠ x := fun a q e => q (by rw [e]; exact hx76)
  have tg4 := d.2.2 4 (by omega)
  have dn := d.1
  have ax : ∀ a i, m_tg M a ≠ 76 → ¬ pHs x a i := fun a i q w => ne a q w.1
  obtain ⟨a1, a2⟩ := p1.df d (ax _ _ (by rw [p1.1.2.1]; decide)) (fun q => q) (fun _ _ q => q)
  obtain ⟨c1, c2⟩ := q1.df d (ax _ _ (by rw [q1.1.2.1]; decide)) (fun q => q) (fun _ _ q => q)
  refine ⟨⟨⟨b1, b2.then d (fun y i hy q => (show False by have := q.1; omega)) (fun _ _ _ q => q) (fun _ _ _ q => q), b3.df d (fun _ _ q => q), b4.df b3 d (fun a i q w => (show False by have := w.1; omega)) (fun _ _ _ q => q), tg4.1.trans b5, tg4.2.1.trans b6⟩, ⟨o1, by omega, (d.2.2 o o2).1.trans o3⟩, ⟨by rw [d.cR o2 (fun q => q)]; exact x1, by rw [d.cI o2 (ax _ _ (by rw [o3]; decide))]; exact x2, x3, fun i hi => by rw [d.cI (by omega) (fun q => (show False by have := q.1; omega))]; exact x4 i hi⟩, ⟨by rw [d.cR o2 (fun q => q)]; exact y1, by rw [d.cR o2 (fun q => q)]; exact y2⟩, ⟨a1, p2, p3⟩, ⟨c1, q2, q3⟩, r1, r2, ⟨t1, fun i hi => (t2 i hi).hs hx d hv⟩, w1, fun i hi => (w2 i hi).hs hx d hv⟩, a2, c2⟩
/-- a word is added -/
theorem CU.addw (h : CU B0 M o lt lw f n dt et dw ew ts ws) {s : Nat} {w : List Int32} (hs : WDm M (m_nx B0) s w) (hl : ws.length ≤ 50000) : ∃ M' dw', F_J6_add M lw s = some (1, M') ∧ CU B0 M' o lt lw f n dt et dw' (ew ++ [s]) ts (ws ++ [w]) ∧ WDm M' (m_nx B0) s w ∧ m_nx M' ≤ m_nx M + 1 ∧ m_sl M' + rcs M dt + rcs M dw ≤ m_sl M + rcs M' dt + rcs M' dw' := by
  obtain ⟨⟨b1, b2, b3, b4, b5, b6⟩, ⟨o1, o2, o3⟩, ⟨x1, x2, x3, x4⟩, ⟨y1, y2⟩, ⟨p1, p2, p3⟩, ⟨q1, q2, q3⟩, r1, r2, ⟨t1, t2⟩, w1, w2⟩ := h
  have nn := b2.1
  obtain ⟨M', ds', e1, e2, e3, e4, e5, e6, e7⟩ := q1.add (v := s) (by omega) ⟨b5, b6⟩ (by omega) (Or.inr ⟨hs.1.2.2.1.2, by rw [hs.1.2.1]; decide⟩)
  have lto : m_tg M lw = 67 := q1.1.2.1
  have dtg := p1.1.tg
  have dwg := q1.1.tg
  have dM : Df n2 n2 n2 B0 M' := b2.then e4 (fun x i hx q => (show False by unfold at1 at q; omega)) (fun _ _ _ q => q) (fun x i hx q => (show False by rcases q with q | q; omega; have := q3 q.2; omega))
  have nT1 : nTk (at1 lw) n2 (fun x i => (x = lw ∧ i = 4288) ∨ (x = dw ∧ 1334 ≤ dw)) M (m_nx B0) := fun x i x1 x2 x3 => by
    refine ⟨fun q => ?_, fun q => q, fun q => ?_⟩
    · unfold at1 at q; rw [q, lto] at x3; omega
    · rcases q with q | q
      · rw [q.1, lto] at x3; omega
      · rw [q.1, (dwg.2 q.2).1] at x3; omega
  have olt : o ≠ lw := fun q => by rw [← q, o3] at lto; exact absurd lto (by decide)
  have odt : ¬ (o = dw ∧ 1334 ≤ dw) := fun q => by have := (dwg.2 q.2).1; rw [← q.1, o3] at this; exact absurd this (by decide)
  have rO : ∀ i, cR M' o i = cR M o i := fun i => e4.cR (by omega) (fun q => by rcases q with q | q; exact olt q.1; exact odt q)
  obtain ⟨aw6, rw6⟩ := p1.df e4 (fun q => r1 q) (fun q => by
    rcases q with q | q
    · exact r1 q.1
    · have := (dwg.2 q.2).1; rw [← q.1, dtg.1] at this; exact absurd this (by decide)) (fun i hd q => by
    rcases q with q | q
    · have := (dtg.2 hd).1; rw [q.1, lto] at this; exact absurd this (by decide)
    · have := r2 q.1; omega)
  have sM' : ST M' := b3.df e4 (fun p hp q => by
    have := stR_lt p hp
    rcases q with q | q
    · omega
    · have := q3 q.2; omega)
  have kM' : K0 M' := b4.df b3 e4 (fun a i q w => by unfold at1 at w; omega) (fun a i q w => by
    rcases w with w | w
    · omega
    · have := q3 w.2; omega)
  have tg4' := e4.2.2 4 (by omega)
  refine ⟨M', ds', e1, ⟨⟨b1, dM, sM', kM', tg4'.1.trans b5, tg4'.2.1.trans b6⟩, ⟨o1, by have := e4.1; omega, (e4.2.2 o o2).1.trans o3⟩, ⟨by rw [rO]; exact x1, by rw [e4.cI o2 (fun q => olt q)]; exact x2, x3, fun i hi => by rw [e4.cI (by omega) (fun q => by unfold at1 at q; omega)]; exact x4 i hi⟩, ⟨by rw [rO]; exact y1, by rw [rO]; exact y2⟩, ⟨aw6, p2, p3⟩, ⟨e2, q2, fun _ => by rcases e3 with q | q; rw [q] at e7 ⊢; exact q3 e7; omega⟩, r1, fun q => ?_, ⟨t1, fun i hi => (t2 i hi).df e4 nT1⟩, ?_, fun i hi => ?_⟩, hs.df e4 nT1, by omega, by omega⟩
  · rcases e3 with w | w
    · rw [w] at q; exact r2 q
    · rcases p1.1.2.2.2.2 with z | z
      · omega
      · omega
  · rw [List.length_append, List.length_append, List.length_singleton, List.length_singleton, w1]
  · rw [List.length_append, List.length_singleton] at hi
    rcases Nat.lt_or_ge i ws.length with z | z
    · rw [getD_l z, getD_l (l := ew) (by omega)]
      exact (w2 i z).df e4 nT1
    · obtain rfl : i = ws.length := by omega
      rw [getD_r (Nat.le_refl _), getD_r (l := ew) (by omega), w1, Nat.sub_self]
      exact hs.df e4 nT1
/-- names' signs as they are looked at -/
theorem lk_sgs {a e j : Nat} (hb : ∀ i, i < n → bt (f i)) (h : ∀ i, a ≤ i → i < e → isNm f n i = true) (hj : j < e - a) : lk f n (a + j) = (sgs f a (e - a)).getD j 0 := by
  have q := h (a + j) (by omega) (by omega)
  have ql := isNm_lt q
  rw [sgs_bsl, bsl_get hj, lk_and ql]
  exact (nm_asc q (hb _ ql)).1.ok.1
/-- the model compares a word with one that was there -/
theorem M_spell47 (h : CU B0 M o lt lw f n dt et dw ew ts ws) {k2 : Mem → Nat → Int32 → Int32 → Int32 → Option (Nat × Mem)} {a e s : Nat} {v3 : Int32} {w : List Int32} (hw : WDm M (m_nx B0) s w) (h2 : e ≤ n) (h3 : ∀ i, a ≤ i → i < e → isNm f n i = true) (hl : w.length = e - a) (ha : a ≤ e) :
    ∀ (m N j : Nat), j + m = e - a → m + 1 ≤ N → F_X41_spelled_b47 k2 N M o (iw (a : Int)) (iw (e : Int)) v3 s 1 (iw ((a + j : Nat) : Int)) = F_X41_spelled_b89 k2 M o (iw (a : Int)) (iw (e : Int)) v3 s (pif (∀ i, j ≤ i → i < e - a → w.getD i 0 = (sgs f a (e - a)).getD i 0) 1 0) := by
  have n4 := h.2.2.1.2.2.1
  have hb : ∀ i, i < n → bt (f i) := fun i hi => (h.2.2.1.2.2.2 i hi).2
  intro m
  induction m with
  | zero =>
    intro N j hj hN
    obtain ⟨N', rfl⟩ : ∃ N', N = N' + 1 := ⟨N - 1, by omega⟩
    show F_X41_spelled_b47_st _ _ M o _ _ _ _ _ _ = _
    unfold F_X41_spelled_b47_st
    rw [if_neg (by decide), if_neg (by rw [iw_le4 (by omega) (by omega)]; omega), pif_pos (fun i h1 h2 => by omega)]
  | succ m ih =>
    intro N j hj hN
    obtain ⟨N', rfl⟩ : ∃ N', N = N' + 1 := ⟨N - 1, by omega⟩
    have R0 := ih N' (j + 1) (by omega) (by omega)
    have R1 : F_X41_spelled_b47 k2 N' M o (iw (a : Int)) (iw (e : Int)) v3 s 0 (iw ((a + j + 1 : Nat) : Int)) = F_X41_spelled_b89 k2 M o (iw (a : Int)) (iw (e : Int)) v3 s 0 := by
      obtain ⟨N2, rfl⟩ : ∃ N2, N' = N2 + 1 := ⟨N' - 1, by omega⟩
      show F_X41_spelled_b47_st _ _ M o _ _ _ _ _ _ = _
      unfold F_X41_spelled_b47_st
      rw [if_pos rfl]
    show F_X41_spelled_b47_st _ _ M o _ _ _ _ _ _ = _
    unfold F_X41_spelled_b47_st
    simp only [if_neg (show ¬ (1 : Int32) = 0 by decide), if_pos ((iw_le4 (show a + j ≤ 2147483647 by omega) (show e ≤ 2147483647 by omega)).mpr (by omega)), hw.1.1.vg, iw_nsub (show a ≤ a + j by omega), show a + j - a = j by omega, J_charAt hw.1.1 (show j < w.length by omega) (hw.2.2.1 j (by omega)), h.vg, M_code h (show a + j ≤ 100000 by omega), lk_sgs hb h3 (show j < e - a by omega), Option.bind_some, iw_succ, F_X41_spelled_b81]
    by_cases e1 : w.getD j 0 = (sgs f a (e - a)).getD j 0
    · rw [if_pos e1]
      show F_X41_spelled_b47 k2 N' M o _ _ _ _ 1 (iw ((a + j + 1 : Nat) : Int)) = _
      rw [show a + j + 1 = a + (j + 1) by omega, R0]
      congr 1
      by_cases x : ∀ i, j + 1 ≤ i → i < e - a → w.getD i 0 = (sgs f a (e - a)).getD i 0
      · rw [pif_pos x, pif_pos (fun i i1 i2 => by rcases Nat.lt_or_ge j i with y | y; exact x i y i2; rw [show i = j by omega]; exact e1)]
      · rw [pif_neg x, pif_neg (fun y => x (fun i i1 i2 => y i (by omega) i2))]
    · rw [if_neg e1, pif_neg (fun y => e1 (y j (Nat.le_refl _) (by omega)))]
      exact R1
theorem M_spell42 (h : CU B0 M o lt lw f n dt et dw ew ts ws) {k2 : Mem → Nat → Int32 → Int32 → Int32 → Option (Nat × Mem)} {a e s : Nat} {v3 : Int32} {w : List Int32} (hw : WDm M (m_nx B0) s w) (h2 : e ≤ n) (h3 : ∀ i, a ≤ i → i < e → isNm f n i = true) (ha : a ≤ e) :
    ((F_J15_length M s).bind fun z30 => if z30 = (iw (e : Int) - iw (a : Int)) then F_X41_spelled_b42 k2 M (1 : Int32) o (iw (a : Int)) (iw (e : Int)) v3 s else F_X41_spelled_b42 k2 M (0 : Int32) o (iw (a : Int)) (iw (e : Int)) v3 s) = F_X41_spelled_b89 k2 M o (iw (a : Int)) (iw (e : Int)) v3 s (pif (w = sgs f a (e - a)) 1 0) := by
  have n4 := h.2.2.1.2.2.1
  have hxN : xN = 1099511627776 := rfl
  have hw12 := hw.2.2.2
  rw [J_len hw.1.1, Option.bind_some, iw_nsub ha]
  unfold F_X41_spelled_b42
  have sl : (sgs f a (e - a)).length = e - a := sgs_len _ _ _
  by_cases q : w.length = e - a
  · rw [if_pos (by rw [q])]
    have R := M_spell47 (k2 := k2) (v3 := v3) h hw h2 h3 q ha (e - a) xN 0 (by omega) (by omega)
    rw [Nat.add_zero] at R
    rw [R]
    congr 1
    have hx := list_ext0 (x := w) (y := sgs f a (e - a)) (by rw [sl]; exact q)
    by_cases x : w = sgs f a (e - a)
    · rw [pif_pos x, pif_pos (fun i _ hi => hx.mpr x i (by omega))]
    · rw [pif_neg x, pif_neg (fun y => x (hx.mp (fun j hj => y j (Nat.zero_le _) (by omega))))]
  · rw [if_neg (by rw [iw_eq (by omega) (by omega) (by omega) (by omega)]; omega), pif_neg (fun y => q (by rw [y]; exact sl))]
    obtain ⟨N2, hN2⟩ : ∃ N2, xN = N2 + 1 := ⟨xN - 1, by omega⟩
    rw [hN2]
    show F_X41_spelled_b47_st _ _ M o _ _ _ _ _ _ = _
    unfold F_X41_spelled_b47_st
    rw [if_pos rfl]
end
