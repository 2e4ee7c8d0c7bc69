/-! ===== TABLES, 18: the model reads all lines; a new table ===== -/
theorem M_lines {B o tbl ln dn lc n C : Nat} {en : List Nat} {f : Nat → Int32} {ns : List (List Int32)} {hd : List (List Int32 × Bool)} (hC : C ≤ 16) (hns : ns.length = C) : ∀ (e N a L dc : Nat) (ec : List Nat) (cs : List (List Int32 × Bool)) (M : Mem), n + 1 ≤ a + e → MRl M B o tbl ln dn en lc dc ec f n a ns cs → cI M o 3462 = iw ((fla (hd ++ cs)).length : Nat) → m_tg M 4 = 1091 ∧ m_ln M 4 = 0 → ec.length + (n - a) ≤ 1280 → B ≤ m_nx M → 1 ≤ L → L ≤ 500 → match tls C f n e a L (hd ++ cs) with
    | .inl p => ∃ M1, F_X53_init_b37 (N + 1 + e) M o (iw (n : Int)) (iw (L : Int)) = some (.inr (m_nx M1, mT M1 1 (iw (p : Int)))) ∧ ST M1 ∧ Df (pTb B) n2 (pTb B) M M1 ∧ m_nx M1 ≤ m_nx M + 8 * (n - a) + 4 + 2 * n ∧ m_sl M1 ≤ m_sl M + 3600 * (n - a) + 5 * n + 60
    | .inr r => ∃ M1 dc' ec' cs', F_X53_init_b37 (N + 1 + e) M o (iw (n : Int)) (iw (L : Int)) = some (.inl M1) ∧ r.1 = hd ++ cs' ∧ MRl M1 B o tbl ln dn en lc dc' ec' f n n ns cs' ∧ cI M1 o 3462 = iw ((fla r.1).length : Nat) ∧ Df (pTb B) n2 (pTb B) M M1 ∧ m_nx M1 ≤ m_nx M + 8 * (n - a) ∧ m_sl M1 ≤ m_sl M + 3600 * (n - a)
  | 0, N, a, L, dc, ec, cs, M, he, h, _, _, _, _, _, _ => by have := h.1.1.2.2.2.2.2.2.2.1; omega
  | e + 1, N, a, L, dc, ec, cs, M, he, h, hby, k4, hec, hB, hL, hL5 => by
    have t := h.1.1
    have hS := t.2.2.2.2.2.2.2.2.1
    have hn := t.2.2.2.2.2.1
    have hna := t.2.2.2.2.2.2.2.1
    have hB0 := h.1.2.2.2.2.2.2.2.1
    have hs : F_X53_init_b37 (N + 1 + (e + 1)) M o (iw (n : Int)) (iw (L : Int)) = F_X53_init_b37_st (F_X53_init_b37 (N + 1 + e)) M o (iw (n : Int)) (iw (L : Int)) := rfl
    have hxN : xN = 1099511627776 := rfl
    unfold tls
    rw [hs]
    unfold F_X53_init_b37_st
    simp only [t.gn, Option.bind_some]
    by_cases c : a < n
    · rw [if_pos c, if_pos (show iw (a : Int) < iw (n : Int) by rw [iw_le4 (by omega) (by omega)]; exact c)]
      by_cases c5 : L = 500
      · rw [if_pos c5, if_pos (show iw (L : Int) = 500 by rw [c5]; rfl)]
        exact ⟨M, M_wrongT t _, hS, Df.refl _ _ _ _, by omega, by omega⟩
      · rw [if_neg c5, if_neg (show ¬ iw (L : Int) = 500 by rw [show (500 : Int32) = iw ((500 : Nat) : Int) from rfl, iw_eq (by omega) (by omega) (by omega) (by omega)]; omega)]
        obtain ⟨K, hK⟩ : ∃ K, K + 1 + (n + 1 - a) = xN := ⟨xN - 1 - (n + 1 - a), by omega⟩
        have el := M_line_l (B := B) (o := o) (tbl := tbl) (ln := ln) (dn := dn) (lc := lc) (n := n) (C := C) (en := en) (f := f) (ns := ns) (hd := hd) hC hns (n + 1 - a) K a 0 dc ec cs M (by omega) h hby (Nat.zero_le _) k4 hec hB
        rw [hK] at el
        rw [t.vg, Option.bind_some]
        have hline : F_X53_line M o = F_X53_line_b4 xN M o 1 (iw ((0 : Nat) : Int)) := rfl
        rw [← hline] at el
        cases ht : tln false C f n (n + 1 - a) a 0 (hd ++ cs) with
        | inl p =>
          rw [ht] at el
          obtain ⟨M1, f1, f2, f3, f4, f5⟩ := el
          refine ⟨M1, ?_, f2, f3, f4, f5⟩
          rw [f1]
          rfl
        | inr q =>
          rw [ht] at el
          obtain ⟨M1, dc', ec', cs', f1, f2, f3, f4, f5, f6, f7, f8⟩ := el
          obtain ⟨l1, l2, -⟩ := tln_len _ _ _ _ _ hna (Nat.zero_le _) ht
          have nn := f6.1
          have ih := M_lines (B := B) (o := o) (tbl := tbl) (ln := ln) (dn := dn) (lc := lc) (n := n) (C := C) (en := en) (f := f) (ns := ns) (hd := hd) hC hns e N q.2 (L + 1) dc' ec' cs' M1 (by omega) f3 (by rw [← f2]; exact f4) ⟨(f6.2.2 4 (by omega)).1.trans k4.1, (f6.2.2 4 (by omega)).2.1.trans k4.2⟩ f5 (by omega) (by omega) (by omega)
          simp only []
          rw [f1, tb_l, iw_succ, f2]
          cases hT : tls C f n e q.2 (L + 1) (hd ++ cs') with
          | inl p =>
            rw [hT] at ih
            obtain ⟨M2, i1, i2, i3, i4, i5⟩ := ih
            exact ⟨M2, i1, i2, f6.trans i3, by omega, by omega⟩
          | inr u =>
            rw [hT] at ih
            obtain ⟨M2, dc2, ec2, cs2, i1, i2, i3, i4, i5, i6, i7⟩ := ih
            exact ⟨M2, dc2, ec2, cs2, i1, i2, i3, i4, f6.trans i5, by omega, by omega⟩
    · rw [if_neg c, if_neg (show ¬ iw (a : Int) < iw (n : Int) by rw [iw_le4 (by omega) (by omega)]; exact c)]
      have e2 : a = n := by omega
      exact ⟨M, dc, ec, cs, rfl, rfl, by rw [e2] at h; exact h, hby, Df.refl _ _ _ _, by omega, by omega⟩
/-- a new table with its two lists -/
theorem M_mktab {M : Mem} (h0 : 1334 ≤ m_nx M) : ∃ A, F_X54_init (mo M 55) (m_nx M) = some A ∧ ng (mo M 55) (m_nx M) = some () ∧ Df n2 n2 n2 M A ∧ m_nx A = m_nx M + 3 ∧ m_sl A ≤ m_sl M + 60 ∧ m_tg A (m_nx M) = 55 ∧ cR A (m_nx M) 3520 = m_nx M + 1 ∧ cR A (m_nx M) 3521 = m_nx M + 2 ∧ AL A (m_nx M + 1) 4 [] ∧ AL A (m_nx M + 2) 4 [] := by
  have x55 : x_cn 55 ≤ 20 := by decide
  have x67 : x_cn 67 ≤ 20 := by decide
  obtain ⟨o, ho⟩ : ∃ o, o = m_nx M := ⟨_, rfl⟩
  obtain ⟨A0, hA0⟩ : ∃ A0, A0 = mo M 55 := ⟨_, rfl⟩
  have d0 : Df n2 n2 n2 M A0 := hA0 ▸ Df.new _ _
  have n0 : m_nx A0 = o + 1 := by rw [hA0, ho]; rfl
  have l0 : m_sl A0 ≤ m_sl M + 20 := by rw [hA0]; show m_sl M + x_cn 55 ≤ _; omega
  have t0 : m_tg A0 o = 55 := by rw [hA0, ho]; show m_tg (m_new M 55 (x_cn 55)) (m_nx M) = 55; exact tg_new.trans (if_pos rfl)
  obtain ⟨A1, hA1⟩ : ∃ A1, A1 = mo A0 67 := ⟨_, rfl⟩
  have d1 : Df n2 n2 n2 A0 A1 := hA1 ▸ Df.new _ _
  have n1 : m_nx A1 = o + 2 := by rw [hA1]; show m_nx A0 + 1 = _; omega
  have l1 : m_sl A1 ≤ m_sl A0 + 20 := by rw [hA1]; show m_sl A0 + x_cn 67 ≤ _; omega
  have t1 : m_tg A1 (o + 1) = 67 := by rw [hA1, ← n0]; show m_tg (m_new A0 67 (x_cn 67)) (m_nx A0) = 67; exact tg_new.trans (if_pos rfl)
  have z1 : cI A1 (o + 1) 4289 = 0 := by rw [hA1, ← n0]; show cI (m_new A0 67 (x_cn 67)) (m_nx A0) 4289 = 0; rw [cI_new, if_pos rfl]
  obtain ⟨A2, c1, c2, c3, c4, c5⟩ := AL.init (M := A1) (a := o + 1) (by omega) t1 z1
  have t2 : m_tg A2 o = 55 := ((c3.2.2 o (by omega)).1.trans (d1.2.2 o (by omega)).1).trans t0
  obtain ⟨A3, hA3⟩ : ∃ A3, A3 = wR A2 o 3520 (o + 1) := ⟨_, rfl⟩
  have d3 : Df (at1 o) n2 (at1 o) A2 A3 := by rw [hA3]; exact Df.wR _ rfl
  have t3 : m_tg A3 o = 55 := by rw [hA3]; exact t2
  have n3 : m_nx A3 = o + 2 := by rw [hA3]; show m_nx A2 = _; omega
  have l3 : m_sl A3 = m_sl A2 := by rw [hA3]; rfl
  have r3 : cR A3 o 3520 = o + 1 := by rw [hA3, cR_wR, if_pos ⟨rfl, rfl⟩]
  obtain ⟨A4, hA4⟩ : ∃ A4, A4 = mo A3 67 := ⟨_, rfl⟩
  have d4 : Df n2 n2 n2 A3 A4 := hA4 ▸ Df.new _ _
  have n4 : m_nx A4 = o + 3 := by rw [hA4]; show m_nx A3 + 1 = _; omega
  have l4 : m_sl A4 ≤ m_sl A3 + 20 := by rw [hA4]; show m_sl A3 + x_cn 67 ≤ _; omega
  have t4 : m_tg A4 (o + 2) = 67 := by rw [hA4, ← n3]; show m_tg (m_new A3 67 (x_cn 67)) (m_nx A3) = 67; exact tg_new.trans (if_pos rfl)
  have z4 : cI A4 (o + 2) 4289 = 0 := by rw [hA4, ← n3]; show cI (m_new A3 67 (x_cn 67)) (m_nx A3) 4289 = 0; rw [cI_new, if_pos rfl]
  obtain ⟨A5, e1, e2, e3, e4, e5⟩ := AL.init (M := A4) (a := o + 2) (by omega) t4 z4
  have t5 : m_tg A5 o = 55 := ((e3.2.2 o (by omega)).1.trans (d4.2.2 o (by omega)).1).trans t3
  have r5 : cR A5 o 3520 = o + 1 := by rw [e3.cR (by omega) (fun q => by unfold at1 at q; omega), d4.cR (by omega) (fun q => q)]; exact r3
  obtain ⟨A, hA⟩ : ∃ A, A = wR A5 o 3521 (o + 2) := ⟨_, rfl⟩
  have dA : Df (at1 o) n2 (at1 o) A5 A := by rw [hA]; exact Df.wR _ rfl
  have D2 : Df n2 n2 n2 M A2 := Df.then (d0.trans d1) c3 (fun x i hx q => by unfold at1 at q; omega) (fun _ _ _ q => q) (fun x i hx q => by unfold at1 at q; omega)
  have D4 : Df n2 n2 n2 M A4 := (Df.then D2 d3 (fun x i hx q => by unfold at1 at q; omega) (fun _ _ _ q => q) (fun x i hx q => by unfold at1 at q; omega)).trans d4
  have D5 : Df n2 n2 n2 M A5 := Df.then D4 e3 (fun x i hx q => by unfold at1 at q; omega) (fun _ _ _ q => q) (fun x i hx q => by unfold at1 at q; omega)
  have D : Df n2 n2 n2 M A := Df.then D5 dA (fun x i hx q => by unfold at1 at q; omega) (fun _ _ _ q => q) (fun x i hx q => by unfold at1 at q; omega)
  have L1 : AL A (o + 1) 4 [] := (((c2.df d3 (fun q => by unfold at1 at q; omega) (fun q => by unfold at1 at q; omega) (fun i q => by omega)).df d4 (fun q => q) (fun q => q) (fun i q => by omega)).df e3 (fun q => by unfold at1 at q; omega) (fun q => by unfold at1 at q; omega) (fun i q => by omega)).df dA (fun q => by unfold at1 at q; omega) (fun q => by unfold at1 at q; omega) (fun i q => by omega)
  have L2 : AL A (o + 2) 4 [] := e2.df dA (fun q => by unfold at1 at q; omega) (fun q => by unfold at1 at q; omega) (fun i q => by omega)
  rw [← ho, ← hA0]
  refine ⟨A, ?_, ng_of t0 (by decide), D, by rw [hA]; show m_nx A5 = _; omega, by rw [hA]; show m_sl A5 ≤ _; omega, by rw [hA]; exact t5, ?_, by rw [hA, cR_wR, if_pos ⟨rfl, rfl⟩], L1, L2⟩
  · unfold F_X54_init
    have e00 : ng A0 o = some () := ng_of t0 (by decide)
    have e1' : ng A1 (o + 1) = some () := ng_of t1 (by decide)
    have e2' : ng A4 (o + 2) = some () := ng_of t4 (by decide)
    have p1 : pr A2 o 3520 (o + 1) = some A3 := by rw [pr_of _ t2 (show x_wr 55 3520 = true by decide), ← hA3]
    have p2 : pr A5 o 3521 (o + 2) = some A := by rw [pr_of _ t5 (show x_wr 55 3521 = true by decide), ← hA]
    simp only [e00, Option.bind_some, ← hA1, n0, e1', c1, p1, ← hA4, n3, e2', e1, p2]
  · rw [hA, cR_wR, if_neg (by omega)]; exact r5
