/-! ===== TABLES, 13: the model reads the first line ===== -/
/-- nothing below B has changed -/
def pTb (B : Nat) : Nat → Nat → Prop := fun x _ => B ≤ x
/-- nothing below B, nor one of Z -/
def pTz (B : Nat) (Z : Nat → Prop) : Nat → Nat → Prop := fun x _ => B ≤ x ∧ ¬ Z x
theorem MRn.word {M M1 : Mem} {B o tb ln dn n a r p : Nat} {en : List Nat} {f : Nat → Int32} {ns : List (List Int32)} {w : List Int32} {b : Bool} (h : MRn M B o tb ln dn en f n a ns) (d : WDr M M1 o r f n w b p) : MRn M1 B o tb ln dn en f n p ns := by
  obtain ⟨t, h1, h2, h3, h4, h5, h6, h7, h8, h9, h10⟩ := h
  obtain ⟨d1, d2, d3, d4, d5, d6, d7, d8, d9, d10, d11⟩ := d
  have nn := d9.1
  exact ⟨d7, by rw [d9.cR t.1 (fun q => q)]; exact h1, by omega, (d9.2.2 tb h2).1.trans h3, by rw [d9.cR h2 (fun q => q)]; exact h4, h5.df d9 (fun q => by have := q.2; omega) (fun q => q) (fun _ _ q => q), h6.df d9 (fun x i hx q => by rw [q.1, t.2.1]; decide) (fun _ _ _ q => q.elim), h7, h8, h9, h10⟩
theorem b67_one {k2 : Mem → Nat → Int32 → Option (Mem ⊕ (Nat × Mem))} {M : Mem} {B o tb ln dn n a r : Nat} {en : List Nat} {f : Nat → Int32} {ns : List (List Int32)} {v2 : Int32} (h : MRn M B o tb ln dn en f n a ns) : F_X53_names_b67 k2 xN M o v2 r 1 0 = F_X53_names_b114 k2 M o v2 r 1 := by
  have hxN : xN = 1099511627775 + 1 := rfl
  have n1 : ¬ (1 : Int32) = 0 := by decide
  obtain ⟨g1, g2, g3, g4⟩ := h.gt
  rw [hxN]
  show F_X53_names_b67_st k2 (F_X53_names_b67 k2 1099511627775) M o v2 r 1 0 = _
  unfold F_X53_names_b67_st
  simp only [g1, g2, g3, g4, Option.bind_some]
  by_cases c2 : 0 < iw (ns.length : Nat)
  · rw [if_pos c2, if_neg n1]
  · rw [if_neg c2]
theorem mp_gd (cs : List (List Int32 × Bool)) (k : Nat) : (cs.map Prod.fst).getD k [] = (cs.getD k ([], false)).1 := by
  rw [List.getD_eq_getElem?_getD, List.getD_eq_getElem?_getD, List.getElem?_map]
  cases cs[k]? <;> rfl
theorem M_names_l {B o tbl ln n : Nat} {f : Nat → Int32} {Z : Nat → Prop} : ∀ (e N a dn : Nat) (en : List Nat) (cs : List (List Int32 × Bool)) (M : Mem), n + 1 ≤ a + e → MRn M B o tbl ln dn en f n a (cs.map Prod.fst) → cI M o 3462 = iw ((fla cs).length : Nat) → cs.length ≤ 16 → m_tg M 4 = 1091 ∧ m_ln M 4 = 0 → (dn < 1334 ∨ B ≤ dn) → B ≤ m_nx M → (∀ z, Z z → z < m_nx M ∧ z ≠ o ∧ z ≠ ln ∧ (1334 ≤ dn → z ≠ dn)) → match tln true 16 f n e a cs.length cs with
    | .inl p => ∃ M1, F_X53_names_b2 (N + 1 + e) M o 1 = some (.inr (m_nx M1, mT M1 1 (iw (p : Int)))) ∧ ST M1 ∧ Df (pTz B Z) n2 (pTz B Z) M M1 ∧ m_nx M1 ≤ m_nx M + 7 * (n - a) + 4 + 2 * n ∧ m_sl M1 ≤ m_sl M + 115 * (n - a) + 5 * n + 60
    | .inr q => ∃ M1 dn' en', F_X53_names_b2 (N + 1 + e) M o 1 = some (.inl M1) ∧ MRn M1 B o tbl ln dn' en' f n q.2 (q.1.map Prod.fst) ∧ cI M1 o 3462 = iw ((fla q.1).length : Nat) ∧ Df (pTz B Z) n2 (pTz B Z) M M1 ∧ m_nx M1 ≤ m_nx M + 7 * (q.2 - a) ∧ m_sl M1 ≤ m_sl M + 115 * (q.2 - a) ∧ (dn' < 1334 ∨ B ≤ dn')
  | 0, N, a, dn, en, cs, M, he, h, _, _, _, _, _, _ => by have := h.1.2.2.2.2.2.2.2.1; omega
  | e + 1, N, a, dn, en, cs, M, he, h, hby, hcs, k4, hdn, hB, hZ => by
    have t := h.1
    have hS := t.2.2.2.2.2.2.2.2.1
    have hn := t.2.2.2.2.2.1
    have hna := t.2.2.2.2.2.2.2.1
    have ho := t.1
    have hB0 := h.2.2.2.2.2.2.2.1
    have hBo := h.2.2.2.2.2.2.2.2.1
    have hBl := h.2.2.2.2.2.2.2.2.2.2
    have n1 : ¬ (1 : Int32) = 0 := by decide
    have hml : (cs.map Prod.fst).length = cs.length := List.length_map ..
    obtain ⟨g1, g2, g3, g4⟩ := h.gt
    have hs : F_X53_names_b2 (N + 1 + (e + 1)) M o 1 = F_X53_names_b2_st (F_X53_names_b2 (N + 1 + e)) M o 1 := rfl
    unfold tln
    rw [hs]
    unfold F_X53_names_b2_st
    rw [if_neg n1]
    simp only [t.gn, g1, g2, g3, g4, Option.bind_some]
    rw [hml]
    by_cases c : cs.length = 16
    · rw [if_pos c, if_pos (show iw (cs.length : Nat) = 16 by rw [c]; rfl)]
      exact ⟨M, M_wrongT t _, hS, Df.refl _ _ _ _, by omega, by omega⟩
    · rw [if_neg c, if_neg (show ¬ iw (cs.length : Nat) = 16 by rw [show (16 : Int32) = iw ((16 : Nat) : Int) from rfl, iw_eq (by omega) (by omega) (by omega) (by omega)]; omega)]
      rw [t.vg, Option.bind_some]
      have ec := M_tcel (α := Mem) t (by omega) (fun z36 r => (vg z36 r 76).bind fun _ => (F_J15_isEmpty z36 r).bind fun z38 => if z38 = 0 then (vg z36 r 76).bind fun _ => (F_J15_length z36 r).bind fun z40 => if (20 : Int32) < z40 then F_X53_names_b57 (F_X53_names_b2 (N + 1 + e)) z36 o (iw (a : Int)) r else F_X53_names_b62 (F_X53_names_b2 (N + 1 + e)) z36 (0 : Int32) o (iw (a : Int)) r else F_X53_names_b57 (F_X53_names_b2 (N + 1 + e)) z36 o (iw (a : Int)) r)
      cases ht : tcel f n a with
      | inl p =>
        rw [ht] at ec
        obtain ⟨M1, f1, f2, f3, f4, f5⟩ := ec
        exact ⟨M1, f1, f2, f3.mono (fun x i q => ⟨by have := q.1; omega, fun z => (hZ x z).2.1 q.1⟩) (fun _ _ q => q) (fun _ _ q => q.elim), by omega, by omega⟩
      | inr q =>
        rw [ht] at ec
        obtain ⟨M1, r, f1, f2⟩ := ec
        have tk := tcel_ok hna ht
        have h1 := h.word f2
        have t1 := h1.1
        obtain ⟨d1, d2, d3, d4, d5, d6, d7, d8, d9, d10, d11⟩ := f2
        have nn := d9.1
        have D1 : Df (pTz B Z) n2 (pTz B Z) M M1 := d9.mono (fun x i q => ⟨by have := q.1; omega, fun z => (hZ x z).2.1 q.1⟩) (fun _ _ q => q) (fun _ _ q => q.elim)
        have hb1 : cI M1 o 3462 = iw ((fla cs).length : Nat) := by rw [d9.cI ho (fun q => by have := q.2; omega)]; exact hby
        have k41 : m_tg M1 4 = 1091 ∧ m_ln M1 4 = 0 := ⟨(d9.2.2 4 (by omega)).1.trans k4.1, (d9.2.2 4 (by omega)).2.1.trans k4.2⟩
        have hwl : q.1.length ≤ 16000 := by omega
        simp only []
        -- what is wrong with it
        have bad : F_X53_names_b114 (F_X53_names_b2 (N + 1 + e)) M1 o (iw (a : Int)) r 1 = some (.inr (m_nx M1, mT M1 1 (iw (a : Int)))) := by
          unfold F_X53_names_b114
          rw [if_neg n1]
          exact M_wrongT t1 _
        have run : (tb (F_X53_word M o) fun z => (vg z.2 o 54).bind fun _ => tb (F_X53_mustEnd z.2 o) fun z36 => (vg z36 z.1 76).bind fun _ => (F_J15_isEmpty z36 z.1).bind fun z38 => if z38 = 0 then (vg z36 z.1 76).bind fun _ => (F_J15_length z36 z.1).bind fun z40 => if (20 : Int32) < z40 then F_X53_names_b57 (F_X53_names_b2 (N + 1 + e)) z36 o (iw (a : Int)) z.1 else F_X53_names_b62 (F_X53_names_b2 (N + 1 + e)) z36 (0 : Int32) o (iw (a : Int)) z.1 else F_X53_names_b57 (F_X53_names_b2 (N + 1 + e)) z36 o (iw (a : Int)) z.1) = F_X53_names_b114 (F_X53_names_b2 (N + 1 + e)) M1 o (iw (a : Int)) r (pif (tbad true cs q.1) 1 0) := by
          refine Eq.trans f1 ?_
          show ((vg M1 r 76).bind fun _ => (F_J15_isEmpty M1 r).bind fun z38 => _) = _
          rw [d1.vg, Option.bind_some, J_empty d1, Option.bind_some]
          unfold F_X53_names_b57 F_X53_names_b62
          by_cases c0 : q.1.length = 0
          · rw [if_pos c0, if_neg n1, tpif (show tbad true cs q.1 from Or.inr ⟨rfl, Or.inr (Or.inl c0)⟩), b67_one h1]
          · rw [if_neg c0, if_pos rfl, Option.bind_some, J_len d1, Option.bind_some]
            by_cases c20 : 20 < q.1.length
            · rw [if_pos (by rw [show (20 : Int32) = iw ((20 : Nat) : Int) from rfl, iw_le4 (by omega) (by omega)]; exact c20), tpif (show tbad true cs q.1 from Or.inr ⟨rfl, Or.inl c20⟩), b67_one h1]
            · rw [if_neg (by rw [show (20 : Int32) = iw ((20 : Nat) : Int) from rfl, iw_le4 (by omega) (by omega)]; exact c20)]
              have hxN : xN = 1099511627776 := rfl
              obtain ⟨K, hK⟩ : ∃ K, K + 1 + (cs.map Prod.fst).length = xN := ⟨xN - 1 - (cs.map Prod.fst).length, by omega⟩
              have dd := M_dup (k2 := F_X53_names_b2 (N + 1 + e)) (v2 := iw (a : Int)) h1 d1 (by omega) (by omega) (cs.map Prod.fst).length K 0 (by omega)
              rw [hK] at dd
              refine Eq.trans dd ?_
              by_cases cd : ∃ u, 0 ≤ u ∧ u < (cs.map Prod.fst).length ∧ (cs.map Prod.fst).getD u [] = q.1
              · rw [tpif cd, tpif]
                obtain ⟨u, u1, u2, u3⟩ := cd
                exact Or.inr ⟨rfl, Or.inr (Or.inr ⟨u, by omega, by rw [← mp_gd]; exact u3⟩)⟩
              · rw [fpif cd, fpif]
                rintro (k | ⟨-, k | k | ⟨u, u1, u2⟩⟩)
                · cases k.1
                · exact c20 k
                · exact c0 k
                · exact cd ⟨u, Nat.zero_le _, by omega, by rw [mp_gd]; exact u2⟩
        rw [run]
        by_cases cb : tbad true cs q.1
        · simp only [tpif cb]
          exact ⟨M1, bad, t1.2.2.2.2.2.2.2.2.1, D1, by omega, by omega⟩
        · simp only [fpif cb]
          obtain ⟨M2, dn', e1, e2, e3, e4, e5, e6, e7⟩ := M_addn (k2 := F_X53_names_b2 (N + 1 + e)) (v2 := iw (a : Int)) h1 hb1 tk.2.1 (by omega) k41 (by omega) d1 d2 (by omega) d4 (by omega) d6
          have D2 : Df (pTz B Z) n2 (pTz B Z) M1 M2 := e4.mono (fun x i q => ⟨by omega, fun z => q.elim (hZ x z).2.1 (hZ x z).2.2.1⟩) (fun _ _ q => q) (fun x i q => ⟨by omega, fun z => q.elim (hZ x z).2.2.1 (fun q => (hZ x z).2.2.2 q.2 q.1)⟩)
          have hfl : (fla (cs ++ [(q.1, q.2.1)])).length = (fla cs).length + q.1.length := by rw [fla_app, List.length_append]
          have hmp : (cs ++ [(q.1, q.2.1)]).map Prod.fst = cs.map Prod.fst ++ [q.1] := by rw [List.map_append]; rfl
          have hlc : (cs ++ [(q.1, q.2.1)]).length = cs.length + 1 := by rw [List.length_append, List.length_singleton]
          rw [e1]
          by_cases c4 : isC f n q.2.2 44 = true
          · rw [if_pos c4, c4]
            have ih := M_names_l (B := B) (o := o) (tbl := tbl) (ln := ln) (n := n) (f := f) e N (q.2.2 + 1) dn' (en ++ [r]) (cs ++ [(q.1, q.2.1)]) M2 (by omega) (by rw [hmp]; exact e2) (by rw [hfl]; exact e3) (by omega) ⟨(e4.2.2 4 (by omega)).1.trans k41.1, (e4.2.2 4 (by omega)).2.1.trans k41.2⟩ (by omega) (by have := e4.1; omega) (fun z hz => by have q := hZ z hz; have := e4.1; exact ⟨by omega, q.2.1, q.2.2.1, fun q2 => e7.elim (fun q3 => by rw [q3] at q2 ⊢; exact q.2.2.2 q2) (fun q3 => by omega)⟩)
            rw [hlc] at ih
            cases hT : tln true 16 f n e (q.2.2 + 1) (cs.length + 1) (cs ++ [(q.1, q.2.1)]) with
            | inl u =>
              rw [hT] at ih
              obtain ⟨M3, i1, i2, i3, i4, i5⟩ := ih
              exact ⟨M3, i1, i2, D1.trans (D2.trans i3), by omega, by omega⟩
            | inr u =>
              rw [hT] at ih
              obtain ⟨M3, dn2, en2, i1, i2, i3, i4, i5, i6, i7⟩ := ih
              have hu := (tln_len _ _ _ _ _ (show q.2.2 + 1 ≤ n by omega) (show cs.length + 1 ≤ 16 by omega) hT).1
              exact ⟨M3, dn2, en2, i1, i2, i3, D1.trans (D2.trans i4), by omega, by omega, i7⟩
          · rw [if_neg c4, Bool.eq_false_iff.mpr c4, if_neg (fun h => by cases h.1)]
            refine ⟨M2, dn', en ++ [r], ?_, by rw [hmp]; exact e2, by rw [hfl]; exact e3, D1.trans D2, by show m_nx M2 ≤ m_nx M + 7 * (q.2.2 + 1 - a); omega, by show m_sl M2 ≤ m_sl M + 115 * (q.2.2 + 1 - a); omega, by omega⟩
            rw [show N + 1 + e = N + e + 1 by omega]
            show F_X53_names_b2_st (F_X53_names_b2 (N + e)) M2 o (mr false) = _
            unfold F_X53_names_b2_st
            rw [if_pos (show mr false = 0 from rfl)]
