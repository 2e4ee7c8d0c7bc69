/-! ===== VIEWS, 12: the model reads all items ===== -/
def LIt (M0 M : Mem) (o L d : Nat) (es : List Nat) (its : List (Nat → Int)) : Prop := AL M L d es ∧ m_nx M0 ≤ L ∧ (d = 4 ∨ m_nx M0 ≤ d) ∧ es.length = its.length ∧ L ≠ o ∧ ∀ i, i < es.length → AR M0 M (es.getD i 0) (its.getD i (fun _ => 0))
theorem mk8 {M : Mem} : ∃ A, mk M 1005 8 = some A ∧ A = m_new M 1005 8 := ⟨_, mk_of (n := 8) (by decide), rfl⟩
theorem mk8' {M : Mem} : ∃ (A : Mem) (w : Nat), w = 8 ∧ mk M 1005 8 = some A ∧ A = m_new M 1005 w := by
  obtain ⟨A, h1, h2⟩ := mk8 (M := M)
  exact ⟨A, 8, rfl, h1, h2⟩
theorem getD_snn {α : Type} {l : List α} {v d : α} {i : Nat} : (l ++ [v]).getD i d = if i = l.length then v else l.getD i d := by
  rw [List.getD_eq_getElem?_getD, List.getD_eq_getElem?_getD]
  by_cases c : i = l.length
  · subst c
    rw [if_pos rfl, List.getElem?_append_right (Nat.le_refl _), Nat.sub_self]
    rfl
  · rw [if_neg c]
    rcases Nat.lt_or_gt_of_ne c with h | h
    · rw [List.getElem?_append_left h]
    · rw [List.getElem?_eq_none (by rw [List.length_append]; show l.length + 1 ≤ i; omega), List.getElem?_eq_none (by omega)]
theorem AR.im {M0 M M' : Mem} {o y w : Nat} {g : Nat → Int} (r : AR M0 M w g) (s : IM M M' o y) (h1 : w ≠ o) (h2 : w ≠ y) : AR M0 M' w g := by
  obtain ⟨r1, r2, r3, r4, r5⟩ := r
  have d := s.2.1.2.2 w r2
  exact ⟨r1, by rw [s.2.2.1]; exact r2, d.1.trans r3, d.2.1.trans r4, fun i hi => by rw [s.2.1.cI r2 (by omega)]; exact r5 i hi⟩
theorem AL.im {M M' : Mem} {o y a ds : Nat} {es : List Nat} (h : AL M a ds es) (s : IM M M' o y) (h1 : a ≠ o) (h2 : a ≠ y) : AL M' a ds es := h.df s.2.1 (by omega) (fun q => q) (fun i _ q => q)
theorem M_vitem {M0 M : Mem} {o L d : Nat} {es : List Nat} {its : List (Nat → Int)} {f : Nat → Int32} {n a : Nat} (k4 : m_tg M0 4 = 1091 ∧ m_ln M0 4 = 0) (t : TM M0 M o L f n a) (ls : LIt M0 M o L d es its) (hl : es.length ≤ 17000) (ha : skpa f n a = a) :
    (∀ p, vit f n a = .inl p → ∃ u M', F_X25_item M o = some (.inr (u, M')) ∧ ST M' ∧ Df (at1 1075) n2 n2 M0 M' ∧ m_nx M' ≤ m_nx M + 3 ∧ m_sl M' ≤ m_sl M + (2 * es.length + 60) ∧ cI M' 1075 1153 = iw (p : Int)) ∧
    (∀ it b, vit f n a = .inr (it, b) → ∃ M' d' y, F_X25_item M o = some (.inl M') ∧ TM M0 M' o L f n (skpa f n b) ∧ LIt M0 M' o L d' (es ++ [y]) (its ++ [it]) ∧ m_nx M' ≤ m_nx M + 2 ∧ m_sl M' ≤ m_sl M + (2 * es.length + 60)) := by
  obtain ⟨A, w8, hw8, a1, a2⟩ := mk8' (M := M)
  obtain ⟨l1, l2, l3, l4, l5, l6⟩ := ls
  obtain ⟨t1, t2, t3, t4, t5, t6, t7, t8, t9, t10, t11, t12, t13, t14⟩ := id t
  have h0 := t1.1
  obtain ⟨y, hy⟩ : ∃ y, y = m_nx M := ⟨_, rfl⟩
  have hyo : y ≠ o := by omega
  have dA : Df n2 n2 n2 M A := a2 ▸ Df.new _ _
  have nA : m_nx A = m_nx M + 1 := by rw [a2]; rfl
  have slA : m_sl A = m_sl M + w8 := by rw [a2]; rfl
  have sA : ST A := t1.df dA n2_st
  have m0 := t2.1
  have tgA : m_tg A y = 1005 := by rw [a2, tg_new, if_pos hy]
  have lnA : m_ln A y = 8 := by rw [a2, ln_new, if_pos hy, hw8]
  have zA : ∀ i, cI A y i = 0 := fun i => by rw [a2, cI_new, if_pos hy]
  have dO := dA.2.2 o t4
  have tA : TM M0 A o L f n a := ⟨sA, t2.trans (dA.mono (fun _ _ q => q.elim) (fun _ _ q => q) (fun _ _ q => q)), t3, by omega, dO.1.trans t5, by rw [dA.cR t4 (fun q => q)]; exact t6, by rw [dA.cR t4 (fun q => q)]; exact t7, by rw [dA.cI t4 (fun q => q)]; exact t8, t9, by rw [dA.cI t4 (fun q => q)]; exact t10, t11, by rw [dA.cR t4 (fun q => q)]; exact t12, fun i hi => by rw [dA.cI (by omega) (fun q => q)]; exact t13 i hi, t14⟩
  have rA : AR M0 A y (itv 0 0 0 0 0 0 0 0) := ⟨by omega, by omega, tgA, lnA, fun i hi => by rw [zA]; exact (lt8 (P := fun i => (0 : Int32) = iw (itv 0 0 0 0 0 0 0 0 i)) rfl rfl rfl rfl rfl rfl rfl rfl i hi)⟩
  -- where it begins
  obtain ⟨B, hB⟩ : ∃ B, B = wI A y 0 (iw (a : Int)) := ⟨_, rfl⟩
  have rB : AR M0 B y (itv a 0 0 0 0 0 0 0) := by rw [hB]; exact (rA.w (i := 0) (a : Int)).eq (lt8 rfl rfl rfl rfl rfl rfl rfl rfl)
  have tB : TM M0 B o L f n a := by rw [hB]; exact tA.wy rA.1 hyo
  have nB : m_nx B = m_nx M + 1 ∧ m_sl B = m_sl M + w8 := by rw [hB]; exact ⟨nA, slA⟩
  have LM : L < m_nx M := l1.1
  have alA : AL A L d es := l1.df dA (fun q => q) (fun q => q) (fun i _ q => q)
  have alB : AL B L d es := by rw [hB]; exact alA.df (Df.wI (P := fun x _ => x = y) (Q := n2) (R := n2) _ rfl) (fun q => by omega) (fun q => q) (fun i _ q => q)
  have k4B : m_tg B 4 = 1091 ∧ m_ln B 4 = 0 := by
    have dd := tB.2.1.2.2 4 (by omega)
    exact ⟨dd.1.trans k4.1, dd.2.1.trans k4.2⟩
  obtain ⟨C, d', c1, c2, c3, c4, c5, c6⟩ := alB.add (v := y) tB.1.1 k4B (by omega) (Or.inr ⟨rB.2.1, by rw [rB.2.2.1]; decide⟩)
  have dBL : d = 4 ∨ 1334 ≤ d := by omega
  have qd : ∀ x, (x = d ∧ 1334 ≤ d) → m_nx M0 ≤ x := fun x q => by omega
  have sC : ST C := tB.1.df c4 (fun p hp q => by
    have := stR_lt p hp
    rcases q with q | q
    · omega
    · omega)
  have neL : ∀ x, m_tg B x ≠ 67 → x ≠ L := fun x hx e => hx (by rw [e]; exact alB.2.1)
  have oL : o ≠ L := fun e => l5 e.symm
  have od : o = d → ¬ 1334 ≤ d := fun e h => by
    rcases alB.2.2.2.2 with ⟨-, e2⟩ | ⟨-, -, -, e2, -⟩
    · omega
    · rw [← e, tB.2.2.2.2.1] at e2
      exact absurd e2 (by decide)
  have dC := c4.2.2 o tB.2.2.2.1
  have tC : TM M0 C o L f n a := by
    obtain ⟨b1, b2, b3, b4, b5, b6, b7, b8, b9, b10, b11, b12, b13, b14⟩ := tB
    have hcr : ∀ i, cR C o i = cR B o i := fun i => c4.cR b4 (fun q => by
      rcases q with q | q
      · exact oL q.1
      · exact od q.1 q.2)
    have hci : ∀ i, cI C o i = cI B o i := fun i => c4.cI b4 (fun q => oL q)
    exact ⟨sC, Df.then b2 c4 (fun x i hx q => by unfold at1 at q; omega) (fun _ _ _ q => q) (fun x i hx q => by
      rcases q with q | q
      · omega
      · omega), b3, Nat.lt_of_lt_of_le b4 c4.1, dC.1.trans b5, by rw [hcr]; exact b6, by rw [hcr]; exact b7, by rw [hci]; exact b8, b9, by rw [hci]; exact b10, b11, by rw [hcr]; exact b12, fun i hi => by rw [c4.cI (by omega) (fun q => by unfold at1 at q; omega)]; exact b13 i hi, b14⟩
  have arC : ∀ w g, AR M0 B w g → AR M0 C w g := fun w g r => by
    obtain ⟨r1, r2, r3, r4, r5⟩ := r
    have dw := c4.2.2 w r2
    exact ⟨r1, Nat.lt_of_lt_of_le r2 c4.1, dw.1.trans r3, dw.2.1.trans r4, fun i hi => by rw [c4.cI r2 (fun q => neL w (by rw [r3]; decide) q)]; exact r5 i hi⟩
  have rC := arC y _ rB
  have lsC : LIt M0 C o L d' (es ++ [y]) (its ++ [fun _ => 0]) → True := fun _ => trivial
  have oldC : ∀ i, i < es.length → AR M0 C (es.getD i 0) (its.getD i (fun _ => 0)) ∧ es.getD i 0 ≠ o ∧ es.getD i 0 ≠ y := fun i hi => by
    have r := l6 i hi
    obtain ⟨r1, r2, r3, r4, r5⟩ := id r
    have ne1 : es.getD i 0 ≠ o := fun e => by rw [e, t5] at r3; exact absurd r3 (by decide)
    have ne2 : es.getD i 0 ≠ y := by omega
    have rr : AR M0 B (es.getD i 0) (its.getD i (fun _ => 0)) := by
      have dw := dA.2.2 _ r2
      rw [hB]
      exact ⟨r1, by show _ < m_nx A; omega, dw.1.trans r3, dw.2.1.trans r4, fun j hj => by rw [cI_wI, if_neg (by omega), dA.cI r2 (fun q => q)]; exact r5 j hj⟩
    exact ⟨arC _ _ rr, ne1, ne2⟩
  have yL : L ≠ y := by omega
  -- the end of an item
  have fin : ∀ M' it b, TM M0 M' o L f n (skpa f n b) → AR M0 M' y it → IM C M' o y → LIt M0 M' o L d' (es ++ [y]) (its ++ [it]) := fun M' it b tt rr ii => by
    refine ⟨c2.im ii (fun e => oL e.symm) yL, l2, ?_, by rw [List.length_append, List.length_append, l4]; rfl, l5, fun i hi => ?_⟩
    · rcases c3 with e | e
      · rw [e]; exact l3
      · right; omega
    · rw [getD_snn, getD_snn, ← l4]
      by_cases c : i = es.length
      · rw [if_pos c, if_pos c]; exact rr
      · rw [if_neg c, if_neg c]
        rw [List.length_append] at hi
        have hi' : i < es.length + 1 := hi
        obtain ⟨u1, u2, u3⟩ := oldC i (by omega)
        exact u1.im ii u2 u3
  obtain ⟨f1, f2, f3, f4, f5, f6, f7⟩ := tC.fs
  have is42 : F_X25_is C o 42 = some (mr (isC f n a 42)) := M_is tC (c := 42) (by decide)
  have is45 : F_X25_is C o 45 = some (mr (isC f n a 45)) := M_is tC (c := 45) (by decide)
  have hd : F_X25_item M o = if isC f n a 42 = true then ((si C y 1 3).bind fun M52 => (gi M52 o 1667).bind fun t53 => (pi M52 o 1667 (t53 + (1 : Int32))).bind fun M54 => (vg M54 o 26).bind fun _ => (F_X25_blanks M54 o).bind fun z56 => some (.inl z56)) else if isN f n a = true then F_X25_item_b65 C o y else F_X25_item_b70 C 0 o y := by
    unfold F_X25_item
    rw [a1, Option.bind_some, ← hy, tA.fs.2.1, Option.bind_some, show si A y 0 (iw (a : Int)) = some (wI A y 0 (iw (a : Int))) from rA.si (i := 0) (by decide) (iw (a : Int)), Option.bind_some, ← hB]
    simp only [tB.fs.2.2.2.2.2.1, vg_of alB.2.1 (show x_isa 67 67 = true by decide), c1, f1, is42, is45, M_isD tC, Option.bind_some]
    by_cases c : isC f n a 42 = true
    · rw [c, if_neg (by decide), if_pos rfl]
    · rw [eq_false_of_ne_true c, if_pos (show mr false = 0 by decide), if_neg (show ¬ false = true by decide)]
      exact isN_or
  have nC : m_nx C ≤ m_nx M + 2 := by omega
  have slC : m_sl C ≤ m_sl M + (2 * es.length + 18) := by omega
  rw [hd]
  unfold vit
  by_cases c : isC f n a 42 = true
  · have hl' := (isC_t.mp c).1
    rw [if_pos c, if_pos c]
    refine ⟨fun q hq => (by cases hq), fun it b h => ?_⟩
    have h2 := Sum.inr.inj h
    have hb : a + 1 = b := congrArg Prod.snd h2
    have hi : itv (a : Int) 3 0 0 0 0 0 0 = it := congrArg Prod.fst h2
    have rD := (rC.w (i := 1) 3).eq (g' := itv (a : Int) 3 0 0 0 0 0 0) (lt8 rfl rfl rfl rfl rfl rfl rfl rfl)
    have tD := tC.wy (i := 1) (v := iw 3) rC.1 hyo
    have iD := IM.w (o := o) (y := y) (i := 1) tC.1 (iw 3)
    have sw := SM.w (o := o) tD.1 (a + 1)
    have tw := sw.tm tD (by omega)
    obtain ⟨E, k1, s2⟩ := M_blanks tw
    have tE := s2.tm tw (skpa_le (by omega))
    have s02 := sw.trans s2
    have rE := s02.ar rD hyo
    have iE := iD.trans (s02.im (y := y))
    rw [← hb, ← hi]
    refine ⟨E, d', y, ?_, tE, fin E _ (a + 1) tE rE iE, by rw [iE.2.2.1]; exact nC, by rw [iE.2.2.2]; omega⟩
    rw [show si C y 1 3 = some (wI C y 1 (iw 3)) from rC.si (i := 1) (by decide) (iw 3), Option.bind_some]
    simp only [tD.fs.2.1, tD.fs.2.2.2.2.2.2, iw_succ, tw.fs.1, k1, Option.bind_some]
  · rw [if_neg c, if_neg c]
    by_cases cn : isN f n a = true
    · rw [if_pos cn, if_pos cn]
      have rD := rC.w (i := 2) 1
      have tD := tC.wy (i := 2) (v := iw 1) rC.1 hyo
      have iD := IM.w (o := o) (y := y) (i := 2) tC.1 (iw 1)
      obtain ⟨n1, n2⟩ := M_vnum tD
      have hd2 : F_X25_item_b65 C o y = tb (F_X25_number (wI C y 2 (iw 1)) o) fun z36 => (si z36.2 y 3 z36.1).bind fun M37 => (si M37 y 1 1).bind fun M38 => F_X25_item_b90 M38 o y 1 := by
        unfold F_X25_item_b65 F_X25_item_b70
        rw [if_neg (by decide), show si C y 2 1 = some (wI C y 2 (iw 1)) from rC.si (i := 2) (by decide) (iw 1)]
        simp only [tD.fs.1, Option.bind_some]
      rw [hd2]
      cases hv : vnm f n a with
      | inl p =>
        refine ⟨fun q hq => ?_, fun it b h => by cases h⟩
        cases hq
        obtain ⟨u, M', y1, y2⟩ := n1 p hv
        have y2' := iD.mf y2
        exact ⟨u, M', by rw [y1, tb_r], y2'.1, y2'.2.1, by have := y2'.2.2.1; omega, by have := y2'.2.2.2.1; omega, y2'.2.2.2.2⟩
      | inr wb =>
        obtain ⟨M', y1, y2⟩ := n2 wb.1 wb.2 hv
        have hw := vnm_le t11 hv
        have tE := y2.tm tD (skpa_le hw.2)
        have rE := y2.ar rD hyo
        have rF := rE.w (i := 3) wb.1
        have tF := tE.wy (i := 3) (v := iw wb.1) rC.1 hyo
        have rG := (rF.w (i := 1) 1).eq (g' := itv (a : Int) 1 1 wb.1 0 0 0 0) (lt8 rfl rfl rfl rfl rfl rfl rfl rfl)
        have tG := tF.wy (i := 1) (v := iw 1) rC.1 hyo
        have iG := ((iD.trans (y2.im (y := y))).trans (IM.w (o := o) (y := y) (i := 3) tE.1 (iw wb.1))).trans (IM.w (o := o) (y := y) (i := 1) tF.1 (iw 1))
        obtain ⟨j1, j2⟩ := M_i90 (hf := 1) tG hyo (Or.inr rfl) rG
        have hd3 : (tb (F_X25_number (wI C y 2 (iw 1)) o) fun z36 => (si z36.2 y 3 z36.1).bind fun M37 => (si M37 y 1 1).bind fun M38 => F_X25_item_b90 M38 o y 1) = F_X25_item_b90 (wI (wI M' y 3 (iw wb.1)) y 1 (iw 1)) o y (iw 1) := by
          rw [y1, tb_l]
          show ((si M' y 3 (iw wb.1)).bind fun M37 => (si M37 y 1 1).bind fun M38 => F_X25_item_b90 M38 o y 1) = _
          rw [show si M' y 3 (iw wb.1) = some (wI M' y 3 (iw wb.1)) from rE.si (i := 3) (by decide) (iw wb.1), Option.bind_some, show si (wI M' y 3 (iw wb.1)) y 1 1 = some (wI (wI M' y 3 (iw wb.1)) y 1 (iw 1)) from rF.si (i := 1) (by decide) (iw 1), Option.bind_some]
          rfl
        rw [hd3]
        refine ⟨fun p hp => ?_, fun it b h => ?_⟩
        · obtain ⟨u, M'', z1, z2⟩ := j1 p hp
          have z2' := iG.mf z2
          exact ⟨u, M'', z1, z2'.1, z2'.2.1, by have := z2'.2.2.1; omega, by have := z2'.2.2.2.1; omega, z2'.2.2.2.2⟩
        · obtain ⟨M'', z1, z2, z3, z4⟩ := j2 it b h
          have i2 := iG.trans z4
          exact ⟨M'', d', y, z1, z2, fin M'' it b z2 z3 i2, by rw [i2.2.2.1]; exact nC, by rw [i2.2.2.2]; omega⟩
    · rw [if_neg cn, if_neg cn]
      have tC' : TM M0 C o L f n (skpa f n a) := by rw [ha]; exact tC
      obtain ⟨j1, j2⟩ := M_i90 (hf := 0) (x := 0) tC' hyo (Or.inl rfl) rC
      have hd2 : F_X25_item_b70 C 0 o y = F_X25_item_b90 C o y (iw 0) := by
        unfold F_X25_item_b70
        rw [if_pos rfl]
        rfl
      rw [hd2]
      refine ⟨fun p hp => ?_, fun it b h => ?_⟩
      · obtain ⟨u, M'', z1, z2⟩ := j1 p hp
        exact ⟨u, M'', z1, z2.1, z2.2.1, by have := z2.2.2.1; omega, by have := z2.2.2.2.1; omega, z2.2.2.2.2⟩
      · obtain ⟨M'', z1, z2, z3, z4⟩ := j2 it b h
        exact ⟨M'', d', y, z1, z2, fin M'' it b z2 z3 z4, by rw [z4.2.2.1]; exact nC, by rw [z4.2.2.2]; omega⟩
