/-! ===== TABLES, 17: the model reads a line ===== -/
/-- behind a cell's end -/
noncomputable def kLn (k4 : Mem → Nat → Int32 → Int32 → Option (Mem ⊕ (Nat × Mem))) (v0 : Nat) (v2 t3 : Int32) (z13 : Mem) (s : Nat) : Option (Mem ⊕ (Nat × Mem)) :=
      (vg z13 s 76).bind fun _ =>
      (F_J15_length z13 s).bind fun z15 =>
      if (40 : Int32) < z15 then
        (vg z13 v0 54).bind fun _ =>
        (F_X53_wrong z13 v0 t3).bind fun z17 =>
        (ie z17.2 z17.1).bind fun _ => some (.inr (z17.1, z17.2))
      else
        (gr z13 v0 3461).bind fun t18 =>
        (gr z13 t18 3521).bind fun t19 =>
        let t21 : Nat := m_nx z13
        let M20 : Mem := mo z13 56
        (gi M20 v0 3460).bind fun t22 =>
        (ng M20 t21).bind fun _ =>
        (F_X55_init M20 t21 s t22).bind fun z24 =>
        (vg z24 t19 67).bind fun _ =>
        (F_J6_add z24 t19 t21).bind fun z26 =>
        (gi z26.2 v0 3462).bind fun t27 =>
        (vg z26.2 s 76).bind fun _ =>
        (F_J15_length z26.2 s).bind fun z29 =>
        (pi z26.2 v0 3462 (t27 + z29)).bind fun M30 =>
        let v2_31 : Int32 := v2 + (1 : Int32)
        (vg M30 v0 54).bind fun _ =>
        (F_X53_is M30 v0 (44 : Int32)).bind fun z33 =>
        if z33 = 0 then
          (vg M30 v0 54).bind fun _ =>
          (F_X53_is M30 v0 (10 : Int32)).bind fun z35 =>
          if z35 = 0 then
            F_X53_line_b143 k4 M30 v0 z33 v2_31
          else
            (gr M30 v0 3461).bind fun t36 =>
            (gr M30 t36 3520).bind fun t37 =>
            (vg M30 t37 67).bind fun _ =>
            (F_J6_size M30 t37).bind fun z39 =>
            if v2_31 < z39 then
              (gi M30 v0 3459).bind fun t40 =>
              (vg M30 v0 54).bind fun _ =>
              (F_X53_wrong M30 v0 t40).bind fun z42 =>
              (ie z42.2 z42.1).bind fun _ => some (.inr (z42.1, z42.2))
            else
              F_X53_line_b143 k4 M30 v0 z33 v2_31
        else
          F_X53_line_b143 k4 M30 v0 z33 v2_31
theorem MRl.go {M : Mem} {B o tb ln dn lc dc n a : Nat} {en ec : List Nat} {f : Nat → Int32} {ns : List (List Int32)} {cs : List (List Int32 × Bool)} (h : MRl M B o tb ln dn en lc dc ec f n a ns cs) (c : a < n) : ∃ M', pi M o 3459 (iw (a : Int) + 1) = some M' ∧ MRl M' B o tb ln dn en lc dc ec f n (a + 1) ns cs ∧ cI M' o 3462 = cI M o 3462 ∧ Df (pO o) n2 n2 M M' ∧ m_nx M' = m_nx M ∧ m_sl M' = m_sl M := by
  obtain ⟨⟨u, u1, u2, u3, u4, u5, u6, u7⟩, h5, h6, h7, h8⟩ := h
  obtain ⟨v1, v2, v3, v4, v5, v6, v7, v8, v9, v10, v11⟩ := u
  obtain ⟨A, hA⟩ : ∃ A, A = wI M o 3459 (iw ((a + 1 : Nat) : Int)) := ⟨_, rfl⟩
  have d : Df (pO o) n2 n2 M A := by rw [hA]; exact Df.wI _ ⟨rfl, Or.inl rfl⟩
  have cA : ∀ y i, ¬ (y = o ∧ i = 3459) → cI A y i = cI M y i := fun y i q => by rw [hA, cI_wI, if_neg (by omega)]
  refine ⟨A, by rw [iw_succ, pi_of _ v2 (show x_wi 54 3459 = true by decide) (fit_3459 _), ← hA], ⟨⟨⟨by rw [hA]; exact v1, by rw [hA]; exact v2, by rw [hA]; exact v3, by rw [hA]; exact v4, by rw [cA _ _ (by omega)]; exact v5, v6, by rw [hA, cI_wI, if_pos ⟨rfl, rfl⟩], by omega, v9.n d, fun i hi => by rw [cA _ _ (by omega)]; exact v10 i hi, v11⟩, by rw [hA]; exact u1, by rw [hA]; exact u2, by rw [hA]; exact u3, by rw [hA]; exact u4, u5.df d (fun q => by have := q.2; omega) (fun q => q) (fun _ _ q => q), u6.df d (fun x i hx q => by rw [q.1, v2]; decide) (fun _ _ _ q => q.elim), u7⟩, by rw [hA]; exact h5, h6.df d (fun q => by have := q.2; omega) (fun q => q) (fun _ _ q => q), h7.df d (fun x i hx q => by rw [q.1, v2]; decide) (fun _ _ _ q => q.elim), h8⟩, cA _ _ (by omega), d, by rw [hA]; rfl, by rw [hA]; rfl⟩
theorem M_line_l {B o tbl ln dn lc n C : Nat} {en : List Nat} {f : Nat → Int32} {ns : List (List Int32)} {hd : List (List Int32 × Bool)} (hC : C ≤ 16) (hns : ns.length = C) : ∀ (e N a k dc : Nat) (ec : List Nat) (cs : List (List Int32 × Bool)) (M : Mem), n + 1 ≤ a + e → MRl M B o tbl ln dn en lc dc ec f n a ns cs → cI M o 3462 = iw ((fla (hd ++ cs)).length : Nat) → k ≤ C → m_tg M 4 = 1091 ∧ m_ln M 4 = 0 → ec.length + (n - a) ≤ 1280 → B ≤ m_nx M → match tln false C f n e a k (hd ++ cs) with
    | .inl p => ∃ M1, F_X53_line_b4 (N + 1 + e) M o 1 (iw (k : Int)) = some (.inr (m_nx M1, mT M1 1 (iw (p : Int)))) ∧ ST M1 ∧ Df (pTb B) n2 (pTb B) M M1 ∧ m_nx M1 ≤ m_nx M + 8 * (n - a) + 4 + 2 * n ∧ m_sl M1 ≤ m_sl M + 3600 * (n - a) + 5 * n + 60
    | .inr q => ∃ M1 dc' ec' cs', F_X53_line_b4 (N + 1 + e) M o 1 (iw (k : Int)) = some (.inl M1) ∧ q.1 = hd ++ cs' ∧ MRl M1 B o tbl ln dn en lc dc' ec' f n q.2 ns cs' ∧ cI M1 o 3462 = iw ((fla q.1).length : Nat) ∧ ec'.length + (n - q.2) ≤ 1280 ∧ Df (pTb B) n2 (pTb B) M M1 ∧ m_nx M1 ≤ m_nx M + 8 * (q.2 - a) ∧ m_sl M1 ≤ m_sl M + 3600 * (q.2 - a)
  | 0, N, a, k, dc, ec, cs, M, he, h, _, _, _, _, _ => by have := h.1.1.2.2.2.2.2.2.2.1; omega
  | e + 1, N, a, k, dc, ec, cs, M, he, h, hby, hk, k4, hec, hB => by
    have t := h.1.1
    have hS := t.2.2.2.2.2.2.2.2.1
    have hn := t.2.2.2.2.2.1
    have hna := t.2.2.2.2.2.2.2.1
    have ho := t.1
    have hB0 := h.1.2.2.2.2.2.2.2.1
    have hBo := h.1.2.2.2.2.2.2.2.2.1
    have n1 : ¬ (1 : Int32) = 0 := by decide
    have x56 : x_cn 56 ≤ 20 := by decide
    obtain ⟨g1, g2, g3, g4⟩ := h.1.gt
    have hs : F_X53_line_b4 (N + 1 + (e + 1)) M o 1 (iw (k : Int)) = F_X53_line_b4_st (F_X53_line_b4 (N + 1 + e)) M o 1 (iw (k : Int)) := rfl
    unfold tln
    rw [hs]
    have hst : F_X53_line_b4_st (F_X53_line_b4 (N + 1 + e)) M o 1 (iw (k : Int)) = (gi M o 3459).bind fun t3 => (gr M o 3461).bind fun t4 => (gr M t4 3520).bind fun t5 => (vg M t5 67).bind fun _ => (F_J6_size M t5).bind fun z7 => if iw (k : Int) = z7 then (vg M o 54).bind fun _ => (F_X53_wrong M o t3).bind fun z9 => (ie z9.2 z9.1).bind fun _ => some (.inr (z9.1, z9.2)) else (vg M o 54).bind fun _ => tb (F_X53_word M o) fun z11 => (vg z11.2 o 54).bind fun _ => tb (F_X53_mustEnd z11.2 o) fun z13 => kLn (F_X53_line_b4 (N + 1 + e)) o (iw (k : Int)) t3 z13 z11.1 := rfl
    rw [hst]
    simp only [t.gn, g1, g2, g3, g4, hns, Option.bind_some]
    by_cases c : k = C
    · rw [if_pos c, if_pos (show iw (k : Int) = iw (C : Int) by rw [c])]
      exact ⟨M, M_wrongT t _, hS, Df.refl _ _ _ _, by omega, by omega⟩
    · rw [if_neg c, if_neg (show ¬ iw (k : Int) = iw (C : Int) by rw [iw_eq (by omega) (by omega) (by omega) (by omega)]; omega)]
      rw [t.vg, Option.bind_some]
      have ec := M_tcel (α := Mem) t (by omega) (kLn (F_X53_line_b4 (N + 1 + e)) o (iw (k : Int)) (iw (a : Int)))
      cases ht : tcel f n a with
      | inl p =>
        rw [ht] at ec
        obtain ⟨M1, f1, f2, f3, f4, f5⟩ := ec
        exact ⟨M1, f1, f2, f3.mono (fun x i q => by unfold pTb; have := q.1; omega) (fun _ _ q => q) (fun _ _ q => q.elim), by omega, by omega⟩
      | inr q =>
        rw [ht] at ec
        obtain ⟨M1, r, f1, f2⟩ := ec
        have tk := tcel_ok hna ht
        have h1 := h.word f2
        have t1 := h1.1.1
        obtain ⟨d1, d2, d3, d4, d5, d6, d7, d8, d9, d10, d11⟩ := f2
        have nn := d9.1
        have D1 : Df (pTb B) n2 (pTb B) M M1 := d9.mono (fun x i q => by unfold pTb; have := q.1; omega) (fun _ _ q => q) (fun _ _ q => q.elim)
        have hb1 : cI M1 o 3462 = iw ((fla (hd ++ cs)).length : Nat) := by rw [d9.cI ho (fun q => by have := q.2; omega)]; exact hby
        have k41 : m_tg M1 4 = 1091 ∧ m_ln M1 4 = 0 := ⟨(d9.2.2 4 (by omega)).1.trans k4.1, (d9.2.2 4 (by omega)).2.1.trans k4.2⟩
        have hwl : q.1.length ≤ 16000 := by omega
        simp only []
        rw [show (tb (F_X53_word M o) fun z11 => (vg z11.2 o 54).bind fun _ => tb (F_X53_mustEnd z11.2 o) fun z13 => kLn (F_X53_line_b4 (N + 1 + e)) o (iw (k : Int)) (iw (a : Int)) z13 z11.1) = _ from f1]
        unfold kLn
        rw [d1.vg, Option.bind_some, J_len d1, Option.bind_some]
        by_cases c40 : 40 < q.1.length
        · have cb : tbad false (hd ++ cs) q.1 := Or.inl ⟨rfl, c40⟩
          rw [if_pos (show (40 : Int32) < iw (q.1.length : Nat) by rw [show (40 : Int32) = iw ((40 : Nat) : Int) from rfl, iw_le4 (by omega) (by omega)]; exact c40)]
          simp only [tpif cb]
          exact ⟨M1, M_wrongT t1 _, t1.2.2.2.2.2.2.2.2.1, D1, by omega, by omega⟩
        · have cb : ¬ tbad false (hd ++ cs) q.1 := by
            rintro (u | u)
            · exact c40 u.2
            · cases u.1
          rw [if_neg (show ¬ (40 : Int32) < iw (q.1.length : Nat) by rw [show (40 : Int32) = iw ((40 : Nat) : Int) from rfl, iw_le4 (by omega) (by omega)]; exact c40)]
          simp only [fpif cb]
          obtain ⟨A1, A2, A3, dc', a1, a2, a3, a4, a5, a6, a7, a8, a9, a10, a11, a12, a13, a14⟩ := M_addc h1 hb1 d8 (by omega) k41 (by omega) (by omega) d1 d2 (by omega) d4 (by omega) d6
          obtain ⟨e1, e2, e3, e4⟩ := h1.1.gt
          obtain ⟨e5, e6⟩ := h1.gc
          have tA := a10.1.1
          have i44 : F_X53_is A3 o (44 : Int32) = some (mr (isC f n q.2.2 44)) := M_tis tA (c := 44) (by decide)
          have i10 : F_X53_is A3 o (10 : Int32) = some (mr (isC f n q.2.2 10)) := M_tis tA (c := 10) (by decide)
          obtain ⟨x1, x2, x3, x4⟩ := a10.1.gt
          have m0 : mr false = 0 := rfl
          have m1 : ¬ mr true = 0 := by decide
          have hfl : (fla (hd ++ (cs ++ [(q.1, q.2.1)]))).length = (fla (hd ++ cs)).length + q.1.length := by rw [← List.append_assoc, fla_app, List.length_append]
          have hec2 : (ec ++ [m_nx M1]).length = ec.length + 1 := by rw [List.length_append, List.length_singleton]
          obtain ⟨G, y1, y2, y3, y4, y5, y6⟩ := a10.go tk.2.1
          have D3 : Df (pTb B) n2 (pTb B) M G := (D1.trans a12).trans (y4.mono (fun x i q => by unfold pTb; have := q.1; omega) (fun _ _ q => q) (fun _ _ q => q.elim))
          have nA12 := a12.1
          simp only [e1, e5, a2, a3, a1, a4, a5, a6, a7, a8, a9, tA.vg, i44, iw_succ, Option.bind_some]
          rw [List.append_assoc]
          by_cases c4 : isC f n q.2.2 44 = true
          · rw [if_pos c4, c4, if_neg m1]
            unfold F_X53_line_b143
            rw [tA.gn, Option.bind_some, y1, Option.bind_some]
            have ih := M_line_l (B := B) (o := o) (tbl := tbl) (ln := ln) (dn := dn) (lc := lc) (n := n) (C := C) (en := en) (f := f) (ns := ns) (hd := hd) hC hns e N (q.2.2 + 1) (k + 1) dc' (ec ++ [m_nx M1]) (cs ++ [(q.1, q.2.1)]) G (by omega) y2 (by rw [y3, hfl]; exact a11) (by omega) ⟨(D3.2.2 4 (by omega)).1.trans k4.1, (D3.2.2 4 (by omega)).2.1.trans k4.2⟩ (by omega) (by omega)
            cases hT : tln false C f n e (q.2.2 + 1) (k + 1) (hd ++ (cs ++ [(q.1, q.2.1)])) with
            | inl u =>
              rw [hT] at ih
              obtain ⟨M3, i1, i2, i3, i4, i5⟩ := ih
              exact ⟨M3, i1, i2, D3.trans i3, by omega, by omega⟩
            | inr u =>
              rw [hT] at ih
              obtain ⟨M3, dc2, ec2, cs2, i1, i2, i3, i4, i5, i6, i7, i8⟩ := ih
              have hu := (tln_len _ _ _ _ _ (show q.2.2 + 1 ≤ n by omega) (show k + 1 ≤ C by omega) hT).1
              exact ⟨M3, dc2, ec2, cs2, i1, i2, i3, i4, i5, D3.trans i6, by omega, by omega⟩
          · have c10 : isC f n q.2.2 10 = true := tk.2.2.resolve_left c4
            rw [if_neg c4, Bool.eq_false_iff.mpr c4, if_pos m0]
            simp only [i10, c10, x1, x2, x3, x4, hns, Option.bind_some]
            rw [if_neg m1]
            by_cases cc : k + 1 < C
            · rw [if_pos (show True ∧ k + 1 < C from ⟨trivial, cc⟩), if_pos (show iw ((k + 1 : Nat) : Int) < iw (C : Int) by rw [iw_le4 (by omega) (by omega)]; exact cc)]
              have w := M_wrongT (α := Mem) tA (iw (q.2.2 : Int))
              rw [tA.vg, Option.bind_some] at w
              refine ⟨A3, ?_, tA.2.2.2.2.2.2.2.2.1, D1.trans a12, by omega, by omega⟩
              rw [tA.gn, Option.bind_some]
              exact w
            · rw [if_neg (fun h => cc h.2), if_neg (show ¬ iw ((k + 1 : Nat) : Int) < iw (C : Int) by rw [iw_le4 (by omega) (by omega)]; exact cc)]
              refine ⟨G, dc', ec ++ [m_nx M1], cs ++ [(q.1, q.2.1)], ?_, rfl, y2, by show cI G o 3462 = iw ((fla (hd ++ (cs ++ [(q.1, q.2.1)]))).length : Nat); rw [y3, hfl]; exact a11, by show _ + (n - (q.2.2 + 1)) ≤ _; omega, D3, by show m_nx G ≤ m_nx M + 8 * (q.2.2 + 1 - a); omega, by show m_sl G ≤ m_sl M + 3600 * (q.2.2 + 1 - a); omega⟩
              unfold F_X53_line_b143
              rw [tA.gn, Option.bind_some, y1, Option.bind_some, show N + 1 + e = N + e + 1 by omega]
              show F_X53_line_b4_st (F_X53_line_b4 (N + e)) G o (mr false) _ = _
              unfold F_X53_line_b4_st
              rw [if_pos m0]
