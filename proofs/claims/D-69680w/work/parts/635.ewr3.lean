/-! ===== FORMULAS, 60: the engine writes two parts, choices, calls ===== -/
theorem set_mid {α : Type} (xs ys : List α) (u v : α) : (xs ++ (u :: ys)).set xs.length v = xs ++ (v :: ys) := by
  induction xs with
  | nil => rfl
  | cons x xs ih => simp only [List.cons_append, List.length_cons, List.set_cons_succ, ih]
theorem len3 (A B C : List Int32) : (A ++ (B ++ C)).length = A.length + (B.length + C.length) := by rw [List.length_append, List.length_append]
section
variable {M : Mem} {H c lo hi a hh : Nat} {ws : List Int32} {Z : Nat → Prop} {ea : List Nat} {fs : List Fn} {ps : List Int32} {op : Nat → Int32 → Prop} {r1 : Mem → Nat → Nat → Option Mem} {r2 : Mem → Nat → Nat → Int32 → Option Mem}
theorem EW.le (h : EW M H c ws) : H ≤ m_nx M := by have := h.1; omega
theorem E_wBin {o i l : Int32} {x y : Tx} (h1 : InW1 r1 H c Z ea fs ps op hh) (h2 : InW2 r2 H c Z ea fs ps op hh) (w : wt fs ps op (.bin o i l x y)) (hx : x.ht ≤ hh) (hy : y.ht ≤ hh) (nt : NTx M ea (.bin o i l x y) lo hi [a]) (hH : hi ≤ H) (wx : WX M H Z ea fs) (ew : EW M H c ws) (hn : ws.length + 11 * (x.nn + y.nn + 1) ≤ 60000) : ∃ N, F_X34_write_o r1 r2 M a c = some N ∧ EW N H c (ws ++ wE (.bin o i l x y) ws.length) ∧ WF M N H c := by
  obtain ⟨a', cx, cy, m1, m2, q1, nx, ny, ⟨l1, l2, l3, l4⟩, ⟨t2, t3⟩, t4, t5, t6, t7, t8⟩ := nt
  cases q1
  obtain ⟨c', tt, q2, c1, ⟨c2, c3⟩, -, -⟩ := NTx.one x w.2.1 nx
  cases q2
  obtain ⟨wx1, wx2, wy1, wy2, ty⟩ := w
  have LX := (wE_len x ws.length wx1).1 wx2
  have CX := cvw_len x.ln i
  have gA : ∀ O, WF M O H c → gi O a 2240 = some o ∧ gi O a 2243 = some i ∧ gr O a 2241 = some cx ∧ gr O a 2242 = some cy := fun O wO => by
    obtain ⟨j1, j2, j3, -⟩ := wO.at1 t2 (by omega)
    exact ⟨by rw [gi_of (j1.trans t3) (show x_fi 35 2240 = true by decide), j2, t5], by rw [gi_of (j1.trans t3) (show x_fi 35 2243 = true by decide), j2, t6], by rw [gr_of (j1.trans t3) (show x_fr 35 2241 = true by decide), j3, t7], by rw [gr_of (j1.trans t3) (show x_fr 35 2242 = true by decide), j3, t8]⟩
  obtain ⟨gM1, gM2, gM3, gM4⟩ := gA M (WF.refl M H c)
  obtain ⟨N, n1, n2', n3⟩ := h2 x M lo m1 cx ws i wx1 wx2 hx nx (by omega) wx ew (by omega)
  have lnN : (ws ++ (wE x ws.length ++ cvw x.ln i)).length = ws.length + (wE x ws.length ++ cvw x.ln i).length := List.length_append
  have lx2 : (wE x ws.length ++ cvw x.ln i).length ≤ 11 * x.nn := by rw [List.length_append]; omega
  obtain ⟨gN1, gN2, gN3, gN4⟩ := gA N n3
  have nyN : NTx N ea y m1 m2 [cy] := ny.wf (by omega) n3
  obtain ⟨d', dt, q3, d1, ⟨d2, d3⟩, -, -⟩ := NTx.one y wy2 nyN
  cases q3
  have wxN : WX N H Z ea fs := wx.wf ew.le n3
  -- behind both
  have fin : ∀ (zs : List Int32) (O : Mem), EW O H c zs → zs.length ≤ 60000 → WF M O H c → ∃ Q, F_X34_write_b133 r1 r2 O a c = some Q ∧ EW Q H c (zs ++ [8, o, i]) ∧ WF M Q H c := fun zs O eO lO wO => by
    unfold F_X34_write_b133
    obtain ⟨P, p1, p2, p3⟩ := E_addV eO (by omega) 8 (fun z16 => (gi z16 a 2240).bind fun t17 => (vg z16 c 40).bind fun _ => (F_X39_add z16 c t17).bind fun z19 => (gi z19 a 2243).bind fun t20 => (vg z19 c 40).bind fun _ => (F_X39_add z19 c t20).bind fun z22 => some z22)
    rw [p1, (gA P (wO.trans p3)).1, Option.bind_some]
    have b1 : (zs ++ [8]).length ≤ 60001 := by rw [List.length_append, List.length_singleton]; omega
    obtain ⟨Q, u1, u2, u3⟩ := E_addV p2 (by omega) o (fun z19 => (gi z19 a 2243).bind fun t20 => (vg z19 c 40).bind fun _ => (F_X39_add z19 c t20).bind fun z22 => some z22)
    rw [u1, (gA Q ((wO.trans p3).trans u3)).2.1, Option.bind_some]
    obtain ⟨R, v1, v2, v3⟩ := E_addV u2 (by rw [List.length_append, List.length_singleton]; omega) i (fun z22 => some z22)
    rw [v1]
    exact ⟨R, rfl, by simpa only [List.append_assoc, List.cons_append, List.nil_append] using v2, ((wO.trans p3).trans u3).trans v3⟩
  have pl : ws.length + (wE x ws.length ++ cvw x.ln i).length = (ws ++ (wE x ws.length ++ cvw x.ln i)).length := lnN.symm
  have e93 : ∀ s0 : Int32, (s0 = 0 ↔ ¬ isSh o) → ∃ Q, F_X34_write_b93 r1 r2 M s0 a c = some Q ∧ EW Q H c (ws ++ wE (.bin o i l x y) ws.length) ∧ WF M Q H c := fun s0 hs0 => by
    unfold F_X34_write_b93
    rw [gM3, Option.bind_some, gM2, Option.bind_some, vg_of c3 (nd_fi c1).2.2.2.1, Option.bind_some, n1, Option.bind_some]
    show ∃ Q, _ = some Q ∧ EW Q H c (ws ++ ((wE x ws.length ++ cvw x.ln i) ++ (wE y (ws.length + (wE x ws.length ++ cvw x.ln i).length) ++ (if isSh o then [] else cvw y.ln i)) ++ [8, o, i])) ∧ _
    rw [pl]
    have LY := (wE_len y (ws ++ (wE x ws.length ++ cvw x.ln i)).length wy1).1 wy2
    by_cases q : isSh o
    · rw [if_neg (fun z => hs0.mp z q), if_pos q, gN4, Option.bind_some, vg_of d3 (nd_fi d1).2.2.2.1, Option.bind_some]
      obtain ⟨O, o1, o2, o3⟩ := h1 y N m1 m2 cy _ wy1 wy2 hy nyN (by omega) wxN n2' (by omega)
      rw [o1, Option.bind_some]
      obtain ⟨Q, u1, u2, u3⟩ := fin _ O o2 (by rw [List.length_append]; omega) (n3.trans o3)
      exact ⟨Q, u1, by simpa only [List.append_assoc, List.cons_append, List.nil_append, List.append_nil] using u2, u3⟩
    · rw [if_pos (hs0.mpr q), if_neg q, gN4, Option.bind_some, gN2, Option.bind_some, vg_of d3 (nd_fi d1).2.2.2.1, Option.bind_some]
      obtain ⟨O, o1, o2, o3⟩ := h2 y N m1 m2 cy _ i wy1 wy2 hy nyN (by omega) wxN n2' (by omega)
      have CY := cvw_len y.ln i
      rw [o1, Option.bind_some]
      obtain ⟨Q, u1, u2, u3⟩ := fin _ O o2 (by rw [len3]; omega) (n3.trans o3)
      exact ⟨Q, u1, by simpa only [List.append_assoc, List.cons_append, List.nil_append, List.append_nil] using u2, u3⟩
  have ob : 1 ≤ o ∧ o ≤ 17 := by
    rcases ty with ⟨q, -⟩ | ⟨q1, q2, -⟩ | ⟨q1, q2, -⟩ | ⟨q1, q2, -⟩ | ⟨q1, q2, -⟩ | ⟨q1, q2, -⟩ | ⟨q1, q2, -⟩
    · rcases q with rfl | rfl | rfl <;> decide
    · exact ⟨q1, Int32.le_trans q2 (by decide)⟩
    · exact ⟨Int32.le_trans (by decide) q1, Int32.le_trans q2 (by decide)⟩
    · exact ⟨Int32.le_trans (by decide) q1, Int32.le_trans q2 (by decide)⟩
    · exact ⟨Int32.le_trans (by decide) q1, Int32.le_trans q2 (by decide)⟩
    · exact ⟨Int32.le_trans (by decide) q1, q2⟩
    · exact ⟨Int32.le_trans (by decide) q1, q2⟩
  have of : ¬ o = 18 ∧ ¬ o = 19 ∧ (o < 6 → ¬ isSh o) ∧ (¬ o < 6 → (8 : Int32) < o → ¬ isSh o) ∧ (¬ o < 6 → ¬ (8 : Int32) < o → isSh o) := by
    have ob2 : o ≤ 19 := Int32.le_trans ob.2 (by decide)
    rcases op_cases ob.1 ob2 with rfl | rfl | rfl | rfl | rfl | rfl | rfl | rfl | rfl | rfl | rfl | rfl | rfl | rfl | rfl | rfl | rfl | rfl | rfl <;> first | decide | (exfalso; revert ob; decide)
  unfold F_X34_write_o F_X34_write_b92
  simp only [gM1, Option.bind_some]
  rw [if_neg of.1, if_neg of.2.1]
  by_cases q6 : o < 6
  · rw [if_pos q6]
    exact e93 0 ⟨fun _ => of.2.2.1 q6, fun _ => rfl⟩
  rw [if_neg q6]
  by_cases q8 : (8 : Int32) < o
  · rw [if_pos q8]
    exact e93 0 ⟨fun _ => of.2.2.2.1 q6 q8, fun _ => rfl⟩
  · rw [if_neg q8]
    exact e93 1 ⟨fun q => absurd q (by decide), fun q => (q (of.2.2.2.2 q6 q8)).elim⟩
theorem E_wSho {o : Int32} {x y : Tx} (h1 : InW1 r1 H c Z ea fs ps op hh) (w : wt fs ps op (.sho o x y)) (hx : x.ht ≤ hh) (hy : y.ht ≤ hh) (nt : NTx M ea (.sho o x y) lo hi [a]) (hH : hi ≤ H) (wx : WX M H Z ea fs) (ew : EW M H c ws) (hn : ws.length + 11 * (x.nn + y.nn + 1) ≤ 60000) : ∃ N, F_X34_write_o r1 r2 M a c = some N ∧ EW N H c (ws ++ wE (.sho o x y) ws.length) ∧ WF M N H c := by
  obtain ⟨a', cx, cy, m1, m2, q1, nx, ny, ⟨l1, l2, l3, l4⟩, ⟨t2, t3⟩, t4, t5, t7, t8⟩ := nt
  cases q1
  obtain ⟨wx1, wx2, wy1, wy2, ho, -⟩ := w
  obtain ⟨c', tt, q2, c1, ⟨c2, c3⟩, -, -⟩ := NTx.one x wx2 nx
  cases q2
  have LX := (wE_len x ws.length wx1).1 wx2
  have gA : ∀ O, WF M O H c → gi O a 2240 = some o ∧ gr O a 2241 = some cx ∧ gr O a 2242 = some cy := fun O wO => by
    obtain ⟨j1, j2, j3, -⟩ := wO.at1 t2 (by omega)
    exact ⟨by rw [gi_of (j1.trans t3) (show x_fi 35 2240 = true by decide), j2, t5], by rw [gr_of (j1.trans t3) (show x_fr 35 2241 = true by decide), j3, t7], by rw [gr_of (j1.trans t3) (show x_fr 35 2242 = true by decide), j3, t8]⟩
  obtain ⟨gM1, gM3, gM4⟩ := gA M (WF.refl M H c)
  obtain ⟨N, n1, n2', n3⟩ := h1 x M lo m1 cx ws wx1 wx2 hx nx (by omega) wx ew (by omega)
  have lnN : (ws ++ wE x ws.length).length = ws.length + (wE x ws.length).length := List.length_append
  obtain ⟨gN1, gN3, gN4⟩ := gA N n3
  have fin : ∀ v : Int32, ∃ Q, F_X34_write_b43 r1 r2 N c v a c = some Q ∧ EW Q H c (ws ++ (wE x ws.length ++ [v, iw ((ws.length + (wE x ws.length).length + 2 + (wE y (ws.length + (wE x ws.length).length + 2)).length : Nat) : Int)] ++ wE y (ws.length + (wE x ws.length).length + 2))) ∧ WF M Q H c := fun v => by
    unfold F_X34_write_b43
    obtain ⟨O, o1, o2, o3⟩ := E_addV n2' (by omega) v (fun z2 => (vg z2 c 40).bind fun _ => (F_X39_open z2 c).bind fun z4 => (gr z4.2 a 2242).bind fun t5 => (vg z4.2 t5 29).bind fun _ => (r1 z4.2 t5 c).bind fun z7 => (gr z7 c 2560).bind fun t8 => (gi z7 c 2561).bind fun t9 => (si z7 t8 z4.1 t9).bind fun M10 => some M10)
    rw [o1]
    have b1 : (ws ++ wE x ws.length ++ [v]).length = ws.length + (wE x ws.length).length + 1 := by rw [List.length_append, List.length_singleton, lnN]
    obtain ⟨P, p1, p2, p3⟩ := E_openV o2 (by omega) (fun z4 => (gr z4.2 a 2242).bind fun t5 => (vg z4.2 t5 29).bind fun _ => (r1 z4.2 t5 c).bind fun z7 => (gr z7 c 2560).bind fun t8 => (gi z7 c 2561).bind fun t9 => (si z7 t8 z4.1 t9).bind fun M10 => some M10)
    have wP := (n3.trans o3).trans p3
    have nyP : NTx P ea y m1 m2 [cy] := ny.wf (by omega) wP
    obtain ⟨d', dt, q3, d1, ⟨d2, d3⟩, -, -⟩ := NTx.one y wy2 nyP
    cases q3
    rw [p1, (gA P wP).2.2, Option.bind_some, vg_of d3 (nd_fi d1).2.2.2.1, Option.bind_some]
    have b2 : (ws ++ wE x ws.length ++ [v] ++ [-1]).length = ws.length + (wE x ws.length).length + 2 := by rw [List.length_append, List.length_singleton, b1]
    have LY := (wE_len y (ws.length + (wE x ws.length).length + 2) wy1).1 wy2
    obtain ⟨Q, u1, u2, u3⟩ := h1 y P m1 m2 cy _ wy1 wy2 hy nyP (by omega) (wx.wf ew.le wP) p2 (by omega)
    rw [b2] at u2
    have b3 : (ws ++ wE x ws.length ++ [v] ++ [-1] ++ wE y (ws.length + (wE x ws.length).length + 2)).length = ws.length + (wE x ws.length).length + 2 + (wE y (ws.length + (wE x ws.length).length + 2)).length := by rw [List.length_append, b2]
    obtain ⟨R, v1, v2, v3⟩ := E_fillW u2 (j := (ws ++ wE x ws.length ++ [v]).length) (by omega) (by omega)
    rw [u1, Option.bind_some]
    refine ⟨R, v1, ?_, (wP.trans u3).trans v3⟩
    have e1 : ws ++ wE x ws.length ++ [v] ++ [-1] ++ wE y (ws.length + (wE x ws.length).length + 2) = (ws ++ wE x ws.length ++ [v]) ++ ((-1) :: wE y (ws.length + (wE x ws.length).length + 2)) := by simp only [List.append_assoc, List.cons_append, List.nil_append]
    rw [b3, e1, set_mid] at v2
    simpa only [List.append_assoc, List.cons_append, List.nil_append, List.append_nil] using v2
  show ∃ N, _ = some N ∧ EW N H c (ws ++ (wE x ws.length ++ [if o = 18 then 9 else 10, iw ((ws.length + (wE x ws.length).length + 2 + (wE y (ws.length + (wE x ws.length).length + 2)).length : Nat) : Int)] ++ wE y (ws.length + (wE x ws.length).length + 2))) ∧ _
  have e18 : F_X34_write_o r1 r2 M a c = F_X34_write_b18 r1 r2 M a c := by
    unfold F_X34_write_o
    rw [gM1, Option.bind_some]
    by_cases q : o = 18
    · rw [if_pos q]
    · rw [if_neg q, Option.bind_some, if_pos (ho.resolve_left q)]
  rw [e18]
  unfold F_X34_write_b18
  rw [gM3, Option.bind_some, vg_of c3 (nd_fi c1).2.2.2.1, Option.bind_some, n1, Option.bind_some, gN1, Option.bind_some]
  by_cases q : o = 18
  · rw [if_pos q, if_pos q]
    exact fin 9
  · rw [if_neg q, if_neg q]
    exact fin 10
theorem E_wCnd {l : Int32} {z x y : Tx} (h1 : InW1 r1 H c Z ea fs ps op hh) (h2 : InW2 r2 H c Z ea fs ps op hh) (w : wt fs ps op (.cnd l z x y)) (hz : z.ht ≤ hh) (hx : x.ht ≤ hh) (hy : y.ht ≤ hh) (nt : NTx M ea (.cnd l z x y) lo hi [a]) (hH : hi ≤ H) (wx : WX M H Z ea fs) (ew : EW M H c ws) (hn : ws.length + 11 * (z.nn + x.nn + y.nn + 1) ≤ 60000) : ∃ N, F_X35_write_o r1 r2 M a c = some N ∧ EW N H c (ws ++ wE (.cnd l z x y) ws.length) ∧ WF M N H c := by
  obtain ⟨a', cz, cx, cy, m0, m1, m2, q1, nz, nx, ny, ⟨l1, l2, l3, l4, l5⟩, ⟨t2, t3⟩, t4, t6, t7, t8⟩ := nt
  cases q1
  obtain ⟨wz1, wz2, wx1, wx2, wy1, wy2, -⟩ := w
  obtain ⟨c', tt, q2, c1, ⟨c2, c3⟩, -, -⟩ := NTx.one z wz2 nz
  cases q2
  have gA : ∀ O, WF M O H c → gi O a 1857 = some l ∧ gr O a 2304 = some cz ∧ gr O a 2305 = some cx ∧ gr O a 2306 = some cy := fun O wO => by
    obtain ⟨j1, j2, j3, -⟩ := wO.at1 t2 (by omega)
    exact ⟨by rw [gi_of (j1.trans t3) (show x_fi 36 1857 = true by decide), j2, t4], by rw [gr_of (j1.trans t3) (show x_fr 36 2304 = true by decide), j3, t6], by rw [gr_of (j1.trans t3) (show x_fr 36 2305 = true by decide), j3, t7], by rw [gr_of (j1.trans t3) (show x_fr 36 2306 = true by decide), j3, t8]⟩
  obtain ⟨C, hC⟩ : ∃ C, C = wE z ws.length := ⟨_, rfl⟩
  have LZ' := (wE_len z ws.length wz1).1 wz2
  rw [← hC] at LZ'
  obtain ⟨p1, hp1⟩ : ∃ p1, p1 = ws.length + C.length + 2 := ⟨_, rfl⟩
  obtain ⟨Y, hY⟩ : ∃ Y, Y = wE x p1 ++ cvw x.ln l := ⟨_, rfl⟩
  have LX := (wE_len x p1 wx1).1 wx2
  have CX := cvw_len x.ln l
  have lY : Y.length ≤ 11 * x.nn := by rw [hY, List.length_append]; omega
  obtain ⟨p2, hp2⟩ : ∃ p2, p2 = p1 + Y.length + 2 := ⟨_, rfl⟩
  obtain ⟨W, hW⟩ : ∃ W, W = wE y p2 ++ cvw y.ln l := ⟨_, rfl⟩
  have LY := (wE_len y p2 wy1).1 wy2
  have CY := cvw_len y.ln l
  have lW : W.length ≤ 11 * y.nn := by rw [hW, List.length_append]; omega
  have goal : wE (.cnd l z x y) ws.length = C ++ [11, iw (p2 : Int)] ++ Y ++ [12, iw ((p2 + W.length : Nat) : Int)] ++ W := by
    rw [hW, hp2, hY, hp1, hC]; rfl
  obtain ⟨N, n1, n2', n3⟩ := h1 z M lo m0 cz ws wz1 wz2 hz nz (by omega) wx ew (by omega)
  rw [← hC] at n2'
  unfold F_X35_write_o
  rw [(gA M (WF.refl M H c)).2.1, Option.bind_some, vg_of c3 (nd_fi c1).2.2.2.1, Option.bind_some, n1, Option.bind_some]
  have b0 : (ws ++ C).length = ws.length + C.length := List.length_append
  obtain ⟨O, o1, o2, o3⟩ := E_addV n2' (by omega) 11 (fun z5 => (vg z5 c 40).bind fun _ => (F_X39_open z5 c).bind fun z7 => (gr z7.2 a 2305).bind fun t8 => (gi z7.2 a 1857).bind fun t9 => (vg z7.2 t8 29).bind fun _ => (r2 z7.2 t8 c t9).bind fun z11 => (vg z11 c 40).bind fun _ => (F_X39_add z11 c 12).bind fun z13 => (vg z13 c 40).bind fun _ => (F_X39_open z13 c).bind fun z15 => (gr z15.2 c 2560).bind fun t16 => (gi z15.2 c 2561).bind fun t17 => (si z15.2 t16 z7.1 t17).bind fun M18 => (gr M18 a 2306).bind fun t19 => (gi M18 a 1857).bind fun t20 => (vg M18 t19 29).bind fun _ => (r2 M18 t19 c t20).bind fun z22 => (gr z22 c 2560).bind fun t23 => (gi z22 c 2561).bind fun t24 => (si z22 t23 z15.1 t24).bind fun M25 => some M25)
  rw [o1]
  have b1 : (ws ++ C ++ [11]).length = ws.length + C.length + 1 := by rw [List.length_append, List.length_singleton, b0]
  obtain ⟨P, q1', q2', q3'⟩ := E_openV o2 (by omega) (fun z7 => (gr z7.2 a 2305).bind fun t8 => (gi z7.2 a 1857).bind fun t9 => (vg z7.2 t8 29).bind fun _ => (r2 z7.2 t8 c t9).bind fun z11 => (vg z11 c 40).bind fun _ => (F_X39_add z11 c 12).bind fun z13 => (vg z13 c 40).bind fun _ => (F_X39_open z13 c).bind fun z15 => (gr z15.2 c 2560).bind fun t16 => (gi z15.2 c 2561).bind fun t17 => (si z15.2 t16 z7.1 t17).bind fun M18 => (gr M18 a 2306).bind fun t19 => (gi M18 a 1857).bind fun t20 => (vg M18 t19 29).bind fun _ => (r2 M18 t19 c t20).bind fun z22 => (gr z22 c 2560).bind fun t23 => (gi z22 c 2561).bind fun t24 => (si z22 t23 z15.1 t24).bind fun M25 => some M25)
  have wP := (n3.trans o3).trans q3'
  have nxP : NTx P ea x m0 m1 [cx] := nx.wf (by omega) wP
  obtain ⟨d', dt, q4, d1, ⟨d2, d3⟩, -, -⟩ := NTx.one x wx2 nxP
  cases q4
  obtain ⟨g1, g2, g3, g4⟩ := gA P wP
  rw [q1', g3, Option.bind_some, g1, Option.bind_some, vg_of d3 (nd_fi d1).2.2.2.1, Option.bind_some]
  have b2 : (ws ++ C ++ [11] ++ [-1]).length = p1 := by rw [List.length_append, List.length_singleton, b1, hp1]
  obtain ⟨Q, u1, u2, u3⟩ := h2 x P m0 m1 cx _ l wx1 wx2 hx nxP (by omega) (wx.wf ew.le wP) q2' (by omega)
  rw [b2, ← hY] at u2
  have wQ := wP.trans u3
  rw [u1, Option.bind_some]
  have b3 : (ws ++ C ++ [11] ++ [-1] ++ Y).length = p1 + Y.length := by rw [List.length_append, b2]
  obtain ⟨R, v1, v2, v3⟩ := E_addV u2 (by omega) 12 (fun z13 => (vg z13 c 40).bind fun _ => (F_X39_open z13 c).bind fun z15 => (gr z15.2 c 2560).bind fun t16 => (gi z15.2 c 2561).bind fun t17 => (si z15.2 t16 (iw ((ws ++ C ++ [11]).length : Int)) t17).bind fun M18 => (gr M18 a 2306).bind fun t19 => (gi M18 a 1857).bind fun t20 => (vg M18 t19 29).bind fun _ => (r2 M18 t19 c t20).bind fun z22 => (gr z22 c 2560).bind fun t23 => (gi z22 c 2561).bind fun t24 => (si z22 t23 z15.1 t24).bind fun M25 => some M25)
  rw [v1]
  have b4 : (ws ++ C ++ [11] ++ [-1] ++ Y ++ [12]).length = p1 + Y.length + 1 := by rw [List.length_append, List.length_singleton, b3]
  obtain ⟨T, w1, w2, w3⟩ := E_openV v2 (by omega) (fun z15 => (gr z15.2 c 2560).bind fun t16 => (gi z15.2 c 2561).bind fun t17 => (si z15.2 t16 (iw ((ws ++ C ++ [11]).length : Int)) t17).bind fun M18 => (gr M18 a 2306).bind fun t19 => (gi M18 a 1857).bind fun t20 => (vg M18 t19 29).bind fun _ => (r2 M18 t19 c t20).bind fun z22 => (gr z22 c 2560).bind fun t23 => (gi z22 c 2561).bind fun t24 => (si z22 t23 z15.1 t24).bind fun M25 => some M25)
  rw [w1]
  have wT := (wQ.trans v3).trans w3
  have b5 : (ws ++ C ++ [11] ++ [-1] ++ Y ++ [12] ++ [-1]).length = p2 := by rw [List.length_append, List.length_singleton, b4, hp2]
  obtain ⟨U, x1, x2, x3⟩ := E_fillW w2 (j := (ws ++ C ++ [11]).length) (by omega) (by omega)
  have e5 : ws ++ C ++ [11] ++ [-1] ++ Y ++ [12] ++ [-1] = (ws ++ C ++ [11]) ++ ((-1) :: (Y ++ [12] ++ [-1])) := by simp only [List.append_assoc, List.cons_append, List.nil_append]
  rw [b5, e5, set_mid] at x2
  have wU := wT.trans x3
  have st : ∀ k : Mem → Option Mem, ((gr T c 2560).bind fun t16 => (gi T c 2561).bind fun t17 => (si T t16 (iw ((ws ++ C ++ [11]).length : Int)) t17).bind fun M18 => k M18) = k U := fun k => by
    have e0 : (((gr T c 2560).bind fun t16 => (gi T c 2561).bind fun t17 => (si T t16 (iw ((ws ++ C ++ [11]).length : Int)) t17).bind fun M18 => some M18).bind k) = k U := by rw [x1, Option.bind_some]
    rw [← e0, w2.rw, w2.sz, Option.bind_some, Option.bind_some, Option.bind_some, Option.bind_some]
    cases si T (cR T c 2560) (iw ((ws ++ C ++ [11]).length : Int)) (iw ((ws ++ C ++ [11] ++ [-1] ++ Y ++ [12] ++ [-1]).length : Int)) <;> rfl
  have nyU : NTx U ea y m1 m2 [cy] := ny.wf (by omega) wU
  obtain ⟨e', et', q5, f1, ⟨f2, f3⟩, -, -⟩ := NTx.one y wy2 nyU
  cases q5
  obtain ⟨i1, i2, i3, i4⟩ := gA U wU
  rw [st, i4, Option.bind_some, i1, Option.bind_some, vg_of f3 (nd_fi f1).2.2.2.1, Option.bind_some]
  have b6 : (ws ++ C ++ [11] ++ (iw (p2 : Int) :: (Y ++ [12] ++ [-1]))).length = p2 := by
    have b5' := b5
    simp only [List.length_append, List.length_cons, List.length_nil] at b5' ⊢
    omega
  obtain ⟨V, y1, y2, y3⟩ := h2 y U m1 m2 cy _ l wy1 wy2 hy nyU (by omega) (wx.wf ew.le wU) x2 (by omega)
  rw [b6, ← hW] at y2
  rw [y1, Option.bind_some]
  have b7 : (ws ++ C ++ [11] ++ (iw (p2 : Int) :: (Y ++ [12] ++ [-1])) ++ W).length = p2 + W.length := by rw [List.length_append, b6]
  obtain ⟨X, z1, z2, z3⟩ := E_fillW y2 (j := (ws ++ C ++ [11] ++ [-1] ++ Y ++ [12]).length) (by omega) (by omega)
  refine ⟨X, z1, ?_, (wU.trans y3).trans z3⟩
  have e7 : ws ++ C ++ [11] ++ (iw (p2 : Int) :: (Y ++ [12] ++ [-1])) ++ W = (ws ++ C ++ [11] ++ (iw (p2 : Int) :: (Y ++ [12]))) ++ ((-1) :: W) := by simp only [List.append_assoc, List.cons_append, List.nil_append]
  have l7 : (ws ++ C ++ [11] ++ [-1] ++ Y ++ [12]).length = (ws ++ C ++ [11] ++ (iw (p2 : Int) :: (Y ++ [12]))).length := by
    simp only [List.length_append, List.length_cons, List.length_nil]
    omega
  rw [b7, e7, l7, set_mid] at z2
  rw [goal]
  simpa only [List.append_assoc, List.cons_append, List.nil_append, List.append_nil] using z2
end
