/-! ===== CALLS, 4: put ===== -/
theorem lane_eq (v : Int32) : ∃ z : Int32, F_X20_isLane v = some z ∧ F_X16_isLane v = some z ∧ ((z = 0 ∧ ¬ Lk v) ∨ (z = 1 ∧ Lk v)) := by
  unfold F_X20_isLane F_X20_isLane_b14 F_X20_isLane_b15 F_X16_isLane F_X16_isLane_b14 F_X16_isLane_b15
  by_cases c1 : v < 0
  · refine ⟨0, by rw [if_pos c1]; rfl, by rw [if_pos c1]; rfl, Or.inl ⟨rfl, fun hl => ?_⟩⟩
    rcases hl with rfl | rfl | rfl | rfl | rfl | rfl | rfl | rfl <;> revert c1 <;> decide
  · by_cases c2 : 7 < v
    · refine ⟨0, by rw [if_neg c1, if_pos c2]; rfl, by rw [if_neg c1, if_pos c2]; rfl, Or.inl ⟨rfl, fun hl => ?_⟩⟩
      rcases hl with rfl | rfl | rfl | rfl | rfl | rfl | rfl | rfl <;> revert c2 <;> decide
    · refine ⟨1, by rw [if_neg c1, if_neg c2]; rfl, by rw [if_neg c1, if_neg c2]; rfl, Or.inr ⟨rfl, ?_⟩⟩
      rw [Int32.lt_iff_toInt_lt] at c1 c2
      have e0 : (0 : Int32).toInt = 0 := rfl
      have e7 : (7 : Int32).toInt = 7 := by decide
      have hv := i32_nat (v := v) (by omega)
      have : v.toInt.toNat = 0 ∨ v.toInt.toNat = 1 ∨ v.toInt.toNat = 2 ∨ v.toInt.toNat = 3 ∨ v.toInt.toNat = 4 ∨ v.toInt.toNat = 5 ∨ v.toInt.toNat = 6 ∨ v.toInt.toNat = 7 := by omega
      unfold Lk
      rcases this with e | e | e | e | e | e | e | e <;> rw [e] at hv <;> rw [hv] <;> decide
/-- the spot in a grid of the model alone -/
theorem M_spotv {M : Mem} {b : Nat} {k : Int32} {n : Nat} {z : Nat → Nat} {s t : Nat → Int32} {x y : Int32} {d : Nat} {p : Int32} (h : ST M) (gM : GM M b k n z t y d p) (hn : n ≤ 4) (hz : ∀ i, i < n → z i ≤ 4096) (hv : prd z n ≠ 0 → x = y ∧ ∀ i, i < n → 1 < z i → s i = t i) {u : Nat} (hu : u ≤ 4) (w : Nat → Int32) (hw : ∀ i, i < u → cI M 1072 i = w i) :
    F_X16_spotIn M 1068 b (iw (u : Int)) = some (spv n z s x u w) := by
  have eq : iw (u : Int) = iw (n : Int) ↔ u = n := by rw [iw_eq (by omega) (by omega) (by omega) (by omega)]; omega
  unfold spv
  by_cases hun : u = n
  · subst hun
    have lM := M_spot_loop h gM hn hz w (fun i hi => hw i hi) u xN 0 y (by omega) (by have : xN = 1099511627776 := rfl; omega)
    have uM : F_X16_spotIn M 1068 b (iw (u : Int)) = F_X16_spotIn_b18 xN M 1068 b (iw (u : Int)) y (iw ((0 : Nat) : Int)) := by
      unfold F_X16_spotIn
      simp only [vg_of gM.2.2.1 (show x_isa 23 23 = true by decide), M_axes gM, gi_of gM.2.2.1 (show x_fi 23 1475 = true by decide), gM.2.2.2.2.2.2.1, Option.bind_some, if_true]
      rfl
    rw [uM, if_pos rfl]
    by_cases ha : ∀ i, i < u → (0 ≤ (w i).toInt ∧ (w i).toInt < z i)
    · have h0 : prd z u ≠ 0 := (prd_pos u).mpr (fun i hi => by have := ha i hi; omega)
      obtain ⟨v1, v2⟩ := hv h0
      have hix : ∀ i, i < u → (fun i => (w i).toInt.toNat) i < z i := fun i hi => by
        have := ha i hi
        show (w i).toInt.toNat < z i
        omega
      have e0 : sm t (fun i => (w i).toInt.toNat) 0 = 0 := rfl
      have ex : x = iw x.toInt := (iw_of _).symm
      rw [if_pos ha, lM.1 (fun i _ hi => ha i hi), e0, Int.sub_zero, ← v1, ← sm_ag u hix v2, ex, iw_add, ← ex]
    · rw [if_neg ha]
      exact lM.2 (fun hh => ha (fun i hi => hh i (Nat.zero_le _) hi))
  · have hne : ¬ iw (u : Int) = iw (n : Int) := fun hh => hun (eq.mp hh)
    rw [if_neg hun]
    unfold F_X16_spotIn
    simp only [vg_of gM.2.2.1 (show x_isa 23 23 = true by decide), M_axes gM, Option.bind_some, hne, if_false]
/-- a cell of both gets a value -/
theorem I5w.put {M : Mem} {m w : Nat} {K : Nat → Int32} {n : Nat → Nat} {Z : Nat → Nat → Nat} {S T : Nat → Nat → Int32} {X Y : Nat → Int32} {C D L : Nat → Nat} {P : Nat → Int32} (h5 : I5w M m w K n Z S T X Y C D L P) {j : Nat} (j1 : 1 ≤ j) (j2 : j ≤ m) (hj : cR M 1005 j ≠ 0) (q : Nat) {v : Int64} (hv : vb (K j) v) : I5w (wJ (wJ M (C j) q v) (D j) q v) m w K n Z S T X Y C D L P := by
  obtain ⟨q1, q2, q3, q4, q5, q6, q7, q8⟩ := h5
  refine ⟨q1, q2, q3, q4, q5, q6, fun g a1 a2 => ?_, q8⟩
  rcases q7 g a1 a2 with hz | gp
  · exact Or.inl hz
  · right
    have hg : cR M 1005 g ≠ 0 := by have := gp.1.1; omega
    obtain ⟨s1, s2, s3⟩ := q8 g j a1 a2 j1 j2 hg hj
    obtain ⟨-, -, s4⟩ := q8 j g j1 j2 a1 a2 hj hg
    obtain ⟨gE, gM, hk, hn, hz, hc, hp, hC, hvl⟩ := gp
    refine ⟨gE, gM, hk, hn, hz, hc, hp, ?_, hvl⟩
    obtain ⟨c1, c2, c3, c4, c5, c6, c7, c8, c9, c10⟩ := hC
    refine ⟨c1, c2, c3, c4, c5, c6, c7, c8, c9, fun i hi => ?_⟩
    simp only [cJ_wJ]
    by_cases e : C g = C j
    · have eD := s1.mp e
      have n1 : ¬ C g = D j := s3
      have n2 : ¬ D g = C j := fun hh => s4 hh.symm
      have n1' : ¬ C j = D j := by rw [← e]; exact n1
      have n2' : ¬ D j = C j := fun hh => n1' hh.symm
      by_cases ei : i = q
      · simp only [e, eD, ei, n1', n2', false_and, if_false, and_self, if_true]
        exact ⟨trivial, by rw [s2 e]; exact hv⟩
      · simp only [e, eD, ei, and_false, if_false]
        have := c10 i hi
        rw [e, eD] at this
        exact this
    · have eD : ¬ D g = D j := fun hh => e (s1.mpr hh)
      have n1 : ¬ C g = D j := s3
      have n2 : ¬ D g = C j := fun hh => s4 hh.symm
      simp only [e, eD, n1, n2, false_and, if_false]
      exact c10 i hi
/-- the rows of cells of grids -/
def qG (M : Mem) : Nat → Nat → Prop := fun a _ => ∃ g : Nat, 1 ≤ g ∧ (g : Int) ≤ (cI M 1004 193).toInt ∧ cR M 1005 g ≠ 0 ∧ (a = cR M (cR M 1005 g) 1413 ∨ a = cR M (cR M 1070 g) 1476)
theorem I5w.qG {M : Mem} {m w : Nat} {K : Nat → Int32} {n : Nat → Nat} {Z : Nat → Nat → Nat} {S T : Nat → Nat → Int32} {X Y : Nat → Int32} {C D L : Nat → Nat} {P : Nat → Int32} (h5 : I5w M m w K n Z S T X Y C D L P) {j : Nat} (j1 : 1 ≤ j) (j2 : j ≤ m) (hj : cR M 1005 j ≠ 0) (i : Nat) : qG M (C j) i ∧ qG M (D j) i := by
  obtain ⟨q1, q2, q3, q4, q5, q6, q7, q8⟩ := h5
  have hm : (j : Int) ≤ (cI M 1004 193).toInt := by rw [q3, iw_toInt (by omega) (by omega)]; omega
  rcases q7 j j1 j2 with hz | gp
  · exact absurd hz.1 hj
  · exact ⟨⟨j, j1, hm, hj, Or.inl gp.1.2.2.2.2.2.2.2.2.1.symm⟩, ⟨j, j1, hm, hj, Or.inr gp.2.1.2.2.2.2.2.2.2.1.symm⟩⟩
def pPut : Nat → Nat → Prop := fun a i => (a = 1000 ∧ i = 87) ∨ (a = 1068 ∧ i = 1099)
theorem qt_put : qt pPut := fun a i h p => by unfold pPut at p; omega
theorem I4.put {M M' : Mem} {Q R : Nat → Nat → Prop} (h : ST M) (d : Df pPut Q R M M') (h4 : I4 M) : I4 M' := by
  have h0 := h.1
  refine I4.df h d h4 ?_ (fun a i hp hq => ?_)
  · rw [d.cI (by omega) (by unfold pPut; omega), d.cI (by omega) (by unfold pPut; omega)]
    exact h4.1
  · unfold pPut at hq
    omega
theorem c_put {M : Mem} {g l : Int32} {v : Int64} (h : ST M) (h3 : I3 M) (h4 : I4 M) (h5 : I5 M) : ∃ (r : Int32) (M1 M2 : Mem), F_X0_put M 1000 g l v = some (r, M1) ∧ F_X16_put M1 1068 g l v = some (r, M2) ∧ I3 M2 ∧ I4 M2 ∧ I5 M2 ∧ Df pPut (qG M) n2 M M2 ∧ m_nx M2 = m_nx M ∧ m_sl M2 = m_sl M := by
  obtain ⟨u, hu, k1, k2, k3⟩ := h3
  obtain ⟨m, w, K, n, Z, S, T, X, Y, C, D, L, P, h5⟩ := h5
  have n10 : ¬ (1 : Int32) = 0 := by decide
  have hA : ST (wI M 1000 87 0) := h
  have dA : Df pPut n2 n2 M (wI M 1000 87 0) := Df.wI _ (Or.inl ⟨rfl, rfl⟩)
  have h4A : I4 (wI M 1000 87 0) := I4.put h dA h4
  have h5A : I5w (wI M 1000 87 0) m w K n Z S T X Y C D L P := h5.df h dA qt_put qt_n2 qt_n2 (fun a i h1 h2 => by unfold pGr at h1; unfold pPut at h2; omega) (fun i => ⟨id, id⟩)
  -- nothing written but the counts
  have dB : Df pPut (qG M) n2 M (wI (wI M 1000 87 0) 1068 1099 0) := (Df.wI _ (Or.inl ⟨rfl, rfl⟩)).trans (Df.wI _ (Or.inr ⟨rfl, rfl⟩))
  have d3 : ∀ N : Mem, cI N 1000 87 = 0 → cI N 1068 1099 = 0 → I3 N := fun N a b => I3.zero a b
  have e3B : I3 (wI (wI M 1000 87 0) 1068 1099 0) := d3 _ (by simp only [cI_wI, Nat.reduceEqDiff, and_self, and_false, false_and, if_true, if_false]) (by simp only [cI_wI, and_self, if_true])
  have e4B : I4 (wI (wI M 1000 87 0) 1068 1099 0) := I4.put h dB h4
  have h5B : I5w (wI (wI M 1000 87 0) 1068 1099 0) m w K n Z S T X Y C D L P := h5.df h ((Df.wI (P := pPut) (Q := n2) (R := n2) 0 (Or.inl ⟨rfl, rfl⟩)).trans (Df.wI 0 (Or.inr ⟨rfl, rfl⟩))) qt_put qt_n2 qt_n2 (fun a i h1 h2 => by unfold pGr at h1; unfold pPut at h2; omega) (fun i => ⟨id, id⟩)
  have e5B : I5 (wI (wI M 1000 87 0) 1068 1099 0) := ⟨m, w, K, n, Z, S, T, X, Y, C, D, L, P, h5B⟩
  have fin : ∀ r : Int32, F_X0_put M 1000 g l v = some (r, wI M 1000 87 0) → F_X16_put (wI M 1000 87 0) 1068 g l v = some (r, wI (wI M 1000 87 0) 1068 1099 0) → ∃ (r : Int32) (M1 M2 : Mem), F_X0_put M 1000 g l v = some (r, M1) ∧ F_X16_put M1 1068 g l v = some (r, M2) ∧ I3 M2 ∧ I4 M2 ∧ I5 M2 ∧ Df pPut (qG M) n2 M M2 ∧ m_nx M2 = m_nx M ∧ m_sl M2 = m_sl M :=
    fun r a b => ⟨r, _, _, a, b, e3B, e4B, e5B, dB, rfl, rfl⟩
  obtain ⟨zl, l1, l2, l3⟩ := lane_eq l
  rcases look hA h4A h5A g with ⟨b1, b2, e1, e2, -⟩ | ⟨b1, b2, e1, e2, -, e3⟩ | ⟨b1, b2, j, j1, j2, hg, e1, e4, e5, -, e3, e6, gp⟩
  · simp only [cI_wI, Nat.reduceEqDiff, and_false, false_and, if_false] at b2
    refine fin (-13) ?_ ?_
    · simp only [F_X0_put, g1000_87, p1000_87, v1000, h, ST_wI, e1, e2, Option.bind_some, if_true, Nat.reduceEqDiff, if_false]
    · simp only [F_X16_put, g1068_1095, g1068_1099, p1068_1099, h, ST_wI, cI_wI, Nat.reduceEqDiff, and_false, false_and, if_false, b2, n10, Option.bind_some]
  · have e3' : F_X16_isGrid (wI (wI M 1000 87 0) 1068 1099 0) 1068 g = some 0 := e3
    simp only [cI_wI, Nat.reduceEqDiff, and_false, false_and, if_false] at b2
    refine fin (-14) ?_ ?_
    · simp only [F_X0_put, g1000_87, p1000_87, v1000, h, ST_wI, e1, e2, Option.bind_some, if_true, Nat.reduceEqDiff, if_false]
    · simp only [F_X16_put, F_X16_put_b36, g1068_1095, g1068_1099, p1068_1099, v1068, h, ST_wI, cI_wI, Nat.reduceEqDiff, and_false, false_and, if_false, b2, e3', Option.bind_some, if_true]
  · have e3' : ∀ N : Mem, m_tg N = m_tg (wI M 1000 87 0) → True := fun _ _ => trivial
    simp only [cI_wI, Nat.reduceEqDiff, and_false, false_and, if_false] at b2
    have gM1 : F_X16_isGrid (wI (wI M 1000 87 0) 1068 1099 0) 1068 g = some 1 := e3
    have aM1 : ar (wI (wI M 1000 87 0) 1068 1099 0) 1070 g = some (cR M 1070 j) := e6
    rcases l3 with ⟨rfl, hl⟩ | ⟨rfl, hl⟩
    · refine fin (-14) ?_ ?_
      · simp only [F_X0_put, g1000_87, p1000_87, v1000, h, ST_wI, e1, e4, e5, l1, Option.bind_some, if_true, if_false]
      · simp only [F_X16_put, F_X16_put_b36, g1068_1095, g1068_1099, p1068_1099, v1068, h, ST_wI, cI_wI, Nat.reduceEqDiff, and_false, false_and, if_false, b2, gM1, n10, l2, Option.bind_some, if_true]
    · obtain ⟨zb, y1, y2, y3, y4⟩ := bits_eq hl v
      obtain ⟨zf, f1, f2, f3, f4⟩ := fits_eq hl gp.2.2.1
      obtain ⟨gE, gM, hk, hn, hz, hc, hp, hC, hvl⟩ := gp
      have gp : GP (wI M 1000 87 0) (cR (wI M 1000 87 0) 1005 j) (cR (wI M 1000 87 0) 1070 j) (K j) (n j) (Z j) (S j) (T j) (X j) (Y j) (C j) (D j) (L j) (P j) := ⟨gE, gM, hk, hn, hz, hc, hp, hC, hvl⟩
      have gpB := gp_wI (i := 1099) (v := 0) (show 1068 < 1334 by decide) gp
      have hsp : ∀ N : Mem, (∀ i, i < u → cI N 1061 i = cI M 1061 i ∧ cI N 1072 i = cI M 1072 i) → ∀ i, i < u → cI N 1061 i = cI M 1061 i ∧ cI N 1072 i = cI M 1061 i := fun N hN i hi => ⟨(hN i hi).1, (hN i hi).2.trans (k3 i hi).symm⟩
      obtain ⟨s1, -, spot⟩ := gp.spot hA hu (fun i => cI M 1061 i) (hsp _ (fun i hi => by simp only [cI_wI, Nat.reduceEqDiff, false_and, if_false, and_self]))
      obtain ⟨-, s2, -⟩ := gpB.spot (M := wI (wI M 1000 87 0) 1068 1099 0) h hu (fun i => cI M 1061 i) (hsp _ (fun i hi => by simp only [cI_wI, Nat.reduceEqDiff, false_and, if_false, and_self]))
      obtain ⟨at', hat⟩ : ∃ at', at' = spv (n j) (Z j) (S j) (X j) u (fun i => cI M 1061 i) := ⟨_, rfl⟩
      rw [← hat] at s1 s2 spot
      have s2 : F_X16_spotIn (wI (wI M 1000 87 0) 1068 1099 0) 1068 (cR M 1070 j) (iw (u : Int)) = some at' := s2
      have x9 : gi (wI M 1000 87 0) (cR (wI M 1000 87 0) 1005 j) 1409 = some (iw (n j : Int)) := by rw [gi_of gE.2.2.1 (by decide), gE.2.2.2.2.1]
      have x8 : gi (wI M 1000 87 0) (cR (wI M 1000 87 0) 1005 j) 1408 = some (K j) := by rw [gi_of gE.2.2.1 (by decide), gE.2.2.2.1]
      have x14 : gi (wI M 1000 87 0) (cR (wI M 1000 87 0) 1005 j) 1414 = some (P j) := by rw [gi_of gE.2.2.1 (by decide), gE.2.2.2.2.2.2.2.2.2]
      have x13 : gr (wI M 1000 87 0) (cR (wI M 1000 87 0) 1005 j) 1413 = some (C j) := by rw [gr_of gE.2.2.1 (by decide), gE.2.2.2.2.2.2.2.2.1]
      have w72 : gi (wI (wI M 1000 87 0) 1068 1099 0) (cR M 1070 j) 1472 = some (K j) := (gi_of (M := wI (wI M 1000 87 0) 1068 1099 0) (a := cR M 1070 j) (g := 1472) gpB.2.1.2.2.1 (by decide)).trans (congrArg some gpB.2.1.2.2.2.1)
      have w77 : gi (wI (wI M 1000 87 0) 1068 1099 0) (cR M 1070 j) 1477 = some (P j) := (gi_of (M := wI (wI M 1000 87 0) 1068 1099 0) (a := cR M 1070 j) (g := 1477) gpB.2.1.2.2.1 (by decide)).trans (congrArg some gpB.2.1.2.2.2.2.2.2.2.2)
      have eun : iw (u : Int) = iw (n j : Int) ↔ u = n j := by rw [iw_eq (by omega) (by omega) (by omega) (by omega)]; omega
      -- a refusal as of another lane
      have lane : (u ≠ n j ∨ zb = 0 ∨ zf = 0) → ∃ (r : Int32) (M1 M2 : Mem), F_X0_put M 1000 g l v = some (r, M1) ∧ F_X16_put M1 1068 g l v = some (r, M2) ∧ I3 M2 ∧ I4 M2 ∧ I5 M2 ∧ Df pPut (qG M) n2 M M2 ∧ m_nx M2 = m_nx M ∧ m_sl M2 = m_sl M := by
        intro hno
        refine fin (-1) ?_ ?_
        · by_cases c1 : u = n j
          · by_cases c2 : zb = 0
            · simp only [F_X0_put, F_X0_put_b69, g1000_87, p1000_87, v1000, h, ST_wI, e1, e4, e5, l1, k1, x9, eun, c1, y1, c2, n10, Option.bind_some, if_true, if_false]
            · have c3 : zf = 0 := by rcases hno with a | a | a; exact absurd c1 a; exact absurd a c2; exact a
              simp only [F_X0_put, F_X0_put_b69, g1000_87, p1000_87, v1000, h, ST_wI, e1, e4, e5, l1, k1, x9, x8, eun, c1, y1, c2, f1, c3, n10, Option.bind_some, if_true, if_false]
          · simp only [F_X0_put, F_X0_put_b69, g1000_87, p1000_87, v1000, h, ST_wI, e1, e4, e5, l1, k1, x9, eun, c1, n10, Option.bind_some, if_false]
        · by_cases c1 : u = n j
          · have hm1 : ¬ at' = -1 := by
              rcases spot with ⟨-, t⟩ | ⟨t, -⟩ | ⟨q, q1, t, -⟩
              · exact absurd c1 t
              · rw [t]; decide
              · rw [t, show (-1 : Int32) = iw (-1) from rfl, iw_eq (by omega) (by have := hC.2.2.2.2.2.2.2.2.1; omega) (by omega) (by omega)]
                omega
            by_cases c2 : zb = 0
            · simp only [F_X16_put, F_X16_put_b83, g1068_1095, g1068_1099, g1068_1092, p1068_1099, v1068, h, ST_wI, cI_wI, Nat.reduceEqDiff, and_false, false_and, if_false, b2, gM1, n10, l2, k2, aM1, s2, hm1, y2, c2, Option.bind_some, if_true]
            · have c3 : zf = 0 := by rcases hno with a | a | a; exact absurd c1 a; exact absurd a c2; exact a
              simp only [F_X16_put, F_X16_put_b83, g1068_1095, g1068_1099, g1068_1092, p1068_1099, v1068, h, ST_wI, cI_wI, Nat.reduceEqDiff, and_false, false_and, if_false, b2, gM1, n10, l2, k2, aM1, s2, hm1, y2, c2, w72, f2, c3, Option.bind_some, if_true]
          · have hm1 : at' = -1 := by
              rcases spot with ⟨t, -⟩ | ⟨-, t⟩ | ⟨q, q1, -, t⟩
              · exact t
              · exact absurd t c1
              · exact absurd t c1
            simp only [F_X16_put, F_X16_put_b83, g1068_1095, g1068_1099, g1068_1092, p1068_1099, v1068, h, ST_wI, cI_wI, Nat.reduceEqDiff, and_false, false_and, if_false, b2, gM1, n10, l2, k2, aM1, s2, hm1, Option.bind_some, if_true]
      by_cases c1 : u = n j
      · by_cases c2 : zb = 0
        · exact lane (Or.inr (Or.inl c2))
        · by_cases c3 : zf = 0
          · exact lane (Or.inr (Or.inr c3))
          · have hm1 : ¬ at' = -1 := by
              rcases spot with ⟨-, t⟩ | ⟨t, -⟩ | ⟨q, q1, t, -⟩
              · exact absurd c1 t
              · rw [t]; decide
              · rw [t, show (-1 : Int32) = iw (-1) from rfl, iw_eq (by omega) (by have := hC.2.2.2.2.2.2.2.2.1; omega) (by omega) (by omega)]
                omega
            by_cases c4 : P j = 0
            · rcases spot with ⟨-, t⟩ | ⟨t, -⟩ | ⟨q, q1, t, -⟩
              · exact absurd c1 t
              · -- outside
                have l2' : (-2 : Int32) < 0 := by decide
                refine fin (-2) ?_ ?_
                · simp only [F_X0_put, g1000_87, p1000_87, v1000, h, ST_wI, e1, e4, e5, l1, k1, x9, x8, x14, eun, c1, y1, c2, f1, c3, c4, s1, t, l2', n10, Option.bind_some, if_true, if_false]
                  rw [← c1, s1]
                  simp only [t, l2', Option.bind_some, if_true]
                · have n21 : ¬ (-2 : Int32) = -1 := by decide
                  simp only [F_X16_put, g1068_1095, g1068_1099, g1068_1092, p1068_1099, v1068, h, ST_wI, cI_wI, Nat.reduceEqDiff, and_false, false_and, if_false, b2, gM1, n10, l2, k2, aM1, s2, t, n21, y2, c2, w72, w77, f2, c3, c4, Option.bind_some, if_true]
              · -- written
                have hL := hC.2.2.2.2.2.2.2.2.1
                have hvb : vb l v := by
                  rcases y3 with a | a
                  · exact absurd a c2
                  · exact y4.mp a
                have hfit : fit l (K j) := by
                  rcases f3 with a | a
                  · exact absurd a c3
                  · exact f4.mp a
                have hpair : l = K j ∨ (l ≠ 0 ∧ K j ≠ 0) := hfit.imp id (fun a => ⟨a.1, a.2.1⟩)
                have cE := E_convert (t := K j) hvb
                have cM := M_widened hl hk hfit hvb
                have hvv := cvt_vb hl hk hpair hvb
                obtain ⟨y, hy⟩ : ∃ y, y = cvt l (K j) v := ⟨_, rfl⟩
                rw [← hy] at cE cM hvv
                have hq0 : ¬ iw (q : Int) < 0 := by rw [iw_lt0 (by omega) (by omega)]; omega
                have hq2 : ¬ iw (q : Int) = -2 := by rw [show (-2 : Int32) = iw (-2) from rfl, iw_eq (by omega) (by omega) (by omega) (by omega)]; omega
                have hq1 : ¬ iw (q : Int) = -1 := by rw [show (-1 : Int32) = iw (-1) from rfl, iw_eq (by omega) (by omega) (by omega) (by omega)]; omega
                have sE : sj (wI M 1000 87 0) (C j) (iw (q : Int)) y = some (wJ (wI M 1000 87 0) (C j) q y) := sj_of y hC.2.2.2.2.1 hC.2.2.2.2.2.2.1 q1 (by omega)
                -- the model, after the engine wrote
                have gMc : GM (wI (wJ (wI M 1000 87 0) (C j) q y) 1068 1099 0) (cR M 1070 j) (K j) (n j) (Z j) (T j) (Y j) (D j) (P j) := gpB.2.1
                have gM1' : F_X16_isGrid (wI (wJ (wI M 1000 87 0) (C j) q y) 1068 1099 0) 1068 g = some 1 := e3
                have aM1' : ar (wI (wJ (wI M 1000 87 0) (C j) q y) 1068 1099 0) 1070 g = some (cR M 1070 j) := e6
                have s2' : F_X16_spotIn (wI (wJ (wI M 1000 87 0) (C j) q y) 1068 1099 0) 1068 (cR M 1070 j) (iw (u : Int)) = some (iw (q : Int)) := by
                  rw [← t, hat]
                  exact M_spotv (M := wI (wJ (wI M 1000 87 0) (C j) q y) 1068 1099 0) h gMc hn hz (fun h0 => ⟨(hvl h0).1, (hvl h0).2.1⟩) hu _ (fun i hi => by simp only [cI_wI, cI_wJ, Nat.reduceEqDiff, false_and, if_false]; exact (k3 i hi).symm)
                have sM : sj (wI (wJ (wI M 1000 87 0) (C j) q y) 1068 1099 0) (D j) (iw (q : Int)) y = some (wJ (wI (wJ (wI M 1000 87 0) (C j) q y) 1068 1099 0) (D j) q y) := sj_of (M := wI (wJ (wI M 1000 87 0) (C j) q y) 1068 1099 0) y hC.2.2.2.2.2.1 hC.2.2.2.2.2.2.2.1 q1 (by omega)
                have w72' : gi (wI (wJ (wI M 1000 87 0) (C j) q y) 1068 1099 0) (cR M 1070 j) 1472 = some (K j) := w72
                have w77' : gi (wI (wJ (wI M 1000 87 0) (C j) q y) 1068 1099 0) (cR M 1070 j) 1477 = some (P j) := w77
                have w76' : gr (wI (wJ (wI M 1000 87 0) (C j) q y) 1068 1099 0) (cR M 1070 j) 1476 = some (D j) := (gr_of (M := wI (wJ (wI M 1000 87 0) (C j) q y) 1068 1099 0) (a := cR M 1070 j) (g := 1476) gMc.2.2.1 (by decide)).trans (congrArg some gMc.2.2.2.2.2.2.2.1)
                have dF1 : Df pPut (qG M) n2 M (wI M 1000 87 0) := Df.wI 0 (Or.inl ⟨rfl, rfl⟩)
                have dF2 : Df pPut (qG M) n2 (wI M 1000 87 0) (wJ (wI M 1000 87 0) (C j) q y) := Df.wJ (P := pPut) (Q := qG M) (R := n2) (a := C j) (i := q) y (h5.qG j1 j2 e4 q).1
                have dF3 : Df pPut (qG M) n2 (wJ (wI M 1000 87 0) (C j) q y) (wI (wJ (wI M 1000 87 0) (C j) q y) 1068 1099 0) := Df.wI (P := pPut) (Q := qG M) (R := n2) (a := 1068) (i := 1099) 0 (Or.inr ⟨rfl, rfl⟩)
                have dF4 : Df pPut (qG M) n2 (wI (wJ (wI M 1000 87 0) (C j) q y) 1068 1099 0) (wJ (wI (wJ (wI M 1000 87 0) (C j) q y) 1068 1099 0) (D j) q y) := Df.wJ (P := pPut) (Q := qG M) (R := n2) (a := D j) (i := q) y (h5.qG j1 j2 e4 q).2
                have dF := (dF1.trans dF2).trans (dF3.trans dF4)
                refine ⟨0, wJ (wI M 1000 87 0) (C j) q y, wJ (wI (wJ (wI M 1000 87 0) (C j) q y) 1068 1099 0) (D j) q y, ?_, ?_, ?_, I4.put h dF h4, ?_, dF, rfl, rfl⟩
                · rw [t, c1] at s1
                  simp only [F_X0_put, g1000_87, p1000_87, v1000, h, ST_wI, e1, e4, e5, l1, k1, x9, x8, x14, x13, eun, c1, y1, c2, f1, c3, c4, s1, hq0, cE, sE, n10, Option.bind_some, if_true, if_false]
                · have hb2 : cI (wJ (wI M 1000 87 0) (C j) q y) 1068 1095 = 0 := by simp only [cI_wJ, cI_wI, Nat.reduceEqDiff, and_false, false_and, if_false]; exact b2
                  have hk2 : cI (wJ (wI M 1000 87 0) (C j) q y) 1068 1099 = iw (u : Int) := by simp only [cI_wJ, cI_wI, Nat.reduceEqDiff, and_false, false_and, if_false]; exact k2
                  have hS : ST (wJ (wI M 1000 87 0) (C j) q y) := h
                  simp only [F_X16_put, g1068_1095, g1068_1099, g1068_1092, p1068_1099, v1068, hS, ST_wI, cI_wI, Nat.reduceEqDiff, and_false, false_and, if_false, hb2, hk2, gM1', n10, l2, aM1', s2', hq1, hq2, y2, c2, w72', w77', w76', f2, c3, c4, cM, sM, Option.bind_some, if_true]
                · exact d3 _ (by simp only [cI_wJ, cI_wI, Nat.reduceEqDiff, and_self, and_false, false_and, if_true, if_false]) (by simp only [cI_wJ, cI_wI, and_self, if_true])
                · refine ⟨m, w, K, n, Z, S, T, X, Y, C, D, L, P, ?_⟩
                  have hj0 : cR (wI (wI M 1000 87 0) 1068 1099 0) 1005 j ≠ 0 := e4
                  exact h5B.put j1 j2 hj0 q hvv
            · have hp1 : P j = 1 := hp.resolve_left c4
              refine fin (-5) ?_ ?_
              · simp only [F_X0_put, g1000_87, p1000_87, v1000, h, ST_wI, e1, e4, e5, l1, k1, x9, x8, x14, eun, c1, y1, c2, f1, c3, hp1, n10, Option.bind_some, if_true, if_false]
              · simp only [F_X16_put, g1068_1095, g1068_1099, g1068_1092, p1068_1099, v1068, h, ST_wI, cI_wI, Nat.reduceEqDiff, and_false, false_and, if_false, b2, gM1, n10, l2, k2, aM1, s2, hm1, y2, c2, w72, w77, f2, c3, hp1, Option.bind_some, if_true]
      · exact lane (Or.inl c1)
