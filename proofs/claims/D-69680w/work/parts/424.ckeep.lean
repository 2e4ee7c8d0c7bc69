/-! ===== keep alike ===== -/
theorem i2b_bt {v : Int32} (h : bt v) : j_i2b v = v := by
  unfold bt at h
  unfold j_i2b
  refine Int32.toInt_inj.mp ?_
  rw [Int8.toInt_toInt32, Int32.toInt_toInt8, Int.bmod_eq_of_le (by omega) (by omega)]
theorem nml_getD (nm : Nat → Int32) : ∀ e i j, j < e → (nml nm e i).getD j 0 = j_i2b (nm (i + j))
  | 0, i, j, h => by omega
  | e + 1, i, 0, h => rfl
  | e + 1, i, j + 1, h => by
    show (nml nm e (i + 1)).getD j 0 = _
    rw [nml_getD nm e (i + 1) j (by omega), show i + 1 + j = i + (j + 1) by omega]
/-! grids stay where lists' rows change -/
theorem I5.df3 {P Q R : Nat → Nat → Prop} {M M' : Mem} (h : ST M) (d : Df P Q R M M') (hP : qt P) (hQ : qt Q) (hR : ∀ a i, 1334 ≤ a → R a i → m_tg M a = 1010) (hp : ∀ a i, pGr a i → ¬ P a i) (hr : ∀ i, ¬ R 1005 i ∧ ¬ R 1070 i) (h5 : I5 M) : I5 M' := by
  obtain ⟨m, w, K, n, Z, S, T, X, Y, C, D, L, Pp, q1, q2, q3, q4, q5, q6, q7, q8⟩ := h5
  have h0 := h.1
  have r5 : ∀ g, cR M' 1005 g = cR M 1005 g := fun g => d.cR (by omega) (hr g).1
  have r7 : ∀ g, cR M' 1070 g = cR M 1070 g := fun g => d.cR (by omega) (hr g).2
  refine ⟨m, w, K, n, Z, S, T, X, Y, C, D, L, Pp, q1, q2, ?_, ?_, ?_, ?_, fun g a1 a2 => ?_, fun g g' a1 a2 a3 a4 a5 a6 => ?_⟩
  · rw [d.cI (by omega) (hp _ _ (Or.inl ⟨rfl, Or.inl rfl⟩))]; exact q3
  · rw [d.cI (by omega) (hp _ _ (Or.inr ⟨rfl, Or.inl rfl⟩))]; exact q4
  · rw [d.cI (by omega) (hp _ _ (Or.inl ⟨rfl, Or.inr rfl⟩))]; exact q5
  · rw [d.cI (by omega) (hp _ _ (Or.inr ⟨rfl, Or.inr rfl⟩))]; exact q6
  · rw [r5, r7]
    refine (q7 g a1 a2).imp id (fun gp => ?_)
    obtain ⟨gE, gM, hk, hn, hz, hc, hpp, hC, hv⟩ := gp
    refine ⟨?_, ?_, hk, hn, hz, hc, hpp, hC.df d hQ, hv⟩
    · obtain ⟨g1, g2, g3, g4, g5, g6, g7, g8, g9, g10⟩ := gE
      obtain ⟨d1, d2, d3⟩ := d.2.2 _ g2
      have cr : ∀ i, cR M' (cR M 1005 g) i = cR M (cR M 1005 g) i := fun i => (d3 i).2.2 (fun q => by have := hR _ i g1 q; omega)
      have ci : ∀ i, cI M' (cR M 1005 g) i = cI M (cR M 1005 g) i := fun i => (d3 i).1 (hP _ i g1)
      refine ⟨g1, Nat.lt_of_lt_of_le g2 d.1, d1.trans g3, (ci _).trans g4, (ci _).trans g5, ?_, ?_, (ci _).trans g8, (cr _).trans g9, (ci _).trans g10⟩
      · rw [cr]; exact g6.df d hP
      · rw [cr]; exact g7.df d hP
    · obtain ⟨g1, g2, g3, g4, g6, g7, g8, g9, g10⟩ := gM
      obtain ⟨d1, d2, d3⟩ := d.2.2 _ g2
      have cr : ∀ i, cR M' (cR M 1070 g) i = cR M (cR M 1070 g) i := fun i => (d3 i).2.2 (fun q => by have := hR _ i g1 q; omega)
      have ci : ∀ i, cI M' (cR M 1070 g) i = cI M (cR M 1070 g) i := fun i => (d3 i).1 (hP _ i g1)
      refine ⟨g1, Nat.lt_of_lt_of_le g2 d.1, d1.trans g3, (ci _).trans g4, ?_, ?_, (ci _).trans g8, (cr _).trans g9, (ci _).trans g10⟩
      · rw [cr]; exact g6.df d hP
      · rw [cr]; exact g7.df d hP
  · rw [r5] at a5 a6
    exact q8 g g' a1 a2 a3 a4 a5 a6
theorem sum_13 : ∀ (rs : List Nat), (∀ x ∈ rs, 13 ≤ x) → 13 * rs.length ≤ rs.sum
  | [], _ => by decide
  | x :: rs, h => by
    have h1 := h x List.mem_cons_self
    have h2 := sum_13 rs (fun y hy => h y (List.mem_cons_of_mem _ hy))
    rw [List.length_cons, List.sum_cons]
    omega
theorem getDn_mem {l : List Nat} {x : Nat} (h : x ∈ l) : ∃ i, i < l.length ∧ l.getD i 0 = x := by
  obtain ⟨i, hi, e⟩ := List.mem_iff_getElem.mp h
  exact ⟨i, hi, by rw [List.getD_eq_getElem?_getD, List.getElem?_eq_getElem hi]; exact e⟩
theorem getDn_app {l m : List Nat} {i : Nat} (h : i < l.length) : (l ++ m).getD i 0 = l.getD i 0 := by
  rw [List.getD_eq_getElem?_getD, List.getD_eq_getElem?_getD, List.getElem?_append_left h]
theorem getDn_end {l : List Nat} {x : Nat} : (l ++ [x]).getD l.length 0 = x := by
  rw [List.getD_eq_getElem?_getD, List.getElem?_append_right (Nat.le_refl _), Nat.sub_self]
  rfl
theorem lst_app {rs : List Nat} {x i : Nat} (h : i ≤ rs.length) : lst (rs ++ [x]) i = lst rs i := by
  unfold lst
  rw [List.take_append_of_le_length h]
theorem lst_end (rs : List Nat) : lst rs rs.length = rs.sum := by
  unfold lst
  rw [List.take_length]
/-- records are 13 bytes long at least -/
theorem I9w.len {M : Mem} {rs : List Nat} {d1 d2 : Nat} {e1 e2 : List Nat} {n : Nat} (h : I9w M rs d1 d2 e1 e2 n) : 13 * rs.length ≤ rs.sum := by
  obtain ⟨-, -, -, -, -, -, -, -, -, -, -, -, -, -, -, -, q17, -⟩ := h
  refine sum_13 rs (fun x hx => ?_)
  obtain ⟨i, hi, e⟩ := getDn_mem hx
  obtain ⟨nl, k, n, z, val, w1, w2, w3, w4, w5, w6, w7, w8, -⟩ := q17 i hi
  omega
def pKp : Nat → Nat → Prop := fun a i => (a = 1000 ∧ i = 65) ∨ (1051 ≤ a ∧ a ≤ 1055) ∨ (a = 1068 ∧ (i = 1089 ∨ i = 1131)) ∨ (1325 ≤ a ∧ a ≤ 1332)
theorem pKm_p {mg a i : Nat} (hm : mg = 1325 ∨ mg = 1327) (q : pKm mg a i) : pKp a i ∧ ((1325 ≤ a ∧ a ≤ 1328) → a = mg ∨ a = mg + 1) := by
  unfold pKm at q
  unfold pKp
  omega
theorem pKa_p {mg a i : Nat} (q : (a = 1000 ∧ i = 65) ∨ (1051 ≤ a ∧ a ≤ 1055)) : pKp a i ∧ ((1325 ≤ a ∧ a ≤ 1328) → a = mg ∨ a = mg + 1) := by
  unfold pKp
  omega
theorem c_keep {M : Mem} {g : Int32} {rs : List Nat} {d1 d2 : Nat} {e1 e2 : List Nat} {nn : Nat} (h : ST M) (k0 : K0 M) (h1 : I1 M) (h4 : I4 M) (h5 : I5 M) (h8 : I8 M) (h9 : I9w M rs d1 d2 e1 e2 nn) :
    ∃ (r : Int32) (M1 M2 : Mem) (rs' : List Nat) (d1' d2' : Nat) (e1' e2' : List Nat) (n' : Nat), F_X0_keep M 1000 g = some (r, M1) ∧ F_X16_keep M1 1068 g = some (r, M2) ∧ I1 M2 ∧ I5 M2 ∧ I8 M2 ∧ I9w M2 rs' d1' d2' e1' e2' n' ∧ (d1' = d1 ∨ m_nx M ≤ d1') ∧ (d2' = d2 ∨ m_nx M ≤ d2') ∧ Df pKp n2 (rLs d1 d2) M M2 ∧ m_nx M2 ≤ m_nx M + 9000 ∧ bud M2 ≤ bud M + 80000 := by
  have h0 := h.1
  have h5x := h5
  have h8x := h8
  have h9x := h9
  have h9l := h9.len
  obtain ⟨tt, ff, ht, htf, hf, i1, i2, i3, i4, i5⟩ := h1
  obtain ⟨m, ww, K, n, Z, S, T, X, Y, C, D, L, P, h5⟩ := h5
  obtain ⟨eo, ed, mw, mg, l8, p1, p2, p3, p4, p5, p6, p7, p8, p9, p10⟩ := h8
  obtain ⟨q1, q2, q3, q4, q5, q6, q7, q8, q9, q10, q11, q12, q13, q14, q15, q16, q17, q18⟩ := h9
  have n10 : ¬ (1 : Int32) = 0 := by decide
  have z6 : ¬ (0 : Nat) = 6 := by decide
  have hR : ∀ a i, 1334 ≤ a → rLs d1 d2 a i → m_tg M a = 1010 := fun a i ha q => by
    unfold rLs at q
    rcases q with q | ⟨q, q' | q'⟩
    · omega
    · rcases q3.2.2.2.2 with w | w
      · omega
      · rw [q']; exact w.2.2.2.1
    · rcases q4.2.2.2.2 with w | w
      · omega
      · rw [q']; exact w.2.2.2.1
  have qtK : qt pKp := fun a i q1 q2 => by unfold pKp at q2; omega
  -- what holds in any end
  have fin : ∀ (r : Int32) (M1 M2 : Mem) (rs' : List Nat) (d1' d2' : Nat) (e1' e2' : List Nat) (n' : Nat), F_X0_keep M 1000 g = some (r, M1) → F_X16_keep M1 1068 g = some (r, M2) → ((∃ t, (t = tt ∨ t = 0) ∧ cI M2 1000 65 = iw (t : Int) ∧ cI M2 1068 1089 = iw (t : Int))) → I9w M2 rs' d1' d2' e1' e2' n' → (d1' = d1 ∨ m_nx M ≤ d1') → (d2' = d2 ∨ m_nx M ≤ d2') → Df (fun a i => pKp a i ∧ ((1325 ≤ a ∧ a ≤ 1328) → a = mg ∨ a = mg + 1)) n2 (rLs d1 d2) M M2 → m_nx M2 ≤ m_nx M + 9000 → m_sl M2 ≤ m_sl M + 80000 →
      ∃ (r : Int32) (M1 M2 : Mem) (rs' : List Nat) (d1' d2' : Nat) (e1' e2' : List Nat) (n' : Nat), F_X0_keep M 1000 g = some (r, M1) ∧ F_X16_keep M1 1068 g = some (r, M2) ∧ I1 M2 ∧ I5 M2 ∧ I8 M2 ∧ I9w M2 rs' d1' d2' e1' e2' n' ∧ (d1' = d1 ∨ m_nx M ≤ d1') ∧ (d2' = d2 ∨ m_nx M ≤ d2') ∧ Df pKp n2 (rLs d1 d2) M M2 ∧ m_nx M2 ≤ m_nx M + 9000 ∧ bud M2 ≤ bud M + 80000 := by
    intro r M1 M2 rs' d1' d2' e1' e2' n' x1 x2 x3 x4 x5 x6 x7 x8 x9
    have dK : Df pKp n2 (rLs d1 d2) M M2 := x7.mono (fun a i q => q.1) (fun _ _ q => q) (fun _ _ q => q)
    have cc' : ∀ a i, a < 1334 → ¬ pKp a i → cI M2 a i = cI M a i := fun a i ha q => dK.cI (by omega) q
    obtain ⟨t, t0, t1, t2⟩ := x3
    refine ⟨r, M1, M2, rs', d1', d2', e1', e2', n', x1, x2, ⟨t, ff, by omega, by omega, hf, t1, t2, by rw [cc' _ _ (by decide) (by unfold pKp; omega)]; exact i3, by rw [cc' _ _ (by decide) (by unfold pKp; omega)]; exact i4, fun i hi => ?_⟩, I5.df3 h dK qtK qt_n2 hR (fun a i q w => by unfold pGr at q; unfold pKp at w; omega) (fun i => ⟨fun q => by unfold rLs at q; omega, fun q => by unfold rLs at q; omega⟩) h5x, ⟨eo, ed, mw, mg, l8, p1, p2, ?_, ?_, ?_, ?_, p7, ?_, ?_, fun i hi => ?_⟩, x4, x5, x6, dK, x8, ?_⟩
    · rw [cc' _ _ (by decide) (by unfold pKp; omega), cc' _ _ (by decide) (by unfold pKp; omega)]
      exact i5 i (by omega)
    · rw [dK.cR (by omega) (by unfold rLs; omega)]; exact p3
    · rw [dK.cR (by omega) (by unfold rLs; omega)]; exact p4
    · rw [dK.cR (by omega) (by unfold rLs; omega)]; exact p5
    · rw [dK.cR (by omega) (by unfold rLs; omega)]; exact p6
    · rw [cc' _ _ (by omega) (by unfold pKp; omega)]; exact p8
    · rw [x7.cI (by omega) (by omega)]; exact p9
    · rw [cc' _ _ (by omega) (by unfold pKp; omega), x7.cI (by omega) (by omega)]; exact p10 i hi
    · unfold bud
      rw [cc' _ _ (by decide) (by unfold pKp; omega)]
      omega
  rcases h4.2.2.2.1.symm with hcl | hcl
  · -- closed
    have hcl2 := h4.2.2.2.2.1
    rw [hcl] at hcl2
    refine fin (-13) M M rs d1 d2 e1 e2 nn ?_ ?_ ⟨tt, Or.inl rfl, i1, i2⟩ h9x (Or.inl rfl) (Or.inl rfl) (Df.refl _ _ _ _) (by omega) (by omega)
    · simp only [F_X0_keep, g1000_97, h, hcl, n10, Option.bind_some, if_false]
    · simp only [F_X16_keep, g1068_1095, h, ← hcl2, n10, Option.bind_some, if_false]
  have hcl2 := h4.2.2.2.2.1
  rw [hcl] at hcl2
  obtain ⟨A, hA⟩ : ∃ A, A = wI M 1000 65 0 := ⟨_, rfl⟩
  have sA : ST A := by rw [hA]; exact h
  have dA : Df (fun a i => a = 1000 ∧ i = 65) n2 n2 M A := by rw [hA]; exact Df.wI _ ⟨rfl, rfl⟩
  have nA : m_nx A = m_nx M := by rw [hA]; rfl
  have lA : m_sl A = m_sl M := by rw [hA]; rfl
  obtain ⟨seeE, -⟩ := E_see h dA sA (by omega) (by omega) (fun i q => q) g
  have usedE : F_X0_used M 1000 = some (iw (tt : Int), A) := by
    unfold F_X0_used
    simp only [g1000_65, h, i1, p1000_65, ← hA, Option.bind_some]
  -- the log stays when the tray is used up
  have stay : ∀ N, Df (fun a i => (a = 1000 ∧ i = 65) ∨ (a = 1068 ∧ i = 1089)) n2 n2 M N → I9w N rs d1 d2 e1 e2 nn := fun N dN => by
    have c : ∀ a i, a ≠ 1000 → a ≠ 1068 → a < 1334 → cI N a i = cI M a i := fun a i h1 h2 h3 => dN.cI (by omega) (by omega)
    refine ⟨q1, q2, q3.df dN (by omega) (fun q => q) (fun _ _ q => q), q4.df dN (by omega) (fun q => q) (fun _ _ q => q), q5, q6, fun i hi => ⟨(q7 i hi).1.df dN (by have := (q8 i hi).1; omega), (q7 i hi).2.df dN (by have := (q8 i hi).2; omega)⟩, q8, q9, q10, q11, q12, by rw [c _ _ (by decide) (by decide) (by decide)]; exact q13, by rw [dN.cI (by omega) (by omega)]; exact q14, fun i hi => by rw [c _ _ (by decide) (by decide) (by decide), c _ _ (by decide) (by decide) (by decide)]; exact q15 i hi, fun i hi => by rw [c _ _ (by decide) (by decide) (by decide), c _ _ (by decide) (by decide) (by decide)]; exact q16 i hi, fun i hi => (q17 i hi).congr (fun k _ => c _ _ (by decide) (by decide) (by decide)), fun hh => ?_⟩
    obtain ⟨u1, u2, u3⟩ := q18 hcl
    exact ⟨u1, fun i hi => by rw [c _ _ (by decide) (by decide) (by decide), c _ _ (by decide) (by decide) (by decide)]; exact u2 i hi, fun w => by rw [c _ _ (by decide) (by decide) (by decide)]; exact u3 w⟩
  obtain ⟨A', hA'⟩ : ∃ A', A' = wI A 1068 1089 0 := ⟨_, rfl⟩
  have sA' : ST A' := by rw [hA']; exact sA
  have dA' : Df (fun a i => (a = 1000 ∧ i = 65) ∨ (a = 1068 ∧ i = 1089)) n2 n2 M A' := (dA.mono (fun a i q => Or.inl q) (fun _ _ q => q) (fun _ _ q => q)).trans (by rw [hA']; exact Df.wI _ (Or.inr ⟨rfl, rfl⟩))
  have nA' : m_nx A' = m_nx M := by rw [hA']; exact nA
  have lA' : m_sl A' = m_sl M := by rw [hA']; exact lA
  have tA : cI A 1068 1089 = iw (tt : Int) := by rw [dA.cI (by omega) (by omega)]; exact i2
  have clA : cI A 1068 1095 = 0 := by rw [dA.cI (by omega) (by omega)]; exact hcl2.symm
  have usedM : F_X16_used A 1068 = some (iw (tt : Int), A') := by
    unfold F_X16_used
    simp only [g1068_1089, sA, tA, p1068_1089, ← hA', Option.bind_some]
  have z0 : cI A' 1000 65 = iw ((0 : Nat) : Int) ∧ cI A' 1068 1089 = iw ((0 : Nat) : Int) := by
    rw [hA', cI_wI, if_neg (by omega), hA, cI_wI, if_pos ⟨rfl, rfl⟩, cI_wI, if_pos ⟨rfl, rfl⟩]
    exact ⟨rfl, rfl⟩
  have fin0 : ∀ r : Int32, F_X0_keep M 1000 g = some (r, A) → F_X16_keep A 1068 g = some (r, A') → _ := fun r x1 x2 =>
    fin r A A' rs d1 d2 e1 e2 nn x1 x2 ⟨0, Or.inr rfl, z0.1, z0.2⟩ (stay A' dA') (Or.inl rfl) (Or.inl rfl) (dA'.mono (fun a i q => by unfold pKp; omega) (fun _ _ q => q) (fun _ _ q => q.elim)) (by omega) (by omega)
  obtain ⟨-, seeM, seeR⟩ := M_see h dA sA (by omega) (by omega) (fun i q => q) g
  obtain ⟨-, seeM', seeR'⟩ := M_see h dA' sA' (by omega) (by omega) (fun i q => q) g
  rcases look h h4 h5 g with ⟨b1, b2, e1', e2', e3⟩ | ⟨b1, b2, e1', e2', e3, e8⟩ | ⟨b1, b2, j, j1, j2, hg, e1', e4, e5, e3, e7, e6, gp⟩
  · rw [hcl] at b1; exact absurd b1 (by decide)
  · refine fin0 (-14) ?_ ?_
    · simp only [F_X0_keep, g1000_97, h, hcl, v1000, usedE, sA, seeE, e1', z6, Option.bind_some, if_true, if_false]
    · simp only [F_X16_keep, g1068_1095, sA, clA, v1068, usedM, sA', seeM', e8, Option.bind_some, if_true]
  -- the name
  have b69 : ∀ i, cI A' 1069 i = cI M 1069 i := fun i => dA'.cI (by omega) (by omega)
  have b01 : ∀ i, cI A 1001 i = cI M 1001 i := fun i => dA.cI (by omega) (by omega)
  have f69 : cI A' 1069 = cI M 1069 := funext b69
  have f01 : cI A 1001 = cI M 1001 := funext b01
  have nkc : ∀ {u v : Nat → Int32} (e i : Nat), (∀ j, i ≤ j → j < i + e → u j = v j) → nok u e i = nok v e i := by
    intro u v e
    induction e with
    | zero => intro i _; rfl
    | succ e ih =>
      intro i hh
      show ((!decide (u i < 33)) && (!decide (126 < u i)) && nok u e (i + 1)) = ((!decide (v i < 33)) && (!decide (126 < v i)) && nok v e (i + 1))
      rw [hh i (Nat.le_refl _) (by omega), ih (i + 1) (fun j a1 a2 => hh j (by omega) (by omega))]
  have ieq : isn (cI M 1001) tt = isn (cI M 1069) tt := by
    unfold isn
    rw [nkc (u := cI M 1001) (v := cI M 1069) tt 0 (fun j a1 a2 => (i5 j (by omega)).1)]
  have headE : F_X0_keep M 1000 g = F_X0_keep_b97 A 1000 (iw (tt : Int)) (cR M 1005 j) (mr (isn (cI M 1001) tt)) := by
    rw [← f01, ← E_isName sA ht]
    simp only [F_X0_keep, g1000_97, h, hcl, v1000, usedE, sA, seeE, e1', e4, e5, Option.bind_some, if_true, if_false]
  rcases (Bool.eq_false_or_eq_true (isn (cI M 1001) tt)).symm with hin | hin
  · refine fin0 (-1) ?_ ?_
    · rw [headE, hin]
      rfl
    · have inA : F_X16_isName A' 1069 (iw (tt : Int)) = some 0 := by
        rw [M_isName sA' ht, f69, ← ieq, hin]
        rfl
      simp only [F_X16_keep, g1068_1095, sA, clA, v1068, usedM, sA', seeM', e7, n10, g1068_1088, inA, Option.bind_some, if_true, if_false]
  obtain ⟨hn1, hn2, hn3⟩ := isn_t hin
  obtain ⟨val, hval⟩ : ∃ val : Nat → Int64, val = fun i => cJ M (C j) (gpos (n j) (Z j) (S j) (X j) i) := ⟨_, rfl⟩
  obtain ⟨u1, u2, u3⟩ := q18 hcl
  obtain ⟨vs, hvs⟩ : ∃ vs, vs = (List.range nn).map (cI M 1053) := ⟨_, rfl⟩
  have lvs : vs.length = nn := by rw [hvs, List.length_map, List.length_range]
  have gvs : ∀ i, i < nn → vs.getD i 0 = cI M 1053 i := fun i hi => by
    rw [hvs, List.getD_eq_getElem?_getD, List.getElem?_map, List.getElem?_range hi]
    rfl
  have cp := gp.2.2.2.2.2.2.2.1
  have gA := gp.df dA (fun a i q1 q2 => by omega) qt_n2 qt_n2
  have eoA : EO A 1052 60000 vs := ⟨by rw [dA.cI (by omega) (by omega), q13, lvs, Nat.min_eq_left (by omega)], fun i hi => by
    rw [lvs, Nat.min_eq_left (by omega)] at hi
    rw [dA.cI (by omega) (by omega), gvs i hi]⟩
  obtain ⟨gb, hgb⟩ : ∃ gb, gb = gbc (K j) (n j) (Z j) val := ⟨_, rfl⟩
  have bB := gbc_b (K j) (n j) (Z j) val
  obtain ⟨oW, oG⟩ := BYT_m p2
  have hmg : mg = 1325 ∨ mg = 1327 := oG
  have mfull : ∀ N, ST N → Df (fun a i => (a = 1000 ∧ i = 65) ∨ (1051 ≤ a ∧ a ≤ 1055)) n2 n2 M N → _ := fun N sN dN =>
    M_keep (g := g) (val := val) (nm := cI M 1001) (ql := tt) (o := mg) (vs := vs) (d1 := d1) (d2 := d2) (e1 := e1) (e2 := e2) sN (k0.df h dN (fun a i q w => by omega) (fun _ _ _ q => q)) (by rw [dN.cI (by omega) (by omega)]; exact hcl2.symm) (by rw [dN.cI (by omega) (by omega)]; exact i2) (by rw [(M_see h dN sN (by omega) (by omega) (fun i q => q) g).2.1]; exact e7) (by rw [(M_see h dN sN (by omega) (by omega) (fun i q => q) g).2.2]; exact e6) (gp.df dN (fun a i q1 q2 => by omega) qt_n2 qt_n2) (fun q hq => by rw [dN.cJ cp.2.1 (fun q => q), hval]) (by rw [show cI N 1069 = cI M 1069 from funext (fun i => dN.cI (by omega) (by omega)), ← ieq]; exact hin) (fun q hq => by rw [dN.cI (by omega) (by omega)]; exact (i5 q hq).1.symm) oG (by rw [dN.cR (by omega) (fun q => q)]; exact p6) ⟨by rw [dN.cI (by omega) (by omega), q14, lvs], fun i hi => by rw [dN.cI (by omega) (by omega), gvs i (by omega), q15 i (by omega)]⟩ (by omega) (q3.df dN (by omega) (fun q => q) (fun _ _ q => q)) (q4.df dN (by omega) (fun q => q) (fun _ _ q => q)) (by omega) (by omega) q9 q10 q11
  have dAw : Df (fun a i => (a = 1000 ∧ i = 65) ∨ (1051 ≤ a ∧ a ≤ 1055)) n2 n2 M A := dA.mono (fun a i q => Or.inl q) (fun _ _ q => q) (fun _ _ q => q)
  rcases E_keep (val := val) (nm := cI M 1001) sA gA (fun q hq => by rw [dA.cJ cp.2.1 (fun q => q), hval]) hn1 hn2 (fun q hq => b01 q) eoA (by omega) with ⟨hf', B, k1, k2, k3, k4, k5, k6, k7, k8⟩ | ⟨hf', B, k1, k2, k3, k4, k5⟩
  · -- there is room
    have dB : Df (fun a i => (a = 1000 ∧ i = 65) ∨ (1051 ≤ a ∧ a ≤ 1055)) n2 n2 M B := dAw.trans (k6.mono (fun a i q => Or.inr q) (fun _ _ q => q) (fun _ _ q => q))
    have sB : ST B := h.n dB
    obtain ⟨M2, d1', d2', x1, x2, y1, y2, y3, y4, y5, y6, y7, y8, y9, y10, y11, y12, y13, y14, y15, y16, y17⟩ := (mfull B sB dB).1 hf'
    rw [← hgb] at hf' k2 k3 y1 y2 y3 y8
    rw [← hgb] at bB
    obtain ⟨len, hlen⟩ : ∃ len, len = 13 + tt + gb.length := ⟨_, rfl⟩
    rw [← hlen] at hf' k2 k3 y1 y2 y3 y8
    have lL := lgw_len vs len tt (cI M 1001) gb
    have dM2 : Df (fun a i => pKp a i ∧ ((1325 ≤ a ∧ a ≤ 1328) → a = mg ∨ a = mg + 1)) n2 (rLs d1 d2) M M2 := (dB.mono (fun a i q => pKa_p q) (fun _ _ q => q) (fun _ _ q => q.elim)).trans (y15.mono (fun a i q => pKm_p hmg q) (fun _ _ q => q) (fun _ _ q => q))
    have nB : m_nx B = m_nx M := by omega
    have lB : m_sl B = m_sl M := by omega
    have cB : ∀ a i, a ≠ 1068 → a < 1325 → cI M2 a i = cI B a i := fun a i ha hb => y15.cI (by omega) (by unfold pKm; omega)
    have c52 : cI M2 1052 1025 = iw ((nn + len : Nat) : Int) := by
      rw [cB _ _ (by decide) (by decide), k2.1, lL, lvs, Nat.min_eq_left (by omega), ← hlen]
    have c53 : ∀ i, i < nn + len → cI M2 1053 i = (lgw vs len tt (cI M 1001) gb).getD i 0 := fun i hi => by
      rw [cB _ _ (by decide) (by decide), k2.2 i (by rw [lL, lvs, Nat.min_eq_left (by omega)]; omega)]
    have c29 : ∀ i, i < nn + len → cI M2 1329 i = (lgw vs len tt (cI M 1001) gb).getD i 0 := fun i hi => y2.2 i (by omega)
    have c30 : ∀ i, i < nn → cI M2 1330 i = cI M 1330 i := fun i hi => by rw [y4 i (by omega), dB.cI (by omega) (by omega)]
    -- the new record's bytes
    have lgn : ∀ i, i < 5 + tt + gb.length → (lgw vs len tt (cI M 1001) gb).getD (nn + i) 0 = (rcw len tt (cI M 1001) gb).getD i 0 := fun i hi => by
      unfold lgw
      rw [getD_app (by rw [List.length_append, rcw_len]; omega), getD_appr (by omega), lvs, show nn + i - nn = i by omega]
    have lgb : ∀ i, nn ≤ i → i < nn + len → j_i2b ((lgw vs len tt (cI M 1001) gb).getD i 0) = (lgw vs len tt (cI M 1001) gb).getD i 0 := fun i h1 h2 => by
      unfold lgw
      rw [List.append_assoc, getD_appr (by omega)]
      have hm := getD_mem (l := rcw len tt (cI M 1001) gb ++ nbs (fldr sm1 (fun i => (vs ++ rcw len tt (cI M 1001) gb).getD i 0) (5 + tt + gb.length) vs.length 0) 8) (i := i - vs.length) (by rw [List.length_append, rcw_len, nbs_len]; omega)
      rcases List.mem_append.mp hm with q | q
      · generalize (rcw len tt (cI M 1001) gb ++ nbs (fldr sm1 (fun i => (vs ++ rcw len tt (cI M 1001) gb).getD i 0) (5 + tt + gb.length) vs.length 0) 8).getD (i - vs.length) 0 = e at q
        unfold rcw at q
        rcases List.mem_append.mp q with q | q
        · exact nbs_b _ _ _ q
        · rcases List.mem_append.mp q with q | q
          · rw [List.mem_singleton] at q
            rw [q]
            exact i2b_i2b _
          · rcases List.mem_append.mp q with q | q
            · exact nml_b _ _ _ _ q
            · exact bB _ q
      · exact nbs_b _ _ _ q
    have c30n : ∀ i, nn ≤ i → i < nn + len → cI M2 1330 i = (lgw vs len tt (cI M 1001) gb).getD i 0 := fun i h1 h2 => by
      rw [y3 i (by omega) (by omega), c29 i h2, lgb i h1 h2]
    have hsum : (rs ++ [len]).sum = rs.sum + len := by rw [List.sum_append_nat]; show rs.sum + (len + 0) = _; omega
    have hrl : (rs ++ [len]).length = rs.length + 1 := by rw [List.length_append, List.length_singleton]
    have rec1 : Rec (cI M2 1330) nn len := by
      refine ⟨tt, K j, n j, Z j, val, hn1, hn2, gp.2.2.1, gp.2.2.2.1, gp.2.2.2.2.1, gp.2.2.2.2.2.1, fun i hi => ?_, by rw [← hgb]; exact hlen, by rw [← hgb]; exact hf'.2, ?_, fun i hi => ?_, fun i hi => ?_, fun i hi => ?_⟩
      · rw [hval]
        have := gp.get hi
        exact this.1
      · rw [c30n _ (by omega) (by omega), lgn 4 (by omega)]
        unfold rcw
        rw [getD_appr (by rw [nbs_len]; omega), nbs_len]
        show j_i2b (iw (tt : Int)) = _
        refine i2b_bt ?_
        unfold bt
        rw [iw_toInt (by omega) (by omega)]
        omega
      · rw [show nn + 5 + i = nn + (5 + i) by omega, c30n _ (by omega) (by omega), lgn (5 + i) (by omega)]
        unfold rcw
        rw [getD_appr (by rw [nbs_len]; omega), nbs_len, getD_appr (by rw [List.length_singleton]; omega), List.length_singleton, getD_app (by rw [nml_len]; omega), nml_getD _ _ _ _ (by omega), show 0 + (5 + i - 4 - 1) = i by omega, i2b_bt (i5 i hi).2]
        exact hn3 i hi
      · rw [c30n _ (by omega) (by omega), lgn i (by omega)]
        unfold rcw
        rw [getD_app (by rw [nbs_len]; exact hi)]
      · rw [← hgb] at hi ⊢
        rw [show nn + 5 + tt + i = nn + (5 + tt + i) by omega, c30n _ (by omega) (by omega), lgn (5 + tt + i) (by omega)]
        unfold rcw
        rw [getD_appr (by rw [nbs_len]; omega), nbs_len, getD_appr (by rw [List.length_singleton]; omega), List.length_singleton, getD_appr (by rw [nml_len]; omega), nml_len, show 5 + tt + i - 4 - 1 - tt = i by omega]
    have l5 : (lst (rs ++ [len]) rs.length) = nn := by rw [lst_app (Nat.le_refl _), lst_end, u1]
    have ibP : ∀ x v, IB M x v → (x < 1000 ∨ 1334 ≤ x) → IB M2 x v := fun x v hx hh => hx.df dM2 (fun q => by have := q.1; unfold pKp at this; omega)
    refine fin (iw ((nn + len : Nat) : Int)) B M2 (rs ++ [len]) d1' d2' (e1 ++ [x1]) (e2 ++ [x2]) (nn + len) ?_ ?_ ⟨0, Or.inr rfl, ?_, y14⟩ ⟨by omega, by omega, y5, y6, ?_, ?_, fun i hi => ?_, fun i hi => ?_, ?_, ?_, y13, by omega, c52, ?_, fun i hi => ?_, fun i hi => ?_, fun i hi => ?_, fun _ => ⟨by omega, fun i hi => ?_, fun _ => ?_⟩⟩ (by omega) (by omega) dM2 (by omega) (by omega)
    · have c25 : cI B 1052 1025 = iw ((nn + len : Nat) : Int) := by rw [← cB _ _ (by decide) (by decide), c52]
      rw [headE, hin]
      unfold F_X0_keep_b97 F_X0_keep_b132 F_X14_size
      rw [if_neg (by decide)]
      simp only [g1000_79, g1000_64, sA, v1051, k1, n10, sB, g1051_960, g1052_1025, c25, Option.bind_some, if_false]
    · rw [lvs] at y1
      exact y1
    · rw [cB _ _ (by decide) (by decide), k6.cI (by omega) (by omega), hA, cI_wI, if_pos ⟨rfl, rfl⟩]
      rfl
    · rw [List.length_append, List.length_singleton]; omega
    · rw [List.length_append, List.length_singleton]; omega
    · rw [hrl] at hi
      by_cases ci : i = rs.length
      · subst ci
        rw [l5, getDn_end, ← q5, getDn_end, q5, ← q6, getDn_end]
        rw [lvs] at y7
        exact ⟨y7, y8⟩
      · rw [lst_app (by omega), getDn_app (by omega), getDn_app (by omega), getDn_app (by omega)]
        exact ⟨ibP _ _ (q7 i (by omega)).1 (q8 i (by omega)).1, ibP _ _ (q7 i (by omega)).2 (q8 i (by omega)).2⟩
    · rw [hrl] at hi
      by_cases ci : i = rs.length
      · subst ci
        rw [← q5, getDn_end, q5, ← q6, getDn_end]
        omega
      · rw [getDn_app (by omega), getDn_app (by omega)]
        exact q8 i (by omega)
    · omega
    · omega
    · rw [y2.1, lL, lvs, ← hlen]
    · rw [c53 i hi, c29 i hi]
    · rw [hsum] at hi
      by_cases ci : i < nn
      · rw [c30 i ci, cB _ _ (by decide) (by decide), k4 i (by omega), dA.cI (by omega) (by omega)]
        exact q16 i (by omega)
      · rw [c30n i (by omega) (by omega), cB _ _ (by decide) (by decide), k3 i (by omega) (by omega), ← cB _ _ (by decide) (by decide), c53 i (by omega), lgb i (by omega) (by omega)]
    · rw [hrl] at hi
      by_cases ci : i = rs.length
      · subst ci
        rw [l5, getDn_end]
        exact rec1
      · rw [lst_app (by omega), getDn_app (by omega)]
        have := lst_le rs i (by omega)
        exact (q17 i (by omega)).congr (fun k hk => c30 _ (by omega))
    · by_cases ci : i < nn
      · rw [c30 i ci, c29 i hi, ← c53 i hi, cB _ _ (by decide) (by decide), ← u2 i ci, ← q15 i ci]
        rw [← cB _ _ (by decide) (by decide), c53 i hi]
        unfold lgw
        rw [List.append_assoc, getD_app (by omega), gvs i ci]
      · rw [c30n i (by omega) (by omega), c29 i hi]
    · rw [hrl, show rs.length + 1 - 1 = rs.length by omega, l5, cB _ _ (by decide) (by decide), k5, lvs]
  · -- there is none
    have dB : Df (fun a i => (a = 1000 ∧ i = 65) ∨ (1051 ≤ a ∧ a ≤ 1055)) n2 n2 M B := dAw.trans (k3.mono (fun a i q => by unfold atO at q; omega) (fun _ _ q => q) (fun _ _ q => q))
    have sB : ST B := h.n dB
    have y := (mfull B sB dB).2 hf'
    obtain ⟨M2, hM2⟩ : ∃ M2, M2 = wI B 1068 1089 0 := ⟨_, rfl⟩
    rw [← hM2] at y
    have dM2 : Df (fun a i => pKp a i ∧ ((1325 ≤ a ∧ a ≤ 1328) → a = mg ∨ a = mg + 1)) n2 (rLs d1 d2) M M2 := (dB.mono (fun a i q => pKa_p q) (fun _ _ q => q) (fun _ _ q => q.elim)).trans (by rw [hM2]; exact Df.wI _ (by unfold pKp; omega))
    have dM3 : Df (fun a i => (a = 1000 ∧ i = 65) ∨ (a = 1068 ∧ i = 1089) ∨ (a = 1052 ∧ i = 1025) ∨ a = 1053) n2 n2 M M2 := ((dA.mono (fun a i q => Or.inl q) (fun _ _ q => q) (fun _ _ q => q)).trans (k3.mono (fun a i q => by unfold atO at q; omega) (fun _ _ q => q) (fun _ _ q => q))).trans (by rw [hM2]; exact Df.wI _ (by omega))
    have c : ∀ a i, a ≠ 1000 → a ≠ 1068 → a ≠ 1052 → a ≠ 1053 → a < 1334 → cI M2 a i = cI M a i := fun a i h1 h2 h3 h4 h5 => dM3.cI (by omega) (by omega)
    have c53 : ∀ i, i < nn → cI M2 1053 i = cI M 1053 i := fun i hi => by
      rw [hM2, cI_wI, if_neg (by omega), k2.2 i (by rw [lvs, Nat.min_eq_left (by omega)]; exact hi), gvs i hi]
    refine fin (-12) B M2 rs d1 d2 e1 e2 nn ?_ y ⟨0, Or.inr rfl, ?_, ?_⟩ ⟨q1, q2, q3.df dM3 (by omega) (fun q => q) (fun _ _ q => q), q4.df dM3 (by omega) (fun q => q) (fun _ _ q => q), q5, q6, fun i hi => ⟨(q7 i hi).1.df dM3 (by have := (q8 i hi).1; omega), (q7 i hi).2.df dM3 (by have := (q8 i hi).2; omega)⟩, q8, q9, q10, q11, q12, ?_, ?_, fun i hi => ?_, fun i hi => ?_, fun i hi => ?_, fun _ => ⟨u1, fun i hi => ?_, fun w => ?_⟩⟩ (Or.inl rfl) (Or.inl rfl) dM2 (by rw [hM2]; show m_nx B ≤ _; omega) (by rw [hM2]; show m_sl B ≤ _; omega)
    · rw [headE, hin]
      unfold F_X0_keep_b97 F_X0_keep_b132
      rw [if_neg (by decide)]
      simp only [g1000_79, g1000_64, sA, v1051, k1, Option.bind_some, if_true]
    · rw [hM2, cI_wI, if_neg (by omega), k3.cI (by omega) (by unfold atO; omega), hA, cI_wI, if_pos ⟨rfl, rfl⟩]
      rfl
    · rw [hM2, cI_wI, if_pos ⟨rfl, rfl⟩]
      rfl
    · rw [hM2, cI_wI, if_neg (by omega), k2.1, lvs, Nat.min_eq_left (by omega)]
    · rw [dM3.cI (by omega) (by omega)]; exact q14
    · rw [c53 i hi, c _ _ (by decide) (by decide) (by decide) (by decide) (by decide)]; exact q15 i hi
    · rw [c _ _ (by decide) (by decide) (by decide) (by decide) (by decide), c _ _ (by decide) (by decide) (by decide) (by decide) (by decide)]; exact q16 i hi
    · exact (q17 i hi).congr (fun k _ => c _ _ (by decide) (by decide) (by decide) (by decide) (by decide))
    · rw [c _ _ (by decide) (by decide) (by decide) (by decide) (by decide), c _ _ (by decide) (by decide) (by decide) (by decide) (by decide)]; exact u2 i hi
    · rw [c _ _ (by decide) (by decide) (by decide) (by decide) (by decide)]; exact u3 w
