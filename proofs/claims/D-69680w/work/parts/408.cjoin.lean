/-! ===== CALLS, 29: join ===== -/
def jal (u v : Nat → Int64) (m : Nat) : Nat → Nat → List (Nat × Nat)
  | 0, _ => []
  | e + 1, i => (mfl v (u i) m 0).map (fun x => (i, x)) ++ jal u v m e (i + 1)
theorem jal_len {u v : Nat → Int64} {m e i : Nat} : (jal u v m (e + 1) i).length = (mfl v (u i) m 0).length + (jal u v m e (i + 1)).length := by
  show ((mfl v (u i) m 0).map (fun x => (i, x)) ++ jal u v m e (i + 1)).length = _
  rw [List.length_append, List.length_map]
theorem E_jout {m n oa ba na : Nat} {ka fl : Int32} {za : Nat → Nat} {sa ta : Nat → Int32} {xa ya : Int32} {ca da La : Nat} {pa : Int32} {u v : Nat → Int64} (hk : Lk ka) (hm : m ≤ 4096) (hn : n ≤ 4096) (hp : prd za na = n) (hu : ∀ x, x < n → vb ka (u x)) (hv : ∀ x, x < m → vb ka (v x)) : ∀ (e N i : Nat) (ps : List (Nat × Nat)) (M : Mem), i + e = n → ps.length ≤ 4096 → PR M 1057 ps → OS M 1022 1023 1058 m ka fl v (srt 0 ka v m) → GP M oa ba ka na za sa ta xa ya ca da La pa → (∀ x, x < n → cJ M ca (gpos na za sa xa x) = u x) →
    ∃ M', Df n2 (at1 1057) n2 M M' ∧ m_nx M' = m_nx M ∧ m_sl M' = m_sl M ∧ F_X0_join_b100 (N + e) M 1000 oa (iw (m : Int)) (iw (n : Int)) (iw (ps.length : Nat)) (iw (i : Int)) = (if ps.length + (jal u v m e i).length ≤ 4096 then F_X0_join_b100 N M' 1000 oa (iw (m : Int)) (iw (n : Int)) (iw ((ps.length + (jal u v m e i).length : Nat) : Int)) (iw (n : Int)) else some (-12, M')) ∧
      (ps.length + (jal u v m e i).length ≤ 4096 → PR M' 1057 (ps ++ jal u v m e i)) := by
  have hxN : xN = 1099511627776 := rfl
  intro e
  induction e with
  | zero =>
    intro N i ps M h1 hl pr s g hcu
    have : i = n := by omega
    subst this
    refine ⟨M, Df.refl _ _ _ _, rfl, rfl, ?_, fun _ => ?_⟩
    · rw [if_pos (by show ps.length + 0 ≤ _; omega)]
      rfl
    · show PR M 1057 (ps ++ [])
      rw [List.append_nil]
      exact pr
  | succ e ih =>
    intro N i ps M h1 hl pr s g hcu
    have hi : i < n := by omega
    have o1 := s.1
    have h0 := o1.1
    have gg := (g.get (show i < prd za na by omega)).2.1
    rw [hcu i hi] at gg
    obtain ⟨f, f1, f2, f3, f4⟩ := E_first hk hm hv (hu i hi) s
    have je := join_eq hk hm hv (hu i hi) f2 f3 f4
    obtain ⟨M1, a1, a2, a3, a4, a5⟩ := E_jin (k100 := F_X0_join_b100 (N + e)) (i := i) (oa := oa) (n6 := iw (n : Int)) (t := u i) hm (m - f) xN f ps M (by omega) (by omega) hl pr s
    rw [je] at a4 a5
    have head : F_X0_join_b100 (N + (e + 1)) M 1000 oa (iw (m : Int)) (iw (n : Int)) (iw (ps.length : Nat)) (iw (i : Int)) = F_X0_join_b128 (F_X0_join_b100 (N + e)) xN M 1000 oa (iw (m : Int)) (iw (n : Int)) (iw (ps.length : Nat)) (iw (i : Int)) (u i) (iw (f : Int)) := by
      show F_X0_join_b100_st (F_X0_join_b100 (N + e)) M _ _ _ _ _ _ = _
      unfold F_X0_join_b100_st
      rw [if_pos (by rw [iw_le4 (by omega) (by omega)]; exact hi)]
      simp only [vg_of g.1.2.2.1 (show x_isa 22 22 = true by decide), gg, g1000_74, o1, v1022, f1, Option.bind_some]
    rw [jal_len]
    by_cases c : ps.length + (mfl v (u i) m 0).length ≤ 4096
    · rw [if_pos c] at a4
      have cp := g.2.2.2.2.2.2.2.1
      have hl2 : (ps ++ (mfl v (u i) m 0).map (fun x => (i, x))).length = ps.length + (mfl v (u i) m 0).length := by rw [List.length_append, List.length_map]
      obtain ⟨M', b1, b2, b3, b4, b5⟩ := ih N (i + 1) (ps ++ (mfl v (u i) m 0).map (fun x => (i, x))) M1 (by omega) (by omega) (a5 c) (s.j57 a1 rfl) (g.df a1 qt_n2 (qt_at1 (by decide)) qt_n2) (fun x hx => by rw [a1.cJ cp.2.1 (qt_at1 (by decide) _ _ cp.1)]; exact hcu x hx)
      rw [hl2, Nat.add_assoc] at b4 b5
      refine ⟨M', a1.trans b1, by omega, by omega, (head.trans a4).trans b4, fun q => ?_⟩
      have := b5 q
      rw [List.append_assoc] at this
      exact this
    · rw [if_neg c] at a4
      refine ⟨M1, a1, a2, a3, ?_, fun q => by omega⟩
      rw [if_neg (by omega)]
      exact head.trans a4
theorem M_jout {oa ba ob bb m n : Nat} {ka kb : Int32} {na nb : Nat} {za zb : Nat → Nat} {sa ta sb tb' : Nat → Int32} {xa ya xb yb : Int32} {ca da La cb db Lb : Nat} {pa pb : Int32} {u v : Nat → Int64} (hm : m ≤ 4096) (hn : n ≤ 4096) (hp : prd zb nb = m) (hpa : prd za na = n) : ∀ (e N i : Nat) (ps : List (Nat × Nat)) (M : Mem), i + e = n → ps.length ≤ 4096 → PR M 1073 ps → ST M → GP M oa ba ka na za sa ta xa ya ca da La pa → GP M ob bb kb nb zb sb tb' xb yb cb db Lb pb → (∀ x, x < n → cJ M ca (gpos na za sa xa x) = u x) → (∀ x, x < m → cJ M cb (gpos nb zb sb xb x) = v x) →
    ∃ M', Df n2 (at1 1073) n2 M M' ∧ m_nx M' = m_nx M ∧ m_sl M' = m_sl M ∧ F_X16_join_b79 (N + e) M 1068 ba bb (iw (ps.length : Nat)) (iw (i : Int)) = (if ps.length + (jal u v m e i).length ≤ 4096 then F_X16_join_b79 N M' 1068 ba bb (iw ((ps.length + (jal u v m e i).length : Nat) : Int)) (iw (n : Int)) else some (-12, M')) ∧
      (ps.length + (jal u v m e i).length ≤ 4096 → PR M' 1073 (ps ++ jal u v m e i)) := by
  have hxN : xN = 1099511627776 := rfl
  intro e
  induction e with
  | zero =>
    intro N i ps M h1 hl pr s ga gb hcu hcv
    have : i = n := by omega
    subst this
    refine ⟨M, Df.refl _ _ _ _, rfl, rfl, ?_, fun _ => ?_⟩
    · rw [if_pos (by show ps.length + 0 ≤ _; omega)]
      rfl
    · show PR M 1073 (ps ++ [])
      rw [List.append_nil]
      exact pr
  | succ e ih =>
    intro N i ps M h1 hl pr s ga gb hcu hcv
    have hi : i < n := by omega
    have h0 := s.1
    obtain ⟨M1, a1, a2, a3, a4, a5⟩ := M_jin (k79 := F_X16_join_b79 (N + e)) (t := u i) hm hp (show i < prd za na by omega) m xN 0 ps M (by omega) (by omega) hl pr s ga gb (hcu i hi) hcv
    have cM := M_count ga.2.1 ga.2.2.2.1 ga.2.2.2.2.1
    rw [hpa] at cM
    have head : F_X16_join_b79 (N + (e + 1)) M 1068 ba bb (iw (ps.length : Nat)) (iw (i : Int)) = F_X16_join_b91 (F_X16_join_b79 (N + e)) xN M 1068 ba bb (iw (ps.length : Nat)) (iw (i : Int)) (iw ((0 : Nat) : Int)) := by
      show F_X16_join_b79_st (F_X16_join_b79 (N + e)) M _ _ _ _ _ = _
      unfold F_X16_join_b79_st
      simp only [vg_of ga.2.1.2.2.1 (show x_isa 23 23 = true by decide), cM, Option.bind_some]
      rw [if_pos (by rw [iw_le4 (by omega) (by omega)]; exact hi)]
      rfl
    rw [jal_len]
    by_cases c : ps.length + (mfl v (u i) m 0).length ≤ 4096
    · rw [if_pos c] at a4
      have cpa := ga.2.2.2.2.2.2.2.1
      have cpb := gb.2.2.2.2.2.2.2.1
      have hl2 : (ps ++ (mfl v (u i) m 0).map (fun x => (i, x))).length = ps.length + (mfl v (u i) m 0).length := by rw [List.length_append, List.length_map]
      obtain ⟨M', b1, b2, b3, b4, b5⟩ := ih N (i + 1) (ps ++ (mfl v (u i) m 0).map (fun x => (i, x))) M1 (by omega) (by omega) (a5 c) (s.n a1) (ga.df a1 qt_n2 (qt_at1 (by decide)) qt_n2) (gb.df a1 qt_n2 (qt_at1 (by decide)) qt_n2) (fun x hx => by rw [a1.cJ cpa.2.1 (qt_at1 (by decide) _ _ cpa.1)]; exact hcu x hx) (fun x hx => by rw [a1.cJ cpb.2.1 (qt_at1 (by decide) _ _ cpb.1)]; exact hcv x hx)
      rw [hl2, Nat.add_assoc] at b4 b5
      refine ⟨M', a1.trans b1, by omega, by omega, (head.trans a4).trans b4, fun q => ?_⟩
      have := b5 q
      rw [List.append_assoc] at this
      exact this
    · rw [if_neg c] at a4
      refine ⟨M1, a1, a2, a3, ?_, fun q => by omega⟩
      rw [if_neg (by omega)]
      exact head.trans a4
/-- a cell of a row of pairs -/
def prv (ps : List (Nat × Nat)) (x : Nat) : Int64 := (iw ((if x % 2 = 0 then (ps.getD (x / 2) (0, 0)).1 else (ps.getD (x / 2) (0, 0)).2 : Nat) : Int)).toInt64
theorem PR.at {M : Mem} {arr : Nat} {ps : List (Nat × Nat)} (h : PR M arr ps) {x : Nat} (hx : x < 2 * ps.length) : cJ M arr x = prv ps x := by
  obtain ⟨h1, h2⟩ := h (x / 2) (by omega)
  unfold prv
  by_cases c : x % 2 = 0
  · rw [if_pos c, ← h1, show 2 * (x / 2) = x by omega]
  · rw [if_neg c, ← h2, show 2 * (x / 2) + 1 = x by omega]
theorem c_join {M : Mem} {g g' : Int32} (h : ST M) (h4 : I4 M) (h5 : I5 M) : CR (pg n2) (rG M) (fun _ => True) M (fun M => F_X0_join M 1000 g g') (fun M => F_X16_join M 1068 g g') := by
  have h0 := h.1
  have h5x := h5
  obtain ⟨m, ww, K, n, Z, S, T, X, Y, C, D, L, P, h5⟩ := h5
  have n10 : ¬ (1 : Int32) = 0 := by decide
  have hxN : xN = 1099511627776 := rfl
  have z6 : ¬ (0 : Nat) = 6 := by decide
  have no : ∀ r : Int32, F_X0_join M 1000 g g' = some (r, M) → F_X16_join M 1068 g g' = some (r, M) → CR (pg n2) (rG M) (fun _ => True) M (fun M => F_X0_join M 1000 g g') (fun M => F_X16_join M 1068 g g') := fun r e1 e2 =>
    CR.no h h5x r M M e1 e2 trivial (Df.refl n2 _ _ _) (fun _ _ q => q.elim) qt_n2 noGr_n2 (by omega) (by omega)
  rcases look2 h h4 h5 g g' with ⟨b1, b2, e1, e1', e2⟩ | ⟨b1, b2, e2, e1, ⟨x, e1'⟩, e8⟩ | ⟨b1, b2, e2, ⟨o, e1, o0, o6⟩, e1', e7, e8⟩ | ⟨b1, b2, i, j, i1, i2, j1, j2, hg, hg', e1, e1', i0, i6, j0, j6, e7, e7', e6, e6', gp, gp'⟩
  · exact no (-13) (by simp only [F_X0_join, F_X0_join_b22, v1000, h, e1, e1', e2, z6, Option.bind_some, if_false, if_true]) (by simp only [F_X16_join, g1068_1095, h, b2, n10, Option.bind_some, if_false])
  · exact no (-14) (by simp only [F_X0_join, F_X0_join_b22, v1000, h, e1, e1', e2, z6, Option.bind_some, if_false, if_true]) (by simp only [F_X16_join, F_X16_join_b26, g1068_1095, v1068, h, b2, e8, Option.bind_some, if_true])
  · exact no (-14) (by simp only [F_X0_join, F_X0_join_b22, v1000, h, e1, e1', e2, z6, o0, o6, Option.bind_some, if_false, if_true]) (by simp only [F_X16_join, F_X16_join_b26, g1068_1095, v1068, h, b2, e7, e8, n10, Option.bind_some, if_true, if_false])
  have hk := gp.2.2.1
  obtain ⟨rwE, rM⟩ := E_row gp
  obtain ⟨rE', rM'⟩ := E_row gp'
  have vE := vg_of gp.1.2.2.1 (show x_isa 22 22 = true by decide)
  have vE' := vg_of gp'.1.2.2.1 (show x_isa 22 22 = true by decide)
  by_cases c1 : ¬ n i = 1
  · rw [if_neg c1] at rwE rM
    exact no (-1) (by simp only [F_X0_join, F_X0_join_b55, v1000, h, e1, e1', i0, i6, j0, j6, vE, rwE, Option.bind_some, if_false, if_true]) (by simp only [F_X16_join, F_X16_join_b71, g1068_1095, g1068_1092, v1068, h, b2, e7, e7', e6, e6', n10, rM, Option.bind_some, if_true, if_false])
  have c1 : n i = 1 := Decidable.of_not_not c1
  rw [if_pos c1] at rwE rM
  by_cases c2 : ¬ n j = 1
  · rw [if_neg c2] at rE' rM'
    exact no (-1) (by simp only [F_X0_join, F_X0_join_b55, v1000, h, e1, e1', i0, i6, j0, j6, vE, rwE, vE', rE', n10, Option.bind_some, if_false, if_true]) (by simp only [F_X16_join, F_X16_join_b71, g1068_1095, g1068_1092, v1068, h, b2, e7, e7', e6, e6', n10, rM, rM', Option.bind_some, if_true, if_false])
  have c2 : n j = 1 := Decidable.of_not_not c2
  rw [if_pos c2] at rE' rM'
  have kE := gi_of gp.1.2.2.1 (show x_fi 22 1408 = true by decide)
  have kE' := gi_of gp'.1.2.2.1 (show x_fi 22 1408 = true by decide)
  have kM := gi_of gp.2.1.2.2.1 (show x_fi 23 1472 = true by decide)
  have kM' := gi_of gp'.2.1.2.2.1 (show x_fi 23 1472 = true by decide)
  by_cases c3 : ¬ K i = K j
  · exact no (-1) (by simp only [F_X0_join, F_X0_join_b55, v1000, h, e1, e1', i0, i6, j0, j6, vE, rwE, vE', rE', n10, kE, kE', gp.1.2.2.2.1, gp'.1.2.2.2.1, c3, Option.bind_some, if_false]) (by simp only [F_X16_join, F_X16_join_b71, g1068_1095, g1068_1092, v1068, h, b2, e7, e7', e6, e6', n10, rM, rM', kM, kM', gp.2.1.2.2.2.1, gp'.2.1.2.2.2.1, c3, Option.bind_some, if_true, if_false])
  have c3 : K i = K j := Decidable.of_not_not c3
  -- sizes
  obtain ⟨nn, hnn⟩ : ∃ nn, nn = prd (Z i) (n i) := ⟨_, rfl⟩
  obtain ⟨mm, hmm⟩ : ∃ mm, mm = prd (Z j) (n j) := ⟨_, rfl⟩
  have hnn4 : nn ≤ 4096 := by rw [hnn, c1]; show 1 * Z i 0 ≤ _; have := gp.2.2.2.2.1 0 (by omega); omega
  have hmm4 : mm ≤ 4096 := by rw [hmm, c2]; show 1 * Z j 0 ≤ _; have := gp'.2.2.2.2.1 0 (by omega); omega
  obtain ⟨u, hu⟩ : ∃ u : Nat → Int64, u = fun x => cJ M (C i) (gpos (n i) (Z i) (S i) (X i) x) := ⟨_, rfl⟩
  obtain ⟨v, hv⟩ : ∃ v : Nat → Int64, v = fun x => cJ M (C j) (gpos (n j) (Z j) (S j) (X j) x) := ⟨_, rfl⟩
  have huv : ∀ x, x < nn → vb (K i) (u x) := fun x hx => by rw [hu]; exact (gp.get (by omega)).1
  have hvv : ∀ x, x < mm → vb (K i) (v x) := fun x hx => by rw [hv, c3]; exact (gp'.get (by omega)).1
  have cp := gp.2.2.2.2.2.2.2.1
  have cp' := gp'.2.2.2.2.2.2.2.1
  -- the engine sorts
  obtain ⟨A1, a1, a2, a3, a4, a5⟩ := E_gather (arr := 1058) (W := 100000) gp' (by decide) gp'.2.2.2.2.2.1 (by decide) (t1058 h) (l1058 h)
  rw [← hmm] at a1 a5
  have a4' : Df n2 (at1 1058) n2 M A1 := a4
  have sA1 : ST A1 := h.n a4
  have gA1 := gp.df a4' qt_n2 (qt_at1 (by decide)) qt_n2
  have gA1' := gp'.df a4' qt_n2 (qt_at1 (by decide)) qt_n2
  have ob : OB 1022 1023 1024 := Or.inl ⟨rfl, rfl, rfl⟩
  obtain ⟨A2, s1, s2, s3, s4, s5, s6⟩ := E_sort (v := v) (row := 1058) (n := mm) (fl := 0) sA1 ob hk (Or.inl rfl) hmm4 ⟨t1058 sA1, by rw [l1058 sA1]; omega, by rw [l1058 sA1]; decide⟩ (fun x hx => ⟨by rw [a5 x hx, hv], hvv x hx⟩)
  have sA2 : ST A2 := s5.1
  have qOr : qt (pOr 1022 1023 1024) := fun a i q1 q2 => by unfold pOr at q2; omega
  have rOrq : qt (rOr 1022) := fun a i q1 q2 => by unfold rOr at q2; omega
  have gA2 := gA1.df s4 qOr qt_n2 rOrq
  have eu2 : ∀ x, x < nn → cJ A2 (C i) (gpos (n i) (Z i) (S i) (X i) x) = u x := fun x hx => by
    have := cp.2.1
    rw [s4.cJ (by omega) (fun q => q), a4'.cJ cp.2.1 (qt_at1 (by decide) _ _ cp.1), hu]
  obtain ⟨N0, hN0⟩ : ∃ N0, N0 + 1 + nn = xN := ⟨xN - 1 - nn, by omega⟩
  obtain ⟨A3, t1, t2, t3, t4, t5⟩ := E_jout hk hmm4 hnn4 hnn.symm huv hvv nn (N0 + 1) 0 [] A2 (by omega) (by decide) (fun x hx => by cases hx) s5 gA2 eu2
  rw [hN0] at t4
  have i00 : iw ((0 : Nat) : Int) = 0 := rfl
  have runE : F_X0_join M 1000 g g' = F_X0_join_b100 xN A2 1000 (cR M 1005 i) (iw (mm : Int)) (iw (nn : Int)) 0 0 := by
    have cE := E_count gA2.1 gp.2.2.2.1
    rw [← hnn] at cE
    have s1' : F_X7_sort A1 1022 1058 (iw (mm : Int)) (K j) 0 = some A2 := by rw [← c3]; exact s1
    simp only [F_X0_join, v1000, h, e1, e1', i0, i6, j0, j6, vE, rwE, vE', rE', n10, kE, kE', gp.1.2.2.2.1, gp'.1.2.2.2.1, c3, g1000_82, a1, g1000_74, sA1, gi_of gA1'.1.2.2.1 (show x_fi 22 1408 = true by decide), gA1'.1.2.2.2.1, v1022, s1', vg_of gA2.1.2.2.1 (show x_isa 22 22 = true by decide), cE, Option.bind_some, if_false, if_true]
  have t4 : F_X0_join M 1000 g g' = _ := runE.trans t4
  obtain ⟨J, hJ⟩ : ∃ J, J = jal u v mm nn 0 := ⟨_, rfl⟩
  have lz : ([] : List (Nat × Nat)).length + J.length = J.length := by show 0 + J.length = _; omega
  rw [← hJ, lz] at t4 t5
  rw [List.nil_append] at t5
  have dA3 : Df (pp n2) qsc rsc M A3 := ((a4'.mono (fun _ _ q => q.elim) (fun a i q => by unfold at1 at q; unfold qsc; omega) (fun _ _ q => q.elim)).trans (s4.mono (fun a i q => Or.inl (pOr_sc ob a i q)) (fun _ _ q => q.elim) (fun a i q => rOr_st ob a i q))).trans (t1.mono (fun _ _ q => q.elim) (fun a i q => by unfold at1 at q; unfold qsc; omega) (fun _ _ q => q.elim))
  have sA3 : ST A3 := h.sc dA3
  -- the model's head
  have headM : ∀ M1, ST M1 → Df (fun a i => pp n2 a i ∨ pNE a i) qsc rWk M M1 → ∃ B1, Df (pp n2) qsc n2 M1 B1 ∧ m_nx B1 = m_nx M1 ∧ m_sl B1 = m_sl M1 ∧ F_X16_join M1 1068 g g' = (if J.length ≤ 4096 then F_X16_join_b79 (N0 + 1) B1 1068 (cR M 1070 i) (cR M 1070 j) (iw (J.length : Nat)) (iw (nn : Int)) else some (-12, B1)) ∧ (J.length ≤ 4096 → PR B1 1073 J) ∧ GP B1 (cR M 1005 i) (cR M 1070 i) (K i) (n i) (Z i) (S i) (T i) (X i) (Y i) (C i) (D i) (L i) (P i) := by
    intro M1 g2 d1
    have npm : ∀ i, ¬ (pp n2 1068 i ∨ pNE 1068 i) := fun i q => q.elim (fun q => q.elim (nsc i) (fun q => q)) (fun q => by unfold pNE at q; omega)
    have qx : qt (fun a i => pp n2 a i ∨ pNE a i) := fun a i a1 a2 => a2.elim (qt_pp qt_n2 a i a1) (qt_pNE a i a1)
    have hr70 : ∀ i, ¬ rWk 1070 i := fun i q => q.elim (rsc_5 i).2 (fun q => by unfold rE at q; omega)
    obtain ⟨-, y2, y3⟩ := M_see h d1 g2 (npm _) (npm _) hr70 g
    obtain ⟨-, y2', y3'⟩ := M_see h d1 g2 (npm _) (npm _) hr70 g'
    have G := gp.df d1 qx qt_qsc qt_rWk
    have G' := gp'.df d1 qx qt_qsc qt_rWk
    obtain ⟨-, w1⟩ := E_row G
    obtain ⟨-, w1'⟩ := E_row G'
    rw [if_pos c1] at w1
    rw [if_pos c2] at w1'
    have cc : cI M1 1068 1095 = 0 := by rw [d1.cI (by omega) (npm _)]; exact b2
    obtain ⟨B1, k1, k2, k3, k4, k5⟩ := M_jout (u := u) (v := v) hmm4 hnn4 hmm.symm hnn.symm nn (N0 + 1) 0 [] M1 (by omega) (by decide) (fun x hx => by cases hx) g2 G G' (fun x hx => by rw [d1.cJ cp.2.1 (qt_qsc _ _ cp.1), hu]) (fun x hx => by rw [d1.cJ cp'.2.1 (qt_qsc _ _ cp'.1), hv])
    rw [hN0, ← hJ, lz] at k4
    rw [← hJ, lz, List.nil_append] at k5
    refine ⟨B1, k1.mono (fun _ _ q => q.elim) (fun a i q => by unfold at1 at q; unfold qsc; omega) (fun _ _ q => q), k2, k3, ?_, k5, G.df k1 qt_n2 (qt_at1 (by decide)) qt_n2⟩
    rw [← k4]
    simp only [F_X16_join, g1068_1095, g1068_1092, v1068, g2, cc, y2, y2', y3, y3', e7, e7', e6, e6', n10, w1, w1', gi_of G.2.1.2.2.1 (show x_fi 23 1472 = true by decide), G.2.1.2.2.2.1, gi_of G'.2.1.2.2.1 (show x_fi 23 1472 = true by decide), G'.2.1.2.2.2.1, c3, Option.bind_some, if_true, if_false]
    rfl
  by_cases cJ4 : J.length ≤ 4096
  · rw [if_pos cJ4] at t4
    have prA := t5 cJ4
    obtain ⟨A4, hA4, f1, f2, f3, sA4, dA4, nA4, lA4, h89, h62a, h62b, -⟩ := E_shape2 sA3 (iw (J.length : Nat)) (iw ((2 : Nat) : Int))
    obtain ⟨z, hz⟩ : ∃ z : Nat → Nat, z = fun y => if y = 0 then J.length else 2 := ⟨_, rfl⟩
    have hz0 : z 0 = J.length := by rw [hz]; rfl
    have hz1 : z 1 = 2 := by rw [hz]; rfl
    have hzle : ∀ y, y < 2 → cI A4 1062 y = iw (z y) ∧ z y ≤ 4096 := fun y hy => by
      rcases (show y = 0 ∨ y = 1 by omega) with rfl | rfl
      · rw [h62a, hz0]; exact ⟨rfl, cJ4⟩
      · rw [h62b, hz1]; exact ⟨rfl, by decide⟩
    have hprd : prd z 2 = 2 * J.length := by show 1 * z 0 * z 1 = _; rw [hz0, hz1]; omega
    have e57 : ∀ x, cJ A4 1057 x = cJ A3 1057 x := fun x => by rw [hA4]; rfl
    have dA4' : Df (pp n2) qsc rsc M A4 := dA3.trans dA4.sc
    have nA3 := dA3.1
    obtain ⟨ρ, M1, g1, g2, g3, g4, g5⟩ := mkCs (k := 4) (n' := 2) (z := z) (r := 1057) h h5 dA4' qt_n2 noGr_n2 (prv J) (by unfold Lk; simp) (by decide) hzle h89 (fun hp => ⟨by decide, by decide, by omega, t1057 sA4, by rw [l1057 sA4]; exact hp, by rw [l1057 sA4]; decide⟩) (fun _ x hx => ⟨by rw [e57]; exact prA.at (by omega), vb4 _⟩)
    have eE : F_X0_join M 1000 g g' = some (ρ, M1) := by
      rw [t4]
      show F_X0_join_b100_st (F_X0_join_b100 N0) A3 _ _ _ _ _ _ = _
      unfold F_X0_join_b100_st
      rw [if_neg (by rw [iw_le4 (by omega) (by omega)]; omega)]
      have g88 : gr (wI A3 1000 89 2) 1000 88 = some 1062 := g1000_88 sA3
      have g88' : gr (wI (wI A3 1000 89 2) 1062 0 (iw (J.length : Nat))) 1000 88 = some 1062 := g1000_88 sA3
      have f3' : si (wI (wI A3 1000 89 2) 1062 0 (iw (J.length : Nat))) 1062 1 2 = some A4 := f3
      simp only [f1, g88, f2, g88', f3', g1000_81, v1000, sA4, g1, Option.bind_some]
    have dM1 : Df (fun a i => pp n2 a i ∨ pNE a i) qsc rWk M M1 := (dA4'.mono (fun _ _ q => Or.inl q) (fun _ _ q => q) (fun _ _ q => Or.inl q)).trans (g3.mono (fun _ _ q => Or.inr q) (fun _ _ q => q.elim) (fun _ _ q => Or.inr q))
    have nM1 := g3.1
    obtain ⟨B1, k1, k2, k3, k4, k5, G⟩ := headM M1 g2 dM1
    rw [if_pos cJ4] at k4
    have nB := k1.1
    have sB1 : ST B1 := g2.n k1
    obtain ⟨U, u1, u2, u3, u4, u5⟩ := M_sizes2 (B := B1) (by omega) z
    rw [hz0, hz1] at u1
    have sU : ST U := sB1.n u4
    have dU : Df (pp n2) qsc rsc M1 U := (k1.trans (u4.mono (fun _ _ q => q.elim) (fun _ _ q => q.elim) (fun _ _ q => q))).sc
    obtain ⟨M2, y1, y2, y3, y4, y6, y5⟩ := g5 U dU (m_nx B1) 1073 u5 (fun hp => ⟨⟨by decide, by decide, by omega, t1073 sU, by rw [l1073 sU]; exact hp, by rw [l1073 sU]; decide⟩, fun x hx => by rw [u4.cJ (by omega) (fun q => q)]; exact (k5 cJ4).at (by omega)⟩)
    refine ⟨ρ, M1, M2, eE, ?_, trivial, y2, y3, by omega, by omega⟩
    show F_X16_join M1 1068 g g' = _
    rw [k4]
    show F_X16_join_b79_st (F_X16_join_b79 N0) B1 _ _ _ _ _ = _
    unfold F_X16_join_b79_st
    have cM := M_count G.2.1 gp.2.2.2.1 gp.2.2.2.2.1
    rw [← hnn] at cM
    simp only [vg_of G.2.1.2.2.1 (show x_isa 23 23 = true by decide), cM, Option.bind_some]
    rw [if_neg (by rw [iw_le4 (by omega) (by omega)]; omega)]
    have u1' : F_X16_sizes B1 (iw (J.length : Nat)) 2 = some (m_nx B1, U) := u1
    simp only [u1', g1068_1100, v1068, sU, y1, Option.bind_some]
  · rw [if_neg cJ4] at t4
    have dM1 : Df (fun a i => pp n2 a i ∨ pNE a i) qsc rWk M A3 := dA3.mono (fun _ _ q => Or.inl q) (fun _ _ q => q) (fun _ _ q => Or.inl q)
    obtain ⟨B1, k1, k2, k3, k4, -, -⟩ := headM A3 sA3 dM1
    rw [if_neg cJ4] at k4
    exact CR.nos h h5x (-12) A3 B1 t4 k4 trivial (dA3.trans k1.sc) pp_pg (qt_pp qt_n2) (noGr_pp noGr_n2) (by omega) (by omega)
