/-! ===== THE LOG, 4: the engine keeps a grid, whole ===== -/
theorem getD_appr {vs ys : List Int32} {i : Nat} (h : vs.length ≤ i) : (vs ++ ys).getD i 0 = ys.getD (i - vs.length) 0 := by
  rw [List.getD_eq_getElem?_getD, List.getD_eq_getElem?_getD, List.getElem?_append_right h]
/-- a record but for its sum -/
def rcw (len nl : Nat) (nm : Nat → Int32) (gb : List Int32) : List Int32 := nbs (iw (len : Int)).toInt64 4 ++ ([j_i2b (iw (nl : Int))] ++ (nml nm nl 0 ++ gb))
theorem rcw_len (len nl : Nat) (nm : Nat → Int32) (gb : List Int32) : (rcw len nl nm gb).length = 5 + nl + gb.length := by
  unfold rcw
  rw [List.length_append, List.length_append, List.length_append, nbs_len, nml_len, List.length_singleton]
  omega
/-- what the log holds then -/
noncomputable def lgw (vs : List Int32) (len nl : Nat) (nm : Nat → Int32) (gb : List Int32) : List Int32 := vs ++ rcw len nl nm gb ++ nbs (fldr sm1 (fun i => (vs ++ rcw len nl nm gb).getD i 0) (5 + nl + gb.length) vs.length 0) 8
theorem lgw_len (vs : List Int32) (len nl : Nat) (nm : Nat → Int32) (gb : List Int32) : (lgw vs len nl nm gb).length = vs.length + (13 + nl + gb.length) := by
  unfold lgw
  rw [List.length_append, List.length_append, nbs_len, rcw_len]
  omega
section KEEP2
variable {a b : Nat} {k : Int32} {n : Nat} {z : Nat → Nat} {s t : Nat → Int32} {x y : Int32} {c d L : Nat} {p : Int32} {val : Nat → Int64} {nm : Nat → Int32} {nl : Nat}
theorem E_keep {M : Mem} {vs : List Int32} (sM : ST M) (g : GP M a b k n z s t x y c d L p) (hv : ∀ q, q < prd z n → cJ M c (gpos n z s x q) = val q) (hnl1 : 1 ≤ nl) (hnl : nl ≤ 20) (hnm : ∀ q, q < nl → cI M 1001 q = nm q) (eo : EO M 1052 60000 vs) (hT : vs.length ≤ 60000) :
    ((vs.length + (13 + nl + (gbc k n z val).length) ≤ 60000 ∧ (gbc k n z val).length ≤ 30000) ∧ ∃ M', F_X14_keep M 1051 1001 (iw (nl : Int)) a = some (1, M') ∧ EO M' 1052 60000 (lgw vs (13 + nl + (gbc k n z val).length) nl nm (gbc k n z val)) ∧ (∀ i, vs.length ≤ i → i < vs.length + (13 + nl + (gbc k n z val).length) → cI M' 1055 i = j_i2b (cI M' 1053 i)) ∧ (∀ i, i < vs.length → cI M' 1055 i = cI M 1055 i) ∧ cI M' 1051 962 = iw (vs.length : Nat) ∧ Df (fun a _ => 1051 ≤ a ∧ a ≤ 1055) n2 n2 M M' ∧ m_nx M' = m_nx M ∧ m_sl M' = m_sl M) ∨
    (¬ (vs.length + (13 + nl + (gbc k n z val).length) ≤ 60000 ∧ (gbc k n z val).length ≤ 30000) ∧ ∃ M', F_X14_keep M 1051 1001 (iw (nl : Int)) a = some (0, M') ∧ EO M' 1052 60000 vs ∧ Df (atO 1052) n2 n2 M M' ∧ m_nx M' = m_nx M ∧ m_sl M' = m_sl M) := by
  have hxN : xN = 1099511627776 := rfl
  have h0 := sM.1
  obtain ⟨gb, hgb⟩ : ∃ gb, gb = gbc k n z val := ⟨_, rfl⟩
  have hgl := gbc_len k n z val
  have hp := g.2.2.2.2.2.1
  have hw8 := (wdt_eq g.2.2.1).2.2.2
  have mul8 : wdt k * prd z n ≤ 800000 := by have := Nat.mul_le_mul hw8 hp; omega
  have hn := g.2.2.2.1
  rw [← hgb] at hgl ⊢
  have m1 : ¬ mr true = 0 := by decide
  have m0 : mr false = 0 := by decide
  obtain ⟨st, hst⟩ : ∃ st, st = iw (vs.length : Nat) := ⟨_, rfl⟩
  have e25 : cI M 1052 1025 = st := by rw [eo.1, hst, Nat.min_eq_left hT]
  have q4 : qt (atO 1052) := qt_atO ob52
  -- the head
  have head : ∃ M2, F_X14_keep M 1051 1001 (iw (nl : Int)) a = F_X14_keep_b42 xN M2 1051 1001 (iw (nl : Int)) a st (mr (decide ((vs ++ nbs 0 4 ++ [j_i2b (iw (nl : Int))]).length ≤ 60000))) (iw ((0 : Nat) : Int)) ∧ EO M2 1052 60000 (vs ++ nbs 0 4 ++ [j_i2b (iw (nl : Int))]) ∧ Df (atO 1052) n2 n2 M M2 ∧ m_nx M2 = m_nx M ∧ m_sl M2 = m_sl M ∧ ST M2 := by
    obtain ⟨A, a1, a2, a3, a4, a5, a6⟩ := E_number (w := 4) (v := 0) ob52 sM eo (by decide) (by decide)
    have a1' : F_X15_number M 1052 0 4 = some (mr (decide (vs.length + 4 ≤ 60000)), A) := a1
    have la : (vs ++ nbs 0 4).length = vs.length + 4 := by rw [List.length_append, nbs_len]
    have lb : (vs ++ nbs 0 4 ++ [j_i2b (iw (nl : Int))]).length = vs.length + 5 := by rw [List.length_append, la, List.length_singleton]
    rw [lb]
    by_cases c1 : vs.length + 4 ≤ 60000
    · rw [decide_eq_true c1] at a1'
      obtain ⟨B, b1, b2, b3, b4, b5⟩ := E_putb ob52 a6 a2 (iw (nl : Int))
      rw [la] at b1
      have sB : ST B := a6.n b3
      refine ⟨B, ?_, b2, a3.trans b3, by omega, by omega, sB⟩
      unfold F_X14_keep F_X14_keep_b36 F_X14_keep_b37
      simp only [g1051_960, g1052_1025, sM, e25, v1052, a1', m1, a6, b1, Option.bind_some, if_false]
      by_cases c2 : vs.length + 4 < 60000
      · rw [decide_eq_true c2, if_neg m1, decide_eq_true (show vs.length + 5 ≤ 60000 by omega)]
        rfl
      · rw [decide_eq_false c2, if_pos m0, decide_eq_false (show ¬ vs.length + 5 ≤ 60000 by omega)]
        rfl
    · rw [decide_eq_false c1] at a1'
      refine ⟨A, ?_, a2.full (by omega) _, a3, a4, a5, a6⟩
      unfold F_X14_keep F_X14_keep_b36 F_X14_keep_b37
      simp only [g1051_960, g1052_1025, sM, e25, v1052, a1', m0, Option.bind_some, if_true]
      rw [decide_eq_false (show ¬ vs.length + 5 ≤ 60000 by omega)]
      rfl
  obtain ⟨M2, h1, h2, h3, h4, h5, s2⟩ := head
  obtain ⟨N1, hN1⟩ : ∃ N1, N1 + 1 + nl = xN := ⟨xN - 1 - nl, by omega⟩
  obtain ⟨M3, k1, k2, k3, k4, k5, s3⟩ := E_knm (a := a) (st := st) (nm := nm) hnl nl (N1 + 1) 0 _ M2 (by omega) s2 (fun q hq => by rw [h3.cI (by omega) (by unfold atO; omega)]; exact hnm q hq) h2
  rw [hN1] at k1
  have d3 : Df (atO 1052) n2 n2 M M3 := h3.trans k3
  obtain ⟨v3, hv3⟩ : ∃ v3, v3 = vs ++ nbs 0 4 ++ [j_i2b (iw (nl : Int))] ++ nml nm nl 0 := ⟨_, rfl⟩
  have l3 : v3.length = vs.length + 5 + nl := by rw [hv3, List.length_append, List.length_append, List.length_append, nbs_len, nml_len, List.length_singleton]
  rw [← hv3] at k1 k2
  have run : F_X14_keep M 1051 1001 (iw (nl : Int)) a = F_X14_keep_b42 (N1 + 1) M3 1051 1001 (iw (nl : Int)) a st (mr (decide (v3.length ≤ 60000))) (iw (nl : Int)) := h1.trans k1
  have g3 := g.df d3 q4 qt_n2 qt_n2
  have cp := g.2.2.2.2.2.2.2.1
  -- it does not fit: the end is put back
  have back : ∀ N, Df (atO 1052) n2 n2 M N → m_nx N = m_nx M → m_sl N = m_sl M → (∀ i, i < vs.length → cI N 1053 i = vs.getD i 0) → ∃ M', F_X14_keep_b140 N 1051 st = some (0, M') ∧ EO M' 1052 60000 vs ∧ Df (atO 1052) n2 n2 M M' ∧ m_nx M' = m_nx M ∧ m_sl M' = m_sl M := by
    intro N dN nN lN hN
    have sN : ST N := sM.n dN
    refine ⟨wI N 1052 1025 st, ?_, ⟨by rw [cI_wI, if_pos ⟨rfl, rfl⟩, hst, Nat.min_eq_left hT], fun i hi => by rw [Nat.min_eq_left hT] at hi; rw [cI_wI, if_neg (fun q => absurd q.1 (by decide))]; exact hN i hi⟩, dN.trans (Df.wI _ (Or.inl ⟨rfl, rfl⟩)), nN, lN⟩
    unfold F_X14_keep_b140 F_X14_keep_b141
    simp only [g1051_960, g1052_1025, p1052_1025, sN, Option.bind_some, if_true]
  have first3 : ∀ i, i < vs.length → cI M3 1053 i = vs.getD i 0 := fun i hi => by
    rw [k2.2 i (by omega), hv3, List.append_assoc, List.append_assoc, getD_app hi]
  by_cases c1 : v3.length ≤ 60000
  · obtain ⟨M4, w1, w2, w3, w4, s4, w6, w7, w8⟩ := E_wgrid (val := val) ob52 s3 g3 (fun q hq => by rw [d3.cJ cp.2.1 (fun q => q)]; exact hv q hq) k2 c1
    rw [← hgb] at w1 w6
    have d4 : Df (atO 1052) n2 n2 M M4 := d3.trans w2
    have step : F_X14_keep_b42 (N1 + 1) M3 1051 1001 (iw (nl : Int)) a st (mr (decide (v3.length ≤ 60000))) (iw (nl : Int)) = (if mr (decide (v3.length + gb.length ≤ 60000)) = 0 then F_X14_keep_b140 M4 1051 st else if (30000 : Int32) < cI M4 1052 1025 - cI M3 1052 1025 then F_X14_keep_b140 M4 1051 st else if (60000 : Int32) < cI M4 1052 1025 + 8 then F_X14_keep_b140 M4 1051 st else F_X14_keep_b141 M4 1 1051 st) := by
      show F_X14_keep_b42_st (F_X14_keep_b42 N1) M3 _ _ _ _ _ _ _ = _
      unfold F_X14_keep_b42_st
      rw [if_neg (by rw [iw_le4 (by omega) (by omega)]; omega), decide_eq_true c1]
      simp only [g1051_960, g1052_1025, s3, m1, w1, s4, Option.bind_some, if_false]
    by_cases c2 : v3.length + gb.length ≤ 60000
    · have e4 := w6 c2
      have ea : cI M4 1052 1025 = iw ((v3.length + gb.length : Nat) : Int) := by rw [e4.1, List.length_append, Nat.min_eq_left c2]
      have eb : cI M3 1052 1025 = iw (v3.length : Nat) := by rw [k2.1, Nat.min_eq_left c1]
      rw [decide_eq_true c2, if_neg m1, ea, eb, iw_nsub (by omega), show v3.length + gb.length - v3.length = gb.length by omega, show (8 : Int32) = iw ((8 : Nat) : Int) from rfl, iw_nad, show (30000 : Int32) = iw ((30000 : Nat) : Int) from rfl, show (60000 : Int32) = iw ((60000 : Nat) : Int) from rfl] at step
      have first4 : ∀ i, i < vs.length → cI M4 1053 i = vs.getD i 0 := fun i hi => by
        rw [e4.2 i (by rw [List.length_append, Nat.min_eq_left c2]; omega), hv3, List.append_assoc, List.append_assoc, List.append_assoc, getD_app hi]
      by_cases c3 : 30000 < gb.length
      · right
        obtain ⟨M', b1, b2, b3, b4, b5⟩ := back M4 d4 (by omega) (by omega) first4
        refine ⟨by omega, M', ?_, b2, b3, b4, b5⟩
        rw [run, step, if_pos (by rw [iw_le4 (by omega) (by omega)]; exact c3), b1]
      · rw [if_neg (by rw [iw_le4 (by omega) (by omega)]; exact c3)] at step
        by_cases c4 : 60000 < v3.length + gb.length + 8
        · right
          obtain ⟨M', b1, b2, b3, b4, b5⟩ := back M4 d4 (by omega) (by omega) first4
          refine ⟨by omega, M', ?_, b2, b3, b4, b5⟩
          rw [run, step, if_pos (by rw [iw_le4 (by omega) (by omega)]; exact c4), b1]
        · rw [if_neg (by rw [iw_le4 (by omega) (by omega)]; exact c4)] at step
          left
          refine ⟨by omega, ?_⟩
          -- the length is put in
          obtain ⟨en, hen⟩ : ∃ en, en = v3.length + gb.length := ⟨_, rfl⟩
          rw [← hen] at ea c4
          obtain ⟨A, hA⟩ : ∃ A, A = wI M4 1052 1025 st := ⟨_, rfl⟩
          have sA : ST A := by rw [hA]; exact s4
          have cA : ∀ i, cI A 1053 i = cI M4 1053 i := fun i => by rw [hA, cI_wI, if_neg (fun q => absurd q.1 (by decide))]
          have eoA : EO A 1052 60000 vs := ⟨by rw [hA, cI_wI, if_pos ⟨rfl, rfl⟩, hst, Nat.min_eq_left hT], fun i hi => by rw [Nat.min_eq_left hT] at hi; rw [cA]; exact first4 i hi⟩
          obtain ⟨B, b1, b2, b3, b4, b5, b6, b7⟩ := E_number2 (w := 4) (v := (iw ((13 + nl + gb.length : Nat) : Int)).toInt64) ob52 sA eoA (by decide) (by decide)
          have b1' : F_X15_number A 1052 (iw ((13 + nl + gb.length : Nat) : Int)).toInt64 4 = some (mr true, B) := by
            rw [decide_eq_true (show vs.length + 4 ≤ 60000 by omega)] at b1
            exact b1
          obtain ⟨Cm, hC⟩ : ∃ Cm, Cm = wI B 1052 1025 (iw (en : Int)) := ⟨_, rfl⟩
          have sC : ST Cm := by rw [hC]; exact b6
          have cC : ∀ i, cI Cm 1053 i = cI B 1053 i := fun i => by rw [hC, cI_wI, if_neg (fun q => absurd q.1 (by decide))]
          have lw : (vs ++ rcw (13 + nl + gb.length) nl nm gb).length = en := by rw [List.length_append, rcw_len, hen, l3]; omega
          have eoC : EO Cm 1052 60000 (vs ++ rcw (13 + nl + gb.length) nl nm gb) := by
            refine ⟨by rw [lw, hC, cI_wI, if_pos ⟨rfl, rfl⟩, Nat.min_eq_left (by omega)], fun i hi => ?_⟩
            rw [lw, Nat.min_eq_left (by omega)] at hi
            rw [cC]
            have lB : (vs ++ nbs (iw ((13 + nl + gb.length : Nat) : Int)).toInt64 4).length = vs.length + 4 := by rw [List.length_append, nbs_len]
            by_cases ci : i < vs.length + 4
            · rw [b2.2 i (by rw [lB, Nat.min_eq_left (by omega)]; exact ci)]
              unfold rcw
              rw [← List.append_assoc, getD_app (vs := vs ++ nbs (iw ((13 + nl + gb.length : Nat) : Int)).toInt64 4) (by omega)]
            · rw [b7 i (by omega), cA, e4.2 i (by rw [List.length_append, Nat.min_eq_left c2]; omega), hv3]
              unfold rcw
              rw [List.append_assoc, List.append_assoc, List.append_assoc, getD_appr (by omega), getD_appr (vs := vs) (by omega), getD_appr (vs := nbs 0 4) (by rw [nbs_len]; omega), getD_appr (vs := nbs (iw ((13 + nl + gb.length : Nat) : Int)).toInt64 4) (by rw [nbs_len]; omega), nbs_len, nbs_len]
          obtain ⟨sum, hsum⟩ : ∃ sum, sum = fldr sm1 (fun i => (vs ++ rcw (13 + nl + gb.length) nl nm gb).getD i 0) (5 + nl + gb.length) vs.length 0 := ⟨_, rfl⟩
          have smE : F_X14_sum Cm 1053 st (iw (en : Int)) = some sum := by
            unfold F_X14_sum
            rw [hst, E_sum_loop (t1053 sC) (l1053 sC) (show en ≤ 60000 by omega) (by decide) (5 + nl + gb.length) xN vs.length 0 (by omega) (by omega), hsum]
            refine congrArg some (fldr_congr _ _ _ (fun i h1 h2 => ?_))
            exact eoC.2 i (by rw [lw, Nat.min_eq_left (by omega)]; omega)
          obtain ⟨E, f1, f2, f3, f4, f5, f6⟩ := E_number (w := 8) (v := sum) ob52 sC eoC (by decide) (by decide)
          have f1' : F_X15_number Cm 1052 sum 8 = some (mr true, E) := by
            rw [lw, decide_eq_true (show en + 8 ≤ 60000 by omega)] at f1
            exact f1
          have eoE : EO E 1052 60000 (lgw vs (13 + nl + gb.length) nl nm gb) := by unfold lgw; rw [← hsum]; exact f2
          have lE : (lgw vs (13 + nl + gb.length) nl nm gb).length = en + 8 := by rw [lgw_len]; omega
          have c25 : cI E 1052 1025 = iw ((en + 8 : Nat) : Int) := by rw [eoE.1, lE, Nat.min_eq_left (by omega)]
          obtain ⟨N2, hN2⟩ : ∃ N2, N2 + 1 + (en + 8 - vs.length) = xN := ⟨xN - 1 - (en + 8 - vs.length), by omega⟩
          obtain ⟨F, r1, r2, r3, r4, r5, r6, r7⟩ := E_kcp (st := st) (fl := 1) (to := en + 8) (by omega) (en + 8 - vs.length) N2 vs.length E (by omega) f6 c25
          rw [hN2] at r1
          have dP : ∀ {U V : Mem}, Df (atO 1052) n2 n2 U V → Df (fun a _ => 1051 ≤ a ∧ a ≤ 1055) n2 n2 U V := fun dd => dd.mono (fun a i q => by unfold atO at q; omega) (fun _ _ q => q) (fun _ _ q => q)
          have dA : Df (fun a _ => 1051 ≤ a ∧ a ≤ 1055) n2 n2 M4 A := by rw [hA]; exact Df.wI _ (by omega)
          have dC : Df (fun a _ => 1051 ≤ a ∧ a ≤ 1055) n2 n2 B Cm := by rw [hC]; exact Df.wI _ (by omega)
          have dall : Df (fun a _ => 1051 ≤ a ∧ a ≤ 1055) n2 n2 M E := ((((dP d4).trans dA).trans (dP b3)).trans dC).trans (dP f3)
          have nE : m_nx E = m_nx M := by rw [f4, hC]; show m_nx B = _; rw [b4, hA]; show m_nx M4 = _; omega
          have lE' : m_sl E = m_sl M := by rw [f5, hC]; show m_sl B = _; rw [b5, hA]; show m_sl M4 = _; omega
          have nE0 := dall.1
          refine ⟨wI F 1051 962 st, ?_, ?_, fun i h1 h2 => ?_, fun i hi => ?_, by rw [cI_wI, if_pos ⟨rfl, rfl⟩, hst], (dall.trans (r2.mono (fun a i q => by unfold at1 at q; omega) (fun _ _ q => q) (fun _ _ q => q))).trans (Df.wI _ (by omega)), by show m_nx F = _; omega, by show m_sl F = _; omega⟩
          · rw [run, step]
            have t12 : iw (en : Int) + 8 - st = iw ((13 + nl + gb.length : Nat) : Int) := by
              rw [hst, show (8 : Int32) = iw ((8 : Nat) : Int) from rfl, iw_nad, iw_nsub (by omega)]
              congr 2
              omega
            unfold F_X14_keep_b141
            simp only [g1051_960, g1052_1025, p1052_1025, s4, ea, ← hA, Option.bind_some]
            rw [if_neg (by decide), t12]
            simp only [g1051_960, v1052, sA, b1', b6, p1052_1025, ← hC, sC, g1052_1024, smE, f1', m1, Option.bind_some, if_false]
            show F_X14_keep_b238 xN E 1051 st 1 st = _
            rw [hst] at r1 ⊢
            exact r1
          · have e1 : ∀ a i, a ≠ 1055 → a ≠ 1051 → a < 1334 → cI (wI F 1051 962 st) a i = cI E a i := fun a i h1 h2 h3 => by rw [cI_wI, if_neg (fun q => h2 q.1), r2.cI (by omega) (fun q => h1 q)]
            exact ⟨by rw [e1 _ _ (by decide) (by decide) (by decide)]; exact eoE.1, fun i hi => by rw [e1 _ _ (by decide) (by decide) (by decide)]; exact eoE.2 i hi⟩
          · rw [cI_wI, if_neg (fun q => absurd q.1 (by decide)), cI_wI, if_neg (fun q => absurd q.1 (by decide)), r6 i h1 (by omega), r2.cI (by omega) (by unfold at1; omega)]
          · rw [cI_wI, if_neg (fun q => absurd q.1 (by decide)), r7 i hi]
            have u1 : cI E 1055 i = cI Cm 1055 i := f3.cI (by rw [hC]; show 1055 < m_nx B; rw [b4, hA]; show 1055 < m_nx M4; omega) (by unfold atO; omega)
            have u2 : cI Cm 1055 i = cI B 1055 i := by rw [hC, cI_wI, if_neg (fun q => absurd q.1 (by decide))]
            have u3 : cI B 1055 i = cI A 1055 i := b3.cI (by rw [hA]; show 1055 < m_nx M4; omega) (by unfold atO; omega)
            have u4 : cI A 1055 i = cI M4 1055 i := by rw [hA, cI_wI, if_neg (fun q => absurd q.1 (by decide))]
            have u5 : cI M4 1055 i = cI M 1055 i := d4.cI (by omega) (by unfold atO; omega)
            rw [u1, u2, u3, u4, u5]
    · right
      have first4 : ∀ i, i < vs.length → cI M4 1053 i = vs.getD i 0 := fun i hi => by
        rw [w8 i (by omega), hv3, List.append_assoc, List.append_assoc, getD_app hi]
      obtain ⟨M', b1, b2, b3, b4, b5⟩ := back M4 d4 (by omega) (by omega) first4
      refine ⟨by omega, M', ?_, b2, b3, b4, b5⟩
      rw [run, step, decide_eq_false c2, if_pos m0, b1]
  · right
    obtain ⟨M', b1, b2, b3, b4, b5⟩ := back M3 d3 (by omega) (by omega) first3
    refine ⟨by omega, M', ?_, b2, b3, b4, b5⟩
    rw [run]
    show F_X14_keep_b42_st (F_X14_keep_b42 N1) M3 _ _ _ _ _ _ _ = _
    unfold F_X14_keep_b42_st
    rw [if_neg (by rw [iw_le4 (by omega) (by omega)]; omega), decide_eq_false c1]
    simp only [g1051_960, g1052_1025, s3, m0, Option.bind_some, if_true]
    exact b1
end KEEP2
