/-! ===== THE LOG, 8: the model keeps a grid, whole ===== -/
def pKm (o : Nat) : Nat → Nat → Prop := fun a i => (a = 1068 ∧ (i = 1089 ∨ i = 1131)) ∨ a = o ∨ a = o + 1 ∨ (1329 ≤ a ∧ a ≤ 1332)
theorem LO.df {P Q R : Nat → Nat → Prop} {M N : Mem} {vs : List Int32} (h : LO M vs) (h0 : 1334 ≤ m_nx M) (d : Df P Q R M N) (hP : ∀ a i, atL a i → ¬ P a i) : LO N vs :=
  ⟨by rw [d.cI (by omega) (hP _ _ (Or.inl ⟨rfl, rfl⟩))]; exact h.1, fun i hi => by rw [d.cI (by omega) (hP _ _ (Or.inr rfl))]; exact h.2 i hi⟩
section MKEEP2
variable {a b : Nat} {k : Int32} {n : Nat} {z : Nat → Nat} {s t : Nat → Int32} {x y : Int32} {c d L : Nat} {p : Int32} {val : Nat → Int64} {nm : Nat → Int32} {ql o : Nat} {g : Int32}
theorem M_bO {N : Mem} (gN : GP N a b k n z s t x y c d L p) : F_X16_bytesOf N b = some (nl (gbc k n z val).length) := by
  have hn := gN.2.2.2.1
  have hk := gN.2.2.1
  have hp := gN.2.2.2.2.2.1
  obtain ⟨w1, w2, w3, w4⟩ := wdt_eq hk
  have mul8 : wdt k * prd z n ≤ 800000 := by
    have := Nat.mul_le_mul w4 hp
    omega
  unfold F_X16_bytesOf
  simp only [vg_of gN.2.1.2.2.1 (show x_isa 23 23 = true by decide), M_axes gN.2.1, M_count gN.2.1 hn gN.2.2.2.2.1, gi_of gN.2.1.2.2.1 (show x_fi 23 1472 = true by decide), gN.2.1.2.2.2.1, w2, Option.bind_some]
  rw [i64_iw (by omega), i64_iw (by omega), i64_iw (by omega), show (8 : Int64) = nl 8 from rfl, show (2 : Int64) = nl 2 from rfl, nl_mul, nl_mul, nl_add, nl_add, gbc_len, Nat.mul_comm (prd z n)]
theorem M_keep {M : Mem} {vs : List Int32} {d1 d2 : Nat} {e1 e2 : List Nat} (sM : ST M) (k0 : K0 M) (hc : cI M 1068 1095 = 0) (ht : cI M 1068 1089 = iw (ql : Int)) (isg : F_X16_isGrid M 1068 g = some 1) (hg : ar M 1070 g = some b) (gp : GP M a b k n z s t x y c d L p) (hv : ∀ q, q < prd z n → cJ M c (gpos n z s x q) = val q) (hin : isn (cI M 1069) ql = true) (hnm : ∀ q, q < ql → cI M 1069 q = nm q) (ob : BYT o) (hr : cR M 1068 1126 = o) (lo : LO M vs) (hT : vs.length ≤ 60000) (a1 : AL M 1331 d1 e1) (a2 : AL M 1332 d2 e2) (l1 : e1.length ≤ 5000) (l2 : e2.length ≤ 5000) (q1 : 4 ≤ d1 ∧ (d1 = 4 ∨ 1334 ≤ d1)) (q2 : 4 ≤ d2 ∧ (d2 = 4 ∨ 1334 ≤ d2)) (q3 : d1 = d2 → d1 = 4) :
    ((vs.length + (13 + ql + (gbc k n z val).length) ≤ 60000 ∧ (gbc k n z val).length ≤ 30000) → ∃ M' d1' d2' x1 x2, F_X16_keep M 1068 g = some (iw ((vs.length + (13 + ql + (gbc k n z val).length) : Nat) : Int), M') ∧ LO M' (lgw vs (13 + ql + (gbc k n z val).length) ql nm (gbc k n z val)) ∧ (∀ i, vs.length ≤ i → i < vs.length + (13 + ql + (gbc k n z val).length) → cI M' 1330 i = j_i2b (cI M' 1329 i)) ∧ (∀ i, i < vs.length → cI M' 1330 i = cI M 1330 i) ∧ AL M' 1331 d1' (e1 ++ [x1]) ∧ AL M' 1332 d2' (e2 ++ [x2]) ∧ IB M' x1 (iw (vs.length : Nat)) ∧ IB M' x2 (iw ((13 + ql + (gbc k n z val).length : Nat) : Int)) ∧ (x1 < 1000 ∨ m_nx M ≤ x1) ∧ (x2 < 1000 ∨ m_nx M ≤ x2) ∧ (d1' = d1 ∨ m_nx M ≤ d1') ∧ (d2' = d2 ∨ m_nx M ≤ d2') ∧ (d1' = d2' → d1' = 4) ∧ cI M' 1068 1089 = 0 ∧ Df (pKm o) n2 (rLs d1 d2) M M' ∧ m_nx M' ≤ m_nx M + 4 ∧ m_sl M' ≤ m_sl M + 20100) ∧
    (¬ (vs.length + (13 + ql + (gbc k n z val).length) ≤ 60000 ∧ (gbc k n z val).length ≤ 30000) → F_X16_keep M 1068 g = some (-12, wI M 1068 1089 0)) := by
  have hxN : xN = 1099511627776 := rfl
  have h0 := sM.1
  have hn := gp.2.2.2.1
  have hk := gp.2.2.1
  have hp := gp.2.2.2.2.2.1
  have cp := gp.2.2.2.2.2.2.2.1
  obtain ⟨w1, w2, w3, w4⟩ := wdt_eq hk
  obtain ⟨gb, hgb⟩ : ∃ gb, gb = gbc k n z val := ⟨_, rfl⟩
  have hgl := gbc_len k n z val
  have bB := gbc_b k n z val
  rw [← hgb] at hgl bB ⊢
  have mul8 : wdt k * prd z n ≤ 800000 := by
    have := Nat.mul_le_mul w4 hp
    omega
  obtain ⟨hn1, hn2, -⟩ := isn_t hin
  have n10 : ¬ (1 : Int32) = 0 := by decide
  obtain ⟨A, hA⟩ : ∃ A, A = wI M 1068 1089 0 := ⟨_, rfl⟩
  have sA : ST A := by rw [hA]; exact sM
  have dA : Df (fun a i => a = 1068 ∧ i = 1089) n2 n2 M A := by rw [hA]; exact Df.wI _ ⟨rfl, rfl⟩
  have qA : qt (fun a i => a = 1068 ∧ i = 1089) := fun a i q1 q2 => by omega
  have gA := gp.df dA qA qt_n2 qt_n2
  obtain ⟨y1, y2, y3⟩ := M_see sM dA sA (by omega) (by omega) (fun i q => q) g
  rw [isg] at y2
  rw [hg] at y3
  have inA : F_X16_isName A 1069 (iw (ql : Int)) = some 1 := by
    have e : ∀ i, cI A 1069 i = cI M 1069 i := fun i => by rw [hA, cI_wI, if_neg (by omega)]
    rw [M_isName sA (by omega), show cI A 1069 = cI M 1069 from funext e, hin]
    rfl
  have loA : LO A vs := lo.df (by omega) dA (fun a i q => by unfold atL at q; omega)
  have v3 : ((((5 : Int32) + iw (ql : Int)).toInt64 + nl gb.length) + (8 : Int64)) = nl (13 + ql + gb.length) := by
    rw [show (5 : Int32) = iw ((5 : Nat) : Int) from rfl, iw_nad, i64_iw (by omega), nl_add, show (8 : Int64) = nl 8 from rfl, nl_add, show 5 + ql + gb.length + 8 = 13 + ql + gb.length by omega]
  have t52 : (iw (vs.length : Nat)).toInt64 + nl (13 + ql + gb.length) = nl (vs.length + (13 + ql + gb.length)) := by rw [i64_iw (by omega), nl_add]
  have bo := M_bO (val := val) gA
  rw [← hgb] at bo
  have nl3 : (30000 : Int64) = nl 30000 := rfl
  have nl6 : (60000 : Int64) = nl 60000 := rfl
  refine ⟨fun hf => ?_, fun hf => ?_⟩
  · obtain ⟨hf1, hf2⟩ := hf
    have oo := (ob.f sA).2.2.2.2.2.2
    have ob2 := ob
    unfold BYT at ob2
    -- the grid is written
    obtain ⟨B, hB⟩ : ∃ B, B = wI A o 1281 0 := ⟨_, rfl⟩
    have dB : Df (atB o) n2 n2 A B := by rw [hB]; exact Df.wI _ (Or.inl ⟨rfl, rfl⟩)
    have sB : ST B := by rw [hB]; exact sA
    have nA : m_nx A = m_nx M := by rw [hA]; rfl
    have lA : m_sl A = m_sl M := by rw [hA]; rfl
    have nB : m_nx B = m_nx M := by rw [hB]; exact nA
    have lB : m_sl B = m_sl M := by rw [hB]; exact lA
    have rA : cR A 1068 1126 = o := by rw [dA.cR (by omega) (fun q => q)]; exact hr
    have rB : cR B 1068 1126 = o := by rw [dB.cR (by omega) (fun q => q)]; exact rA
    have qB : qt (atB o) := fun a i q1 q2 => by unfold atB at q2; omega
    have gB := gA.df dB qB qt_n2 qt_n2
    have moB : MO B o [] := ⟨by rw [hB, cI_wI, if_pos ⟨rfl, rfl⟩]; rfl, fun i hi => by cases hi⟩
    have hgy := gby_len k n z val
    obtain ⟨C, k1, k2, k3, k4, k5, sC⟩ := M_wgrid (val := val) ob sB rB gB (fun q hq => by have := cp.2.1; rw [dB.cJ (by omega) (fun q => q), dA.cJ (by omega) (fun q => q)]; exact hv q hq) moB (by omega)
    obtain ⟨f1, f2, f3, f4, f5, f6, f7, f8⟩ := ob.f sC
    have rC : cR C 1068 1126 = o := by rw [k3.cR (by omega) (fun q => q)]; exact rB
    have crcM : F_X16_crc C (o + 1) (iw ((gby k n z val).length : Nat)) = some (crr (fun i => (gby k n z val).getD i 0) (gby k n z val).length 0 (-1)) := by
      rw [M_crc f5 f6 (by omega) (by decide), crr_congr (g := fun i => (gby k n z val).getD i 0) _ 0 0 _ (fun q hq => by rw [Nat.zero_add]; exact k2.2 q hq)]
    obtain ⟨D, g1, g2, g3, g4, g5, sD⟩ := M_number (w := 4) (v := (crr (fun i => (gby k n z val).getD i 0) (gby k n z val).length 0 (-1)).toInt64) ob sC k2 (by decide) (by omega)
    have g1' : F_X19_number C o (crr (fun i => (gby k n z val).getD i 0) (gby k n z val).length 0 (-1)).toInt64 4 = some D := g1
    have moD : MO D o gb := by rw [hgb]; exact g2
    have dD : Df (atB o) n2 n2 A D := (dB.trans k3).trans g3
    have loD : LO D vs := loA.df (by omega) dD (fun a i q w => by unfold atL at q; unfold atB at w; omega)
    have rD : cR D 1068 1126 = o := by rw [g3.cR (by omega) (fun q => q)]; exact rC
    have nD : m_nx D = m_nx M := by omega
    -- the length, the name's length
    obtain ⟨E1, u1, u2, u3, u4, u5, s1⟩ := M_logn (w := 4) (v := nl (13 + ql + gb.length)) sD loD (by decide) (by omega)
    have u1' : F_X16_logNumber D 1068 (nl (13 + ql + gb.length)) 4 = some E1 := u1
    have le1 : (vs ++ nbs (nl (13 + ql + gb.length)) 4).length = vs.length + 4 := by rw [List.length_append, nbs_len]
    obtain ⟨E2, v1, v2, v3', v4, v5, s2⟩ := M_logn (w := 1) (v := (iw (ql : Int)).toInt64) s1 u2 (by decide) (by omega)
    rw [nbs_1] at v2
    have v1' : F_X16_logNumber E1 1068 (iw (ql : Int)).toInt64 1 = some E2 := v1
    have le2 : (vs ++ nbs (nl (13 + ql + gb.length)) 4 ++ [j_i2b (iw (ql : Int))]).length = vs.length + 5 := by rw [List.length_append, le1, List.length_singleton]
    have dE2 : Df atL n2 n2 D E2 := u3.trans v3'
    -- the name
    obtain ⟨N1, hN1⟩ : ∃ N1, N1 + 1 + ql = xN := ⟨xN - 1 - ql, by omega⟩
    have nm2 : ∀ q, q < ql → cI E2 1069 q = nm q := fun q hq => by
      rw [dE2.cI (by omega) (by unfold atL; omega), dD.cI (by omega) (by unfold atB; omega), dA.cI (by omega) (by omega)]
      exact hnm q hq
    obtain ⟨E3, c1, c2, c3, c4, c5, s3⟩ := M_knm (nm := nm) (fr := iw (vs.length : Nat)) (by omega) ql N1 0 _ E2 (by omega) (by omega) s2 nm2 v2
    rw [hN1] at c1
    have le3 : (vs ++ nbs (nl (13 + ql + gb.length)) 4 ++ [j_i2b (iw (ql : Int))] ++ nml nm ql 0).length = vs.length + 5 + ql := by rw [List.length_append, le2, nml_len]
    have dE3 : Df atL n2 n2 D E3 := dE2.trans c3
    have nE3 : m_nx E3 = m_nx M := by omega
    have nO : ∀ j, ¬ atL o j := fun j q => by unfold atL at q; omega
    have nO1 : ∀ j, ¬ atL (o + 1) j := fun j q => by unfold atL at q; omega
    have moE3 : MO E3 o gb := ⟨by rw [dE3.cI (by omega) (nO _)]; exact moD.1, fun q hq => by rw [dE3.cI (by omega) (nO1 _)]; exact moD.2 q hq⟩
    have rE3 : cR E3 1068 1126 = o := by rw [dE3.cR (by omega) (fun q => q)]; exact rD
    -- the grid's bytes
    obtain ⟨N2, hN2⟩ : ∃ N2, N2 + 1 + gb.length = xN := ⟨xN - 1 - gb.length, by omega⟩
    obtain ⟨E4, j1, j2, j3, j4, j5, s4⟩ := M_kgb (fr := iw (vs.length : Nat)) ob bB hf2 gb.length N2 0 _ E3 (by omega) (by omega) s3 rE3 moE3 c2
    rw [hN2] at j1
    have ev : vs ++ nbs (nl (13 + ql + gb.length)) 4 ++ [j_i2b (iw (ql : Int))] ++ nml nm ql 0 ++ gb.drop 0 = vs ++ rcw (13 + ql + gb.length) ql nm gb := by
      unfold rcw
      rw [List.drop_zero, i64_iw (show 13 + ql + gb.length < 2147483648 by omega), List.append_assoc, List.append_assoc, List.append_assoc]
    rw [ev] at j2
    have le4 : (vs ++ rcw (13 + ql + gb.length) ql nm gb).length = vs.length + (5 + ql + gb.length) := by rw [List.length_append, rcw_len]
    -- the sum
    have c31 : cI E4 1068 1131 = iw ((vs.length + (5 + ql + gb.length) : Nat) : Int) := by rw [j2.1, le4]
    have sumE := M_sum_loop (fr := iw (vs.length : Nat)) s4 c31 (by omega) (5 + ql + gb.length) xN vs.length 0 (by omega) (by omega)
    have sumV : fldr sm1 (cI E4 1329) (5 + ql + gb.length) vs.length 0 = fldr sm1 (fun i => (vs ++ rcw (13 + ql + gb.length) ql nm gb).getD i 0) (5 + ql + gb.length) vs.length 0 := fldr_congr _ _ _ (fun i h1 h2 => j2.2 i (by omega))
    rw [sumV] at sumE
    obtain ⟨E5, m1, m2, m3, m4, m5, s5⟩ := M_logn (w := 8) (v := fldr sm1 (fun i => (vs ++ rcw (13 + ql + gb.length) ql nm gb).getD i 0) (5 + ql + gb.length) vs.length 0) s4 j2 (by decide) (by omega)
    have m1' : F_X16_logNumber E4 1068 (fldr sm1 (fun i => (vs ++ rcw (13 + ql + gb.length) ql nm gb).getD i 0) (5 + ql + gb.length) vs.length 0) 8 = some E5 := m1
    have lo5 : LO E5 (lgw vs (13 + ql + gb.length) ql nm gb) := m2
    have le5 := lgw_len vs (13 + ql + gb.length) ql nm gb
    have dE5 : Df atL n2 n2 D E5 := (dE3.trans j3).trans m3
    have nE5 : m_nx E5 = m_nx M := by omega
    -- the copy
    obtain ⟨N3, hN3⟩ : ∃ N3, N3 + 1 + (13 + ql + gb.length) = xN := ⟨xN - 1 - (13 + ql + gb.length), by omega⟩
    have c35 : cI E5 1068 1131 = iw ((vs.length + (13 + ql + gb.length) : Nat) : Int) := by rw [lo5.1, le5]
    obtain ⟨E6, N4, i1, i2, i3, i4, s6, i6, i7⟩ := M_kcp (fr := iw (vs.length : Nat)) hf1 (13 + ql + gb.length) N3 vs.length E5 (by omega) s5 c35
    rw [hN3] at i1
    have nE6 : m_nx E6 = m_nx M := by omega
    -- the lists
    have dM6 : Df (pKm o) n2 n2 M E6 := (((dA.mono (fun a i q => by unfold pKm; omega) (fun _ _ q => q) (fun _ _ q => q)).trans (dD.mono (fun a i q => by unfold atB at q; unfold pKm; omega) (fun _ _ q => q) (fun _ _ q => q))).trans (dE5.mono (fun a i q => by unfold atL at q; unfold pKm; omega) (fun _ _ q => q) (fun _ _ q => q))).trans (i2.mono (fun a i q => by unfold at1 at q; unfold pKm; omega) (fun _ _ q => q) (fun _ _ q => q))
    have dM6' : Df (fun a i => pKm o a i ∧ a ≠ 1331 ∧ a ≠ 1332) n2 n2 M E6 := (((dA.mono (fun a i q => by unfold pKm; omega) (fun _ _ q => q) (fun _ _ q => q)).trans (dD.mono (fun a i q => by unfold atB at q; unfold pKm; omega) (fun _ _ q => q) (fun _ _ q => q))).trans (dE5.mono (fun a i q => by unfold atL at q; unfold pKm; omega) (fun _ _ q => q) (fun _ _ q => q))).trans (i2.mono (fun a i q => by unfold at1 at q; unfold pKm; omega) (fun _ _ q => q) (fun _ _ q => q))
    have k6 : K0 E6 := k0.df sM dM6 (fun a i q w => by unfold pKm at w; omega) (fun _ _ _ q => q)
    have al1 := a1.df dM6' (by omega) (fun q => q) (fun _ _ q => q)
    have al2 := a2.df dM6' (by omega) (fun q => q) (fun _ _ q => q)
    have c36 : cI E6 1068 1131 = iw ((vs.length + (13 + ql + gb.length) : Nat) : Int) := by rw [i2.cI (by omega) (by unfold at1; omega), c35]
    obtain ⟨M', d1', d2', x1, x2, z1, z2, z3, z4, z5, z6, z7, z8, z9, z10, z11, z12, z13⟩ := M_kls (N := N4) s6 k6 hf1 (show vs.length ≤ vs.length + (13 + ql + gb.length) by omega) c36 al1 al2 l1 l2 q1 q2 q3
    rw [show vs.length + (13 + ql + gb.length) - vs.length = 13 + ql + gb.length by omega] at z5
    have lo6 : LO E6 (lgw vs (13 + ql + gb.length) ql nm gb) := lo5.df (by omega) i2 (fun a i q w => by unfold atL at q; unfold at1 at w; omega)
    have n6 : ∀ a i, a < 1331 → cI M' a i = cI E6 a i := fun a i ha => z11.cI (by omega) (by unfold pLs; omega)
    refine ⟨M', d1', d2', x1, x2, ?_, ⟨by rw [n6 _ _ (by decide)]; exact lo6.1, fun i hi => by rw [n6 _ _ (by decide)]; exact lo6.2 i hi⟩, fun i h1 h2 => ?_, fun i hi => ?_, z2, z3, z4, z5, by omega, by omega, by omega, by omega, z10, ?_, (dM6.mono (fun _ _ q => q) (fun _ _ q => q) (fun _ _ q => q.elim)).trans (z11.mono (fun a i q => by unfold pLs at q; unfold pKm; omega) (fun _ _ q => q) (fun _ _ q => q)), by omega, by omega⟩
    · have p81 : pi A o 1281 0 = some B := by rw [(ob.f sA).2.2.1, hB]
      have y3B : ar B 1070 g = some b := by
        obtain ⟨-, -, y⟩ := M_see sA dB sB (by unfold atB; omega) (by unfold atB; omega) (fun i q => q) g
        rw [y]; exact y3
      have c31D : cI D 1068 1131 = iw (vs.length : Nat) := loD.1
      have run : F_X16_keep M 1068 g = F_X16_keep_b157 xN E2 1068 (iw (ql : Int)) (iw (vs.length : Nat)) (iw ((0 : Nat) : Int)) := by
        unfold F_X16_keep F_X16_used
        simp only [g1068_1095, sM, hc, v1068, g1068_1089, ht, p1068_1089, ← hA, sA, y2, n10, g1068_1088, inA, g1068_1092, y3, bo, v3, Option.bind_some, if_true, if_false]
        rw [if_neg (by rw [nl3, nl_lt (by decide) (by omega)]; omega)]
        simp only [g1068_1131, sA, loA.1, t52, Option.bind_some]
        rw [if_neg (by rw [nl6, nl_lt (by decide) (by omega)]; omega)]
        simp only [g1068_1126, sA, rA, p81, g1068_1092, sB, y3B, v1068, k1, sC, rC, f1, f2, k2.1, crcM, f4, g1', g1068_1131, sD, c31D, u1', s1, v1', Option.bind_some]
        rfl
      rw [run, c1]
      exact (j1.trans (sumE.trans (by rw [m1']; exact i1.trans z1)))
    · rw [n6 _ _ (by decide), n6 _ _ (by decide), i6 i h1 h2, i2.cI (by omega) (by unfold at1; omega)]
    · rw [n6 _ _ (by decide), i7 i hi, dE5.cI (by omega) (by unfold atL; omega), dD.cI (by omega) (by unfold atB; omega), dA.cI (by omega) (by omega)]
    · rw [n6 _ _ (by decide), i2.cI (by omega) (by unfold at1; omega), dE5.cI (by omega) (by unfold atL; omega), dD.cI (by omega) (by unfold atB; omega), hA, cI_wI, if_pos ⟨rfl, rfl⟩]
  · unfold F_X16_keep F_X16_used F_X16_keep_b88
    simp only [g1068_1095, sM, hc, v1068, g1068_1089, ht, p1068_1089, ← hA, sA, y2, n10, g1068_1088, inA, g1068_1092, y3, bo, v3, Option.bind_some, if_true, if_false]
    by_cases c1 : 30000 < gb.length
    · rw [if_pos (by rw [nl3, nl_lt (by decide) (by omega)]; exact c1)]
    · rw [if_neg (by rw [nl3, nl_lt (by decide) (by omega)]; exact c1)]
      simp only [g1068_1131, sA, loA.1, t52, Option.bind_some]
      rw [if_pos (by rw [nl6, nl_lt (by decide) (by omega)]; omega)]
end MKEEP2
