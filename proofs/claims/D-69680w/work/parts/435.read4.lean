/-! ===== READING, 4: the engine reads a grid's bytes, whole ===== -/
theorem rdE_hd {g : Nat → Int32} {n x : Nat} (h : hdE g n = some x) : rdE g n = some x := by
  unfold rdE
  rw [h]
theorem rd_bad {β : Type} {g : Nat → Int32} {n x : Nat} {F : Option (β ⊕ (Nat × Mem))} {M0 M' : Mem} {X : Prop} (hh : hdE g n = some x) (hF : F = some (.inr (1003, M'))) (hf : RdF M0 M' x) : (∀ p, rdE g n = some p → ∃ M', F = some (.inr (1003, M')) ∧ RdF M0 M' p) ∧ (rdE g n = none → X) := by
  rw [rdE_hd hh]
  refine ⟨fun p hp => ?_, fun hn => by cases hn⟩
  cases hp
  exact ⟨M', hF, hf⟩
theorem E_must01 {M0 M : Mem} {r fr e a : Nat} (h : Rdr M0 M r fr e (a + 1)) : F_X13_must M 1048 0 1 (iw (fr : Int)) = some (.inr (1003, eT M 20 (iw (a : Int)))) := E_must0 (w := 1) h
theorem nl_is {x y : Nat} (hx : x < 256) (hy : y < 256) : nl x = nl y ↔ x = y := nl_eq (by omega) (by omega)
theorem E_read13 {M0 : Mem} {r cap fr n : Nat} {g : Nat → Int32} (hg : g = fun p => cI M0 r (fr + p)) (h : ST M0) (b : Brow M0 r cap) (hc : fr + n ≤ cap) (hn : n ≤ 30004) :
    (∀ p, rdE g n = some p → ∃ M', F_X13_read M0 1048 r (iw (fr : Int)) (iw ((fr + n : Nat) : Int)) = some (.inr (1003, M')) ∧ RdF M0 M' p) ∧
    (rdE g n = none → ∃ c M', F_X13_read M0 1048 r (iw (fr : Int)) (iw ((fr + n : Nat) : Int)) = some (.inl (c, M')) ∧ ¬ c < 0 ∧ RdG M0 M' g) := by
  have hcap := b.2.2.2.2
  have h0 := h.1
  obtain ⟨A1, hA1⟩ : ∃ A, A = wR M0 1048 897 r := ⟨_, rfl⟩
  have dA1 : Df pRd qRd rRd M0 A1 := hA1 ▸ Df.wR _ ⟨rfl, rfl⟩
  have sA1 : ST A1 := h.df dA1 rRd_st
  obtain ⟨A, hA⟩ : ∃ A, A = wI (wI A1 1048 899 (iw (fr : Int))) 1048 898 (iw ((fr + n : Nat) : Int) - 4) := ⟨_, rfl⟩
  have sA : ST A := hA ▸ sA1
  have dA : Df pRd qRd rRd M0 A := by
    rw [hA]
    exact (dA1.trans (Df.wI _ (Or.inl rfl))).trans (Df.wI _ (Or.inl rfl))
  have nA : m_nx A = m_nx M0 := by rw [hA, hA1]; rfl
  have lA : m_sl A = m_sl M0 := by rw [hA, hA1]; rfl
  have hd : F_X13_read M0 1048 r (iw (fr : Int)) (iw ((fr + n : Nat) : Int)) = if n < 8 then F_X13_read_b30 A 0 1048 r (iw (fr : Int)) (iw ((fr + n : Nat) : Int)) else F_X13_read_b30 A 1 1048 r (iw (fr : Int)) (iw ((fr + n : Nat) : Int)) := by
    unfold F_X13_read
    simp only [p1048_897, h, Option.bind_some, ← hA1]
    simp only [p1048_899, p1048_898, ST_wI, sA1, Option.bind_some, ← hA]
    have q : iw ((fr + n : Nat) : Int) - iw (fr : Int) < 8 ↔ n < 8 := by
      rw [iw_nsub (by omega), show fr + n - fr = n by omega, show (8 : Int32) = iw ((8 : Nat) : Int) from rfl, iw_le4 (by omega) (by omega)]
    by_cases c : n < 8
    · rw [if_pos (q.mpr c), if_pos c]
    · rw [if_neg (fun hh => c (q.mp hh)), if_neg c]
  have bad : F_X13_read_b107 A 1048 (iw (fr : Int)) (iw ((fr + n : Nat) : Int)) 0 = some (.inr (1003, eT A 20 (iw ((n - 4 : Nat) : Int)))) := by
    have mx : F_J7_max (iw ((fr + n : Nat) : Int) - 4) (iw (fr : Int)) = some (iw ((fr + (n - 4) : Nat) : Int)) := by
      unfold F_J7_max F_J7_max_b10
      rw [show (4 : Int32) = iw 4 from rfl, iw_sub]
      have q : iw (((fr + n : Nat) : Int) - 4) < iw (fr : Int) ↔ n < 4 := by rw [iw_lt (by omega) (by omega) (by omega) (by omega)]; omega
      by_cases c : n < 4
      · rw [if_pos (q.mpr c), show n - 4 = 0 by omega, Nat.add_zero]
      · rw [if_neg (fun hh => c (q.mp hh)), show ((fr + n : Nat) : Int) - 4 = ((fr + (n - 4) : Nat) : Int) by omega]
    unfold F_X13_read_b107
    rw [if_pos rfl, mx]
    simp only [v1048, sA, Option.bind_some]
    exact E_wrong sA rfl
  have fbad : RdF M0 (eT A 20 (iw ((n - 4 : Nat) : Int))) (n - 4) := ⟨sA, dA.trans ((eT_d2 A 20 _).mono (fun a i q => by unfold at1 at q; unfold pRd; omega) (fun _ _ q => q.elim) (fun _ _ q => q.elim)), nA, lA, (eT_c A 20 _).1, (eT_c A 20 _).2⟩
  rw [hd]
  by_cases c8 : n < 8
  · rw [if_pos c8]
    refine rd_bad (x := n - 4) (by unfold hdE; rw [if_pos c8]) ?_ fbad
    unfold F_X13_read_b30
    rw [if_pos rfl]
    exact bad
  rw [if_neg c8]
  have rA : Rdr M0 A r fr (n - 4) 0 := by
    refine ⟨sA, dA, nA, lA, ?_, ?_, ?_⟩
    · rw [hA, cR_wI, cR_wI, hA1, cR_wR, if_pos ⟨rfl, rfl⟩]
    · rw [hA, cI_wI, if_pos ⟨rfl, rfl⟩, show (4 : Int32) = iw ((4 : Nat) : Int) from rfl, iw_nsub (by omega), show fr + n - 4 = fr + (n - 4) by omega]
    · rw [hA, cI_wI, if_neg (by decide), cI_wI, if_pos ⟨rfl, rfl⟩, Nat.add_zero]
  have g0 : ∀ i, cI M0 r (fr + i) = g i := fun i => by rw [hg]
  have hd2 : F_X13_read_b30 A 1 1048 r (iw (fr : Int)) (iw ((fr + n : Nat) : Int)) = if ni (bev g (n - 4) 4) = crr g (n - 4) 0 (-1) then F_X13_read_b107 A 1048 (iw (fr : Int)) (iw ((fr + n : Nat) : Int)) 1 else F_X13_read_b107 A 1048 (iw (fr : Int)) (iw ((fr + n : Nat) : Int)) 0 := by
    have dr := dA.2.2 r b.1
    have ck := E_check (M := A) (a := r) (cap := cap) (fr := fr) (to := fr + (n - 4)) (dr.1.trans b.2.2.1) (dr.2.1.trans b.2.2.2.1) (by omega) hcap (by omega)
    have ck2 : crr (cI A r) (fr + (n - 4) - fr) fr (-1) = crr g (n - 4) 0 (-1) := by
      rw [show fr + (n - 4) - fr = n - 4 by omega]
      exact crr_congr _ _ _ _ (fun x _ => by rw [dA.cI (i := fr + x) b.1 (show ¬ pRd r (fr + x) from b.2.1), g0, Nat.zero_add])
    rw [ck2] at ck
    have s4 : iw ((fr + n : Nat) : Int) - 4 = iw ((fr + (n - 4) : Nat) : Int) := by rw [show (4 : Int32) = iw ((4 : Nat) : Int) from rfl, iw_nsub (by omega), show fr + n - 4 = fr + (n - 4) by omega]
    have s3 : iw ((fr + n : Nat) : Int) - 3 = iw ((fr + (n - 4 + 1) : Nat) : Int) := by rw [show (3 : Int32) = iw ((3 : Nat) : Int) from rfl, iw_nsub (by omega), show fr + n - 3 = fr + (n - 4 + 1) by omega]
    have s2 : iw ((fr + n : Nat) : Int) - 2 = iw ((fr + (n - 4 + 2) : Nat) : Int) := by rw [show (2 : Int32) = iw ((2 : Nat) : Int) from rfl, iw_nsub (by omega), show fr + n - 2 = fr + (n - 4 + 2) by omega]
    have s1 : iw ((fr + n : Nat) : Int) - 1 = iw ((fr + (n - 4 + 3) : Nat) : Int) := by rw [show (1 : Int32) = iw ((1 : Nat) : Int) from rfl, iw_nsub (by omega), show fr + n - 1 = fr + (n - 4 + 3) by omega]
    unfold F_X13_read_b30 F_X13_read_b105
    rw [if_neg (by decide), s4, s3, s2, s1]
    simp only [rA.byte b (show fr + (n - 4) < cap by omega), rA.byte b (show fr + (n - 4 + 1) < cap by omega), rA.byte b (show fr + (n - 4 + 2) < cap by omega), rA.byte b (show fr + (n - 4 + 3) < cap by omega), ck, Option.bind_some, g0]
    rw [four_or, ← bev_4]
  rw [hd2]
  have b8 : ¬ n < 8 := c8
  by_cases c1 : ¬ ni (bev g (n - 4) 4) = crr g (n - 4) 0 (-1)
  · rw [if_neg c1]
    exact rd_bad (x := n - 4) (by unfold hdE; rw [if_neg c8, if_pos c1]) bad fbad
  rw [if_pos (Classical.not_not.mp c1)]
  have hcc : fr + (n - 4) ≤ cap := by omega
  have bl : ∀ i, bn (g i) < 256 := fun i => bn_lt _
  -- G
  obtain ⟨A0, hA0⟩ : ∃ A0, A0 = wI A 1048 899 (iw ((fr + (0 + 1) : Nat) : Int)) := ⟨_, rfl⟩
  have rA0 : Rdr M0 A0 r fr (n - 4) (0 + 1) := hA0 ▸ rA.go _
  have k0 : F_X13_read_b107 A 1048 (iw (fr : Int)) (iw ((fr + n : Nat) : Int)) 1 = if bn (g 0) = 71 then F_X13_read_b144 A0 1048 1 1048 (iw (fr : Int)) else F_X13_read_b144 A0 1048 0 1048 (iw (fr : Int)) := by
    unfold F_X13_read_b107
    rw [if_neg (by decide)]
    simp only [v1048, sA, Option.bind_some]
    rw [E_num1 hg rA b hcc (by omega), ← hA0, tb_l]
    have q : nl (bn (g 0)) = 71 ↔ bn (g 0) = 71 := nl_is (bl 0) (by decide)
    by_cases c : bn (g 0) = 71
    · rw [if_pos (q.mpr c), if_pos c]
    · rw [if_neg (fun hh => c (q.mp hh)), if_neg c]
  rw [k0]
  by_cases c2 : ¬ bn (g 0) = 71
  · rw [if_neg c2]
    refine rd_bad (x := 0) (M' := eT A0 20 (iw ((0 : Nat) : Int))) (by unfold hdE; rw [if_neg c8, if_neg c1, if_pos c2]) ?_ (rA0.fail 0)
    unfold F_X13_read_b144
    simp only [v1048, rA0.1, Option.bind_some]
    rw [E_must01 rA0, tb_r]
  rw [if_pos (Classical.not_not.mp c2)]
  -- R
  obtain ⟨A2, hA2⟩ : ∃ A2, A2 = wI A0 1048 899 (iw ((fr + (1 + 1) : Nat) : Int)) := ⟨_, rfl⟩
  have rA2 : Rdr M0 A2 r fr (n - 4) (1 + 1) := hA2 ▸ rA0.go _
  have k1 : F_X13_read_b144 A0 1048 1 1048 (iw (fr : Int)) = if bn (g 1) = 82 then F_X13_read_b168 A2 1048 1 1048 (iw (fr : Int)) else F_X13_read_b168 A2 1048 0 1048 (iw (fr : Int)) := by
    unfold F_X13_read_b144
    simp only [v1048, rA0.1, Option.bind_some]
    rw [E_must1, tb_l]
    simp only [v1048, rA0.1, Option.bind_some]
    rw [E_num1 (a := 1) hg rA0 b hcc (by omega), ← hA2, tb_l]
    have q : nl (bn (g 1)) = 82 ↔ bn (g 1) = 82 := nl_is (bl 1) (by decide)
    by_cases c : bn (g 1) = 82
    · rw [if_pos (q.mpr c), if_pos c]
    · rw [if_neg (fun hh => c (q.mp hh)), if_neg c]
  rw [k1]
  by_cases c3 : ¬ bn (g 1) = 82
  · rw [if_neg c3]
    refine rd_bad (x := 1) (M' := eT A2 20 (iw ((1 : Nat) : Int))) (by unfold hdE; rw [if_neg c8, if_neg c1, if_neg c2, if_pos c3]) ?_ (rA2.fail 1)
    unfold F_X13_read_b168
    simp only [v1048, rA2.1, Option.bind_some]
    rw [E_must01 rA2, tb_r]
  rw [if_pos (Classical.not_not.mp c3)]
  -- lane
  obtain ⟨A3, hA3⟩ : ∃ A3, A3 = wI (wI A2 1048 899 (iw ((fr + (2 + 1) : Nat) : Int))) 1048 902 (iw (bn (g 2) : Nat)) := ⟨_, rfl⟩
  have rA3 : Rdr M0 A3 r fr (n - 4) (2 + 1) := hA3 ▸ (rA2.go _).w48 _ (by decide) (by decide)
  have l3 : cI A3 1048 902 = iw (bn (g 2) : Nat) := by rw [hA3, cI_wI, if_pos ⟨rfl, rfl⟩]
  have k2 : F_X13_read_b168 A2 1048 1 1048 (iw (fr : Int)) = if 7 < bn (g 2) then F_X13_read_b199 A3 1048 0 1048 (iw (fr : Int)) else F_X13_read_b199 A3 1048 1 1048 (iw (fr : Int)) := by
    unfold F_X13_read_b168
    simp only [v1048, rA2.1, Option.bind_some]
    rw [E_must1, tb_l]
    simp only [v1048, rA2.1, Option.bind_some]
    rw [E_num1 (a := 2) hg rA2 b hcc (by omega), tb_l]
    simp only [p1048_902, ST_wI, rA2.1, nl_i32', Option.bind_some, ← hA3]
    simp only [g1048_902, rA3.1, l3, Option.bind_some]
    have q : (7 : Int32) < iw (bn (g 2) : Nat) ↔ 7 < bn (g 2) := by have := bl 2; rw [show (7 : Int32) = iw ((7 : Nat) : Int) from rfl, iw_le4 (by omega) (by omega)]
    by_cases c : 7 < bn (g 2)
    · rw [if_pos (q.mpr c), if_pos c]
    · rw [if_neg (fun hh => c (q.mp hh)), if_neg c]
  rw [k2]
  by_cases c4 : 7 < bn (g 2)
  · rw [if_pos c4]
    refine rd_bad (x := 2) (M' := eT A3 20 (iw ((2 : Nat) : Int))) (by unfold hdE; rw [if_neg c8, if_neg c1, if_neg c2, if_neg c3, if_pos c4]) ?_ (rA3.fail 2)
    unfold F_X13_read_b199
    simp only [v1048, rA3.1, Option.bind_some]
    rw [E_must01 rA3, tb_r]
  rw [if_neg c4]
  -- axes
  obtain ⟨A4, hA4⟩ : ∃ A4, A4 = wI (wI A3 1048 899 (iw ((fr + (3 + 1) : Nat) : Int))) 1048 901 (iw (bn (g 3) : Nat)) := ⟨_, rfl⟩
  have rA4 : Rdr M0 A4 r fr (n - 4) (3 + 1) := hA4 ▸ (rA3.go _).w48 _ (by decide) (by decide)
  have x4 : cI A4 1048 901 = iw (bn (g 3) : Nat) := by rw [hA4, cI_wI, if_pos ⟨rfl, rfl⟩]
  have l4 : cI A4 1048 902 = iw (bn (g 2) : Nat) := by rw [hA4, cI_wI, if_neg (by decide), cI_wI, if_neg (by decide)]; exact l3
  have k3 : F_X13_read_b199 A3 1048 1 1048 (iw (fr : Int)) = if 4 < bn (g 3) then F_X13_read_b229 A4 1048 0 1048 (iw (fr : Int)) else F_X13_read_b229 A4 1048 1 1048 (iw (fr : Int)) := by
    unfold F_X13_read_b199
    simp only [v1048, rA3.1, Option.bind_some]
    rw [E_must1, tb_l]
    simp only [v1048, rA3.1, Option.bind_some]
    rw [E_num1 (a := 3) hg rA3 b hcc (by omega), tb_l]
    simp only [p1048_901, ST_wI, rA3.1, nl_i32', Option.bind_some, ← hA4]
    simp only [g1048_901, rA4.1, x4, Option.bind_some]
    have q : (4 : Int32) < iw (bn (g 3) : Nat) ↔ 4 < bn (g 3) := by have := bl 3; rw [show (4 : Int32) = iw ((4 : Nat) : Int) from rfl, iw_le4 (by omega) (by omega)]
    by_cases c : 4 < bn (g 3)
    · rw [if_pos (q.mpr c), if_pos c]
    · rw [if_neg (fun hh => c (q.mp hh)), if_neg c]
  rw [k3]
  by_cases c5 : 4 < bn (g 3)
  · rw [if_pos c5]
    refine rd_bad (x := 3) (M' := eT A4 20 (iw ((3 : Nat) : Int))) (by unfold hdE; rw [if_neg c8, if_neg c1, if_neg c2, if_neg c3, if_neg c4, if_pos c5]) ?_ (rA4.fail 3)
    unfold F_X13_read_b229
    simp only [v1048, rA4.1, Option.bind_some]
    rw [E_must01 rA4, tb_r]
  rw [if_neg c5]
  have k4 : F_X13_read_b229 A4 1048 1 1048 (iw (fr : Int)) = F_X13_read_b237 xN A4 1048 (iw (fr : Int)) (iw ((0 : Nat) : Int)) := by
    unfold F_X13_read_b229
    simp only [v1048, rA4.1, Option.bind_some]
    rw [E_must1, tb_l]
    rfl
  rw [k4]
  have hH : hdE g n = none := by unfold hdE; rw [if_neg c8, if_neg c1, if_neg c2, if_neg c3, if_neg c4, if_neg c5]
  have hk : Lk (iw (bn (g 2) : Nat)) := iw_Lk (by omega)
  obtain ⟨-, -, w3, w4⟩ := wdt_eq hk
  have xx : xN = 1099511627776 := rfl
  have es := E_sz (k := iw (bn (g 2) : Nat)) b hcc (show bn (g 3) ≤ 4 by omega) hk (bn (g 3)) xN 0 A4 (by omega) (by omega) rA4 (by omega) x4 l4 (fun i hi => by omega)
  rw [← hg] at es
  have e1 : rdE g n = match szE g (n - 4) (bn (g 3)) 0 with | some p => some p | none => clE g (n - 4) (iw (bn (g 2) : Nat)) (prd (zRd g) (bn (g 3))) n 0 (4 + 2 * bn (g 3)) := by
    unfold rdE
    rw [hH]
    cases szE g (n - 4) (bn (g 3)) 0 <;> rfl
  cases hs : szE g (n - 4) (bn (g 3)) 0 with
  | some x =>
    rw [hs] at e1
    obtain ⟨M', f1, f2⟩ := es.1 x hs
    exact ⟨fun p hp => by rw [e1] at hp; cases hp; exact ⟨M', f1, f2⟩, fun hn => by rw [e1] at hn; cases hn⟩
  | none =>
    rw [hs] at e1
    obtain ⟨B, f1, f2, f3, f4, f5, f6⟩ := es.2 hs
    have hT : (cnt (zRd g) (bn (g 3)) < 0 ∧ 100000 < prd (zRd g) (bn (g 3))) ∨ (prd (zRd g) (bn (g 3)) ≤ 100000 ∧ cnt (zRd g) (bn (g 3)) = iw (prd (zRd g) (bn (g 3)) : Nat)) := by
      unfold cnt
      by_cases c : 100000 < prd (zRd g) (bn (g 3))
      · rw [if_pos c]
        exact Or.inl ⟨by decide, c⟩
      · rw [if_neg c]
        exact Or.inr ⟨by omega, rfl⟩
    have ec := E_cl (a0 := 4 + 2 * bn (g 3)) b hcc (by omega) hk hT n xN 0 B (by omega) (by omega) (by rw [Nat.zero_mul]; exact f2) (by rw [Nat.zero_mul]; exact f3) (Nat.zero_le _) (by omega) f5 (fun q hq => by omega)
    rw [← hg, Nat.zero_mul, Nat.add_zero] at ec
    rw [e1, f1]
    refine ⟨ec.1, fun hn => ?_⟩
    obtain ⟨M', g1, g2, g3, g4, g5, g6, g7, g8⟩ := ec.2 hn
    have : prd (zRd g) (bn (g 3)) * 1 ≤ prd (zRd g) (bn (g 3)) * wdt (iw (bn (g 2) : Nat)) := Nat.mul_le_mul_left _ w3
    exact ⟨_, M', g1, g2, g4.1, g4.2.1, g4.2.2.1, g4.2.2.2.1, by omega, by omega, by rw [g5]; exact f4, g6, fun i hi => by rw [g7]; exact f6 i hi, by omega, g8⟩
