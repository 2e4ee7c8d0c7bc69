/-! ===== CALLS, 35: residues ===== -/
theorem M_restail {M : Mem} {a b : Nat} {k : Int32} {n' : Nat} {z : Nat → Nat} {s t : Nat → Int32} {x y : Int32} {c d L : Nat} {pp' : Int32} (g : GP M a b k n' z s t x y c d L pp') {n p W : Nat} {v3 : Int32} (hpn : prd z n' = n) (h : ST M) (hn : n ≤ 1024) (h2 : 2 ≤ p) (hp : p ≤ 1000000007) (hW : W < p) (hv : v3 = 0 ∨ v3 = 1) :
    ∃ B, F_X16_residues_b145 M 1068 (iw (p : Int)) v3 b (iw (n : Int)) (nl W) = ((F_X16_oneSize B (iw (n : Int))).bind fun z6 => (gr z6.2 1068 1100).bind fun t7 => (vg z6.2 1068 17).bind fun _ => (F_X16_made z6.2 1068 5 z6.1 t7).bind fun z9 => some (z9.1, z9.2)) ∧ ST B ∧ m_nx B = m_nx M ∧ m_sl B = m_sl M ∧ Df n2 (fun a _ => a = 1073 ∨ a = 1074) n2 M B ∧
      ∀ i, i < n → cJ B 1073 i = nl (if v3 = 0 then ssum (fun j => rsd p (cJ M c (gpos n' z s x j)) * W ^ (i * j)) n % p else ssum (fun j => rsd p (cJ M c (gpos n' z s x j)) * W ^ (i * j)) n % p * (n ^ (p - 2) % p) % p) := by
  have hxN : xN = 1099511627776 := rfl
  obtain ⟨N0, hN0⟩ : ∃ N0, N0 + 1 + n = xN := ⟨xN - 1 - n, by omega⟩
  obtain ⟨X, hX⟩ : ∃ X : Nat → Nat, X = fun j => rsd p (cJ M c (gpos n' z s x j)) := ⟨_, rfl⟩
  have e64 : (iw (p : Int)).toInt64 = nl p := i64_iw (by omega)
  obtain ⟨A1, a1, a2, a3, a4, a5⟩ := M_res148 (v3 := v3) (W := nl W) g hpn h hn h2 hp N0 hN0
  have sA1 : ST A1 := h.n a4
  obtain ⟨A2, b1, b2, b3, b4, b5, b6⟩ := M_out190 (v3 := v3) (x := X) h2 hp hW hn n N0 0 A1 (by omega) sA1 (fun i hi => ⟨by rw [hX]; exact rsd_lt (by omega) _, by rw [a5 i hi, hX]⟩) (fun i hi => by omega)
  rw [hN0, Nat.pow_zero, Nat.mod_eq_of_lt (show 1 < p by omega)] at b1
  have lt0 : ¬ iw (n : Int) < iw (n : Int) := by rw [iw_le4 (by omega) (by omega)]; omega
  have hU : ∃ U, U < p ∧ (U = if v3 = 0 then 1 else n ^ (p - 2) % p) ∧ F_X16_residues_b190 (N0 + 1) A2 1068 (iw (p : Int)) v3 (iw (n : Int)) (nl W) (nl (W ^ n % p)) (iw (n : Int)) = F_X16_residues_b296 xN A2 1068 (iw (p : Int)) (iw (n : Int)) (nl U) 0 := by
    rcases hv with hv | hv
    · refine ⟨1, by omega, by rw [if_pos hv], ?_⟩
      show F_X16_residues_b190_st (F_X16_residues_b190 N0) A2 1068 _ _ _ _ _ _ = _
      unfold F_X16_residues_b190_st
      rw [if_neg lt0, if_pos hv]
      rfl
    · have n1 : ¬ v3 = 0 := by rw [hv]; decide
      refine ⟨n ^ (p - 2) % p, Nat.mod_lt _ (by omega), by rw [if_neg n1], ?_⟩
      show F_X16_residues_b190_st (F_X16_residues_b190 N0) A2 1068 _ _ _ _ _ _ = _
      unfold F_X16_residues_b190_st
      have e1 : (iw (p : Int) - (2 : Int32)).toInt64 = nl (p - 2) := by
        rw [show (2 : Int32) = iw ((2 : Nat) : Int) from rfl, iw_nsub h2]
        exact i64_iw (by omega)
      rw [if_neg lt0, if_neg n1, e1, i64_iw (show n < 2147483648 by omega), M_pw h2 hp (by omega) (by omega)]
      rfl
  obtain ⟨U, u1, u2, u3⟩ := hU
  obtain ⟨A3, c1, c2, c3, c4, c5, c6, c7⟩ := M_l296 (U := U) (y := fun i => ssum (fun j => X j * W ^ (i * j)) n % p) h2 hp u1 hn (fun i _ => Nat.mod_lt _ (by omega)) n N0 0 A2 (by omega) b2 (fun i _ hi => b3 i hi)
  rw [hN0] at c1
  refine ⟨A3, ?_, c2, by omega, by omega, ((a4.mono (fun _ _ q => q) (fun _ _ q => Or.inr q) (fun _ _ q => q)).trans (b4.mono (fun _ _ q => q) (fun _ _ q => Or.inl q) (fun _ _ q => q))).trans (c5.mono (fun _ _ q => q) (fun _ _ q => Or.inl q) (fun _ _ q => q)), fun i hi => ?_⟩
  · unfold F_X16_residues_b145
    rw [a1]
    show F_X16_residues_b148_st (F_X16_residues_b148 N0) A1 1068 _ _ _ _ _ _ = _
    unfold F_X16_residues_b148_st
    rw [if_neg lt0]
    refine Eq.trans b1 (u3.trans (Eq.trans c1 ?_))
    show F_X16_residues_b296_st (F_X16_residues_b296 N0) A3 1068 _ _ _ _ = _
    unfold F_X16_residues_b296_st
    rw [if_neg lt0]
  · rw [c3 i (by omega) hi, u2, hX]
    congr 1
    split
    · rw [Nat.mul_one, Nat.mod_mod]
    · rfl
theorem whole2_eq (k : Int32) (hk : Lk k) : ∃ z : Int32, F_X20_isWhole_2 k = some z ∧ F_X16_isWhole k = some z := by
  unfold Lk at hk
  rcases hk with hk | hk | hk | hk | hk | hk | hk | hk <;> subst hk
  · exact ⟨0, rfl, rfl⟩
  · exact ⟨1, rfl, rfl⟩
  · exact ⟨1, rfl, rfl⟩
  · exact ⟨1, rfl, rfl⟩
  · exact ⟨1, rfl, rfl⟩
  · exact ⟨1, rfl, rfl⟩
  · exact ⟨0, rfl, rfl⟩
  · exact ⟨0, rfl, rfl⟩
theorem vb5 (x : Int64) : vb 5 x := (vb_rng (by simp)).mpr (i64_rng _)
theorem c_residues {M : Mem} {g p v3 : Int32} (hv3 : v3 = 0 ∨ v3 = 1) (h : ST M) (h4 : I4 M) (h5 : I5 M) : CR (pg n2) (rG M) (fun _ => True) M (fun M => F_X0_residues M 1000 g p v3) (fun M => F_X16_residues M 1068 g p v3) := by
  have h0 := h.1
  have h5x := h5
  obtain ⟨m, w, K, n, Z, S, T, X, Y, C, D, L, P, h5⟩ := h5
  have n10 : ¬ (1 : Int32) = 0 := by decide
  have z00 : ¬ (0 : Int32) < 0 := by decide
  have z01 : (0 : Int32) < 1 := by decide
  have l13 : (0 : Int32) < 13 := by decide
  have l14 : (0 : Int32) < 14 := by decide
  have no : ∀ r : Int32, F_X0_residues M 1000 g p v3 = some (r, M) → F_X16_residues M 1068 g p v3 = some (r, M) → CR (pg n2) (rG M) (fun _ => True) M (fun M => F_X0_residues M 1000 g p v3) (fun M => F_X16_residues M 1068 g p v3) := fun r e1 e2 =>
    CR.no h h5x r M M e1 e2 trivial (Df.refl n2 _ _ _) (fun _ _ q => q.elim) qt_n2 noGr_n2 (by omega) (by omega)
  rcases look h h4 h5 g with ⟨b1, b2, e1, e2, e3⟩ | ⟨b1, b2, e1, e2, e3, -⟩ | ⟨b1, b2, j, j1, j2, hg, e1, e4, e5, e3, e7, e6, gp⟩
  · exact no (-13) (by simp only [F_X0_residues, v1000, h, e1, e2, Option.bind_some, Nat.reduceEqDiff, if_false, if_true]) (by simp only [F_X16_residues, v1068, h, e3, l13, Option.bind_some, if_true])
  · exact no (-14) (by simp only [F_X0_residues, v1000, h, e1, e2, Option.bind_some, Nat.reduceEqDiff, if_false, if_true]) (by simp only [F_X16_residues, v1068, h, e3, l14, Option.bind_some, if_true])
  · obtain ⟨rE', rM'⟩ := E_row gp
    have vE := vg_of gp.1.2.2.1 (show x_isa 22 22 = true by decide)
    obtain ⟨zw, w1, w2⟩ := whole2_eq (K j) gp.2.2.1
    by_cases c1 : ¬ n j = 1
    · rw [if_neg c1] at rE' rM'
      exact no (-1) (by simp only [F_X0_residues, v1000, h, e1, e4, e5, vE, rE', F_X0_residues_b37, F_X0_residues_b67, F_X0_residues_b68, F_X0_residues_b109, z01, Option.bind_some, if_false, if_true]) (by simp only [F_X16_residues, v1068, h, e3, z00, g1068_1092, e6, rM', F_X16_residues_b42, Option.bind_some, if_false, if_true])
    have c1 : n j = 1 := Decidable.of_not_not c1
    rw [if_pos c1] at rE' rM'
    have hZ1 : prd (Z j) 1 = Z j 0 := by show 1 * Z j 0 = _; omega
    have hZ : prd (Z j) (n j) = Z j 0 := by rw [c1]; exact hZ1
    have hz0 := gp.2.2.2.2.1 0 (by omega)
    obtain ⟨nn, hnn⟩ : ∃ nn, nn = Z j 0 := ⟨_, rfl⟩
    rw [← hnn] at hZ hZ1 hz0
    -- sizes
    have irE := gp.1.2.2.2.2.2.1
    have irM := gp.2.1.2.2.2.2.1
    have sE : ai M (cR M (cR M 1005 j) 1410) 0 = some (iw (nn : Int)) := by
      rw [show (0 : Int32) = iw ((0 : Nat) : Int) from rfl, ai_of irE.2.2.1 irE.2.2.2.1 (show 0 < n j by omega) (by omega), irE.2.2.2.2 0 (by omega), hnn]
    have sM : ai M (cR M (cR M 1070 j) 1473) 0 = some (iw (nn : Int)) := by
      rw [show (0 : Int32) = iw ((0 : Nat) : Int) from rfl, ai_of irM.2.2.1 irM.2.2.2.1 (show 0 < n j by omega) (by omega), irM.2.2.2.2 0 (by omega), hnn]
    have laneE := gi_of gp.1.2.2.1 (show x_fi 22 1408 = true by decide)
    have laneM := gi_of gp.2.1.2.2.1 (show x_fi 23 1472 = true by decide)
    rw [gp.1.2.2.2.1] at laneE
    rw [gp.2.1.2.2.2.1] at laneM
    have refE := gr_of gp.1.2.2.1 (show x_fr 22 1410 = true by decide)
    have refM := gr_of gp.2.1.2.2.1 (show x_fr 23 1473 = true by decide)
    have hdE : F_X0_residues M 1000 g p v3 = F_X0_residues_b37 M (iw (nn : Int)) 1000 p v3 (cR M 1005 j) := by
      simp only [F_X0_residues, v1000, h, e1, e4, e5, vE, rE', n10, refE, sE, Option.bind_some, if_false]
    -- refusals
    have noE : ∀ s0 : Int32, F_X0_residues_b68 M 0 1000 p v3 (cR M 1005 j) s0 = some (-1, M) := fun s0 => by unfold F_X0_residues_b68 F_X0_residues_b109; rw [if_pos rfl]
    have hN1 : iw (nn : Int) < 1 ↔ nn < 1 := by
      rw [show (1 : Int32) = iw ((1 : Nat) : Int) from rfl, iw_le4 (by omega) (by omega)]
    have hN2 : (1024 : Int32) < iw (nn : Int) ↔ 1024 < nn := by
      rw [show (1024 : Int32) = iw ((1024 : Nat) : Int) from rfl, iw_le4 (by omega) (by omega)]
    have hdM : ∀ M : Mem, ST M → F_X16_codeOf M 1068 g = some 0 → ar M 1070 g = some (cR M 1070 j) → True := fun _ _ _ _ => trivial
    by_cases cw : zw = 0
    · subst cw
      refine no (-1) ?_ (by simp only [F_X16_residues, v1068, h, e3, z00, g1068_1092, e6, rM', n10, laneM, w2, F_X16_residues_b42, Option.bind_some, if_false, if_true])
      rw [hdE]
      unfold F_X0_residues_b37 F_X0_residues_b67
      split
      · exact noE _
      · split
        · exact noE _
        · split
          · unfold F_X0_residues_b68 F_X0_residues_b109
            rw [if_neg n10, laneE]
            simp only [w1, Option.bind_some, if_true]
          · exact noE _
    by_cases cn1 : nn < 1
    · refine no (-1) ?_ (by simp only [F_X16_residues, v1068, h, e3, z00, g1068_1092, e6, rM', n10, laneM, w2, cw, refM, sM, hN1.mpr cn1, F_X16_residues_b105, Option.bind_some, if_false, if_true])
      rw [hdE]
      unfold F_X0_residues_b37 F_X0_residues_b67
      rw [if_pos (hN1.mpr cn1)]
      exact noE _
    have hN1' : ¬ iw (nn : Int) < 1 := fun q => cn1 (hN1.mp q)
    by_cases cn2 : 1024 < nn
    · refine no (-1) ?_ (by simp only [F_X16_residues, v1068, h, e3, z00, g1068_1092, e6, rM', n10, laneM, w2, cw, refM, sM, hN1', hN2.mpr cn2, F_X16_residues_b105, Option.bind_some, if_false, if_true])
      rw [hdE]
      unfold F_X0_residues_b37 F_X0_residues_b67
      rw [if_neg hN1', if_pos (hN2.mpr cn2)]
      exact noE _
    have hN2' : ¬ (1024 : Int32) < iw (nn : Int) := fun q => cn2 (hN2.mp q)
    have hand : iw (nn : Int) &&& (iw (nn : Int) - 1) = iw ((nn &&& (nn - 1) : Nat) : Int) := by
      rw [show (1 : Int32) = iw ((1 : Nat) : Int) from rfl, iw_nsub (by omega), iw_nand (by omega) (by omega)]
    have hlt : nn &&& (nn - 1) ≤ nn := Nat.and_le_left
    have hand0 : iw ((nn &&& (nn - 1) : Nat) : Int) = 0 ↔ nn &&& (nn - 1) = 0 := by
      rw [iw_eq0 (by omega) (by omega)]
      omega
    have nn0 : ¬ iw (nn : Int) = 0 := by
      rw [iw_eq0 (by omega) (by omega)]
      omega
    by_cases ca : ¬ nn &&& (nn - 1) = 0
    · have ca' : ¬ iw ((nn &&& (nn - 1) : Nat) : Int) = 0 := fun q => ca (hand0.mp q)
      refine no (-1) ?_ (by simp only [F_X16_residues, v1068, h, e3, z00, g1068_1092, e6, rM', n10, laneM, w2, cw, refM, sM, hN1', hN2', hand, ca', F_X16_residues_b105, Option.bind_some, if_false, if_true])
      rw [hdE]
      unfold F_X0_residues_b37 F_X0_residues_b67
      rw [if_neg hN1', if_neg hN2', hand, if_neg ca']
      exact noE _
    have ca := Decidable.of_not_not ca
    have ca' := hand0.mpr ca
    obtain ⟨lg, lg1, lg2⟩ := pow2_of (by omega) (by omega) ca
    have hdE2 : F_X0_residues M 1000 g p v3 = if (1000000007 : Int32) < p then some (-1, M) else (F_X10_isPrime p).bind fun z17 => if z17 = 0 then some (-1, M) else if (j_irem (p - 1) (iw (nn : Int))) = 0 then (F_X0_rowShape M 1000 (iw (nn : Int))).bind fun z19 => F_X0_residues_b120 xN z19 1000 p v3 (cR M 1005 j) (iw (nn : Int)) 0 else some (-1, M) := by
      rw [hdE]
      unfold F_X0_residues_b37
      rw [if_neg hN1', if_neg hN2', hand, if_pos ca']
      unfold F_X0_residues_b68 F_X0_residues_b109
      rw [if_neg n10, laneE]
      simp only [w1, cw, nn0, v1000, h, Option.bind_some, if_false]
    have hdM2 : ∀ A : Mem, ST A → F_X16_codeOf A 1068 g = some 0 → ar A 1070 g = some (cR M 1070 j) → F_X16_isRow A (cR M 1070 j) = some 1 → gi A (cR M 1070 j) 1472 = some (K j) → ∀ sr, gr A (cR M 1070 j) 1473 = some sr → ai A sr 0 = some (iw (nn : Int)) →
        F_X16_residues A 1068 g p v3 = if p < 3 then some (-1, A) else if (1000000007 : Int32) < p then some (-1, A) else if (j_irem (p - 1) (iw (nn : Int))) = 0 then (F_X16_isPrime p).bind fun z36 => if z36 = 0 then some (-1, A) else (F_X16_isRoom A 1068 ((iw (nn : Int)).toInt64) 1).bind fun z38 => if z38 = 0 then some (-12, A) else (F_X16_rootOf (iw (nn : Int)) p).bind fun z39 => if v3 = 0 then F_X16_residues_b145 A 1068 p v3 (cR M 1070 j) (iw (nn : Int)) z39 else (F_X16_power z39 ((p - 2).toInt64) p).bind fun z40 => F_X16_residues_b145 A 1068 p v3 (cR M 1070 j) (iw (nn : Int)) z40 else some (-1, A) := by
      intro A hA y1 y2 y3 y4 sr y5 y6
      simp only [F_X16_residues, v1068, hA, y1, z00, g1068_1092, y2, y3, n10, y4, w2, cw, y5, y6, hN1', hN2', hand, ca', nn0, F_X16_residues_b105, Option.bind_some, if_false, if_true]
    have hdM3 := hdM2 M h e3 e6 rM' laneM _ refM sM
    by_cases cp1 : (1000000007 : Int32) < p
    · have np3 : ¬ p < 3 := by
        rw [Int32.lt_iff_toInt_lt] at cp1 ⊢
        have : (1000000007 : Int32).toInt = 1000000007 := by decide
        have : (3 : Int32).toInt = 3 := by decide
        omega
      exact no (-1) (by rw [hdE2, if_pos cp1]) (by rw [hdM3, if_neg np3, if_pos cp1])
    by_cases cp3 : p < 3
    · refine no (-1) ?_ (by rw [hdM3, if_pos cp3])
      rw [hdE2, if_neg cp1]
      have : F_X10_isPrime p = some 0 := by
        unfold F_X10_isPrime F_X10_isPrime_b11
        rw [if_pos cp3]
      simp only [this, Option.bind_some, if_true]
    have hpr : 3 ≤ p.toInt ∧ p.toInt ≤ 1000000007 := by
      rw [Int32.lt_iff_toInt_lt] at cp1 cp3
      have : (1000000007 : Int32).toInt = 1000000007 := by decide
      have : (3 : Int32).toInt = 3 := by decide
      omega
    obtain ⟨q, hq⟩ : ∃ q : Nat, p = iw (q : Int) ∧ 3 ≤ q ∧ q ≤ 1000000007 := ⟨p.toInt.toNat, by rw [show ((p.toInt.toNat : Nat) : Int) = p.toInt by omega, iw_of], by omega, by omega⟩
    obtain ⟨rfl, q3, q4⟩ := hq
    obtain ⟨pE, pE1, pE2, pE3⟩ := E_prm q3 q4
    obtain ⟨pM, pM1, pM2, pM3⟩ := M_prm q3 q4
    have erem : j_irem (iw (q : Int) - 1) (iw (nn : Int)) = iw (((q - 1) % nn : Nat) : Int) := by
      rw [show (1 : Int32) = iw ((1 : Nat) : Int) from rfl, iw_nsub (by omega), irem_n (by omega) (by omega) (by omega)]
    have hrl := Nat.mod_lt (q - 1) (show 0 < nn by omega)
    have erem0 : iw (((q - 1) % nn : Nat) : Int) = 0 ↔ (q - 1) % nn = 0 := by
      rw [iw_eq0 (by omega) (by omega)]
      omega
    by_cases cd : ¬ (q - 1) % nn = 0
    · have cd' : ¬ iw (((q - 1) % nn : Nat) : Int) = 0 := fun qq => cd (erem0.mp qq)
      refine no (-1) ?_ (by rw [hdM3, if_neg cp3, if_neg cp1, erem, if_neg cd'])
      rw [hdE2, if_neg cp1, pE1, erem]
      simp only [Option.bind_some]
      split
      · rfl
      · first | rfl | rw [if_neg cd']
    have cd := Decidable.of_not_not cd
    have cd' := erem0.mpr cd
    rcases Classical.em (¬ Prm q) with cpr | cpr
    · have z1 : pE = 0 := pE2.elim id (fun e => absurd (pE3.mp e) cpr)
      have z2 : pM = 0 := pM2.elim id (fun e => absurd (pM3.mp e) cpr)
      refine no (-1) (by rw [hdE2, if_neg cp1, pE1, z1]; simp only [Option.bind_some, if_true]) (by rw [hdM3, if_neg cp3, if_neg cp1, erem, if_pos cd', pM1, z2]; simp only [Option.bind_some, if_true])
    have cpr := Classical.not_not.mp cpr
    have z1 : pE = 1 := pE3.mpr cpr
    have z2 : pM = 1 := pM3.mpr cpr
    subst z1 z2
    have hxN : xN = 1099511627776 := rfl
    obtain ⟨N0, hN0⟩ : ∃ N0, N0 + 1 + nn = xN := ⟨xN - 1 - nn, by omega⟩
    obtain ⟨A1, a1, a2, a3, a4, a5, a6⟩ := E_rowShape (n := nn) h
    have sA1 : ST A1 := h.n a4
    have gp1 := gp.df a4 (fun a i q1 q2 => by rcases q2 with q2 | q2 <;> omega) qt_n2 qt_n2
    obtain ⟨A2, r1, r2, r3, r4, r5⟩ := E_res120 (v3 := v3) gp1 hZ sA1 (by omega) (by omega) q4 N0 hN0
    have sA2 : ST A2 := sA1.n r4
    obtain ⟨val, hval⟩ : ∃ val : Nat → Nat, val = fun i => rsd q (cJ M (C j) (gpos (n j) (Z j) (S j) (X j) i)) := ⟨_, rfl⟩
    have cc := gp.2.2.2.2.2.2.2.1
    have hx2 : ∀ i, i < nn → val i < q ∧ cJ A2 1036 i = nl (val i) := fun i hi => ⟨by rw [hval]; exact rsd_lt (by omega) _, by rw [r5 i hi, hval, a4.cJ cc.2.1 (fun q => q)]⟩
    obtain ⟨W, A3, t1, t2, t3, t4, t5, t6, t7, t8⟩ := E_ntt sA2 cpr q3 q4 lg1 lg2 cd hx2 hv3
    obtain ⟨res, hres⟩ : ∃ res : Nat → Nat, res = fun k => if v3 = 0 then ssum (fun j => val j * W ^ (k * j)) nn % q else ssum (fun j => val j * (W ^ (q - 2) % q) ^ (k * j)) nn % q * (nn ^ (q - 2) % q) % q := ⟨_, rfl⟩
    have dA3 : Df (pp n2) qsc rsc M A3 := ((a4.mono (fun a i q => Or.inl (by unfold psc; omega)) (fun _ _ q => q.elim) (fun _ _ q => q.elim)).trans (r4.mono (fun _ _ q => q.elim) (fun a i q => by have q : a = 1036 := q; unfold qsc; omega) (fun _ _ q => q.elim))).trans (t6.mono (fun _ _ q => q.elim) (fun a i q => by unfold qWk at q; unfold qsc; omega) (fun _ _ q => q.elim))
    obtain ⟨M1, g1, g2, g3, g4, gA, g5⟩ := mkBs (k := 5) (n' := 1) (z := Z j) (r := 1036) h h5 dA3 qt_n2 noGr_n2 (fun i => nl (res i)) (by unfold Lk; simp) (by decide) (fun i hi => by
      have : i = 0 := by omega
      subst this
      rw [t6.cI (by omega) (fun q => q), r4.cI (by omega) (fun q => q), a6, hnn]
      exact ⟨rfl, by omega⟩) (by rw [t6.cI (by omega) (fun q => q), r4.cI (by omega) (fun q => q), a5]) (fun hp => ⟨by decide, by decide, by omega, t1036 t4, by rw [l1036 t4]; omega, by rw [l1036 t4]; decide⟩) (fun _ i hi => ⟨by rw [hZ1] at hi; rw [t5 i hi, hres], vb5 _⟩)
    rw [hZ1] at g1 gA g5
    have eg : F_X0_residues M 1000 g (iw (q : Int)) v3 = some ((if room m w 1 nn = true then iw ((m + 1 : Nat) : Int) else -12), M1) := by
      rw [hdE2, if_neg cp1, pE1, erem]
      simp only [Option.bind_some, n10, cd', if_false, if_true, a1]
      rw [r1]
      show F_X0_residues_b120_st (F_X0_residues_b120 N0) A2 _ _ _ _ _ _ = _
      unfold F_X0_residues_b120_st
      rw [if_neg (by rw [iw_le4 (by omega) (by omega)]; omega)]
      simp only [g1000_76, v1035, sA2, t3, g1035_704, v1000, t4, g1, Option.bind_some]
    have dM1 : Df (fun a i => pp n2 a i ∨ pNE a i) qsc (fun a i => rsc a i ∨ rE a i) M M1 := (dA3.mono (fun _ _ q => Or.inl q) (fun _ _ q => q) (fun _ _ q => Or.inl q)).trans (g3.mono (fun _ _ q => Or.inr q) (fun _ _ q => q.elim) (fun _ _ q => Or.inr q))
    have npm : ∀ i, ¬ (pp n2 1068 i ∨ pNE 1068 i) := fun i q => q.elim (fun q => q.elim (nsc i) (fun q => q)) (fun q => by unfold pNE at q; omega)
    have qx : qt (fun a i => pp n2 a i ∨ pNE a i) := fun a i a1 a2 => a2.elim (qt_pp qt_n2 a i a1) (qt_pNE a i a1)
    have qr : qt (fun a i => rsc a i ∨ rE a i) := fun a i a1 a2 => a2.elim (qt_rsc a i a1) (qt_rE a i a1)
    obtain ⟨y1, y2, y3⟩ := M_see h dM1 g2 (npm _) (npm _) (fun i q => q.elim (rsc_5 i).2 (fun q => by unfold rE at q; omega)) g
    have gpM := gp.df dM1 qx qt_qsc qr
    obtain ⟨-, rM1⟩ := E_row gpM
    rw [if_pos c1] at rM1
    have irM1 := gpM.2.1.2.2.2.2.1
    have sM1 : ai M1 (cR M1 (cR M 1070 j) 1473) 0 = some (iw (nn : Int)) := by
      rw [show (0 : Int32) = iw ((0 : Nat) : Int) from rfl, ai_of irM1.2.2.1 irM1.2.2.2.1 (show 0 < n j by omega) (by omega), irM1.2.2.2.2 0 (by omega), hnn]
    have laneM1 := gi_of gpM.2.1.2.2.1 (show x_fi 23 1472 = true by decide)
    rw [gpM.2.1.2.2.2.1] at laneM1
    have nM1 := g3.1
    have hdM4 := hdM2 M1 g2 (by rw [y1]; exact e3) (by rw [y3]; exact e6) rM1 laneM1 _ (gr_of gpM.2.1.2.2.1 (show x_fr 23 1473 = true by decide)) sM1
    rw [if_neg cp3, if_neg cp1, erem, if_pos cd', pM1, i64_iw (show nn < 2147483648 by omega)] at hdM4
    have r1 := (g5 M1 (Df.refl _ _ _ _)).1
    cases hb : room m w 1 nn with
    | false =>
      obtain ⟨-, rr2, -⟩ := g5 M1 (Df.refl _ _ _ _)
      rw [hb, if_neg (by decide)] at eg
      obtain ⟨rr3, rr4, rr5⟩ := rr2 hb
      have := gA hb
      subst this
      refine ⟨-12, M1, M1, eg, ?_, trivial, rr3, rr4, by omega, by omega⟩
      show F_X16_residues M1 1068 g (iw (q : Int)) v3 = _
      rw [hb] at r1
      rw [hdM4]
      simp only [r1, n10, Option.bind_some, if_false, show mr false = 0 by decide, if_true]
    | true =>
      rw [hb] at r1
      rw [hb, if_pos rfl] at eg
      have mt : ∃ W' : Nat, W' < q ∧ (W' = if v3 = 0 then W else W ^ (q - 2) % q) ∧ F_X16_residues M1 1068 g (iw (q : Int)) v3 = F_X16_residues_b145 M1 1068 (iw (q : Int)) v3 (cR M 1070 j) (iw (nn : Int)) (nl W') := by
        rw [hdM4]
        rcases hv3 with hv | hv
        · refine ⟨W, t1, by rw [if_pos hv], ?_⟩
          simp only [r1, n10, t2, Option.bind_some, if_false, show ¬ mr true = 0 by decide, hv, if_true]
        · have n1 : ¬ v3 = 0 := by rw [hv]; decide
          have ee : (iw (q : Int) - (2 : Int32)).toInt64 = nl (q - 2) := by
            rw [show (2 : Int32) = iw ((2 : Nat) : Int) from rfl, iw_nsub (by omega)]
            exact i64_iw (by omega)
          refine ⟨W ^ (q - 2) % q, Nat.mod_lt _ (by omega), by rw [if_neg n1], ?_⟩
          simp only [r1, n10, t2, Option.bind_some, if_false, show ¬ mr true = 0 by decide, n1, ee, M_pw (show 2 ≤ q by omega) q4 (show W < 2147483648 by omega) (show q - 2 < 2147483648 by omega)]
      obtain ⟨W', w1', w2', w3'⟩ := mt
      obtain ⟨B, k1, k2, k3, k4, k5, k6⟩ := M_restail (v3 := v3) gpM hZ g2 (by omega) (by omega) q4 w1' hv3
      obtain ⟨B2, f1, f2, f3, f4, f5⟩ := M_oneSize (B := B) (by have := k2.1; omega) (iw (nn : Int))
      have sB2 : ST B2 := k2.n f4
      have f5' : IRw B2 (m_nx B) 1 (fun i => iw (Z j i)) := ⟨f5.1, f5.2.1, f5.2.2.1, f5.2.2.2.1, fun i hi => by
        have : i = 0 := by omega
        subst this
        rw [f5.2.2.2.2 0 hi, hnn]⟩
      have dB2 : Df (pp n2) qsc rsc M1 B2 := (k5.mono (fun _ _ q => q.elim) (fun a i q => by unfold qsc; rcases q with q | q <;> omega) (fun _ _ q => q.elim)).trans (f4.mono (fun _ _ q => q.elim) (fun _ _ q => q.elim) (fun _ _ q => q.elim))
      have hval1 : ∀ i, rsd q (cJ M1 (C j) (gpos (n j) (Z j) (S j) (X j) i)) = val i := fun i => by
        rw [hval, dM1.cJ cc.2.1 (qt_qsc _ _ cc.1)]
      obtain ⟨M2, o1, o2, o3, o4, -, o5⟩ := (g5 B2 dB2).2.2 hb (m_nx B) 1073 f5' ⟨by decide, by decide, by have := k2.1; omega, t1073 sB2, by rw [l1073 sB2]; omega, by rw [l1073 sB2]; decide⟩ (fun i hi => by
        rw [f4.cJ (by have := k2.1; omega) (fun q => q), k6 i hi, hres]
        simp only [hval1, w2']
        congr 1
        split
        · rename_i hv; simp only [hv, if_true]
        · rename_i hv; simp only [hv, if_false])
      refine ⟨iw ((m + 1 : Nat) : Int), M1, M2, eg, ?_, trivial, o2, o3, by omega, by omega⟩
      show F_X16_residues M1 1068 g (iw (q : Int)) v3 = _
      rw [w3', k1, f1]
      simp only [g1068_1100, v1068, sB2, o1, Option.bind_some]
