/-! ===== FORMULAS, 53: the engine checks a name ===== -/
section
variable {M : Mem} {B v1 us lo hi de a p : Nat} {S : Sc} {Z : Nat → Prop} {ea : List Nat} {w : List Int32}
theorem CF.wI {i : Nat} (v : Int32) (h1 : lo ≤ a) (h2 : a < hi) (ht : 30 ≤ m_tg M a ∧ m_tg M a ≤ 36) : CF M (wI M a i v) lo hi us := Df.wI v (Or.inr ⟨h1, h2, ht⟩)
theorem CF.wR (v : Nat) (h1 : lo ≤ a) (h2 : a < hi) (ht : m_tg M a = 33) : CF M (wR M a 2117 v) lo hi us := Df.wR v ⟨h1, h2, ht, rfl⟩
theorem E_ckN1 {ns : List (List Int32)} (h : CX M B v1 us S Z ea de) (hS : S.ok) (hns : S.nm = some ns) (hB : B ≤ lo) (hu : ¬ (lo ≤ us ∧ us < hi)) (hn : NEx M B (.nam p w) lo hi [a]) : RC M ea lo hi us 1 [a] (F_X31_check M a v1) (ck S (.nam p w)) := by
  obtain ⟨a', q1, ⟨l1, l2⟩, ⟨n1, n2', n3, n4⟩, nw⟩ := hn
  cases q1
  have hb := h.1.2.2.1
  have b3 := h.2.1.2.2.1
  have cB := h.2.2.1.2.2.1
  have sn := h.2.2.2.1
  unfold SNm at sn
  rw [hns] at sn
  obtain ⟨ln, dn, en, lr, i1, ⟨i2, i2'⟩, i3, i4, i5, i6, i7, i8, i9⟩ := sn
  obtain ⟨W1, e1⟩ : ∃ W1, W1 = wI M a 2049 3 := ⟨_, rfl⟩
  have tg1 : m_tg W1 a = 32 := by rw [e1]; exact n2'
  have c1 : CF M W1 lo hi us := by rw [e1]; exact CF.wI 3 l1 l2 (by omega)
  have h1 := h.cf c1 hB
  have nw1 : NmW W1 B (cR M a 2048) w := nw.df c1 (c1.ntx cB)
  have sn1 := h1.2.2.2.1
  unfold SNm at sn1
  rw [hns] at sn1
  obtain ⟨ln1, dn1, en1, lr1, j1, ⟨j2, j2'⟩, j3, j4, j5, j6, j7, j8, j9⟩ := sn1
  have b31 := h1.2.1.2.2.1
  have par := E_par_l (M := W1) (s := cR M a 2048) (w := w) b31 j1 j3 j4 j5 hb nw1.1.1 (by have := nw1.1.2.2.1.1; omega) ns.length xN 0 (by omega) (by have := j3.len; have : xN = 1099511627776 := rfl; omega)
  rw [List.drop_zero] at par
  have f1 : F_X36_isFormula M v1 = some 0 := by
    unfold F_X36_isFormula F_X36_isFormula_b12
    rw [gr_of b3 (show x_fr 37 2371 = true by decide), i1, Option.bind_some, if_neg (by omega), if_neg (by omega)]
    rfl
  have g2048 : gr W1 a 2048 = some (cR M a 2048) := by rw [gr_of tg1 (show x_fr 32 2048 = true by decide), e1]; rfl
  unfold F_X31_check
  rw [vg_of b3 (show x_isa 37 37 = true by decide), Option.bind_some, f1, Option.bind_some, if_pos rfl, pi_of 3 n2' (by decide) rfl, Option.bind_some, ← e1, g2048, Option.bind_some, vg_of b31 (show x_isa 37 37 = true by decide), Option.bind_some]
  unfold F_X36_parameter
  rw [show (0 : Int32) = iw ((0 : Nat) : Int) from rfl, par, Option.bind_some]
  show RC M ea lo hi us 1 [a] _ (oft p (ckN S w))
  unfold ckN
  rw [hns]
  dsimp only
  cases hf : fdl w ns 0 with
  | none =>
    dsimp only
    obtain ⟨W2, e2⟩ : ∃ W2, W2 = wI W1 a 2050 (-1) := ⟨_, rfl⟩
    have tg2 : m_tg W2 a = 32 := by rw [e2]; exact tg1
    have c2 : CF W1 W2 lo hi us := by rw [e2]; exact CF.wI (-1) l1 l2 (by omega)
    have h2 := h1.cf c2 hB
    have g1 : gi W2 a 2050 = some (-1) := by rw [gi_of tg2 (show x_fi 32 2050 = true by decide), e2, cI_wI, if_pos ⟨rfl, rfl⟩]
    have g3 : gi W2 a 1856 = some (iw (p : Int)) := by rw [gi_of tg2 (show x_fi 32 1856 = true by decide), e2, cI_wI, if_neg (by omega), e1, cI_wI, if_neg (by omega), n3]
    rw [pi_of (-1) tg1 (by decide) rfl, Option.bind_some, ← e2, g1, Option.bind_some, if_pos (by decide), g3, Option.bind_some]
    have s1 : m_nx W2 = m_nx M ∧ m_sl W2 = m_sl M := by rw [e2, e1]; exact ⟨rfl, rfl⟩
    exact RC.err (c1.trans c2 (Nat.le_refl _) (Nat.le_refl _)) (by omega) (by omega) (h2.wrong _)
  | some k =>
    dsimp only
    have k1 := fdl_lt _ _ _ hf
    have k2 := hS.2.2.1 ns hns
    obtain ⟨W2, e2⟩ : ∃ W2, W2 = wI W1 a 2050 (iw (k : Int)) := ⟨_, rfl⟩
    have tg2 : m_tg W2 a = 32 := by rw [e2]; exact tg1
    have c2 : CF W1 W2 lo hi us := by rw [e2]; exact CF.wI _ l1 l2 (by omega)
    have h2 := h1.cf c2 hB
    have b32 := h2.2.1.2.2.1
    have sn2 := h2.2.2.2.1
    unfold SNm at sn2
    rw [hns] at sn2
    obtain ⟨ln2, dn2, en2, lr2, m1, ⟨m2, m2'⟩, m3, m4, m5, m6, m7, m8, m9⟩ := sn2
    have g1 : gi W2 a 2050 = some (iw (k : Int)) := by rw [gi_of tg2 (show x_fi 32 2050 = true by decide), e2, cI_wI, if_pos ⟨rfl, rfl⟩]
    have fl : F_X36_laneOf W2 v1 (iw (k : Int)) = some (S.ps.getD k 0) := by
      unfold F_X36_laneOf
      rw [gr_of b32 (show x_fr 37 2372 = true by decide), m6, Option.bind_some, ai_of m8.1 m8.2.1 (show k < S.ps.length by omega) (by omega), Option.bind_some, m8.2.2 k (by omega)]
    rw [pi_of (iw (k : Int)) tg1 (by decide) rfl, Option.bind_some, ← e2]
    simp only [g1, Option.bind_some]
    rw [if_neg (show ¬ iw (k : Int) < iw ((0 : Nat) : Int) by rw [iw_le4 (by omega) (by omega)]; omega)]
    simp only [vg_of b32 (show x_isa 37 37 = true by decide), fl, pi_of (S.ps.getD k 0) tg2 (show x_wi 32 1857 = true by decide) rfl, Option.bind_some]
    obtain ⟨W3, e3⟩ : ∃ W3, W3 = wI W2 a 1857 (S.ps.getD k 0) := ⟨_, rfl⟩
    have c3 : CF W2 W3 lo hi us := by rw [e3]; exact CF.wI _ l1 l2 (by omega)
    rw [← e3]
    have s1 : m_nx W3 = m_nx M ∧ m_sl W3 = m_sl M := by rw [e3, e2, e1]; exact ⟨rfl, rfl⟩
    refine ⟨W3, rfl, (c1.trans c2 (Nat.le_refl _) (Nat.le_refl _)).trans c3 (Nat.le_refl _) (Nat.le_refl _), by omega, by omega, ⟨a, rfl, ⟨l1, l2⟩, ⟨by omega, by rw [e3]; exact tg2⟩, ?_, ?_, ?_⟩, fun j hj => ?_⟩
    · rw [e3, cI_wI, if_pos ⟨rfl, rfl⟩]
    · rw [e3, cI_wI, if_neg (by omega), e2, cI_wI, if_neg (by omega), e1, cI_wI, if_pos ⟨rfl, rfl⟩]
    · rw [e3, cI_wI, if_neg (by omega), e2, cI_wI, if_pos ⟨rfl, rfl⟩]
    · have ne : us ≠ a := fun q => hu ⟨by omega, by omega⟩
      show _ = if false = true then 1 else _
      rw [if_neg (by decide), e3, cI_wI, if_neg (by omega), e2, cI_wI, if_neg (by omega), e1, cI_wI, if_neg (by omega)]
/-- in a formula -/
theorem E_ckN0 (h : CX M B v1 us S Z ea de) (hns : S.nm = none) (hB : B ≤ lo) (hu : ¬ (lo ≤ us ∧ us < hi)) (hw : wok w) (hn : NEx M B (.nam p w) lo hi [a]) : RC M ea lo hi us 1 [a] (F_X31_check M a v1) (ck S (.nam p w)) := by
  obtain ⟨a', q1, ⟨l1, l2⟩, ⟨n1, n2', n3, n4⟩, nw⟩ := hn
  cases q1
  have hb := h.1.2.2.1
  obtain ⟨-, -, b3, -, -, b6⟩ := h.2.1
  obtain ⟨-, cu, cB, cl⟩ := h.2.2.1
  have sn := h.2.2.2.1
  unfold SNm at sn
  rw [hns] at sn
  obtain ⟨i1, i2, ⟨i3, i4⟩, i5⟩ := sn
  have ne : us ≠ a := fun q => hu ⟨by omega, by omega⟩
  have as0 : asc (w.getD 0 0) := hw.1 0 hw.2.2
  obtain ⟨c, c1, c2⟩ := as0
  have ci : (w.getD 0 0).toInt = (c : Int) := by rw [c2]; exact iw_toInt (by omega) (by omega)
  have f1 : F_X36_isFormula M v1 = some 1 := by
    unfold F_X36_isFormula F_X36_isFormula_b12
    rw [gr_of b3 (show x_fr 37 2371 = true by decide), i1, Option.bind_some, if_neg (by decide), if_pos rfl]
    rfl
  have ch : F_J15_charAt M (cR M a 2048) 0 = some (iw (c : Int)) := by
    have := J_charAt nw.1.1 hw.2.2 ⟨c, c1, c2⟩
    rw [c2] at this
    exact this
  have len : F_J15_length M (cR M a 2048) = some (iw (w.length : Nat)) := J_len nw.1.1
  have g1856 : gi M a 1856 = some (iw (p : Int)) := by rw [gi_of n2' (show x_fi 32 1856 = true by decide), n3]
  have g2048 : gr M a 2048 = some (cR M a 2048) := gr_of n2' (show x_fr 32 2048 = true by decide)
  have vs : vg M (cR M a 2048) 76 = some () := vg_of nw.1.2.1 (show x_isa 76 76 = true by decide)
  have bad : RC M ea lo hi us 1 [a] (F_X31_check_b123 M a v1 (iw (c : Int)) 0) (.inl p) := by
    unfold F_X31_check_b123 F_X31_check_b124
    rw [if_pos rfl, g1856, Option.bind_some]
    exact RC.err (CF.refl _ _ _ _) (by omega) (by omega) (h.wrong _)
  show RC M ea lo hi us 1 [a] _ (oft p (ckN S w))
  unfold F_X31_check ckN
  rw [vg_of b3 (show x_isa 37 37 = true by decide), Option.bind_some, f1, Option.bind_some, if_neg (show ¬ (1 : Int32) = 0 by decide), g2048, Option.bind_some, vs, Option.bind_some, ch, Option.bind_some, hns, ci]
  dsimp only
  have L := hw.2.1
  have le1 : (iw (w.length : Nat) = (1 : Int32)) ↔ w.length = 1 := by rw [show (1 : Int32) = iw ((1 : Nat) : Int) from rfl, iw_eq (by omega) (by omega) (by omega) (by omega)]; omega
  have lt : ∀ k : Nat, k < 128 → ((iw (c : Int) < iw (k : Int)) ↔ c < k) := fun k hk => by rw [iw_le4 (by omega) (by omega)]
  have gt : ∀ k : Nat, k < 128 → ((iw (k : Int) < iw (c : Int)) ↔ k < c) := fun k hk => by rw [iw_le4 (by omega) (by omega)]
  have sub : ∀ k : Nat, k ≤ c → iw (c : Int) - iw (k : Int) = iw ((c - k : Nat) : Int) := fun k hk => by rw [iw_sub]; congr 1; omega
  have l105 : (iw (c : Int) < (105 : Int32)) ↔ c < 105 := lt 105 (by decide)
  have l108 : ((108 : Int32) < iw (c : Int)) ↔ 108 < c := gt 108 (by decide)
  have l97 : (iw (c : Int) < (97 : Int32)) ↔ c < 97 := lt 97 (by decide)
  have l104 : ((104 : Int32) < iw (c : Int)) ↔ 104 < c := gt 104 (by decide)
  -- what is no place of a cell
  have nsp : ¬ (105 ≤ (c : Int) ∧ (c : Int) ≤ 108) → RC M ea lo hi us 1 [a] (F_X31_check_b78 M a v1 (iw (c : Int))) (oft p (if w.length = 1 then (if 105 ≤ (c : Int) ∧ (c : Int) ≤ 108 then some (.spt ((c : Int) - 105).toNat) else if 97 ≤ (c : Int) ∧ (c : Int) ≤ 104 then (match S.op ((c : Int) - 97).toNat with
        | some l => some (.opd ((c : Int) - 97).toNat l)
        | none => none) else none) else none)) := fun nsp => by
    unfold F_X31_check_b78 F_X31_check_b79
    rw [g2048, Option.bind_some, vs, Option.bind_some, len, Option.bind_some]
    by_cases q1 : w.length = 1
    · rw [if_pos (le1.mpr q1), if_pos rfl, if_pos q1, if_neg nsp]
      by_cases q2 : c < 97
      · rw [if_pos (l97.mpr q2), if_neg (by omega)]
        exact bad
      rw [if_neg (fun q => q2 (l97.mp q))]
      by_cases q3 : 104 < c
      · rw [if_pos (l104.mpr q3), if_neg (by omega)]
        exact bad
      rw [if_neg (fun q => q3 (l104.mp q)), if_pos (by omega), gr_of b3 (show x_fr 37 2370 = true by decide), i2, Option.bind_some, show (97 : Int32) = iw ((97 : Nat) : Int) from rfl, sub 97 (by omega), ar_of i4 i3 (show c - 97 < 8 by omega) (by decide), Option.bind_some, show ((c : Int) - 97).toNat = c - 97 by omega]
      have r := i5 (c - 97) (by omega)
      cases ho : S.op (c - 97) with
      | none =>
        rw [ho] at r
        dsimp only at r ⊢
        rw [r, if_neg (by decide), if_pos rfl]
        exact bad
      | some l =>
        rw [ho] at r
        dsimp only at r ⊢
        rw [if_neg (by omega), if_neg (by omega)]
        obtain ⟨W1, e1⟩ : ∃ W1, W1 = wI M a 2049 1 := ⟨_, rfl⟩
        have tg1 : m_tg W1 a = 32 := by rw [e1]; exact n2'
        obtain ⟨W2, e2⟩ : ∃ W2, W2 = wI W1 a 2050 (iw ((c - 97 : Nat) : Int)) := ⟨_, rfl⟩
        have tg2 : m_tg W2 a = 32 := by rw [e2]; exact tg1
        obtain ⟨W3, e3⟩ : ∃ W3, W3 = wI W2 a 1857 l := ⟨_, rfl⟩
        have tg3 : m_tg W3 a = 32 := by rw [e3]; exact tg2
        have c1' : CF M W1 lo hi us := by rw [e1]; exact CF.wI _ l1 l2 (by omega)
        have c2' : CF W1 W2 lo hi us := by rw [e2]; exact CF.wI _ l1 l2 (by omega)
        have c3' : CF W2 W3 lo hi us := by rw [e3]; exact CF.wI _ l1 l2 (by omega)
        have cx2 := (h.cf c1' hB).cf c2' hB
        have cx3 := cx2.cf c3' hB
        obtain ⟨-, -, y3, -, -, y6⟩ := cx3.2.1
        obtain ⟨-, yu, yB, yl⟩ := cx3.2.2.1
        have x3 := cx2.2.1.2.2.1
        have sn2 := cx2.2.2.2.1
        unfold SNm at sn2
        rw [hns] at sn2
        obtain ⟨j1, j2, ⟨j3, j4⟩, j5⟩ := sn2
        have r2 := j5 (c - 97) (by omega)
        rw [ho] at r2
        dsimp only at r2
        have k1 : gi W2 a 2050 = some (iw ((c - 97 : Nat) : Int)) := by rw [gi_of tg2 (show x_fi 32 2050 = true by decide), e2, cI_wI, if_pos ⟨rfl, rfl⟩]
        have k3 : gi W3 a 2050 = some (iw ((c - 97 : Nat) : Int)) := by rw [gi_of tg3 (show x_fi 32 2050 = true by decide), e3, cI_wI, if_neg (by omega), e2, cI_wI, if_pos ⟨rfl, rfl⟩]
        unfold F_X31_check_b119 F_X31_check_b124
        rw [if_neg (show ¬ (1 : Int32) = 0 by decide), if_pos rfl]
        unfold F_X31_check_b150
        rw [pi_of 1 n2' (by decide) rfl, Option.bind_some, ← e1, if_pos rfl, show (97 : Int32) = iw ((97 : Nat) : Int) from rfl, sub 97 (by omega)]
        unfold F_X31_check_b169
        rw [pi_of _ tg1 (by decide) rfl, Option.bind_some, ← e2, if_pos rfl, gr_of x3 (show x_fr 37 2370 = true by decide), j2, Option.bind_some, k1, Option.bind_some, ar_of j4 j3 (show c - 97 < 8 by omega) (by decide), Option.bind_some, gi_of r2.2.1 (show x_fi 22 1408 = true by decide), r2.2.2, Option.bind_some]
        unfold F_X31_check_b193 F_X31_check_b210
        rw [pi_of l tg2 (show x_wi 32 1857 = true by decide) rfl, Option.bind_some, ← e3, if_pos rfl, gr_of y3 (show x_fr 37 2373 = true by decide), y6, Option.bind_some, k3, Option.bind_some, sz_of 1 yB yl (show c - 97 < 8 by omega) (by decide), Option.bind_some]
        obtain ⟨W4, e4⟩ : ∃ W4, W4 = wI W3 us (c - 97) (1 &&& 1) := ⟨_, rfl⟩
        have c4' : CF W3 W4 lo hi us := by rw [e4]; exact Df.wI _ (Or.inl rfl)
        rw [← e4]
        have s1 : m_nx W4 = m_nx M ∧ m_sl W4 = m_sl M := by rw [e4, e3, e2, e1]; exact ⟨rfl, rfl⟩
        refine ⟨W4, rfl, ((c1'.trans c2' (Nat.le_refl _) (Nat.le_refl _)).trans c3' (Nat.le_refl _) (Nat.le_refl _)).trans c4' (Nat.le_refl _) (Nat.le_refl _), by omega, by omega, ⟨a, rfl, ⟨l1, l2⟩, ⟨by omega, by rw [e4]; exact tg3⟩, ?_, ?_, ?_⟩, fun j hj => ?_⟩
        · rw [e4, cI_wI, if_neg (by omega), e3, cI_wI, if_pos ⟨rfl, rfl⟩]
        · rw [e4, cI_wI, if_neg (by omega), e3, cI_wI, if_neg (by omega), e2, cI_wI, if_neg (by omega), e1, cI_wI, if_pos ⟨rfl, rfl⟩]
        · rw [e4, cI_wI, if_neg (by omega), e3, cI_wI, if_neg (by omega), e2, cI_wI, if_pos ⟨rfl, rfl⟩]
        · show _ = if decide (c - 97 = j) = true then 1 else _
          rw [e4, cI_wI]
          by_cases qj : c - 97 = j
          · rw [if_pos ⟨rfl, qj.symm⟩, decide_eq_true qj, if_pos rfl]; rfl
          · rw [if_neg (fun q => qj q.2.symm), decide_eq_false qj, if_neg (by decide), e3, cI_wI, if_neg (by omega), e2, cI_wI, if_neg (by omega), e1, cI_wI, if_neg (by omega)]
    · rw [if_neg (fun q => q1 (le1.mp q)), if_neg q1]
      exact bad
  by_cases q5 : c < 105
  · rw [if_pos (l105.mpr q5)]
    exact nsp (by omega)
  rw [if_neg (fun q => q5 (l105.mp q))]
  by_cases q8 : 108 < c
  · rw [if_pos (l108.mpr q8)]
    exact nsp (by omega)
  rw [if_neg (fun q => q8 (l108.mp q))]
  unfold F_X31_check_b79
  rw [g2048, Option.bind_some, vs, Option.bind_some, len, Option.bind_some]
  by_cases q1 : w.length = 1
  · rw [if_pos (le1.mpr q1), if_neg (show ¬ (1 : Int32) = 0 by decide), if_pos q1, if_pos (by omega), show ((c : Int) - 105).toNat = c - 105 by omega]
    obtain ⟨W1, e1⟩ : ∃ W1, W1 = wI M a 2049 2 := ⟨_, rfl⟩
    have tg1 : m_tg W1 a = 32 := by rw [e1]; exact n2'
    obtain ⟨W2, e2⟩ : ∃ W2, W2 = wI W1 a 2050 (iw ((c - 105 : Nat) : Int)) := ⟨_, rfl⟩
    have tg2 : m_tg W2 a = 32 := by rw [e2]; exact tg1
    obtain ⟨W3, e3⟩ : ∃ W3, W3 = wI W2 a 1857 4 := ⟨_, rfl⟩
    have tg3 : m_tg W3 a = 32 := by rw [e3]; exact tg2
    have c1' : CF M W1 lo hi us := by rw [e1]; exact CF.wI _ l1 l2 (by omega)
    have c2' : CF W1 W2 lo hi us := by rw [e2]; exact CF.wI _ l1 l2 (by omega)
    have c3' : CF W2 W3 lo hi us := by rw [e3]; exact CF.wI _ l1 l2 (by omega)
    unfold F_X31_check_b119 F_X31_check_b124
    rw [if_neg (show ¬ (1 : Int32) = 0 by decide), if_neg (show ¬ (1 : Int32) = 0 by decide)]
    unfold F_X31_check_b150
    rw [pi_of 2 n2' (by decide) rfl, Option.bind_some, ← e1, if_neg (show ¬ (1 : Int32) = 0 by decide), show (105 : Int32) = iw ((105 : Nat) : Int) from rfl, sub 105 (by omega)]
    unfold F_X31_check_b169
    rw [pi_of _ tg1 (by decide) rfl, Option.bind_some, ← e2, if_neg (show ¬ (1 : Int32) = 0 by decide)]
    unfold F_X31_check_b193 F_X31_check_b210
    rw [pi_of 4 tg2 (show x_wi 32 1857 = true by decide) rfl, Option.bind_some, ← e3, if_neg (show ¬ (1 : Int32) = 0 by decide)]
    have s1 : m_nx W3 = m_nx M ∧ m_sl W3 = m_sl M := by rw [e3, e2, e1]; exact ⟨rfl, rfl⟩
    refine ⟨W3, rfl, (c1'.trans c2' (Nat.le_refl _) (Nat.le_refl _)).trans c3' (Nat.le_refl _) (Nat.le_refl _), by omega, by omega, ⟨a, rfl, ⟨l1, l2⟩, ⟨by omega, tg3⟩, ?_, ?_, ?_⟩, fun j hj => ?_⟩
    · rw [e3, cI_wI, if_pos ⟨rfl, rfl⟩]
    · rw [e3, cI_wI, if_neg (by omega), e2, cI_wI, if_neg (by omega), e1, cI_wI, if_pos ⟨rfl, rfl⟩]
    · rw [e3, cI_wI, if_neg (by omega), e2, cI_wI, if_pos ⟨rfl, rfl⟩]
    · show _ = if false = true then 1 else _
      rw [if_neg (by decide), e3, cI_wI, if_neg (by omega), e2, cI_wI, if_neg (by omega), e1, cI_wI, if_neg (by omega)]
  · rw [if_neg (fun q => q1 (le1.mp q)), if_neg q1]
    unfold F_X31_check_b123 F_X31_check_b124
    rw [if_pos rfl, g1856, Option.bind_some]
    exact RC.err (CF.refl _ _ _ _) (by omega) (by omega) (h.wrong _)
end
