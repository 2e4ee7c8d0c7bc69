/-! ===== FORMULAS, 55: the engine checks two parts, choices ===== -/
section
variable {M N : Mem} {B v1 us lo hi de a p hh : Nat} {S : Sc} {Z : Nat → Prop} {ea : List Nat} {w : List Int32} {r : Mem → Nat → Nat → Option (Mem ⊕ (Nat × Mem))}
theorem NEx.cf {e : Ex} {lo1 hi1 lo2 hi2 : Nat} {as : List Nat} (h : NEx M B e lo1 hi1 as) (c : CF M N lo2 hi2 us) (hu : m_tg M us = 1001) (h1 : hi2 ≤ lo1 ∨ hi1 ≤ lo2) (h2 : ¬ (lo1 ≤ us ∧ us < hi1)) : NEx N B e lo1 hi1 as :=
  NEx.df c (c.ntx hu) e lo1 hi1 as (fun x i x1 x2 => ⟨fun q => by unfold pCk at q; omega, fun q => q, fun q => by unfold rCk at q; omega⟩) h
theorem NTx.cf {t : Tx} {lo1 hi1 lo2 hi2 : Nat} {as : List Nat} (h : NTx M ea t lo1 hi1 as) (c : CF M N lo2 hi2 us) (h1 : hi2 ≤ lo1 ∨ hi1 ≤ lo2) (h2 : ¬ (lo1 ≤ us ∧ us < hi1)) : NTx N ea t lo1 hi1 as :=
  NTx.df c t lo1 hi1 as (fun x i x1 x2 => ⟨fun q => by unfold pCk at q; omega, fun q => q, fun q => by unfold rCk at q; omega⟩) h
theorem E_ckBin {o : Int32} {x y : Ex} (hr : InC r B v1 us S Z ea de hh) (hS : S.ok) (h : CX M B v1 us S Z ea de) (g : (Ex.bin p o x y).gd) (hx : x.ht ≤ hh) (hy : y.ht ≤ hh) (hB : B ≤ lo) (hu : ¬ (lo ≤ us ∧ us < hi)) (hn : NEx M B (.bin p o x y) lo hi [a]) : RC M ea lo hi us (x.nn + y.nn + 1) [a] (F_X34_check_o r M a v1) (ck S (.bin p o x y)) := by
  obtain ⟨a', c, d, m1, m2, q1, nx, ny, ⟨l1, l2, l3, l4⟩, ⟨n1, n2', n3, n4⟩, n5, n6, n7⟩ := hn
  cases q1
  obtain ⟨c', tc, pc, q2, tc1, ⟨tc2, tc3, -⟩, -, -⟩ := NEx.one x g.2.1.2 nx
  cases q2
  have cB := h.2.2.1.2.2.1
  have anu : a ≠ us := fun q => hu (by omega)
  unfold F_X34_check_o
  rw [gr_of n2' (show x_fr 35 2241 = true by decide), n6, Option.bind_some, vg_of tc3 (nd_fi tc1).2.2.2.1, Option.bind_some]
  show RC M ea lo hi us (x.nn + y.nn + 1) [a] _ (cthen (ck S x) fun t => cthen (ck S y) fun u => oft p (ckB o t u))
  refine RC.th (CF.refl M lo hi us) (nn0 := 0) (Nat.le_refl _) (Nat.le_refl _) (hr x M lo m1 c g.2.1.1 g.2.1.2 hx h hB (by omega) nx) (Nat.le_refl _) (by omega) (by omega) (fun t N ht c1 c2 r1 r2 nt u1 => ?_)
  obtain ⟨k1, k2, k3⟩ := c1.at1 n1 (by omega) anu
  have tN : m_tg N a = 35 := k1.trans n2'
  have hN := h.cf c2 hB
  have nyN : NEx N B y m1 m2 [d] := ny.cf c1 cB (Or.inl (Nat.le_refl _)) (by omega)
  obtain ⟨d', td, pd, q3, td1, ⟨td2, td3, -⟩, -, -⟩ := NEx.one y g.2.2.2 nyN
  cases q3
  rw [gr_of tN (show x_fr 35 2242 = true by decide), k3, n7, Option.bind_some, vg_of td3 (nd_fi td1).2.2.2.1, Option.bind_some]
  refine RC.th c2 (nn0 := 0 + x.nn) r1 r2 (hr y N m1 m2 d g.2.2.1 g.2.2.2 hy hN (by omega) (by omega) nyN) l1 (by omega) (by omega) (fun u O hu' c3 c4 s1 s2 nu u2 => ?_)
  have n1N : a < m_nx N := Nat.lt_of_lt_of_le n1 c2.1
  obtain ⟨j1, j2, j3⟩ := c3.at1 n1N (by omega) anu
  have tO : m_tg O a = 35 := j1.trans tN
  have hO := h.cf c4 hB
  obtain ⟨hk, tx⟩ := ck_Lk hS g.2.1.1 g.2.1.2 ht
  obtain ⟨hj, ux⟩ := ck_Lk hS g.2.2.1 g.2.2.2 hu'
  have ntO : NTx O ea t lo m1 [c] := nt.cf c3 (Or.inr (Nat.le_refl _)) (by omega)
  obtain ⟨c', tt, q4, t1, ⟨t2, t3⟩, t4, -⟩ := NTx.one t tx ntO
  cases q4
  obtain ⟨d', uu, q5, w1, ⟨w2, w3⟩, w4, -⟩ := NTx.one u ux nu
  cases q5
  have go : gi O a 2240 = some o := by rw [gi_of tO (show x_fi 35 2240 = true by decide), j2, k2, n5]
  have gc : gr O a 2241 = some c := by rw [gr_of tO (show x_fr 35 2241 = true by decide), j3, k3, n6]
  have gd : gr O a 2242 = some d := by rw [gr_of tO (show x_fr 35 2242 = true by decide), j3, k3, n7]
  have gp : gi O a 1856 = some (iw (p : Int)) := by rw [gi_of tO (show x_fi 35 1856 = true by decide), j2, k2, n3]
  have vc := vg_of t3 (nd_fi t1).2.2.2.1
  have vd := vg_of w3 (nd_fi w1).2.2.2.1
  have glc : gi O c 1857 = some t.ln := by rw [gi_of t3 (nd_fi t1).1, t4]
  have gld : gi O d 1857 = some u.ln := by rw [gi_of w3 (nd_fi w1).1, w4]
  have e67 : ∀ (nu0 wh0 : Bool), F_X34_check_b67 r O (mr wh0) a v1 (mr nu0) = F_X34_check_b93 r O (mr (decide (t.ln = 0 ∧ u.ln = 0))) a v1 (mr nu0) (mr wh0) := fun nu0 wh0 => by
    unfold F_X34_check_b67 F_X34_check_b92
    simp only [gc, vc, E_nTr t3 t1 t4, gd, vd, E_nTr w3 w1 w4, Option.bind_some]
    by_cases q1 : t.ln = 0 <;> by_cases q2 : u.ln = 0 <;> simp only [q1, q2, decide_true, decide_false, and_true, and_false, true_and, false_and] <;> rfl
  have e41 : ∀ nu0 : Bool, F_X34_check_b41 r O (mr nu0) a v1 = F_X34_check_b67 r O (mr (decide (isWk t.ln ∧ isWk u.ln))) a v1 (mr nu0) := fun nu0 => by
    unfold F_X34_check_b41 F_X34_check_b66
    simp only [gc, vc, E_nWh t3 t1 t4 hk, gd, vd, E_nWh w3 w1 w4 hj, Option.bind_some]
    by_cases q1 : isWk t.ln <;> by_cases q2 : isWk u.ln <;> simp only [q1, q2, decide_true, decide_false, and_true, and_false, true_and, false_and] <;> rfl
  have e0 : ((gr O a 2241).bind fun t40 => (vg O t40 29).bind fun _ => (F_X28_isNumber O t40).bind fun z42 => if z42 = 0 then F_X34_check_b40 r O a v1 else (gr O a 2242).bind fun t43 => (vg O t43 29).bind fun _ => (F_X28_isNumber O t43).bind fun z45 => if z45 = 0 then F_X34_check_b40 r O a v1 else F_X34_check_b41 r O 1 a v1) = F_X34_check_b41 r O (mr (decide (isNk t.ln ∧ isNk u.ln))) a v1 := by
    unfold F_X34_check_b40
    simp only [gc, vc, E_nNum t3 t1 t4 hk, gd, vd, E_nNum w3 w1 w4 hj, Option.bind_some]
    by_cases q1 : isNk t.ln <;> by_cases q2 : isNk u.ln <;> simp only [q1, q2, decide_true, decide_false, and_true, and_false, true_and, false_and] <;> rfl
  rw [e0, e41, e67, E_b93 go g.1, ckB_eq g.1]
  generalize hnu : decide (isNk t.ln ∧ isNk u.ln) = nu0
  generalize hwh : decide (isWk t.ln ∧ isWk u.ln) = wh0
  generalize htr : decide (t.ln = 0 ∧ u.ln = 0) = tr0
  cases hgd : gdB o nu0 wh0 tr0 with
  | false =>
    rw [if_neg (show ¬ false = true by decide)]
    unfold F_X34_check_b206
    rw [if_pos (show mr false = 0 by decide), gp, Option.bind_some]
    exact RC.err c4 (by omega) (by omega) (hO.wrong _)
  | true =>
    rw [if_pos rfl]
    have L4 : Lk 4 := by unfold Lk; decide
    have e206 : F_X34_check_b206 r O a v1 (mr nu0) (mr wh0) (mr (decide (isSh o))) (mr true) = F_X34_check_b265 r O a (inB o nu0 t.ln u.ln) a (mr wh0) := by
      unfold F_X34_check_b206 inB
      rw [if_neg (show ¬ mr true = 0 by decide)]
      simp only [gc, gd, glc, gld, x_wider hk hj, x_wider hk L4, Option.bind_some]
      by_cases q : isSh o
      · rw [decide_eq_true q, if_neg (show ¬ mr true = 0 by decide), if_pos q]
      · rw [decide_eq_false q, if_pos (show mr false = 0 by decide), if_neg q]
        cases nu0 <;> rfl
    rw [e206]
    obtain ⟨i, hi'⟩ : ∃ i, i = inB o nu0 t.ln u.ln := ⟨_, rfl⟩
    rw [← hi']
    obtain ⟨W1, e1⟩ : ∃ W1, W1 = wI O a 2243 i := ⟨_, rfl⟩
    have tg1 : m_tg W1 a = 35 := by rw [e1]; exact tO
    have cw1 : CF O W1 lo hi us := by rw [e1]; exact CF.wI i (by omega) l4 (by omega)
    have go1 : gi W1 a 2240 = some o := by rw [gi_of tg1 (show x_fi 35 2240 = true by decide), e1, cI_wI, if_neg (by omega), j2, k2, n5]
    have gi1 : gi W1 a 2243 = some i := by rw [gi_of tg1 (show x_fi 35 2243 = true by decide), e1, cI_wI, if_pos ⟨rfl, rfl⟩]
    have e265 : F_X34_check_b265 r O a i a (mr wh0) = some (.inl (wI W1 a 1857 (laB o wh0 i))) := by
      unfold F_X34_check_b265 F_X34_check_b294 F_X34_check_b290 F_X34_check_b295 F_X34_check_b311 laB
      rw [pi_of i tO (by decide) rfl, Option.bind_some, ← e1]
      simp only [go1, gi1, Option.bind_some, if_neg (show ¬ (1 : Int32) = 0 by decide), if_true, pi_of _ tg1 (show x_wi 35 1857 = true by decide) rfl]
      by_cases q8 : (8 : Int32) < o
      · rw [if_pos q8, if_pos q8]
        by_cases q15 : o < 15
        · rw [if_pos q15, if_pos q15]
        · rw [if_neg q15, if_neg q15]
          cases wh0 <;> rfl
      · rw [if_neg q8, if_neg q8]
    rw [e265]
    obtain ⟨W2, e2⟩ : ∃ W2, W2 = wI W1 a 1857 (laB o wh0 i) := ⟨_, rfl⟩
    rw [← e2]
    have cw2 : CF W1 W2 lo hi us := by rw [e2]; exact CF.wI _ (by omega) l4 (by omega)
    have z1 : m_nx W2 = m_nx O ∧ m_sl W2 = m_sl O := by rw [e2, e1]; exact ⟨rfl, rfl⟩
    have ntW : NTx W2 ea t lo m1 [c] := by rw [e2, e1]; exact (ntO.wI _ (by omega)).wI _ (by omega)
    have nuW : NTx W2 ea u m1 m2 [d] := by rw [e2, e1]; exact (nu.wI _ (by omega)).wI _ (by omega)
    have aO : a < m_nx W2 := by rw [z1.1]; exact Nat.lt_of_lt_of_le n1 c4.1
    have tW : m_tg W2 a = 35 := by rw [e2]; exact tg1
    have f1 : cI W2 a 1857 = laB o wh0 i := by rw [e2, cI_wI, if_pos ⟨rfl, rfl⟩]
    have f2 : cI W2 a 2243 = i := by rw [e2, cI_wI, if_neg (by omega), e1, cI_wI, if_pos ⟨rfl, rfl⟩]
    have f3 : cI W2 a 2240 = o := by rw [e2, cI_wI, if_neg (by omega), e1, cI_wI, if_neg (by omega), j2, k2, n5]
    have f4 : cR W2 a 2241 = c ∧ cR W2 a 2242 = d := by rw [e2, e1]; exact ⟨by show cR O a 2241 = c; rw [j3, k3, n6], by show cR O a 2242 = d; rw [j3, k3, n7]⟩
    have us' : ∀ k, k < 8 → cI W2 us k = if (t.us k || u.us k) = true then 1 else cI M us k := fun k hk => by
      rw [e2, cI_wI, if_neg (by omega), e1, cI_wI, if_neg (by omega), u2 k hk, u1 k hk]
      cases t.us k <;> cases u.us k <;> rfl
    have cc : CF M W2 lo hi us := (c4.trans cw1 (Nat.le_refl _) (Nat.le_refl _)).trans cw2 (Nat.le_refl _) (Nat.le_refl _)
    by_cases sh : o = 18 ∨ o = 19
    · rw [if_pos sh]
      have tr1 : tr0 = true := by unfold gdB at hgd; rw [if_pos sh] at hgd; exact hgd
      have wh1 : wh0 = false := by
        rw [← hwh]
        rw [← htr] at tr1
        have t0 := of_decide_eq_true tr1
        exact decide_eq_false (fun q => by rw [t0.1] at q; exact absurd q.1 (by decide))
      have la0 : laB o wh0 i = 0 := by
        rw [wh1]
        rcases sh with rfl | rfl <;> rfl
      exact ⟨W2, rfl, cc, by omega, by omega, ⟨a, c, d, m1, m2, rfl, ntW, nuW, ⟨l1, l2, l3, l4⟩, ⟨aO, tW⟩, by rw [f1, la0], f3, f4.1, f4.2⟩, us'⟩
    · rw [if_neg sh]
      exact ⟨W2, rfl, cc, by omega, by omega, ⟨a, c, d, m1, m2, rfl, ntW, nuW, ⟨l1, l2, l3, l4⟩, ⟨aO, tW⟩, f1, f3, f2, f4.1, f4.2⟩, us'⟩
theorem ckD_eq {c x y : Tx} (hx : Lk x.ln) (hy : Lk y.ln) : ckD c x y = if (decide (c.ln = 0) && (decide (isNk x.ln) && decide (isNk y.ln) || decide (x.ln = 0) && decide (y.ln = 0))) = true then some (.cnd (if x.ln = y.ln then x.ln else wdk x.ln y.ln) c x y) else none := by
  unfold ckD
  by_cases h0 : c.ln = 0
  · rw [decide_eq_true h0, Bool.true_and]
    have e : (x.ln = y.ln ∨ (isNk x.ln ∧ isNk y.ln)) ↔ (decide (isNk x.ln) && decide (isNk y.ln) || decide (x.ln = 0) && decide (y.ln = 0)) = true := by
      simp only [Bool.or_eq_true, Bool.and_eq_true, decide_eq_true_eq]
      constructor
      · rintro (q | q)
        · by_cases z : x.ln = 0
          · exact Or.inr ⟨z, q ▸ z⟩
          · exact Or.inl ⟨Lk_Nk hx z, q ▸ Lk_Nk hx z⟩
        · exact Or.inl q
      · rintro (q | q)
        · exact Or.inr q
        · exact Or.inl (q.1.trans q.2.symm)
    by_cases q : x.ln = y.ln ∨ (isNk x.ln ∧ isNk y.ln)
    · rw [if_pos ⟨h0, q⟩, if_pos (e.mp q)]
    · rw [if_neg (fun w => q w.2), if_neg (fun w => q (e.mpr w))]
  · rw [decide_eq_false h0, Bool.false_and, if_neg (fun q => h0 q.1), if_neg (by decide)]
theorem E_ckCnd {x y z : Ex} (hr : InC r B v1 us S Z ea de hh) (hS : S.ok) (h : CX M B v1 us S Z ea de) (g : (Ex.cnd p z x y).gd) (hz : z.ht ≤ hh) (hx : x.ht ≤ hh) (hy : y.ht ≤ hh) (hB : B ≤ lo) (hu : ¬ (lo ≤ us ∧ us < hi)) (hn : NEx M B (.cnd p z x y) lo hi [a]) : RC M ea lo hi us (z.nn + x.nn + y.nn + 1) [a] (F_X35_check_o r M a v1) (ck S (.cnd p z x y)) := by
  obtain ⟨a', b, c, d, m0, m1, m2, q1, nz, nx, ny, ⟨l1, l2, l3, l4, l5⟩, ⟨n1, n2', n3, n4⟩, n5, n6, n7⟩ := hn
  cases q1
  obtain ⟨b', tb', pb, q2, tb1, ⟨tb2, tb3, -⟩, -, -⟩ := NEx.one z g.1.2 nz
  cases q2
  have cB := h.2.2.1.2.2.1
  have anu : a ≠ us := fun q => hu (by omega)
  unfold F_X35_check_o
  rw [gr_of n2' (show x_fr 36 2304 = true by decide), n5, Option.bind_some, vg_of tb3 (nd_fi tb1).2.2.2.1, Option.bind_some]
  show RC M ea lo hi us (z.nn + x.nn + y.nn + 1) [a] _ (cthen (ck S z) fun s => cthen (ck S x) fun t => cthen (ck S y) fun u => oft p (ckD s t u))
  refine RC.th (CF.refl M lo hi us) (nn0 := 0) (Nat.le_refl _) (Nat.le_refl _) (hr z M lo m0 b g.1.1 g.1.2 hz h hB (by omega) nz) (Nat.le_refl _) (by omega) (by omega) (fun s N hs c1 c2 r1 r2 ns u1 => ?_)
  obtain ⟨k1, k2, k3⟩ := c1.at1 n1 (by omega) anu
  have tN : m_tg N a = 36 := k1.trans n2'
  have hN := h.cf c2 hB
  have nxN : NEx N B x m0 m1 [c] := nx.cf c1 cB (Or.inl (Nat.le_refl _)) (by omega)
  have nyN : NEx N B y m1 m2 [d] := ny.cf c1 cB (Or.inl (by omega)) (by omega)
  obtain ⟨c', tc', pc, q3, tc1, ⟨tc2, tc3, -⟩, -, -⟩ := NEx.one x g.2.1.2 nxN
  cases q3
  rw [gr_of tN (show x_fr 36 2305 = true by decide), k3, n6, Option.bind_some, vg_of tc3 (nd_fi tc1).2.2.2.1, Option.bind_some]
  refine RC.th c2 (nn0 := 0 + z.nn) r1 r2 (hr x N m0 m1 c g.2.1.1 g.2.1.2 hx hN (by omega) (by omega) nxN) l1 (by omega) (by omega) (fun t O ht c3 c4 s1 s2 nt u2 => ?_)
  have n1N : a < m_nx N := Nat.lt_of_lt_of_le n1 c2.1
  obtain ⟨j1, j2, j3⟩ := c3.at1 n1N (by omega) anu
  have tO : m_tg O a = 36 := j1.trans tN
  have hO := h.cf c4 hB
  have cBN := hN.2.2.1.2.2.1
  have nyO : NEx O B y m1 m2 [d] := nyN.cf c3 cBN (Or.inl (Nat.le_refl _)) (by omega)
  obtain ⟨d', td', pd, q4, td1, ⟨td2, td3, -⟩, -, -⟩ := NEx.one y g.2.2.2 nyO
  cases q4
  rw [gr_of tO (show x_fr 36 2306 = true by decide), j3, k3, n7, Option.bind_some, vg_of td3 (nd_fi td1).2.2.2.1, Option.bind_some]
  refine RC.th c4 (nn0 := 0 + z.nn + x.nn) s1 s2 (hr y O m1 m2 d g.2.2.1 g.2.2.2 hy hO (by omega) (by omega) nyO) (by omega) (by omega) (by omega) (fun u P hu' c5 c6 v1' v2 nu u3 => ?_)
  have n1O : a < m_nx O := Nat.lt_of_lt_of_le n1 c4.1
  obtain ⟨i1, i2, i3⟩ := c5.at1 n1O (by omega) anu
  have tP : m_tg P a = 36 := i1.trans tO
  have hP := h.cf c6 hB
  obtain ⟨hks, sx⟩ := ck_Lk hS g.1.1 g.1.2 hs
  obtain ⟨hk, tx⟩ := ck_Lk hS g.2.1.1 g.2.1.2 ht
  obtain ⟨hj, ux⟩ := ck_Lk hS g.2.2.1 g.2.2.2 hu'
  have nsP : NTx P ea s lo m0 [b] := (ns.cf c3 (Or.inr (Nat.le_refl _)) (by omega)).cf c5 (Or.inr (by omega)) (by omega)
  have ntP : NTx P ea t m0 m1 [c] := nt.cf c5 (Or.inr (Nat.le_refl _)) (by omega)
  obtain ⟨b', ss, q5, e1, ⟨e2, e3⟩, e4, -⟩ := NTx.one s sx nsP
  cases q5
  obtain ⟨c', tt, q6, t1, ⟨t2, t3⟩, t4, -⟩ := NTx.one t tx ntP
  cases q6
  obtain ⟨d', uu, q7, w1, ⟨w2, w3⟩, w4, -⟩ := NTx.one u ux nu
  cases q7
  have gb : gr P a 2304 = some b := by rw [gr_of tP (show x_fr 36 2304 = true by decide), i3, j3, k3, n5]
  have gc : gr P a 2305 = some c := by rw [gr_of tP (show x_fr 36 2305 = true by decide), i3, j3, k3, n6]
  have gd : gr P a 2306 = some d := by rw [gr_of tP (show x_fr 36 2306 = true by decide), i3, j3, k3, n7]
  have gp : gi P a 1856 = some (iw (p : Int)) := by rw [gi_of tP (show x_fi 36 1856 = true by decide), i2, j2, k2, n3]
  have vb := vg_of e3 (nd_fi e1).2.2.2.1
  have vc := vg_of t3 (nd_fi t1).2.2.2.1
  have vd := vg_of w3 (nd_fi w1).2.2.2.1
  have glc : gi P c 1857 = some t.ln := by rw [gi_of t3 (nd_fi t1).1, t4]
  have gld : gi P d 1857 = some u.ln := by rw [gi_of w3 (nd_fi w1).1, w4]
  have e0 : ((gr P a 2304).bind fun t31 => (vg P t31 29).bind fun _ => (F_X28_isTruth P t31).bind fun z33 => if z33 = 0 then F_X35_check_b78 r P a v1 else (gr P a 2305).bind fun t34 => (vg P t34 29).bind fun _ => (F_X28_isNumber P t34).bind fun z36 => if z36 = 0 then F_X35_check_b54 r P a v1 else (gr P a 2306).bind fun t37 => (vg P t37 29).bind fun _ => (F_X28_isNumber P t37).bind fun z39 => if z39 = 0 then F_X35_check_b54 r P a v1 else F_X35_check_b74 r P a v1) = F_X35_check_b79 r P (mr (decide (s.ln = 0) && (decide (isNk t.ln) && decide (isNk u.ln) || decide (t.ln = 0) && decide (u.ln = 0)))) a v1 := by
    unfold F_X35_check_b78 F_X35_check_b54 F_X35_check_b74 F_X35_check_b78
    simp only [gb, vb, E_nTr e3 e1 e4, gc, vc, E_nNum t3 t1 t4 hk, gd, vd, E_nNum w3 w1 w4 hj, E_nTr t3 t1 t4, E_nTr w3 w1 w4, Option.bind_some]
    cases decide (s.ln = 0) <;> cases decide (isNk t.ln) <;> cases decide (isNk u.ln) <;> cases decide (t.ln = 0) <;> cases decide (u.ln = 0) <;> rfl
  rw [e0, ckD_eq hk hj]
  cases hgd : (decide (s.ln = 0) && (decide (isNk t.ln) && decide (isNk u.ln) || decide (t.ln = 0) && decide (u.ln = 0))) with
  | false =>
    rw [if_neg (show ¬ false = true by decide)]
    unfold F_X35_check_b79
    rw [if_pos (show mr false = 0 by decide), gp, Option.bind_some]
    exact RC.err c6 (by omega) (by omega) (hP.wrong _)
  | true =>
    rw [if_pos rfl]
    have e79 : F_X35_check_b79 r P (mr true) a v1 = some (.inl (wI P a 1857 (if t.ln = u.ln then t.ln else wdk t.ln u.ln))) := by
      unfold F_X35_check_b79 F_X35_check_b138
      rw [if_neg (show ¬ mr true = 0 by decide)]
      simp only [gc, gd, glc, gld, x_wider hk hj, pi_of _ tP (show x_wi 36 1857 = true by decide) rfl, Option.bind_some]
      by_cases q : t.ln = u.ln
      · rw [if_pos q, if_pos q]
      · rw [if_neg q, if_neg q]
    rw [e79]
    obtain ⟨l, hl⟩ : ∃ l, l = (if t.ln = u.ln then t.ln else wdk t.ln u.ln) := ⟨_, rfl⟩
    rw [← hl]
    have cw : CF P (wI P a 1857 l) lo hi us := CF.wI l (by omega) l5 (by omega)
    refine ⟨wI P a 1857 l, rfl, c6.trans cw (Nat.le_refl _) (Nat.le_refl _), by show m_nx P ≤ _; omega, by show m_sl P + 1 ≤ _; omega, ⟨a, b, c, d, m0, m1, m2, rfl, nsP.wI l (by omega), ntP.wI l (by omega), nu.wI l (by omega), ⟨l1, l2, l3, l4, l5⟩, ⟨Nat.lt_of_lt_of_le n1 c6.1, tP⟩, ?_, ?_, ?_, ?_⟩, fun k hk => ?_⟩
    · rw [cI_wI, if_pos ⟨rfl, rfl⟩]
    · show cR P a 2304 = b; rw [i3, j3, k3, n5]
    · show cR P a 2305 = c; rw [i3, j3, k3, n6]
    · show cR P a 2306 = d; rw [i3, j3, k3, n7]
    · show _ = if (s.us k || (t.us k || u.us k)) = true then 1 else _
      rw [cI_wI, if_neg (by omega), u3 k hk, u2 k hk, u1 k hk]
      cases s.us k <;> cases t.us k <;> cases u.us k <;> rfl
end
