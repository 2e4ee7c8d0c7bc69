/-! ===== FORMULAS, 54: the engine checks what stands ahead, casts, what stands between ===== -/
def InC (r : Mem → Nat → Nat → Option (Mem ⊕ (Nat × Mem))) (B v1 us : Nat) (S : Sc) (Z : Nat → Prop) (ea : List Nat) (de h : Nat) : Prop :=
  ∀ (e : Ex) (M : Mem) (lo hi a : Nat), e.gd → e.isx → e.ht ≤ h → CX M B v1 us S Z ea de → B ≤ lo → ¬ (lo ≤ us ∧ us < hi) → NEx M B e lo hi [a] → RC M ea lo hi us e.nn [a] (r M a v1) (ck S e)
theorem NTx.wI {M : Mem} {ea as : List Nat} {t : Tx} {lo m a i : Nat} (v : Int32) (h : NTx M ea t lo m as) (ha : m ≤ a) : NTx (wI M a i v) ea t lo m as :=
  NTx.df (P := fun x _ => x = a) (Q := n2) (R := n2) (Df.wI v rfl) t lo m as (fun x i h1 h2 => ⟨fun q => by omega, fun q => q, fun q => q⟩) h
section
variable {M N : Mem} {B v1 us lo hi de a p hh : Nat} {S : Sc} {Z : Nat → Prop} {ea : List Nat} {w : List Int32} {r : Mem → Nat → Nat → Option (Mem ⊕ (Nat × Mem))}
theorem ck_Lk (hS : S.ok) {e : Ex} {t : Tx} (g : e.gd) (x : e.isx) (h : ck S e = .inr t) : Lk t.ln ∧ t.isx := by
  obtain ⟨h1, h2, -⟩ := ck_wt hS e t g h
  exact ⟨wt_Lk (fun k hk => (hS.1.1 k hk).2.2.2.1) t h1 (h2 x), h2 x⟩
/-- a cell that a check leaves alone -/
theorem CF.at1 {lo1 hi1 : Nat} (c : CF M N lo1 hi1 us) (ha : a < m_nx M) (h1 : ¬ (lo1 ≤ a ∧ a < hi1)) (h2 : a ≠ us) : m_tg N a = m_tg M a ∧ (∀ i, cI N a i = cI M a i) ∧ (∀ i, cR N a i = cR M a i) := by
  refine ⟨(c.2.2 a ha).1, fun i => c.cI ha (fun q => ?_), fun i => c.cR ha (fun q => ?_)⟩
  · unfold pCk at q; omega
  · unfold rCk at q; omega
theorem E_ckPre {s : Int32} {e : Ex} (hr : InC r B v1 us S Z ea de hh) (hS : S.ok) (h : CX M B v1 us S Z ea de) (g : (Ex.pre p s e).gd) (hh' : e.ht ≤ hh) (hB : B ≤ lo) (hu : ¬ (lo ≤ us ∧ us < hi)) (hn : NEx M B (.pre p s e) lo hi [a]) : RC M ea lo hi us (e.nn + 1) [a] (F_X29_check_o r M a v1) (ck S (.pre p s e)) := by
  obtain ⟨a', c, m, q1, ne, ⟨l1, l2, l3⟩, ⟨n1, n2', n3, n4⟩, n5, n6⟩ := hn
  cases q1
  obtain ⟨c', tc, pc, q2, tc1, ⟨tc2, tc3, -⟩, l4, l5⟩ := NEx.one e g.2.2 ne
  cases q2
  have anu : a ≠ us := fun q => hu (by omega)
  unfold F_X29_check_o
  rw [gr_of n2' (show x_fr 30 1921 = true by decide), n6, Option.bind_some, vg_of tc3 (nd_fi tc1).2.2.2.1, Option.bind_some]
  show RC M ea lo hi us (e.nn + 1) [a] _ (cthen (ck S e) fun t => oft p (ckP s t))
  refine RC.th (CF.refl M lo hi us) (nn0 := 0) (Nat.le_refl _) (Nat.le_refl _) (hr e M lo m c g.2.1 g.2.2 hh' h hB (by omega) ne) (Nat.le_refl _) (by omega) (by omega) (fun t N ht c1 c2 r1 r2 nt u1 => ?_)
  obtain ⟨hk, tx⟩ := ck_Lk hS g.2.1 g.2.2 ht
  obtain ⟨k1, k2, k3⟩ := c1.at1 n1 (by omega) anu
  have tN : m_tg N a = 30 := k1.trans n2'
  obtain ⟨c', tt, q3, t1, ⟨t2, t3⟩, t4, -⟩ := NTx.one t tx nt
  cases q3
  have hN := h.cf c2 hB
  have gs : gi N a 1920 = some s := by rw [gi_of tN (show x_fi 30 1920 = true by decide), k2, n5]
  have gr1 : gr N a 1921 = some c := by rw [gr_of tN (show x_fr 30 1921 = true by decide), k3, n6]
  have gp : gi N a 1856 = some (iw (p : Int)) := by rw [gi_of tN (show x_fi 30 1856 = true by decide), k2, n3]
  have vc := vg_of t3 (nd_fi t1).2.2.2.1
  have gl : gi N c 1857 = some t.ln := by rw [gi_of t3 (nd_fi t1).1, t4]
  have bad : RC M ea lo hi us (e.nn + 1) [a] (F_X29_check_b53 r N 0 a v1) (.inl p) := by
    unfold F_X29_check_b53
    rw [if_pos rfl, gp, Option.bind_some]
    exact RC.err c2 (by omega) (by omega) (hN.wrong _)
  have good : ∀ (s' l' : Int32), s' = s → RC M ea lo hi us (e.nn + 1) [a] (F_X29_check_b92 r N a l') (.inr (.pre s' l' t)) := fun s' l' hs' => by
    unfold F_X29_check_b92
    rw [pi_of l' tN (show x_wi 30 1857 = true by decide) rfl, Option.bind_some]
    have cw : CF N (wI N a 1857 l') lo hi us := CF.wI l' (by omega) l3 (by omega)
    refine ⟨wI N a 1857 l', rfl, c2.trans cw (Nat.le_refl _) (Nat.le_refl _), by show m_nx N ≤ _; omega, by show m_sl N + 1 ≤ _; omega, ⟨a, c, m, rfl, nt.wI l' l2, ⟨l1, l2, l3⟩, ⟨Nat.lt_of_lt_of_le n1 c2.1, tN⟩, ?_, ?_, ?_⟩, fun k hk => ?_⟩
    · rw [cI_wI, if_pos ⟨rfl, rfl⟩]
    · rw [cI_wI, if_neg (by omega), k2, n5, hs']
    · show cR N a 1921 = c
      rw [k3, n6]
    · show _ = if t.us k = true then 1 else _
      rw [cI_wI, if_neg (by omega), u1 k hk]
  rw [gs, Option.bind_some]
  unfold ckP
  by_cases s1 : s = 33
  · rw [if_pos s1, if_pos s1, gr1, Option.bind_some, vc, Option.bind_some, E_nTr t3 t1 t4, Option.bind_some]
    by_cases q : t.ln = 0
    · rw [decide_eq_true q, if_pos q]
      unfold F_X29_check_b53
      rw [if_neg (show ¬ mr true = 0 by decide), gs, Option.bind_some, if_pos s1]
      exact good 33 0 s1.symm
    · rw [decide_eq_false q, if_neg q]
      exact bad
  rw [if_neg s1, if_neg s1, Option.bind_some]
  have L4 : Lk 4 := by unfold Lk; decide
  by_cases s2 : s = 126
  · rw [if_pos s2, if_pos s2, gr1, Option.bind_some, vc, Option.bind_some, E_nWh t3 t1 t4 hk, Option.bind_some]
    by_cases q : isWk t.ln
    · rw [decide_eq_true q, if_pos q]
      unfold F_X29_check_b53
      rw [if_neg (show ¬ mr true = 0 by decide), gs, Option.bind_some, if_neg s1, gr1, Option.bind_some, gl, Option.bind_some, x_wider hk L4, Option.bind_some]
      exact good 126 _ s2.symm
    · rw [decide_eq_false q, if_neg q]
      exact bad
  · have s3 : s = 45 := by
      rcases g.1 with q | q | q
      · exact q
      · exact (s1 q).elim
      · exact (s2 q).elim
    rw [if_neg s2, if_neg s2, gr1, Option.bind_some, vc, Option.bind_some, E_nNum t3 t1 t4 hk, Option.bind_some]
    by_cases q : isNk t.ln
    · rw [decide_eq_true q, if_pos q]
      unfold F_X29_check_b53
      rw [if_neg (show ¬ mr true = 0 by decide), gs, Option.bind_some, if_neg s1, gr1, Option.bind_some, gl, Option.bind_some, x_wider hk L4, Option.bind_some]
      exact good 45 _ s3.symm
    · rw [decide_eq_false q, if_neg q]
      exact bad
theorem E_ckCst {l : Int32} {e : Ex} (hr : InC r B v1 us S Z ea de hh) (hS : S.ok) (h : CX M B v1 us S Z ea de) (g : (Ex.cst p l e).gd) (hh' : e.ht ≤ hh) (hB : B ≤ lo) (hu : ¬ (lo ≤ us ∧ us < hi)) (hn : NEx M B (.cst p l e) lo hi [a]) : RC M ea lo hi us (e.nn + 1) [a] (F_X33_check_o r M a v1) (ck S (.cst p l e)) := by
  obtain ⟨a', c, m, q1, ne, ⟨l1, l2, l3⟩, ⟨n1, n2', n3, n4⟩, n5, n6⟩ := hn
  cases q1
  obtain ⟨c', tc, pc, q2, tc1, ⟨tc2, tc3, -⟩, l4, l5⟩ := NEx.one e g.2.2 ne
  cases q2
  have anu : a ≠ us := fun q => hu (by omega)
  unfold F_X33_check_o
  rw [gr_of n2' (show x_fr 34 2176 = true by decide), n6, Option.bind_some, vg_of tc3 (nd_fi tc1).2.2.2.1, Option.bind_some]
  show RC M ea lo hi us (e.nn + 1) [a] _ (cthen (ck S e) fun t => oft p (ckC l t))
  refine RC.th (CF.refl M lo hi us) (nn0 := 0) (Nat.le_refl _) (Nat.le_refl _) (hr e M lo m c g.2.1 g.2.2 hh' h hB (by omega) ne) (Nat.le_refl _) (by omega) (by omega) (fun t N ht c1 c2 r1 r2 nt u1 => ?_)
  obtain ⟨hk, tx⟩ := ck_Lk hS g.2.1 g.2.2 ht
  obtain ⟨k1, k2, k3⟩ := c1.at1 n1 (by omega) anu
  have tN : m_tg N a = 34 := k1.trans n2'
  obtain ⟨c', tt, q3, t1, ⟨t2, t3⟩, t4, -⟩ := NTx.one t tx nt
  cases q3
  have hN := h.cf c2 hB
  have gs : gi N a 1857 = some l := by rw [gi_of tN (show x_fi 34 1857 = true by decide), k2, n5]
  have gr1 : gr N a 2176 = some c := by rw [gr_of tN (show x_fr 34 2176 = true by decide), k3, n6]
  have gp : gi N a 1856 = some (iw (p : Int)) := by rw [gi_of tN (show x_fi 34 1856 = true by decide), k2, n3]
  have vc := vg_of t3 (nd_fi t1).2.2.2.1
  have gl : gi N c 1857 = some t.ln := by rw [gi_of t3 (nd_fi t1).1, t4]
  have bad : RC M ea lo hi us (e.nn + 1) [a] (F_X33_check_b39 r N a v1) (.inl p) := by
    unfold F_X33_check_b39
    rw [gp, Option.bind_some]
    exact RC.err c2 (by omega) (by omega) (hN.wrong _)
  have good : RC M ea lo hi us (e.nn + 1) [a] (F_X33_check_b48 r N) (.inr (.cst l t)) := by
    refine ⟨N, rfl, c2, by omega, by omega, ⟨a, c, m, rfl, nt, ⟨l1, l2, l3⟩, ⟨Nat.lt_of_lt_of_le n1 c2.1, tN⟩, by rw [k2, n5], by rw [k3, n6]⟩, fun k hk => u1 k hk⟩
  have ng : ¬ (l = t.ln) → ckC l t = if isNk t.ln ∧ isNk l then some (.cst l t) else none := fun q => by
    unfold ckC
    by_cases q2 : isNk t.ln ∧ isNk l
    · rw [if_pos (Or.inr q2), if_pos q2]
    · rw [if_neg (fun w => w.elim (fun z => q z.symm) q2), if_neg q2]
  rw [gs, Option.bind_some, gr1, Option.bind_some, gl, Option.bind_some]
  by_cases s1 : l = t.ln
  · rw [if_pos s1]
    unfold ckC
    rw [if_pos (Or.inl s1.symm)]
    exact good
  rw [if_neg s1, ng s1, vg_of tN (show x_isa 34 34 = true by decide), Option.bind_some, E_nNum tN (by omega) (show cI N a 1857 = l by rw [k2, n5]) g.1, Option.bind_some]
  by_cases s2 : isNk l
  · rw [decide_eq_true s2, if_neg (show ¬ mr true = 0 by decide), Option.bind_some, vc, Option.bind_some, E_nNum t3 t1 t4 hk, Option.bind_some]
    by_cases s3 : isNk t.ln
    · rw [decide_eq_true s3, if_neg (show ¬ mr true = 0 by decide), if_pos ⟨s3, s2⟩]
      exact good
    · rw [decide_eq_false s3, if_pos (show mr false = 0 by decide), if_neg (fun q => s3 q.1)]
      exact bad
  · rw [decide_eq_false s2, if_pos (show mr false = 0 by decide), if_neg (fun q => s2 q.2)]
    exact bad
end
/-! what stands between -/
def gdB (o : Int32) (nu wh tr : Bool) : Bool := if o = 18 ∨ o = 19 then tr else if isSh o then wh else if o ≤ 12 then nu else if o ≤ 14 then nu || tr else wh || tr
def inB (o : Int32) (nu : Bool) (k j : Int32) : Int32 := if isSh o then wdk k 4 else if nu = true then wdk k j else 0
def laB (o : Int32) (wh : Bool) (i : Int32) : Int32 := if (8 : Int32) < o then (if o < 15 then 0 else if wh = true then i else 0) else i
theorem op_fact {o : Int32} (h : 1 ≤ o ∧ o ≤ 19) : ((isSh o ∨ o ≤ 5) → ¬ (8 : Int32) < o) ∧ (¬ isSh o → ¬ o ≤ 5 → (8 : Int32) < o) ∧ (o ≤ 14 → o < 15) ∧ (¬ o ≤ 14 → ¬ o < 15) ∧ (o ≤ 5 → o ≤ 12) ∧ (o ≤ 12 → o ≤ 14) := by
  rcases op_cases h.1 h.2 with rfl | rfl | rfl | rfl | rfl | rfl | rfl | rfl | rfl | rfl | rfl | rfl | rfl | rfl | rfl | rfl | rfl | rfl | rfl <;> decide
theorem ckB_eq {o : Int32} {x y : Tx} (h : 1 ≤ o ∧ o ≤ 19) : ckB o x y = if gdB o (decide (isNk x.ln ∧ isNk y.ln)) (decide (isWk x.ln ∧ isWk y.ln)) (decide (x.ln = 0 ∧ y.ln = 0)) = true then (if o = 18 ∨ o = 19 then some (.sho o x y) else some (.bin o (inB o (decide (isNk x.ln ∧ isNk y.ln)) x.ln y.ln) (laB o (decide (isWk x.ln ∧ isWk y.ln)) (inB o (decide (isNk x.ln ∧ isNk y.ln)) x.ln y.ln)) x y)) else none := by
  have e1 : (isWk x.ln ∧ isWk y.ln) → (isNk x.ln ∧ isNk y.ln) := fun q => ⟨Wk_Nk q.1, Wk_Nk q.2⟩
  have e2 : (x.ln = 0 ∧ y.ln = 0) → ¬ (isNk x.ln ∧ isNk y.ln) := fun q w => by rw [q.1] at w; exact absurd w.1 (by decide)
  have e3 : (x.ln = 0 ∧ y.ln = 0) → ¬ (isWk x.ln ∧ isWk y.ln) := fun q w => e2 q (e1 w)
  obtain ⟨f1, f2, f3, f4, f5, f6⟩ := op_fact h
  unfold ckB gdB inB laB
  by_cases q1 : o = 18 ∨ o = 19
  · simp only [if_pos q1]
    by_cases ht : x.ln = 0 ∧ y.ln = 0
    · rw [if_pos ht, decide_eq_true ht, if_pos rfl]
    · rw [if_neg ht, decide_eq_false ht, if_neg (by decide)]
  simp only [if_neg q1]
  by_cases q2 : isSh o
  · simp only [if_pos q2, if_neg (f1 (Or.inl q2))]
    by_cases hw : isWk x.ln ∧ isWk y.ln
    · rw [if_pos hw, decide_eq_true hw, if_pos rfl]
    · rw [if_neg hw, decide_eq_false hw, if_neg (by decide)]
  simp only [if_neg q2]
  by_cases q3 : o ≤ 5
  · simp only [if_pos q3, if_pos (f5 q3), if_neg (f1 (Or.inr q3))]
    by_cases hn : isNk x.ln ∧ isNk y.ln
    · rw [if_pos hn, decide_eq_true hn, if_pos rfl, if_pos rfl]
    · rw [if_neg hn, decide_eq_false hn, if_neg (show ¬ false = true by decide)]
  simp only [if_neg q3, if_pos (f2 q2 q3)]
  by_cases q4 : o ≤ 12
  · simp only [if_pos q4, if_pos (f3 (f6 q4))]
    by_cases hn : isNk x.ln ∧ isNk y.ln
    · rw [if_pos hn, decide_eq_true hn, if_pos rfl, if_pos rfl]
    · rw [if_neg hn, decide_eq_false hn, if_neg (show ¬ false = true by decide)]
  simp only [if_neg q4]
  by_cases q5 : o ≤ 14
  · simp only [if_pos q5, if_pos (f3 q5)]
    by_cases hn : isNk x.ln ∧ isNk y.ln
    · rw [if_pos hn, decide_eq_true hn, Bool.true_or, if_pos rfl, if_pos rfl]
    · rw [if_neg hn, decide_eq_false hn, Bool.false_or, if_neg (show ¬ false = true by decide)]
      by_cases ht : x.ln = 0 ∧ y.ln = 0
      · rw [if_pos ht, decide_eq_true ht, if_pos rfl]
      · rw [if_neg ht, decide_eq_false ht, if_neg (by decide)]
  simp only [if_neg q5, if_neg (f4 q5)]
  by_cases hw : isWk x.ln ∧ isWk y.ln
  · rw [if_pos hw, decide_eq_true hw, decide_eq_true (e1 hw), Bool.true_or, if_pos rfl, if_pos rfl, if_pos rfl]
  · rw [if_neg hw, decide_eq_false hw, Bool.false_or, if_neg (show ¬ false = true by decide)]
    by_cases ht : x.ln = 0 ∧ y.ln = 0
    · rw [if_pos ht, decide_eq_true ht, if_pos rfl, decide_eq_false (e2 ht), if_neg (show ¬ false = true by decide)]
    · rw [if_neg ht, decide_eq_false ht, if_neg (by decide)]
theorem E_b93 {M : Mem} {a v1 : Nat} {o : Int32} {r : Mem → Nat → Nat → Option (Mem ⊕ (Nat × Mem))} (g : gi M a 2240 = some o) (h : 1 ≤ o ∧ o ≤ 19) (nu wh tr : Bool) : F_X34_check_b93 r M (mr tr) a v1 (mr nu) (mr wh) = F_X34_check_b206 r M a v1 (mr nu) (mr wh) (mr (decide (isSh o))) (mr (gdB o nu wh tr)) := by
  unfold F_X34_check_b93 F_X34_check_b117 F_X34_check_b118 F_X34_check_b164 F_X34_check_b192 F_X34_check_b169 F_X34_check_b197
  rw [g]
  simp only [Option.bind_some]
  rcases op_cases h.1 h.2 with rfl | rfl | rfl | rfl | rfl | rfl | rfl | rfl | rfl | rfl | rfl | rfl | rfl | rfl | rfl | rfl | rfl | rfl | rfl <;> cases nu <;> cases wh <;> cases tr <;> rfl
