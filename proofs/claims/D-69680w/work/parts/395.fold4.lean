/-! ===== CALLS, 23: folds, the model's lines ===== -/
def pF5 : Nat → Nat → Prop := fun a i => a = 1068 ∧ i = 1115
theorem qt_pF5 : qt pF5 := fun a i q1 q2 => by unfold pF5 at q2; omega
theorem pF5_m : ∀ a i, pp pF5 a i → pp pFm a i := fun a i q => q.imp id (fun q => by unfold pF5 at q; unfold pFm; omega)
theorem K0.ppd {p : Nat → Nat → Prop} {Q : Nat → Nat → Prop} {M N : Mem} (h : K0 M) (h0 : ST M) (d : Df (pp p) Q n2 M N) (hp : ∀ a i, a < 1000 → ¬ p a i) : K0 N := h.df h0 d (fun a i q1 q2 => q2.elim (fun q => by unfold psc at q; omega) (hp a i q1)) (fun _ _ _ q => q)
theorem K0.wk {M N : Mem} (h : K0 M) (h0 : ST M) (d : Df pWk qsc rWk M N) : K0 N := h.df h0 d (fun a i q1 q2 => q2.elim (fun q => by unfold pp psc pFl at q; omega) (fun q => by unfold pNE at q; omega)) (fun a i q1 q2 => q2.elim (fun q => by have := q.1; omega) (fun q => by unfold rE at q; omega))
/-- the model's sizes without an axis -/
theorem M_sizes_loop {B0 : Mem} {o : Nat} {k l w : Int32} {n a : Nat} {z : Nat → Nat} {t : Nat → Int32} {y : Int32} {d : Nat} {p : Int32} (g : GM B0 o k n z t y d p) (hn : n ≤ 4) (ha : a < n) {sa : Nat} (hsa : m_nx B0 ≤ sa) : ∀ (e N i : Nat) (B : Mem), i + e = n - 1 → Df n2 n2 n2 B0 B → m_tg B sa = 1005 → m_ln B sa = n - 1 → sa < m_nx B → (∀ j, j < i → cI B sa j = iw (z (sk a j))) →
    ∃ B', F_X16_fold_b134 (N + e) B 1068 w (iw (a : Int)) o l sa (iw (i : Int)) = F_X16_fold_b134 N B' 1068 w (iw (a : Int)) o l sa (iw ((n - 1 : Nat) : Int)) ∧ Df n2 n2 n2 B0 B' ∧ m_nx B' = m_nx B ∧ m_sl B' = m_sl B ∧ m_tg B' sa = 1005 ∧ m_ln B' sa = n - 1 ∧ ∀ j, j < n - 1 → cI B' sa j = iw (z (sk a j)) := by
  intro e
  induction e with
  | zero =>
    intro N i B hi d1 t1 l1 hs hx
    have : i = n - 1 := by omega
    subst this
    exact ⟨B, rfl, d1, rfl, rfl, t1, l1, hx⟩
  | succ e ih =>
    intro N i B hi d1 t1 l1 hs hx
    have gB := g.df d1 qt_n2 qt_n2
    obtain ⟨A, hA⟩ : ∃ A, A = wI B sa i (iw (z (sk a i))) := ⟨_, rfl⟩
    have dA : Df n2 n2 n2 B0 A := by
      rw [hA]
      exact d1.then (Df.wI (P := at1 sa) (Q := n2) (R := n2) _ rfl) (fun x i h1 h2 => by unfold at1 at h2; omega) (fun _ _ _ q => q) (fun _ _ _ q => q)
    obtain ⟨B', f1, f2, f3, f4, f5⟩ := ih N (i + 1) A (by omega) dA (by rw [hA]; exact t1) (by rw [hA]; exact l1) (by rw [hA]; exact hs) (fun j hj => by
      rw [hA, cI_wI]
      by_cases c : j = i
      · rw [if_pos ⟨rfl, c⟩, c]
      · rw [if_neg (fun q => c q.2)]
        exact hx j (by omega))
    refine ⟨B', ?_, f2, by rw [f3, hA]; rfl, by rw [f4, hA]; rfl, f5⟩
    rw [← f1]
    show F_X16_fold_b134_st (F_X16_fold_b134 (N + e)) B _ _ _ _ _ _ _ = _
    unfold F_X16_fold_b134_st F_X16_fold_b166
    rw [an_of t1 (by decide) l1]
    simp only [Option.bind_some]
    rw [if_pos (by rw [iw_le4 (by omega) (by omega)]; omega), gr_of gB.2.2.1 (show x_fr 23 1473 = true by decide)]
    simp only [Option.bind_some]
    have key : ∀ j : Nat, j = sk a i → j < n → ((ai B (cR B o 1473) (iw (j : Int))).bind fun t29 => (si B sa (iw (i : Int)) t29).bind fun M30 => F_X16_fold_b134 (N + e) M30 1068 w (iw (a : Int)) o l sa (iw (i : Int) + 1)) = F_X16_fold_b134 (N + e) A 1068 w (iw (a : Int)) o l sa (iw ((i + 1 : Nat) : Int)) := by
      intro j hj hj2
      rw [gB.2.2.2.2.1.ai hn hj2]
      simp only [Option.bind_some]
      rw [si_of _ t1 l1 (show i < n - 1 by omega) (by omega)]
      simp only [Option.bind_some, iw_succ]
      rw [hA, hj]
    by_cases c : i < a
    · rw [if_pos (by rw [iw_le4 (by omega) (by omega)]; exact c)]
      exact key i (by unfold sk; rw [if_pos c]) (by omega)
    · rw [if_neg (by rw [iw_le4 (by omega) (by omega)]; exact c), iw_succ]
      have := key (i + 1) (by unfold sk; rw [if_neg c]) (by omega)
      rw [iw_succ] at this
      exact this
/-- a line's cells into a row -/
theorem M_fill_loop {o b : Nat} {k : Int32} {n a : Nat} {z : Nat → Nat} {s t : Nat → Int32} {x y : Int32} {c d L : Nat} {p w l : Int32} {k243 : Mem → Nat → Int32 → Int32 → Nat → Int32 → Nat → Int64 → Int32 → Int32 → Option (Int32 × Mem)} {sa lk : Nat} {Q : Int64} {li : Int32} (ha : a < n) (hk : lk < pw z a n) (hz : ∀ i, i < n → i ≠ a → 0 < z i) (v : Nat → Int64) : ∀ (e N i : Nat) (B : Mem), i + e = z a → ST B → GP B o b k n z s t x y c d L p → cI B 1068 1115 = iw ((n - 1 : Nat) : Int) → (∀ j, j < n - 1 → cI B 1082 j = iw (dg (fun j => z (sk a j)) (n - 1) lk j : Nat)) → (∀ i', i' < z a → cJ B c (gpos n z s x (cn z a i' n lk)) = v i') → (∀ i', i' < i → cJ B 1074 i' = v i') →
    ∃ B', F_X16_fold_b263 k243 (N + e) B 1068 w (iw (a : Int)) b l sa Q (iw (z a : Nat)) li (iw (i : Int)) = F_X16_fold_b263 k243 N B' 1068 w (iw (a : Int)) b l sa Q (iw (z a : Nat)) li (iw (z a : Nat)) ∧ m_nx B' = m_nx B ∧ m_sl B' = m_sl B ∧ Df n2 (at1 1074) n2 B B' ∧ ∀ i', i' < z a → cJ B' 1074 i' = v i' := by
  intro e
  induction e with
  | zero =>
    intro N i B hi sB g h15 hs hv hx
    have : i = z a := by omega
    subst this
    exact ⟨B, rfl, rfl, rfl, Df.refl _ _ _ _, hx⟩
  | succ e ih =>
    intro N i B hi sB g h15 hs hv hx
    have hza := g.2.2.2.2.1 a ha
    have cp := g.2.2.2.2.2.2.2.1
    have hlt : i < z a := by omega
    have hz0 : ∀ j, j < n → 0 < z j := fun j hj => by
      by_cases c : j = a
      · rw [c]; omega
      · exact hz j hj c
    have h0 := sB.1
    obtain ⟨q1, q2, q3⟩ := g.at (cn_lt hlt n lk hz0 hk)
    have hd : Df n2 (at1 1074) n2 B (wJ B 1074 i (v i)) := Df.wJ _ rfl
    have hca : c ≠ 1074 := by have := cp.1; omega
    obtain ⟨B', f1, f2, f3, f4, f5⟩ := ih N (i + 1) (wJ B 1074 i (v i)) (by omega) sB (g.df hd qt_n2 (qt_at1 (by decide)) qt_n2) (by rw [hd.cI (by omega) (fun q => q)]; exact h15) (fun j hj => by rw [hd.cI (by omega) (fun q => q)]; exact hs j hj) (fun i' h' => by rw [cJ_wJ, if_neg (fun hh => hca hh.1)]; exact hv i' h') (fun i' h' => by
      rw [cJ_wJ]
      by_cases e : i' = i
      · rw [if_pos ⟨rfl, e⟩, e]
      · rw [if_neg (fun hh => e hh.2)]
        exact hx i' (by omega))
    refine ⟨B', ?_, f2, f3, hd.trans f4, f5⟩
    rw [← f1]
    show F_X16_fold_b263_st k243 (F_X16_fold_b263 k243 (N + e)) B _ _ _ _ _ _ _ _ _ _ = _
    unfold F_X16_fold_b263_st
    rw [if_pos (by rw [iw_le4 (by omega) (by omega)]; omega)]
    have e1 : cJ B d (gpos n z s x (cn z a i n lk)) = v i := by rw [← (cp.2.2.2.2.2.2.2.2.2 _ q3).1]; exact hv i hlt
    simp only [g1068_1101, v1068, sB, gr_of g.2.1.2.2.1 (show x_fr 23 1476 = true by decide), g.2.1.2.2.2.2.2.2.2.1, M_lineCell sB g ha hk hz0 hlt h15 hs, al_of cp.2.2.2.2.2.1 cp.2.2.2.2.2.2.2.1 q3 (by have := cp.2.2.2.2.2.2.2.2.1; omega), e1, sj_of (v i) (t1074 sB) (l1074 sB) (show i < 100000 by omega) (by decide), iw_succ, Option.bind_some]
theorem M_fold1 {B : Mem} {o b : Nat} {k : Int32} {n a : Nat} {z : Nat → Nat} {s t : Nat → Int32} {x y : Int32} {c d L : Nat} {p w : Int32} {sa : Nat} (sB : ST B) (kB : K0 B) (g : GP B o b k n z s t x y c d L p) (ha : a < n) (hw : Wy w) (ht : foT w k = true) (hc : prd (fun j => z (sk a j)) (n - 1) ≤ 100000) (he : prd (fun j => z (sk a j)) (n - 1) ≠ 0 → ¬ (z a = 0 ∧ (w = 3 ∨ w = 4))) (ir : IRw B sa (n - 1) (fun j => iw (z (sk a j)))) (c17 : cI B 1068 1117 = -1) :
    ∃ B', Df (pp pF5) qsc n2 B B' ∧ m_nx B' ≤ m_nx B + 1 ∧ m_sl B' ≤ m_sl B + 20 ∧
      ((ff (fun i => foAll w k (lnv B c n z s x a i) (z a)) 0 (prd (fun j => z (sk a j)) (n - 1)) = none ∧ F_X16_fold_b243 xN B 1068 w (iw (a : Int)) b (foL w k) sa (nl (prd (fun j => z (sk a j)) (n - 1))) (iw (z a : Nat)) 0 = F_X16_madeIfRoom B' 1068 (foL w k) sa 1073 ∧ cI B' 1068 1117 = -1 ∧ ∀ i, i < prd (fun j => z (sk a j)) (n - 1) → cJ B' 1073 i = (foAll w k (lnv B c n z s x a i) (z a)).getD 0) ∨
       (∃ q, ff (fun i => foAll w k (lnv B c n z s x a i) (z a)) 0 (prd (fun j => z (sk a j)) (n - 1)) = some q ∧ F_X16_fold_b243 xN B 1068 w (iw (a : Int)) b (foL w k) sa (nl (prd (fun j => z (sk a j)) (n - 1))) (iw (z a : Nat)) 0 = F_X16_failsAt B' 1068 8 ∧ cI B' 1068 1115 = iw ((n - 1 : Nat) : Int) ∧ ∀ j, j < n - 1 → cI B' 1082 j = iw (dg (fun j => z (sk a j)) (n - 1) q j : Nat))) := by
  have hn := g.2.2.2.1
  have hk := g.2.2.1
  have hz2 := g.2.2.2.2.1
  have cp := g.2.2.2.2.2.2.2.1
  have hxN : xN = 1099511627776 := rfl
  have hza := hz2 a ha
  have h0 := sB.1
  have hz3 : ∀ j, j < n - 1 → z (sk a j) ≤ 4096 := fun j hj => hz2 _ (by unfold sk; split <;> omega)
  obtain ⟨Q, hQ⟩ : ∃ Q, Q = prd (fun j => z (sk a j)) (n - 1) := ⟨_, rfl⟩
  have hp0 : Q ≠ 0 → ∀ j, j < n - 1 → 0 < z (sk a j) := fun hq => (prd_pos (n - 1)).mp (by rw [← hQ]; exact hq)
  rw [← hQ] at hc he ⊢
  obtain ⟨r, hr⟩ : ∃ r : Nat → Option Int64, r = fun i => foAll w k (lnv B c n z s x a i) (z a) := ⟨_, rfl⟩
  have x64 : x_cn 64 ≤ 20 := by decide
  -- one line
  have line : ∀ N N' i, (Df (pp pF5) qsc n2 B N' ∧ m_nx N' = m_nx B ∧ m_sl N' = m_sl B) → i < Q → ∃ M1, F_X16_fold_b243 (N + 1) N' 1068 w (iw (a : Int)) b (foL w k) sa (nl Q) (iw (z a : Nat)) (iw (i : Int)) = tc (mRes (r i) M1 1068) (fun z16 => (sj z16.2 1073 (iw (i : Int)) z16.1).bind fun M18 => F_X16_fold_b243 N M18 1068 w (iw (a : Int)) b (foL w k) sa (nl Q) (iw (z a : Nat)) (iw (i : Int) + 1)) (fun z17 => F_X16_fold_b327 z17.2 z17.1 1068) ∧ (Df (pp pF5) qsc n2 B M1 ∧ m_nx M1 = m_nx B ∧ m_sl M1 = m_sl B) ∧ ST M1 ∧ (∀ x, cJ M1 1073 x = cJ N' 1073 x) ∧ cI M1 1068 1115 = iw ((n - 1 : Nat) : Int) ∧ ∀ j, j < n - 1 → cI M1 1082 j = iw (dg (fun j => z (sk a j)) (n - 1) i j : Nat) := by
    intro N N' i hJ hi
    obtain ⟨dd, e1', e2'⟩ := hJ
    have sN : ST N' := sB.n dd
    have gN := g.df dd (qt_pp qt_pF5) qt_qsc qt_n2
    have hpos := hp0 (by omega)
    have hp1 := sk_pos (z := z) ha (by rw [← hQ]; omega)
    obtain ⟨U, u1, u2, u3, u4, u5, u6⟩ := M_goTo (x := i) sN (show n - 1 ≤ 4 by omega) (fun j hj => ⟨hpos j hj, hz3 j hj⟩) (ir.df dd (qt_pp qt_pF5)) (by omega)
    have dU : Df (pp pF5) qsc n2 N' U := u4.mono (fun a i q => q.elim (fun q => Or.inl (by unfold psc; omega)) (fun q => Or.inr q)) (fun _ _ q => q.elim) (fun _ _ q => q)
    have sU : ST U := sN.n dU
    have gU := gN.df dU (qt_pp qt_pF5) qt_qsc qt_n2
    have dBU := dd.trans dU
    obtain ⟨N1, hN1⟩ : ∃ N1, N1 + 1 + z a = xN := ⟨xN - 1 - z a, by omega⟩
    obtain ⟨M1, f1, f2, f3, f4, f5⟩ := M_fill_loop (w := w) (l := foL w k) (k243 := F_X16_fold_b243 N) (sa := sa) (Q := nl Q) (li := iw (i : Int)) ha (by rw [pw_n ha, ← hQ]; exact hi) hp1 (lnv B c n z s x a i) (z a) (N1 + 1) 0 U (by omega) sU gU u5 u6 (fun i' hi' => dBU.cJ cp.2.1 (qt_qsc _ _ cp.1)) (fun i' h => by omega)
    rw [hN1] at f1
    have d1 : Df (pp pF5) qsc n2 B M1 := dBU.trans (f4.mono (fun _ _ q => q.elim) (fun a i q => by unfold at1 at q; unfold qsc; omega) (fun _ _ q => q))
    have s1 : ST M1 := sB.n d1
    have g1 := g.df d1 (qt_pp qt_pF5) qt_qsc qt_n2
    have k1 : K0 M1 := kB.ppd sB d1 (fun a i q1 q2 => by unfold pF5 at q2; omega)
    refine ⟨M1, ?_, ⟨d1, by omega, by omega⟩, s1, fun x => ?_, ?_, fun j hj => ?_⟩
    · show F_X16_fold_b243_st (F_X16_fold_b243 N) N' _ _ _ _ _ _ _ _ _ = _
      unfold F_X16_fold_b243_st
      rw [if_pos (by rw [i64_iw (by omega), nl_lt (by omega) (by omega)]; exact hi)]
      simp only [v1068, sN, u1, Option.bind_some]
      refine f1.trans ?_
      show F_X16_fold_b263_st (F_X16_fold_b243 N) (F_X16_fold_b263 (F_X16_fold_b243 N) N1) M1 _ _ _ _ _ _ _ _ _ _ = _
      unfold F_X16_fold_b263_st
      rw [if_neg (by rw [iw_le4 (by omega) (by omega)]; omega)]
      have row : F_X16_foldRow M1 1068 w k (foL w k) 1074 0 (iw (z a : Nat)) = mRes (r i) M1 1068 := by
        rw [hr]
        refine M_foldRow k1 s1 hw hk ht (t1074 s1) (l1074 s1) (Nat.le_refl _) (by omega) (fun i' hi' => ⟨f5 i' hi', ?_⟩) (he (by omega))
        have hz0 : ∀ j, j < n → 0 < z j := fun j hj => by
          by_cases c : j = a
          · rw [c]; omega
          · exact hp1 j hj c
        exact (g.get (cn_lt hi' n i hz0 (by rw [pw_n ha, ← hQ]; exact hi))).1
      simp only [g1068_1100, g1068_1101, v1068, s1, gi_of g1.2.1.2.2.1 (show x_fi 23 1472 = true by decide), g1.2.1.2.2.2.1, row, Option.bind_some]
    · rw [f4.cJ (by omega) (by unfold at1; omega), u4.cJ (by omega) (fun q => q)]
    · rw [f4.cI (by omega) (fun q => q)]
      exact u5
    · rw [f4.cI (by omega) (fun q => q)]
      exact u6 j hj
  obtain ⟨N0, hN0⟩ : ∃ N0, N0 + 1 + Q = xN := ⟨xN - 1 - Q, by omega⟩
  have lM := wloop2 (fun N U i => F_X16_fold_b243 N U 1068 w (iw (a : Int)) b (foL w k) sa (nl Q) (iw (z a : Nat)) i) (fun U i => F_X16_failsAt U 1068 8) 1073 Q r (fun N => Df (pp pF5) qsc n2 B N ∧ m_nx N = m_nx B ∧ m_sl N = m_sl B) (fun i N => (Df (pp pF5) qsc n2 B N ∧ m_nx N ≤ m_nx B + 1 ∧ m_sl N ≤ m_sl B + 20) ∧ cI N 1068 1115 = iw ((n - 1 : Nat) : Int) ∧ ∀ j, j < n - 1 → cI N 1082 j = iw (dg (fun j => z (sk a j)) (n - 1) i j : Nat))
    (fun N N' i v hJ hi hv => by
      obtain ⟨M1, f1, ⟨d1, e1', e2'⟩, s1, f4, -, -⟩ := line N N' i hJ hi
      refine ⟨wJ M1 1073 i v, ?_, ⟨d1.trans (Df.wJ _ (by unfold qsc; omega)), e1', e2'⟩, by rw [cJ_wJ, if_pos ⟨rfl, rfl⟩], fun x hx => by rw [cJ_wJ, if_neg (fun q => by omega), f4]⟩
      rw [hv] at f1
      refine f1.trans ?_
      show tc (some (Sum.inl (v, M1))) _ _ = _
      rw [tc_inl, sj_of v (t1073 s1) (l1073 s1) (show i < 100000 by omega) (by decide)]
      simp only [Option.bind_some, iw_succ])
    (fun N N' i hJ hi hv => by
      obtain ⟨M1, f1, ⟨d1, e1', e2'⟩, s1, f4, f5, f6⟩ := line N N' i hJ hi
      have n1 := d1.1
      have s2 : ST (mT M1 8 (-1)) := s1.n (mT_df M1 8 (-1))
      refine ⟨mT M1 8 (-1), ?_, ⟨d1.trans ((mT_df M1 8 (-1)).mono (fun _ _ q => Or.inl q) (fun _ _ q => q.elim) (fun _ _ q => q)), by show m_nx M1 + 1 ≤ _; omega, by show m_sl M1 + x_cn 64 ≤ _; omega⟩, ?_, fun j hj => ?_⟩
      · rw [hv] at f1
        refine f1.trans ?_
        show tc (mTh M1 1068 8) _ _ = _
        rw [mTh_of s1, tc_inr]
        simp only [F_X16_fold_b327, g1068_1103, g1075_1152, v1068, s2, (mT_c (M := M1) 8 (-1) (by omega)).1, Option.bind_some, bse]
      · rw [(mT_df M1 8 (-1)).cI (by omega) (nsc _)]
        exact f5
      · have : cI (mT M1 8 (-1)) 1082 j = cI M1 1082 j := by
          show cI (m_new (wI (wI M1 1075 1152 8) 1075 1153 (-1)) 64 (x_cn 64)) 1082 j = _
          rw [cI_new, if_neg (by show ¬ 1082 = m_nx M1; omega), cI_wI, if_neg (fun q => absurd q.1 (by decide)), cI_wI, if_neg (fun q => absurd q.1 (by decide))]
        rw [this]
        exact f6 j hj)
    Q (N0 + 1) 0 B (by omega) ⟨Df.refl _ _ _ _, rfl, rfl⟩ (fun x hx => by omega)
  rw [hN0] at lM
  rw [← hr]
  rcases lM with ⟨fn, B', ⟨d1, e1', e2'⟩, run, row⟩ | ⟨q, B', fq, hq, rq, ⟨⟨d1, e1', e2'⟩, f5, f6⟩, run⟩
  · refine ⟨B', d1, by omega, by omega, Or.inl ⟨fn, ?_, ?_, fun i hi => by rw [row i hi, hr]⟩⟩
    · have sB' : ST B' := sB.n d1
      rw [show (0 : Int32) = iw ((0 : Nat) : Int) from rfl, run]
      show F_X16_fold_b243_st (F_X16_fold_b243 N0) B' _ _ _ _ _ _ _ _ _ = _
      unfold F_X16_fold_b243_st
      rw [if_neg (by rw [i64_iw (by omega), nl_lt (by omega) (by omega)]; omega)]
      simp only [g1068_1100, v1068, sB', Option.bind_some, bse]
    · rw [d1.cI (by omega) (fun q => q.elim (nsc _) (fun q => by unfold pF5 at q; omega))]
      exact c17
  · exact ⟨B', d1, e1', e2', Or.inr ⟨q, fq, run, f5, f6⟩⟩
