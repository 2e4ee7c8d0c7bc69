/-! ===== RUNNING FOLDS, 3: the engine line by line ===== -/
section RUN
variable {o b : Nat} {k : Int32} {n : Nat} {z : Nat → Nat} {s t : Nat → Int32} {x y : Int32} {c d L : Nat} {p w av : Int32} {B len H : Nat}
/-- a line into the row of cells -/
theorem E_put_loop {k106 : Mem → Nat → Int32 → Int32 → Nat → Int32 → Int32 → Int32 → Int32 → Int32 → Int32 → Option (Int32 × Mem)} {lk : Nat} {v6 v7 v8 v9 v10 : Int32} (hB : 0 < B) (hlk : lk < H * B) (hcap : H * len * B ≤ 100000)
    (cell : ∀ N, GP N o b k n z s t x y c d L p → ∀ i, i < len → F_X0_cellOf N o av (iw (lk : Int)) (iw (i : Int)) = some (iw (clo B len lk i : Nat))) : ∀ (e N j : Nat) (M : Mem), j + e = len → ST M → GP M o b k n z s t x y c d L p → ∃ M', F_X0_running_b227 k106 (N + e) M 1000 w av o v6 v7 v8 v9 v10 (iw (lk : Int)) (iw (len : Int)) (-1) (iw (j : Int)) = F_X0_running_b227 k106 N M' 1000 w av o v6 v7 v8 v9 v10 (iw (lk : Int)) (iw (len : Int)) (-1) (iw (len : Int)) ∧ Df n2 (at1 1057) n2 M M' ∧ m_nx M' = m_nx M ∧ m_sl M' = m_sl M ∧ (∀ i, j ≤ i → i < len → cJ M' 1057 (clo B len lk i) = cJ M 1058 i) ∧ (∀ q, (∀ i, j ≤ i → i < len → q ≠ clo B len lk i) → cJ M' 1057 q = cJ M 1057 q) := by
  intro e
  induction e with
  | zero =>
    intro N j M hj sM g
    have : j = len := by omega
    subst this
    exact ⟨M, rfl, Df.refl _ _ _ _, rfl, rfl, fun i h1 h2 => by omega, fun q _ => rfl⟩
  | succ e ih =>
    intro N j M hj sM g
    have hlt : j < len := by omega
    have hc := clo_lt (H := H) hB hlt hlk
    have hlen : len ≤ H * len * B := by
      have h1 : H ≠ 0 := fun q => by rw [q, Nat.zero_mul] at hlk; omega
      have h2 := Nat.le_mul_of_pos_left len (Nat.pos_of_ne_zero h1)
      have h3 := Nat.le_mul_of_pos_right (H * len) hB
      omega
    have hd : Df n2 (at1 1057) n2 M (wJ M 1057 (clo B len lk j) (cJ M 1058 j)) := Df.wJ _ rfl
    have sM' : ST (wJ M 1057 (clo B len lk j) (cJ M 1058 j)) := sM
    obtain ⟨M', f1, f2, f3, f4, f5, f6⟩ := ih N (j + 1) _ (by omega) sM' (g.df hd qt_n2 (qt_at1 (by decide)) qt_n2)
    refine ⟨M', ?_, hd.trans f2, f3, f4, fun i h1 h2 => ?_, fun q hq => ?_⟩
    · rw [← f1]
      show F_X0_running_b227_st k106 (F_X0_running_b227 k106 (N + e)) M _ _ _ _ _ _ _ _ _ _ _ _ _ = _
      unfold F_X0_running_b227_st
      rw [if_pos (by rw [iw_le4 (by omega) (by omega)]; omega), if_pos (by decide)]
      simp only [g1000_81, g1000_82, sM, cell M g j hlt, al_of (t1058 sM) (l1058 sM) (show j < 100000 by omega) (by decide), sj_of (cJ M 1058 j) (t1057 sM) (l1057 sM) (show clo B len lk j < 100000 by omega) (by decide), Option.bind_some, iw_succ]
    · by_cases e : i = j
      · rw [f6 _ (fun i' h1' h2' hq => by
          have q1 := (lco_clo (B := B) (lk := lk) hB h2).2
          have q2 := (lco_clo (B := B) (lk := lk) hB h2').2
          rw [hq, q2] at q1
          omega), cJ_wJ, e, if_pos ⟨rfl, rfl⟩]
      · rw [f5 i (by omega) h2, cJ_wJ, if_neg (fun q => absurd q.1 (by decide))]
    · rw [f6 q (fun i h1 h2 => hq i (by omega) h2), cJ_wJ, if_neg (fun hh => hq j (Nat.le_refl _) hlt hh.2)]
/-- what is known when so many lines are done -/
def RI (w k : Int32) (val : Nat → Int64) (B len H lk : Nat) (N : Mem) (v9 v10 : Int32) : Prop :=
  (v9 = -1 ∧ ∀ l i, l < lk → i < len → rnv w k val B len (clo B len l i) ≠ none ∧ cJ N 1057 (clo B len l i) = (rnv w k val B len (clo B len l i)).getD 0) ∨
  (∃ q : Nat, v9 = iw (q : Int) ∧ v10 = 8 ∧ q < H * len * B ∧ rnv w k val B len q = none ∧ ∀ l i, l < lk → i < len → rnv w k val B len (clo B len l i) = none → q ≤ clo B len l i)
theorem E_run_loop {A : Mem} {val : Nat → Int64} (hw : Wy w) (hk : Lk k) (ht : foT w k = true) (h8 : w ≠ 8) (sA : ST A) (gA : GP A o b k n z s t x y c d L p) (hB : 0 < B) (hl : 0 < len) (hcap : H * len * B ≤ 100000)
    (hval : ∀ q, q < H * len * B → val q = cJ A c (gpos n z s x q) ∧ vb k (val q))
    (cell : ∀ N, GP N o b k n z s t x y c d L p → ∀ lk i, lk < H * B → i < len → F_X0_cellOf N o av (iw (lk : Int)) (iw (i : Int)) = some (iw (clo B len lk i : Nat)))
    (line : ∀ N lk, ST N → GP N o b k n z s t x y c d L p → lk < H * B → ∃ N', F_X0_lineOf N 1000 o av (iw (lk : Int)) = some (iw (len : Int), N') ∧ m_nx N' = m_nx N ∧ m_sl N' = m_sl N ∧ Df n2 (at1 1058) n2 N N' ∧ ∀ i, i < len → cJ N' 1058 i = cJ N c (gpos n z s x (clo B len lk i))) :
    ∀ (e F lk : Nat) (v9 v10 : Int32) (M : Mem), lk + e = H * B → e + 1 ≤ F → Df (at1 1002) qsc n2 A M → m_nx M = m_nx A → m_sl M = m_sl A → RI w k val B len H lk M v9 v10 →
      ∃ M' v9' v10', F_X0_running_b106 F M 1000 w av o (iw ((H * B : Nat) : Int)) (iw (len : Int)) (foL w k) v9 v10 (iw (lk : Int)) = F_X0_running_b273 M' 1000 (foL w k) v9' v10' ∧ Df (at1 1002) qsc n2 A M' ∧ m_nx M' = m_nx A ∧ m_sl M' = m_sl A ∧ RI w k val B len H (H * B) M' v9' v10' := by
  have cp := gA.2.2.2.2.2.2.2.1
  have hxN : xN = 1099511627776 := rfl
  intro e
  induction e with
  | zero =>
    intro F lk v9 v10 M he hF dM nM lM ri
    obtain ⟨F, rfl⟩ : ∃ y, F = y + 1 := ⟨F - 1, by omega⟩
    have : lk = H * B := by omega
    subst this
    have hHB : H * B ≤ H * len * B := by
      rw [Nat.mul_assoc, Nat.mul_comm len B, ← Nat.mul_assoc]
      exact Nat.le_mul_of_pos_right _ hl
    refine ⟨M, v9, v10, ?_, dM, nM, lM, ri⟩
    show F_X0_running_b106_st (F_X0_running_b106 F) M _ _ _ _ _ _ _ _ _ _ = _
    unfold F_X0_running_b106_st
    rw [if_neg (by rw [iw_le4 (by omega) (by omega)]; omega)]
  | succ e ih =>
    intro F lk v9 v10 M he hF dM nM lM ri
    obtain ⟨F, rfl⟩ : ∃ y, F = y + 1 := ⟨F - 1, by omega⟩
    have hlk : lk < H * B := by omega
    have hHB : H * B ≤ H * len * B := by
      rw [Nat.mul_assoc, Nat.mul_comm len B, ← Nat.mul_assoc]
      exact Nat.le_mul_of_pos_right _ hl
    have hlen : len ≤ H * len * B := by
      have h1 : H ≠ 0 := fun q => by rw [q, Nat.zero_mul] at hlk; omega
      have h2 := Nat.le_mul_of_pos_left len (Nat.pos_of_ne_zero h1)
      have h3 := Nat.le_mul_of_pos_right (H * len) hB
      omega
    have h0 := sA.1
    have sM : ST M := sA.n dM
    have gM := gA.df dM (qt_at1 (by decide)) qt_qsc qt_n2
    obtain ⟨N1, f1, f2, f3, f4, f5⟩ := line M lk sM gM hlk
    have d1 : Df (at1 1002) qsc n2 A N1 := dM.trans (f4.mono (fun _ _ q => q.elim) (fun a i q => by unfold at1 at q; unfold qsc; omega) (fun _ _ q => q))
    have s1 : ST N1 := sA.n d1
    have g1 := gA.df d1 (qt_at1 (by decide)) qt_qsc qt_n2
    have hv1 : ∀ i, i < len → cJ N1 1058 i = val (clo B len lk i) := fun i hi => by
      rw [f5 i hi, (hval _ (clo_lt hB hi hlk)).1]
      exact dM.cJ cp.2.1 (qt_qsc _ _ cp.1)
    have hvb : ∀ i, i < len → vb k (val (clo B len lk i)) := fun i hi => (hval _ (clo_lt hB hi hlk)).2
    have rl := E_runLine (v := fun i => val (clo B len lk i)) hw hk ht h8 hl (by omega) hvb s1 hv1
    have rc : ∀ i, i < len → rnv w k val B len (clo B len lk i) = fogo w k (fun i => val (clo B len lk i)) 0 (i + 1) (foB w k (val (clo B len lk 0))) := fun i hi => rnv_clo hB hi
    -- the head of a line
    have head : ∀ (rb : Int32) (N2 : Mem), F_X0_runLine N1 1000 w k (foL w k) (iw (len : Int)) = some (rb, N2) → F_X0_running_b106 (F + 1) M 1000 w av o (iw ((H * B : Nat) : Int)) (iw (len : Int)) (foL w k) v9 v10 (iw (lk : Int)) = (if rb < 0 then F_X0_running_b180 (F_X0_running_b106 F) N2 1000 w av o (iw ((H * B : Nat) : Int)) (iw (len : Int)) (foL w k) v9 v10 (iw (lk : Int)) (iw (len : Int)) rb else if v9 < 0 then F_X0_running_b170 (F_X0_running_b106 F) N2 1000 w av o (iw ((H * B : Nat) : Int)) (iw (len : Int)) (foL w k) v9 (iw (lk : Int)) (iw (len : Int)) rb else (F_X0_cellOf N2 o av (iw (lk : Int)) rb).bind fun z25 => if z25 < v9 then F_X0_running_b170 (F_X0_running_b106 F) N2 1000 w av o (iw ((H * B : Nat) : Int)) (iw (len : Int)) (foL w k) v9 (iw (lk : Int)) (iw (len : Int)) rb else F_X0_running_b180 (F_X0_running_b106 F) N2 1000 w av o (iw ((H * B : Nat) : Int)) (iw (len : Int)) (foL w k) v9 v10 (iw (lk : Int)) (iw (len : Int)) rb) := by
      intro rb N2 hrl
      show F_X0_running_b106_st (F_X0_running_b106 F) M _ _ _ _ _ _ _ _ _ _ = _
      unfold F_X0_running_b106_st
      rw [if_pos (by rw [iw_le4 (by omega) (by omega)]; exact hlk), if_pos (by rw [show (0 : Int32) = iw ((0 : Nat) : Int) from rfl, iw_le4 (by omega) (by omega)]; exact hl)]
      simp only [v1000, sM, f1, gi_of g1.1.2.2.1 (show x_fi 22 1408 = true by decide), g1.1.2.2.2.1, s1, hrl, Option.bind_some]
    rcases rl with ⟨N2, q1, q2, q3, q4, q5⟩ | ⟨bb, N2, q0, q1, q2, q3, q4, q5, q6, q7⟩
    · -- the line went well
      have d2 : Df (at1 1002) qsc n2 A N2 := d1.trans (q2.mono (fun _ _ q => q) (fun a i q => by unfold at1 at q; unfold qsc; omega) (fun _ _ q => q))
      have s2 : ST N2 := sA.n d2
      have g2 := gA.df d2 (qt_at1 (by decide)) qt_qsc qt_n2
      obtain ⟨F2, hF2⟩ : ∃ F2, F2 + 1 + len = xN := ⟨xN - 1 - len, by omega⟩
      obtain ⟨N3, p1, p2, p3, p4, p5, p6⟩ := E_put_loop (k106 := F_X0_running_b106 F) (w := w) (v6 := iw ((H * B : Nat) : Int)) (v7 := iw (len : Int)) (v8 := foL w k) (v9 := v9) (v10 := v10) hB hlk hcap (fun N gN i hi => cell N gN lk i hlk hi) len (F2 + 1) 0 N2 (by omega) s2 g2
      rw [hF2] at p1
      have d3 : Df (at1 1002) qsc n2 A N3 := d2.trans (p2.mono (fun _ _ q => q.elim) (fun a i q => by unfold at1 at q; unfold qsc; omega) (fun _ _ q => q))
      have e57 : ∀ q, cJ N2 1057 q = cJ M 1057 q := fun q => by rw [q2.cJ (by omega) (by unfold at1; decide), f4.cJ (by omega) (by unfold at1; decide)]
      have ri' : RI w k val B len H (lk + 1) N3 v9 v10 := by
        rcases ri with ⟨r1, r2⟩ | ⟨q, r1, r2, r3, r4, r5⟩
        · left
          refine ⟨r1, fun l i hl' hi => ?_⟩
          by_cases cl : l = lk
          · rw [cl, p5 i (Nat.zero_le _) hi, rc i hi]
            exact q5 i hi
          · obtain ⟨r3, r4⟩ := r2 l i (by omega) hi
            refine ⟨r3, ?_⟩
            rw [← r4, ← e57]
            refine p6 _ (fun i' _ hi' hq => ?_)
            have u1 := (lco_clo (B := B) (lk := l) hB hi).1
            have u2 := (lco_clo (B := B) (lk := lk) hB hi').1
            rw [hq, u2] at u1
            omega
        · right
          refine ⟨q, r1, r2, r3, r4, fun l i hl' hi hr => ?_⟩
          by_cases cl : l = lk
          · rw [cl, rc i hi] at hr
            exact absurd hr (q5 i hi).1
          · exact r5 l i (by omega) hi hr
      obtain ⟨M', v9', v10', m1, m2, m3, m4, m5⟩ := ih F (lk + 1) v9 v10 N3 (by omega) (by omega) d3 (by omega) (by omega) ri'
      refine ⟨M', v9', v10', ?_, m2, m3, m4, m5⟩
      rw [head _ _ q1, if_pos (by decide), ← m1]
      unfold F_X0_running_b180 F_X0_running_b182 F_X0_running_b224
      rw [if_pos (by decide)]
      refine p1.trans ?_
      show F_X0_running_b227_st (F_X0_running_b106 F) (F_X0_running_b227 (F_X0_running_b106 F) F2) N3 _ _ _ _ _ _ _ _ _ _ _ _ _ = _
      unfold F_X0_running_b227_st F_X0_running_b267
      rw [if_neg (by rw [iw_le4 (by omega) (by omega)]; omega), iw_succ]
    · -- it failed
      have d2 : Df (at1 1002) qsc n2 A N2 := d1.trans (q2.mono (fun _ _ q => q) (fun a i q => by unfold at1 at q; unfold qsc; omega) (fun _ _ q => q))
      have s2 : ST N2 := sA.n d2
      have g2 := gA.df d2 (qt_at1 (by decide)) qt_qsc qt_n2
      have hcl := clo_lt (H := H) hB q0 hlk
      have ce := cell N2 g2 lk bb hlk q0
      have nb : ¬ iw (bb : Int) < 0 := by rw [iw_lt0 (by omega) (by omega)]; omega
      have rb : rnv w k val B len (clo B len lk bb) = none := by rw [rc bb q0]; exact q5
      have least : ∀ i, i < len → rnv w k val B len (clo B len lk i) = none → clo B len lk bb ≤ clo B len lk i := fun i hi hr => by
        refine clo_mono ?_
        rcases Nat.lt_or_ge i bb with hib | hib
        · rw [rc i hi] at hr
          exact absurd hr (q6 i hib)
        · exact hib
      have t129 : gi N2 1002 129 = some 8 := by rw [g1002_129 s2, q7]
      -- how it goes on
      have go : ∀ v : Int32, F_X0_running_b224 (F_X0_running_b106 F) N2 1000 w av o (iw ((H * B : Nat) : Int)) (iw (len : Int)) (foL w k) v 8 (iw (lk : Int)) (iw (len : Int)) (iw (bb : Int)) = F_X0_running_b106 F N2 1000 w av o (iw ((H * B : Nat) : Int)) (iw (len : Int)) (foL w k) v 8 (iw ((lk + 1 : Nat) : Int)) := fun v => by
        unfold F_X0_running_b224
        show F_X0_running_b227_st (F_X0_running_b106 F) (F_X0_running_b227 (F_X0_running_b106 F) (xN - 1)) N2 _ _ _ _ _ _ _ _ _ _ _ _ _ = _
        unfold F_X0_running_b227_st F_X0_running_b267
        rw [if_neg nb, iw_succ]
        split <;> rfl
      have fin : ∃ q : Nat, q < H * len * B ∧ rnv w k val B len q = none ∧ (∀ l i, l < lk + 1 → i < len → rnv w k val B len (clo B len l i) = none → q ≤ clo B len l i) ∧ F_X0_running_b106 (F + 1) M 1000 w av o (iw ((H * B : Nat) : Int)) (iw (len : Int)) (foL w k) v9 v10 (iw (lk : Int)) = F_X0_running_b106 F N2 1000 w av o (iw ((H * B : Nat) : Int)) (iw (len : Int)) (foL w k) (iw (q : Int)) 8 (iw ((lk + 1 : Nat) : Int)) := by
        rcases ri with ⟨r1, r2⟩ | ⟨q, r1, r2, r3, r4, r5⟩
        · refine ⟨clo B len lk bb, hcl, rb, fun l i hl' hi hr => ?_, ?_⟩
          · by_cases cl : l = lk
            · rw [cl] at hr ⊢
              exact least i hi hr
            · exact absurd hr (r2 l i (by omega) hi).1
          · rw [head _ _ q1, if_neg nb, r1, if_pos (by decide), ← go]
            unfold F_X0_running_b170 F_X0_running_b182 F_X0_running_b222
            simp only [g1000_67, s2, t129, Option.bind_some]
            rw [if_neg nb, if_pos (by decide), ce]
            rfl
        · have nq : ¬ iw (q : Int) < 0 := by rw [iw_lt0 (by omega) (by omega)]; omega
          refine ⟨min q (clo B len lk bb), by omega, ?_, fun l i hl' hi hr => ?_, ?_⟩
          · rcases Nat.le_total q (clo B len lk bb) with hh | hh
            · rw [Nat.min_eq_left hh]; exact r4
            · rw [Nat.min_eq_right hh]; exact rb
          · by_cases cl : l = lk
            · rw [cl] at hr ⊢
              have := least i hi hr
              omega
            · have := r5 l i (by omega) hi hr
              omega
          · have e82 : F_X0_running_b182 (F_X0_running_b106 F) N2 8 1000 w av o (iw ((H * B : Nat) : Int)) (iw (len : Int)) (foL w k) (iw (q : Int)) (iw (lk : Int)) (iw (len : Int)) (iw (bb : Int)) = F_X0_running_b106 F N2 1000 w av o (iw ((H * B : Nat) : Int)) (iw (len : Int)) (foL w k) (iw ((min q (clo B len lk bb) : Nat) : Int)) 8 (iw ((lk + 1 : Nat) : Int)) := by
              unfold F_X0_running_b182 F_X0_running_b222
              rw [if_neg nb, if_neg nq, ce]
              simp only [Option.bind_some]
              rw [J_min2 (by omega) (by omega)]
              simp only [Option.bind_some]
              exact go _
            rw [head _ _ q1, if_neg nb, r1, if_neg nq, ce, ← e82]
            unfold F_X0_running_b170 F_X0_running_b180
            simp only [g1000_67, s2, t129, Option.bind_some, r2]
            split <;> rfl
      obtain ⟨q, k1, k2, k3, k4⟩ := fin
      obtain ⟨M', v9', v10', m1, m2, m3, m4, m5⟩ := ih F (lk + 1) (iw (q : Int)) 8 N2 (by omega) (by omega) d2 (by omega) (by omega) (Or.inr ⟨q, rfl, rfl, k1, k2, k3⟩)
      exact ⟨M', v9', v10', k4.trans m1, m2, m3, m4, m5⟩
end RUN
