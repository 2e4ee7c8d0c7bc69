/-! ===== VIEWS, 4: the engine goes through the items ===== -/
/-- all items of a text -/
def vis (f : Nat → Int32) (n : Nat) : Nat → Nat → Nat ⊕ List (Nat → Int)
  | 0, a => .inl a
  | e + 1, a => match vit f n a with
    | .inl p => .inl p
    | .inr ib => if skpa f n ib.2 < n then
        (if isC f n (skpa f n ib.2) 44 = true then
          (match vis f n e (skpa f n (skpa f n ib.2 + 1)) with
          | .inl p => .inl p
          | .inr l => .inr (ib.1 :: l))
        else .inl (skpa f n ib.2))
      else .inr [ib.1]
def vtx (f : Nat → Int32) (n : Nat) : Nat ⊕ List (Nat → Int) := if skpa f n 0 < n then vis f n (n + 1) (skpa f n 0) else .inr []
/-- behind an item -/
noncomputable def gor (k : Mem → Nat → Nat → Int32 → Option (Mem ⊕ (Nat × Mem))) (M : Mem) (own : Nat) : Option (Mem ⊕ (Nat × Mem)) :=
  (vg M 1006 4).bind fun _ =>
  (F_X3_skip M 1006).bind fun z13 =>
  (vg z13 1006 4).bind fun _ =>
  (F_X3_look z13 1006).bind fun z15 =>
  if z15 = (44 : Int32) then
    F_X3_go_b49 k z13 (1 : Int32) 1006 own
  else
    F_X3_go_b49 k z13 (0 : Int32) 1006 own
theorem go_st {k : Mem → Nat → Nat → Int32 → Option (Mem ⊕ (Nat × Mem))} {M : Mem} {own : Nat} (h : ST M) : F_X3_go_b22_st k M 1006 own 1 = tb (F_X3_item M 1006 own) fun z => gor k z own := by
  unfold F_X3_go_b22_st
  rw [if_neg (by decide)]
  simp only [v1006, h, Option.bind_some]
  rfl
theorem go_or {k : Mem → Nat → Nat → Int32 → Option (Mem ⊕ (Nat × Mem))} {M : Mem} {own : Nat} {f : Nat → Int32} {n b : Nat} (t : TX M f n b) :
    (skpa f n b < n → isC f n (skpa f n b) 44 = true → ∃ M2, SC M M2 (skpa f n (skpa f n b + 1)) ∧ gor k M own = k M2 1006 own 1) ∧
    (skpa f n b < n → ¬ isC f n (skpa f n b) 44 = true → ∃ M2, gor k M own = some (.inr (1003, M2)) ∧ VF M M2 (skpa f n b)) ∧
    (¬ skpa f n b < n → ∃ M2, SC M M2 (skpa f n b) ∧ gor k M own = k M2 1006 own 0) := by
  have hen := t.2.2.2.2.2.1
  obtain ⟨z8, k1, s1⟩ := E_skip t
  have le1 := skpa_le (f := f) hen
  have t1 := s1.tx t le1
  refine ⟨fun hl c => ?_, fun hl c => ?_, fun hl => ?_⟩
  · have sw := SC.w t1.1 (skpa f n b + 1)
    have tw := sw.tx t1 (by omega)
    obtain ⟨z14, k2, s2⟩ := E_skip tw
    refine ⟨z14, (s1.trans sw).trans s2, ?_⟩
    unfold gor F_X3_go_b49 F_X3_go_b83
    simp only [v1006, t.1, k1, t1.1, E_look t1, Option.bind_some]
    rw [if_pos (lk44.mpr c), if_neg (by decide)]
    simp only [g1006_259, t1.1, t1.2.2.2.2.1, t1.go, Option.bind_some]
    simp only [v1006, tw.1, k2, Option.bind_some]
  · refine ⟨_, ?_, s1.vf t.1 (VF.of t1.1 (skpa f n b))⟩
    unfold gor F_X3_go_b49
    simp only [v1006, t.1, k1, t1.1, E_look t1, Option.bind_some]
    rw [if_neg (fun hh => c (lk44.mp hh)), if_pos trivial, if_neg (fun hh => by have := lk_neg.mp hh; omega)]
    simp only [g1006_259, v1006, t1.1, t1.2.2.2.2.1, Option.bind_some]
    exact E_vwrong t1.1 _
  · have c : ¬ isC f n (skpa f n b) 44 = true := fun c => hl (isC_t.mp c).1
    obtain ⟨z14, k2, s2⟩ := E_skip t1
    rw [skpa_2] at s2
    refine ⟨z14, s1.trans s2, ?_⟩
    unfold gor F_X3_go_b49 F_X3_go_b83
    simp only [v1006, t.1, k1, t1.1, E_look t1, Option.bind_some]
    rw [if_neg (fun hh => c (lk44.mp hh)), if_pos trivial, if_pos (lk_neg.mpr (by omega))]
    simp only [v1006, t1.1, k2, Option.bind_some]
/-- one more axis -/
def pAx : Nat → Nat → Prop := fun a i => (a = 1006 ∧ i = 262) ∨ a = 1007 ∨ a = 1008
theorem pAx_v : ∀ a i, pAx a i → pVw a i := fun a i q => by unfold pAx at q; unfold pVw; omega
theorem E_axis {M : Mem} {x : Nat} {v w : Int32} (h : ST M) (hx : cI M 1006 262 = iw (x : Int)) (hb : x ≤ 100000000) : ∃ M', F_X3_axis M 1006 v w = some M' ∧ ST M' ∧ cI M' 1006 262 = iw ((x + 1 : Nat) : Int) ∧ (∀ j, cI M' 1007 j = if j = x ∧ x < 4 then v else cI M 1007 j) ∧ (∀ j, cI M' 1008 j = if j = x ∧ x < 4 then w else cI M 1008 j) ∧ Df pAx n2 n2 M M' ∧ m_nx M' = m_nx M ∧ m_sl M' = m_sl M := by
  unfold F_X3_axis F_X3_axis_b28
  simp only [g1006_262, h, hx, Option.bind_some]
  by_cases c : x < 4
  · rw [if_pos (by rw [show (4 : Int32) = iw ((4 : Nat) : Int) from rfl, iw_le4 (by omega) (by omega)]; exact c)]
    obtain ⟨A, hA⟩ : ∃ A, A = wI M 1007 x v := ⟨_, rfl⟩
    have sA : ST A := hA ▸ h
    have xA : cI A 1006 262 = iw (x : Int) := by rw [hA, cI_wI, if_neg (by omega)]; exact hx
    obtain ⟨B, hB⟩ : ∃ B, B = wI A 1008 x w := ⟨_, rfl⟩
    have sB : ST B := hB ▸ sA
    have xB : cI B 1006 262 = iw (x : Int) := by rw [hB, cI_wI, if_neg (by omega)]; exact xA
    simp only [g1006_260, g1006_262, h, hx, si_of _ (t1007 h) (l1007 h) c (show (4 : Nat) < 2147483648 by decide), ← hA, Option.bind_some]
    simp only [g1006_261, g1006_262, sA, xA, si_of _ (t1008 sA) (l1008 sA) c (show (4 : Nat) < 2147483648 by decide), ← hB, Option.bind_some]
    simp only [g1006_262, p1006_262, sB, xB, iw_succ, Option.bind_some]
    refine ⟨_, rfl, sB, by rw [cI_wI, if_pos ⟨rfl, rfl⟩], fun j => ?_, fun j => ?_, ?_, by rw [hB, hA]; rfl, by rw [hB, hA]; rfl⟩
    · rw [cI_wI, if_neg (by omega), hB, cI_wI, if_neg (by omega), hA, cI_wI]
      by_cases cj : j = x
      · rw [if_pos ⟨rfl, cj⟩, if_pos ⟨cj, c⟩]
      · rw [if_neg (by omega), if_neg (by omega)]
    · rw [cI_wI, if_neg (by omega), hB, cI_wI, hA]
      by_cases cj : j = x
      · rw [if_pos ⟨rfl, cj⟩, if_pos ⟨cj, c⟩]
      · rw [if_neg (by omega), if_neg (by omega), cI_wI, if_neg (by omega)]
    · rw [hB, hA]
      exact ((Df.wI (P := pAx) (Q := n2) (R := n2) (M := M) (a := 1007) (i := x) v (Or.inr (Or.inl rfl))).trans (Df.wI (P := pAx) (Q := n2) (R := n2) (a := 1008) (i := x) w (Or.inr (Or.inr rfl)))).trans (Df.wI (P := pAx) (Q := n2) (R := n2) (a := 1006) (i := 262) _ (Or.inl ⟨rfl, rfl⟩))
  · rw [if_neg (by rw [show (4 : Int32) = iw ((4 : Nat) : Int) from rfl, iw_le4 (by omega) (by omega)]; exact c)]
    simp only [g1006_262, p1006_262, h, hx, iw_succ, Option.bind_some]
    refine ⟨_, rfl, h, by rw [cI_wI, if_pos ⟨rfl, rfl⟩], fun j => ?_, fun j => ?_, Df.wI _ (Or.inl ⟨rfl, rfl⟩), rfl, rfl⟩
    · rw [cI_wI, if_neg (by omega), if_neg (by omega)]
    · rw [cI_wI, if_neg (by omega), if_neg (by omega)]
theorem TX.df {P : Nat → Nat → Prop} {M M' : Mem} {f : Nat → Int32} {n a : Nat} (t : TX M f n a) (h : ST M') (d : Df P n2 n2 M M') (p1 : ¬ P 1006 258) (p2 : ¬ P 1006 259) (p3 : ∀ i, ¬ P 1001 i) : TX M' f n a := by
  obtain ⟨t1, t2, t3, t4, t5, t6, t7⟩ := t
  have h0 := t1.1
  exact ⟨h, by rw [d.cR (by omega) (fun q => q)]; exact t2, by rw [d.cI (by omega) p1]; exact t3, t4, by rw [d.cI (by omega) p2]; exact t5, t6, fun i => by rw [d.cI (by omega) (p3 i)]; exact t7 i⟩
/-- without a grid nothing but axes are counted -/
theorem iap0 {M : Mem} {x : Nat} {it : Nat → Int} (h : ST M) (hx : cI M 1006 262 = iw (x : Int)) (hb : x ≤ 100000000) : ∃ M' x', iap M 0 it = some (.inl M') ∧ ST M' ∧ x' ≤ x + 1 ∧ cI M' 1006 262 = iw (x' : Nat) ∧ Df pAx n2 n2 M M' ∧ m_nx M' = m_nx M ∧ m_sl M' = m_sl M := by
  unfold iap
  by_cases c3 : it 1 = 3
  · rw [if_pos c3]
    obtain ⟨M', f1, f2, f3, -, -, f6, f7, f8⟩ := E_axis (v := 1) (w := 0) h hx hb
    exact ⟨M', x + 1, by rw [f1, Option.bind_some], f2, by omega, f3, f6, f7, f8⟩
  · rw [if_neg c3]
    by_cases c1 : it 1 = 1
    · rw [if_pos c1]
      refine ⟨M, x, ?_, h, by omega, hx, Df.refl _ _ _ _, rfl, rfl⟩
      unfold F_X3_single
      rw [if_neg (by decide), if_pos rfl, tb_l]
    · rw [if_neg c1]
      refine ⟨M, x, ?_, h, by omega, hx, Df.refl _ _ _ _, rfl, rfl⟩
      unfold F_X3_item_b163
      rw [if_neg (by decide), if_pos rfl]
/-- the end of a first go -/
def VG (M M' : Mem) (x : Nat) : Prop := ST M' ∧ Df pVw n2 n2 M M' ∧ m_nx M' = m_nx M ∧ m_sl M' = m_sl M ∧ cI M' 1006 258 = cI M 1006 258 ∧ ∃ x' : Nat, x' ≤ x ∧ cI M' 1006 262 = iw (x' : Int)
theorem E_go1 {f : Nat → Int32} {n : Nat} : ∀ (e N a x : Nat) (M : Mem), n + 1 ≤ a + e → x + e ≤ 100000000 → TX M f n a → cI M 1006 262 = iw (x : Int) →
    (∀ p, vis f n e a = .inl p → ∃ M', F_X3_go_b22 (N + 1 + e) M 1006 0 1 = some (.inr (1003, M')) ∧ ST M' ∧ Df pVw n2 n2 M M' ∧ m_nx M' = m_nx M ∧ m_sl M' = m_sl M ∧ cI M' 1002 130 = iw (p : Int) ∧ ∃ x' : Nat, x' ≤ x + e ∧ cI M' 1006 262 = iw (x' : Int)) ∧
    (∀ l, vis f n e a = .inr l → ∃ M', F_X3_go_b22 (N + 1 + e) M 1006 0 1 = some (.inl M') ∧ VG M M' (x + e)) := by
  intro e
  induction e with
  | zero => intro N a x M h1 h2 t h3; have := t.2.2.2.2.2.1; omega
  | succ e ih =>
    intro N a x M h1 h2 t h3
    have h0 := t.1.1
    have hen := t.2.2.2.2.2.1
    have st : F_X3_go_b22 (N + 1 + (e + 1)) M 1006 0 1 = tb (F_X3_item M 1006 0) fun z => gor (F_X3_go_b22 (N + 1 + e)) z 0 := go_st t.1
    have ev : vis f n (e + 1) a = match vit f n a with
      | .inl p => .inl p
      | .inr ib => if skpa f n ib.2 < n then
        (if isC f n (skpa f n ib.2) 44 = true then
          (match vis f n e (skpa f n (skpa f n ib.2 + 1)) with
          | .inl p => .inl p
          | .inr l => .inr (ib.1 :: l))
        else .inl (skpa f n ib.2))
      else .inr [ib.1] := rfl
    obtain ⟨i1, i2⟩ := E_item (own := 0) t
    rw [st, ev]
    cases hv : vit f n a with
    | inl p =>
      refine ⟨fun q hq => ?_, fun l hl => by cases hl⟩
      cases hq
      obtain ⟨M', f1, f2⟩ := i1 p hv
      exact ⟨M', by rw [f1, tb_r], f2.1, f2.2.1, f2.2.2.1, f2.2.2.2.1, f2.2.2.2.2.1, x, by omega, f2.2.2.2.2.2.trans h3⟩
    | inr ib =>
      obtain ⟨o1, o2, A, s1, k1⟩ := i2 ib.1 ib.2 hv
      have tA := s1.tx t o2
      have xA : cI A 1006 262 = iw (x : Int) := by rw [s1.2.1.cI (by omega) (by omega)]; exact h3
      obtain ⟨B, x', j1, j2, j3, j4, j5, j6, j7⟩ := iap0 (it := ib.1) tA.1 xA (by omega)
      have tB := tA.df j2 j5 (by unfold pAx; omega) (by unfold pAx; omega) (fun i => by unfold pAx; omega)
      have dB : Df pVw n2 n2 M B := (s1.2.1.mono (fun a i q => Or.inl q.1) (fun _ _ q => q) (fun _ _ q => q)).trans (j5.mono (fun a i q => pAx_v a i q) (fun _ _ q => q) (fun _ _ q => q))
      have nB : m_nx B = m_nx M ∧ m_sl B = m_sl M := ⟨j6.trans s1.2.2.2.1, j7.trans s1.2.2.2.2⟩
      have bB : cI B 1006 258 = cI M 1006 258 := by rw [j5.cI (by have := tA.1.1; omega) (by unfold pAx; omega), s1.2.1.cI (by omega) (by omega)]
      have hB0 := tB.1.1
      rw [k1, j1, tb_l]
      obtain ⟨g1, g2, g3⟩ := go_or (k := F_X3_go_b22 (N + 1 + e)) (own := 0) tB
      have ge1 := skpa_ge (f := f) (n := n) (a := ib.2)
      by_cases c : skpa f n ib.2 < n
      · by_cases c4 : isC f n (skpa f n ib.2) 44 = true
        · obtain ⟨C, u1, u2⟩ := g1 c c4
          have ge2 := skpa_ge (f := f) (n := n) (a := skpa f n ib.2 + 1)
          have tC := u1.tx tB (skpa_le (by omega))
          have xC : cI C 1006 262 = iw (x' : Nat) := by rw [u1.2.1.cI (by omega) (by omega)]; exact j4
          have dC : Df pVw n2 n2 M C := dB.trans (u1.2.1.mono (fun a i q => Or.inl q.1) (fun _ _ q => q) (fun _ _ q => q))
          obtain ⟨w1, w2⟩ := ih N (skpa f n (skpa f n ib.2 + 1)) x' C (by omega) (by omega) tC xC
          rw [u2]
          have e1 : (match (Sum.inr ib : Nat ⊕ ((Nat → Int) × Nat)) with
            | .inl p => (.inl p : Nat ⊕ List (Nat → Int))
            | .inr ib => if skpa f n ib.2 < n then (if isC f n (skpa f n ib.2) 44 = true then (match vis f n e (skpa f n (skpa f n ib.2 + 1)) with | .inl p => .inl p | .inr l => .inr (ib.1 :: l)) else .inl (skpa f n ib.2)) else .inr [ib.1]) = (match vis f n e (skpa f n (skpa f n ib.2 + 1)) with | .inl p => .inl p | .inr l => .inr (ib.1 :: l)) := by
            show (if skpa f n ib.2 < n then (if isC f n (skpa f n ib.2) 44 = true then (match vis f n e (skpa f n (skpa f n ib.2 + 1)) with | .inl p => (.inl p : Nat ⊕ List (Nat → Int)) | .inr l => .inr (ib.1 :: l)) else .inl (skpa f n ib.2)) else .inr [ib.1]) = _
            rw [if_pos c, if_pos c4]
          rw [e1]
          cases hw : vis f n e (skpa f n (skpa f n ib.2 + 1)) with
          | inl p =>
            refine ⟨fun q hq => ?_, fun l hl => by cases hl⟩
            cases hq
            obtain ⟨M', f1, f2, f3, f4, f5, f6, x2, f7, f8⟩ := w1 p hw
            exact ⟨M', f1, f2, dC.trans f3, by rw [f4, u1.2.2.2.1]; exact nB.1, by rw [f5, u1.2.2.2.2]; exact nB.2, f6, x2, by omega, f8⟩
          | inr l' =>
            refine ⟨fun q hq => (by cases hq), fun l hl => ?_⟩
            obtain ⟨M', f1, f2, f3, f4, f5, f6, x2, f7, f8⟩ := w2 l' hw
            exact ⟨M', f1, f2, dC.trans f3, by rw [f4, u1.2.2.2.1]; exact nB.1, by rw [f5, u1.2.2.2.2]; exact nB.2, by rw [f6, u1.2.1.cI (by omega) (by omega)]; exact bB, x2, by omega, f8⟩
        · obtain ⟨C, u1, u2⟩ := g2 c c4
          have e1 : (match (Sum.inr ib : Nat ⊕ ((Nat → Int) × Nat)) with
            | .inl p => (.inl p : Nat ⊕ List (Nat → Int))
            | .inr ib => if skpa f n ib.2 < n then (if isC f n (skpa f n ib.2) 44 = true then (match vis f n e (skpa f n (skpa f n ib.2 + 1)) with | .inl p => .inl p | .inr l => .inr (ib.1 :: l)) else .inl (skpa f n ib.2)) else .inr [ib.1]) = .inl (skpa f n ib.2) := by
            show (if skpa f n ib.2 < n then (if isC f n (skpa f n ib.2) 44 = true then (match vis f n e (skpa f n (skpa f n ib.2 + 1)) with | .inl p => (.inl p : Nat ⊕ List (Nat → Int)) | .inr l => .inr (ib.1 :: l)) else .inl (skpa f n ib.2)) else .inr [ib.1]) = _
            rw [if_pos c, if_neg c4]
          rw [e1]
          refine ⟨fun q hq => ?_, fun l hl => by cases hl⟩
          cases hq
          exact ⟨C, u1, u2.1, dB.trans u2.2.1, u2.2.2.1.trans nB.1, u2.2.2.2.1.trans nB.2, u2.2.2.2.2.1, x', by omega, u2.2.2.2.2.2.trans j4⟩
      · obtain ⟨C, u1, u2⟩ := g3 c
        have e1 : (match (Sum.inr ib : Nat ⊕ ((Nat → Int) × Nat)) with
          | .inl p => (.inl p : Nat ⊕ List (Nat → Int))
          | .inr ib => if skpa f n ib.2 < n then (if isC f n (skpa f n ib.2) 44 = true then (match vis f n e (skpa f n (skpa f n ib.2 + 1)) with | .inl p => .inl p | .inr l => .inr (ib.1 :: l)) else .inl (skpa f n ib.2)) else .inr [ib.1]) = .inr [ib.1] := by
          show (if skpa f n ib.2 < n then (if isC f n (skpa f n ib.2) 44 = true then (match vis f n e (skpa f n (skpa f n ib.2 + 1)) with | .inl p => (.inl p : Nat ⊕ List (Nat → Int)) | .inr l => .inr (ib.1 :: l)) else .inl (skpa f n ib.2)) else .inr [ib.1]) = _
          rw [if_neg c]
        rw [e1]
        refine ⟨fun q hq => (by cases hq), fun l hl => ⟨C, ?_, u1.1, dB.trans (u1.2.1.mono (fun a i q => Or.inl q.1) (fun _ _ q => q) (fun _ _ q => q)), u1.2.2.2.1.trans nB.1, u1.2.2.2.2.trans nB.2, by rw [u1.2.1.cI (by omega) (by omega)]; exact bB, x', by omega, by rw [u1.2.1.cI (by omega) (by omega)]; exact j4⟩⟩
        rw [u2]
        rw [show N + 1 + e = (N + e) + 1 by omega]
        show F_X3_go_b22_st (F_X3_go_b22 (N + e)) C 1006 0 0 = _
        unfold F_X3_go_b22_st
        rw [if_pos rfl]
