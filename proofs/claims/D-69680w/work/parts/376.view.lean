/-! ===== GRIDS, 14: views: grids that share cells ===== -/
theorem Df.then {P Q R P' Q' R' : Nat → Nat → Prop} {A N O : Mem} (d : Df P Q R A N) (e : Df P' Q' R' N O) (hp : ∀ x i, x < m_nx A → P' x i → P x i) (hq : ∀ x i, x < m_nx A → Q' x i → Q x i) (hr : ∀ x i, x < m_nx A → R' x i → R x i) : Df P Q R A O := by
  obtain ⟨d1, d2, d3⟩ := d
  obtain ⟨e1, e2, e3⟩ := e
  refine ⟨by omega, by omega, fun a ha => ?_⟩
  obtain ⟨f1, f2, f3⟩ := d3 a ha
  obtain ⟨g1, g2, g3⟩ := e3 a (by omega)
  refine ⟨g1.trans f1, g2.trans f2, fun i => ⟨fun np => ?_, fun nq => ?_, fun nr => ?_⟩⟩
  · exact ((g3 i).1 (fun q => np (hp a i ha q))).trans ((f3 i).1 np)
  · exact ((g3 i).2.1 (fun q => nq (hq a i ha q))).trans ((f3 i).2.1 nq)
  · exact ((g3 i).2.2 (fun q => nr (hr a i ha q))).trans ((f3 i).2.2 nr)
/-- only one cell's fields have changed -/
def at1 (a : Nat) : Nat → Nat → Prop := fun x _ => x = a
theorem dpI {a i : Nat} {N N' : Mem} (v : Int32) (d : Df (at1 a) n2 (at1 a) N N') : Df (at1 a) n2 (at1 a) N (wI N' a i v) := d.trans (Df.wI (P := at1 a) (Q := n2) (R := at1 a) (M := N') (a := a) (i := i) v rfl)
theorem dpR {a i : Nat} {N N' : Mem} (v : Nat) (d : Df (at1 a) n2 (at1 a) N N') : Df (at1 a) n2 (at1 a) N (wR N' a i v) := d.trans (Df.wR (P := at1 a) (Q := n2) (R := at1 a) (M := N') (a := a) (i := i) v rfl)
theorem IRw.at1 {M N : Mem} {a b n : Nat} {f : Nat → Int32} {Q R : Nat → Nat → Prop} (h : IRw M b n f) (d : Df (at1 a) Q R M N) (hb : b ≠ a) : IRw N b n f := by
  obtain ⟨h1, h2, h3, h4, h5⟩ := h
  obtain ⟨d1, d2, d3⟩ := d.2.2 b h2
  exact ⟨h1, Nat.lt_of_lt_of_le h2 d.1, d1.trans h3, d2.trans h4, fun i hi => ((d3 i).1 hb).trans (h5 i hi)⟩
theorem E_obj {N : Mem} {a sa ta n c : Nat} {k b p : Int32} {z : Nat → Nat} {s : Nat → Int32} (ha : 1334 ≤ a) (ha2 : a < m_nx N) (tg : m_tg N a = 22) (hp : p = 0 ∨ p = 1) (hs : IRw N sa n (fun i => iw (z i))) (ht : IRw N ta n s) :
    ∃ O, F_X21_init N a k (iw (n : Int)) sa ta b c p = some O ∧ m_nx O = m_nx N ∧ m_sl O = m_sl N ∧ Df (at1 a) n2 (at1 a) N O ∧ GE O a k n z s b c p := by
  have i1 := E_init (n := n) (k := k) (y := iw (n : Int)) (s := sa) (t := ta) (b := b) (c := c) tg hp
  have dd : Df (at1 a) n2 (at1 a) N (wI (wR (wI (wR (wR (wI (wI N a 1408 k) a 1409 (iw (n : Int))) a 1410 sa) a 1411 ta) a 1412 b) a 1413 c) a 1414 p)  :=
    dpI _ (dpR _ (dpI _ (dpR _ (dpR _ (dpI _ (dpI _ (Df.refl _ _ _ _)))))))
  have ns : sa ≠ a := fun e => by have := hs.2.2.1; rw [e, tg] at this; exact absurd this (by decide)
  have nt : ta ≠ a := fun e => by have := ht.2.2.1; rw [e, tg] at this; exact absurd this (by decide)
  refine ⟨_, i1, rfl, rfl, dd, ha, ha2, tg, ?_, ?_, ?_, ?_, ?_, ?_, ?_⟩
  · simp only [cI_wI, cI_wR, Nat.reduceEqDiff, and_false, if_false, and_self, if_true]
  · simp only [cI_wI, cI_wR, Nat.reduceEqDiff, and_false, if_false, and_self, if_true]
  · rw [show cR (wI (wR (wI (wR (wR (wI (wI N a 1408 k) a 1409 (iw (n : Int))) a 1410 sa) a 1411 ta) a 1412 b) a 1413 c) a 1414 p) a 1410 = sa by simp only [cR_wI, cR_wR, Nat.reduceEqDiff, and_false, if_false, and_self, if_true]]
    exact hs.at1 dd ns
  · rw [show cR (wI (wR (wI (wR (wR (wI (wI N a 1408 k) a 1409 (iw (n : Int))) a 1410 sa) a 1411 ta) a 1412 b) a 1413 c) a 1414 p) a 1411 = ta by simp only [cR_wI, cR_wR, Nat.reduceEqDiff, and_false, if_false, and_self, if_true]]
    exact ht.at1 dd nt
  · simp only [cI_wI, cI_wR, Nat.reduceEqDiff, and_false, if_false, and_self, if_true]
  · simp only [cR_wI, cR_wR, Nat.reduceEqDiff, and_false, if_false, and_self, if_true]
  · simp only [cI_wI, cI_wR, Nat.reduceEqDiff, and_false, if_false, and_self, if_true]
theorem M_obj {N : Mem} {a sa ta n c : Nat} {k b p : Int32} {z : Nat → Nat} {s : Nat → Int32} (ha : 1334 ≤ a) (ha2 : a < m_nx N) (tg : m_tg N a = 23) (hp : p = 0 ∨ p = 1) (hs : IRw N sa n (fun i => iw (z i))) (ht : IRw N ta n s) :
    ∃ O, F_X22_init N a k sa ta b c p = some O ∧ m_nx O = m_nx N ∧ m_sl O = m_sl N ∧ Df (at1 a) n2 (at1 a) N O ∧ GM O a k n z s b c p := by
  have i1 := M_init (k := k) (s := sa) (t := ta) (b := b) (c := c) tg hp
  have dd : Df (at1 a) n2 (at1 a) N (wI (wR (wI (wR (wR (wI N a 1472 k) a 1473 sa) a 1474 ta) a 1475 b) a 1476 c) a 1477 p)  :=
    dpI _ (dpR _ (dpI _ (dpR _ (dpR _ (dpI _ (Df.refl _ _ _ _))))))
  have ns : sa ≠ a := fun e => by have := hs.2.2.1; rw [e, tg] at this; exact absurd this (by decide)
  have nt : ta ≠ a := fun e => by have := ht.2.2.1; rw [e, tg] at this; exact absurd this (by decide)
  refine ⟨_, i1, rfl, rfl, dd, ha, ha2, tg, ?_, ?_, ?_, ?_, ?_, ?_⟩
  · simp only [cI_wI, cI_wR, Nat.reduceEqDiff, and_false, if_false, and_self, if_true]
  · rw [show cR (wI (wR (wI (wR (wR (wI N a 1472 k) a 1473 sa) a 1474 ta) a 1475 b) a 1476 c) a 1477 p) a 1473 = sa by simp only [cR_wI, cR_wR, Nat.reduceEqDiff, and_false, if_false, and_self, if_true]]
    exact hs.at1 dd ns
  · rw [show cR (wI (wR (wI (wR (wR (wI N a 1472 k) a 1473 sa) a 1474 ta) a 1475 b) a 1476 c) a 1477 p) a 1474 = ta by simp only [cR_wI, cR_wR, Nat.reduceEqDiff, and_false, if_false, and_self, if_true]]
    exact ht.at1 dd nt
  · simp only [cI_wI, cI_wR, Nat.reduceEqDiff, and_false, if_false, and_self, if_true]
  · simp only [cR_wI, cR_wR, Nat.reduceEqDiff, and_false, if_false, and_self, if_true]
  · simp only [cI_wI, cI_wR, Nat.reduceEqDiff, and_false, if_false, and_self, if_true]
theorem E_num {M : Mem} {m A : Nat} (h : ST M) (hm : m < 400) (k1 : cI M 1004 193 = iw m) (tA : m_tg M A = 22) : F_X2_add M 1004 A = some (iw ((m + 1 : Nat) : Int), wR (wI M 1004 193 (iw ((m + 1 : Nat) : Int))) 1005 (m + 1) A) := by
  have u2 : iw (m : Int) + 1 = iw ((m + 1 : Nat) : Int) := by rw [show (1 : Int32) = iw 1 from rfl, iw_add]; rfl
  have sr1 : sr (wI M 1004 193 (iw ((m + 1 : Nat) : Int))) 1005 (iw ((m + 1 : Nat) : Int)) A = some (wR (wI M 1004 193 (iw ((m + 1 : Nat) : Int))) 1005 (m + 1) A) := by
    have t5 : m_tg (wI M 1004 193 (iw ((m + 1 : Nat) : Int))) 1005 = 1011 := t1005 h
    have tA : m_tg (wI M 1004 193 (iw ((m + 1 : Nat) : Int))) A = 22 := tA
    exact sr_of (by rw [t5]; decide) (l1005 (M := wI M 1004 193 (iw ((m + 1 : Nat) : Int))) h) (by omega) (by decide) (Or.inr (by rw [t5, tA]; decide))
  unfold F_X2_add
  simp only [g1004_193, g1004_192, p1004_193, ST_wI, h, k1, u2, cI_wI, and_self, if_true, Option.bind_some, sr1, cI_wR]
  rw [g1004_193 (M := wR (wI M 1004 193 (iw ((m + 1 : Nat) : Int))) 1005 (m + 1) A) (h.df (P := pNE) (Q := n2) (R := rNE m) ((Df.wI _ ⟨rfl, Or.inl rfl⟩).trans (Df.wR _ ⟨rfl, rfl⟩)) (fun p hp hr => (stR_na p hp).1 hr.1))]
  simp only [cI_wI, cI_wR, and_self, if_true, Option.bind_some]
theorem rmone {m w : Nat} (hw : w ≤ 100000) : room m w 1 0 = decide (m < 400) := by
  unfold room
  by_cases c : m < 400
  · rw [decide_eq_true c, decide_eq_true (by omega)]
  · rw [decide_eq_false c, decide_eq_false (by omega)]
theorem E_room0 {M : Mem} {m w : Nat} (h : ST M) (hm : m ≤ 400) (hw : w ≤ 100000) (k1 : cI M 1004 193 = iw m) (k2 : cI M 1004 194 = iw w) : F_X2_hasRoom M 1004 1 0 = some (mr (decide (m < 400))) := by
  have := E_room (z := fun _ => 0) (n := 1) (g := 1) h hm hw (by decide) k1 k2
  rw [show prd (fun _ => 0) 1 = 0 from rfl, rmone hw] at this
  exact this
/-- both have added a view of grid j -/
theorem vw2 {p : Nat → Nat → Prop} {M A M1 B M2 : Mem} {m w : Nat} {K : Nat → Int32} {n : Nat → Nat} {Z : Nat → Nat → Nat} {S T : Nat → Nat → Int32} {X Y : Nat → Int32} {C D L : Nat → Nat} {P : Nat → Int32} (h : ST M) (h5 : I5w M m w K n Z S T X Y C D L P) (hm : m < 400)
    {j : Nat} (j1 : 1 ≤ j) (j2 : j ≤ m) (hj : cR M 1005 j ≠ 0)
    (dA : Df (pp p) qsc n2 M A) (pA : qt p) (gA : noGr p) {a b n' : Nat} {z : Nat → Nat} {s t : Nat → Int32} {x y : Int32} {f : Int32}
    (gE : GE A a (K j) n' z s x (C j) f) (ha : m_nx M ≤ a) (e1 : M1 = wR (wI A 1004 193 (iw ((m + 1 : Nat) : Int))) 1005 (m + 1) a)
    (dB : Df (pp p) qsc n2 M1 B) (gM : GM B b (K j) n' z t y (D j) f) (hb : m_nx M1 ≤ b) (f1 : M2 = wR (wI B 1068 1093 (iw ((m + 1 : Nat) : Int))) 1070 (m + 1) b)
    (hn : n' ≤ 4) (hz : ∀ i, i < n' → z i ≤ 4096) (hp : prd z n' ≤ 100000) (hf : f = 0 ∨ f = 1) (hv : prd z n' ≠ 0 → x = y ∧ (∀ i, i < n' → 1 < z i → s i = t i) ∧ VL n' z s x (L j)) :
    I5 M2 ∧ Df (pg p) qsc (rG M) M M2 ∧ Df (fun a i => a = 1068 ∧ i = 1093) n2 (rNM m) B M2 ∧ m_nx M2 = m_nx B ∧ bud M2 + m_sl M = bud M + m_sl B := by
  have h0 := h.1
  have h5' := h5
  obtain ⟨q1, q2, q3, q4, q5, q6, q7, q8⟩ := h5'
  have nA := dA.1
  have nB := dB.1
  have gpj : GP M (cR M 1005 j) (cR M 1070 j) (K j) (n j) (Z j) (S j) (T j) (X j) (Y j) (C j) (D j) (L j) (P j) := (q7 j j1 j2).resolve_left (fun hh => hj hh.1)
  have d1 : Df (fun a i => a = 1004 ∧ i = 193) n2 (rNE m) A M1 := by rw [e1]; exact (Df.wI _ ⟨rfl, rfl⟩).trans (Df.wR _ ⟨rfl, rfl⟩)
  have d2 : Df (fun a i => a = 1068 ∧ i = 1093) n2 (rNM m) B M2 := by rw [f1]; exact (Df.wI _ ⟨rfl, rfl⟩).trans (Df.wR _ ⟨rfl, rfl⟩)
  have nM1 : m_nx M1 = m_nx A := by rw [e1]; rfl
  have nM2 : m_nx M2 = m_nx B := by rw [f1]; rfl
  have dd : Df (pg p) qsc (fun a i => rNE m a i ∨ rNM m a i) M M2 := (((dA.mono pp_pg (fun _ _ q => q) (fun _ _ q => q.elim)).trans (d1.mono (fun a i q => Or.inr (Or.inr (by unfold pGr; omega))) (fun _ _ q => q.elim) (fun _ _ q => Or.inl q))).trans (dB.mono pp_pg (fun _ _ q => q) (fun _ _ q => q.elim))).trans (d2.mono (fun a i q => Or.inr (Or.inr (by unfold pGr; omega))) (fun _ _ q => q.elim) (fun _ _ q => Or.inr q))
  have qpg : qt (pg p) := fun a i a1 a2 => by
    rcases a2 with q | q | q
    · exact qt_psc a i a1 q
    · exact pA a i a1 q
    · exact qt_pGr a i a1 q
  have qrr : qt (fun a i => rNE m a i ∨ rNM m a i) := fun a i a1 a2 => by unfold rNE rNM at a2; omega
  have gE2 : GE M2 a (K j) n' z s x (C j) f := ((gE.df d1 (fun a i a1 a2 => by omega) (fun a i a1 a2 => by unfold rNE at a2; omega)).df dB (qt_pp pA) qt_n2).df d2 (fun a i a1 a2 => by omega) (fun a i a1 a2 => by unfold rNM at a2; omega)
  have gM2 : GM M2 b (K j) n' z t y (D j) f := gM.df d2 (fun a i a1 a2 => by omega) (fun a i a1 a2 => by unfold rNM at a2; omega)
  have c194 : cI M2 1004 194 = iw w := by
    rw [d2.cI (by omega) (by omega), dB.cI (by omega) (noGr_pp gA _ _ (Or.inl ⟨rfl, Or.inr rfl⟩)), d1.cI (by omega) (by omega), dA.cI (by omega) (noGr_pp gA _ _ (Or.inl ⟨rfl, Or.inr rfl⟩))]
    exact q5
  refine ⟨?_, dd.mono (fun _ _ q => q) (fun _ _ q => q) (fun _ _ q => rG_of q1 q3 (Or.inl q)), d2, nM2, ?_⟩
  · have gp : GP M2 a b (K j) n' z s t x y (C j) (D j) (L j) f := ⟨gE2, gM2, gpj.2.2.1, hn, hz, hp, hf, gpj.2.2.2.2.2.2.2.1.df dd qt_qsc, hv⟩
    have r5 : cR M2 1005 (m + 1) = a := by rw [d2.cR (by omega) (by unfold rNM; omega), dB.cR (by omega) (fun q => q), e1, cR_wR, if_pos ⟨rfl, rfl⟩]
    have r7 : cR M2 1070 (m + 1) = b := by rw [f1, cR_wR, if_pos ⟨rfl, rfl⟩]
    refine I5w.add h h5 hm q2 dd qpg qt_qsc qrr (fun i hi => ⟨fun q => ?_, fun q => ?_⟩) ?_ ?_ c194 ?_ (by rw [r5, r7]; exact gp) (fun g g1 g2 g3 => ?_) ?_
    · unfold rNE rNM at q; omega
    · unfold rNE rNM at q; omega
    · rw [d2.cI (by omega) (by omega), dB.cI (by omega) (noGr_pp gA _ _ (Or.inl ⟨rfl, Or.inl rfl⟩)), e1, cI_wR, cI_wI, if_pos ⟨rfl, rfl⟩]
    · rw [f1, cI_wR, cI_wI, if_pos ⟨rfl, rfl⟩]
    · rw [d2.cI (by omega) (by omega), dB.cI (by omega) (noGr_pp gA _ _ (Or.inr ⟨rfl, Or.inr rfl⟩)), d1.cI (by omega) (by omega), dA.cI (by omega) (noGr_pp gA _ _ (Or.inr ⟨rfl, Or.inr rfl⟩))]
      exact q6
    · obtain ⟨s1, s2, s3⟩ := q8 j g j1 j2 g1 g2 hj g3
      exact ⟨s1, s2, s3, (q8 g j g1 g2 j1 j2 g3 hj).2.2⟩
    · exact (q8 j j j1 j2 j1 j2 hj hj).2.2
  · unfold bud
    rw [c194, q5, show m_sl M2 = m_sl B by rw [f1]; rfl]
    omega
