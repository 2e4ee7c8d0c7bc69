/-! ===== FORMULAS, 37: the model's parser: lanes' words, names ===== -/
theorem IMm.hs {M N : Mem} {B a x : Nat} {v : List Int32} {t : Itm} (h : IMm M B a t) (hx : WDm M B x v) (d : Df (pHs x) n2 n2 M N) (hv : HS N x v) : IMm N B a t := by
  obtain ⟨⟨h1, h2, h3⟩, h4, h5, h6, h7, h8, h9⟩ := h
  have ne : a ≠ x := fun q => by
    have := hx.1.2.1
    rw [← q, h3] at this
    exact absurd this (by decide)
  have nn := d.1
  have r : cR N a 2882 = cR M a 2882 := d.cR h2 (fun q => q)
  have c : ∀ i, cI N a i = cI M a i := fun i => d.cI h2 (fun w => ne w.1)
  refine ⟨⟨h1, by omega, (d.2.2 a h2).1.trans h3⟩, by rw [c]; exact h4, by rw [c]; exact h5, by rw [c]; exact h6, by rw [((d.2.2 a h2).2.2 _).2.1 (fun q => q)]; exact h7, fun w => ?_, fun w => by rw [r]; exact h9 w⟩
  rw [r]
  exact (h8 w).hs hx d hv
section
variable {B0 B1 M : Mem} {g : Prop} {v0 lt dt i li di : Nat} {et ei : List Nat} {T : List Tok} {I : List Itm}
theorem PM.hs {N : Mem} {x : Nat} {v : List Int32} (h : PM B0 B1 g M v0 lt dt et T i li di ei I) (hx : WDm M (m_nx B0) x v) (d : Df (pHs x) n2 n2 M N) (hv : HS N x v) : PM B0 B1 g N v0 lt dt et T i li di ei I ∧ rcs N di = rcs M di := by
  obtain ⟨⟨b1, b2, b3, b4, b5, b6, b7⟩, ⟨v1, v2, v3⟩, ⟨c1, c2, c3, c4⟩, ⟨l1, l2, l3⟩, ⟨p1, p2, p3⟩, q, r, ⟨t1, t2, t3, t4⟩, s1, s2⟩ := h
  have nn := b2.1
  have hx76 := hx.1.2.1
  have hxB := hx.1.2.2.1.1
  have ax : ∀ a i, m_tg M a ≠ 76 → ¬ pHs x a i := fun a i q w => q (by rw [w.1]; exact hx76)
  have tg4 := d.2.2 4 (by omega)
  have dn := d.1
  obtain ⟨a1, a2⟩ := p1.df d (ax _ _ (by rw [p1.1.2.1]; decide)) (fun q => q) (fun _ _ q => q)
  refine ⟨⟨⟨b1, b2.then d (fun y i hy q => (show False by have := q.1; omega)) (fun _ _ _ q => q) (fun _ _ _ q => q), b3.df d (fun _ _ q => q), b4.df b3 d (fun a i q w => (show False by have := w.1; omega)) (fun _ _ _ q => q), tg4.1.trans b5, tg4.2.1.trans b6, b7.1, b7.2.1, b7.2.2.1.then d (fun y i hy q => Or.inr (Or.inr ⟨by have := q.1; omega, by rw [← (b7.2.2.1.2.2 y hy).1, q.1]; exact hx76⟩)) (fun _ _ _ q => q) (fun _ _ _ q => q.elim), fun s w hw => (b7.2.2.2 s w hw).hs hx d hv⟩, ⟨v1, by omega, (d.2.2 v0 v2).1.trans v3⟩, ⟨by rw [d.cR v2 (fun q => q)]; exact c1, by rw [d.cR v2 (fun q => q)]; exact c2, by rw [d.cI v2 (ax _ _ (by rw [v3]; decide))]; exact c3, fun hg => by rw [d.cR v2 (fun q => q)]; exact c4 hg⟩, ⟨l1.df d (ax _ _ (by rw [l1.2.1]; decide)) (fun q => q) (fun _ _ q => q), l2, l3⟩, ⟨a1, p2, p3⟩, q, r, ⟨t1, t2, t3, fun j hj => (t4 j hj).hs hx d hv⟩, s1, fun j hj => (s2 j hj).hs hx d hv⟩, a2⟩
/-- the lane of a token's text -/
theorem M_laneT (h : PM B0 B1 g M v0 lt dt et T i li di ei I) {j : Nat} (hj : j < T.length) (h2 : (T.getD j tok0).kd = 1 ∨ (T.getD j tok0).kd = 2) : ∃ N, F_X16_laneOf M (cR M (et.getD j 0) 2754) = some (lnW (T.getD j tok0).wd, N) ∧ PM B0 B1 g N v0 lt dt et T i li di ei I ∧ rcs N di = rcs M di ∧ m_nx N = m_nx M ∧ m_sl N = m_sl M ∧ cR N (et.getD j 0) 2754 = cR M (et.getD j 0) 2754 := by
  have h' := h
  obtain ⟨⟨b1, b2, b3, b4, b5, b6, b7⟩, hv, hc, hl, hp, q, r, ⟨t1, t2, t3, t4⟩, s⟩ := h
  obtain ⟨k1, k2, k3, k4, k5, k6, k7, k8⟩ := t4 j hj
  have w := k6 h2
  have nn := b2.1
  have wB := w.1.2.2.1
  obtain ⟨N, e1, e2, e3, e4, e5⟩ := M_laneOf_w b4 b3 w.1.1 w.1.2.1 w.2.1 wB.2 (by omega) w.1.2.2.2.2
  obtain ⟨f1, f2⟩ := h'.hs w e2 e3
  exact ⟨N, e1, f1, f2, e4, e5, e2.cR k1.2.1 (fun q => q)⟩
theorem M_isLaneWordP (h : PM B0 B1 g M v0 lt dt et T i li di ei I) : ∃ N, F_X40_isLaneWord M v0 = some (mr (isLn (T.getD i tok0)), N) ∧ PM B0 B1 g N v0 lt dt et T i li di ei I ∧ rcs N di = rcs M di ∧ m_nx N = m_nx M ∧ m_sl N = m_sl M := by
  have hv := h.v
  have ht := M_tokenP h
  have h' := h
  obtain ⟨b, v, c, l, p, q, r, ⟨t1, t2, t3, t4⟩, s⟩ := h
  obtain ⟨k1, k2, k3, k4, k5, k6, k7, k8⟩ := t4 i t2
  unfold F_X40_isLaneWord F_X40_isLaneWord_b28 F_X40_isLaneWord_b29
  simp only [hv, ht, gi_of k1.2.2 (show x_fi 43 2752 = true by decide), gr_of k1.2.2 (show x_fr 43 2754 = true by decide), k2, Option.bind_some]
  by_cases c2 : (T.getD i tok0).kd = 2
  · obtain ⟨N, e1, e2, e3, e4, e5, -⟩ := M_laneT h' t2 (Or.inr c2)
    rw [if_pos c2, e1, Option.bind_some]
    by_cases w : lnW (T.getD i tok0).wd < 0
    · have nl : isLn (T.getD i tok0) = false := by unfold isLn; exact decide_eq_false (fun z => (lnW_neg _).mp w z.2)
      exact ⟨N, by rw [if_pos w, nl]; rfl, e2, e3, e4, e5⟩
    · have nl : isLn (T.getD i tok0) = true := isLn_t.mpr ⟨c2, Int32.not_lt.mp w⟩
      exact ⟨N, by rw [if_neg w, nl]; rfl, e2, e3, e4, e5⟩
  · have nl : isLn (T.getD i tok0) = false := by unfold isLn; exact decide_eq_false (fun z => c2 z.1)
    exact ⟨M, by rw [if_neg c2, nl]; rfl, h', rfl, rfl, rfl⟩
end
