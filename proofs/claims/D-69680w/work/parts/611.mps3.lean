/-! ===== FORMULAS, 36: the model's parser adds an item ===== -/
section
variable {B0 B1 M : Mem} {g : Prop} {v0 lt dt i li di : Nat} {et ei : List Nat} {T : List Tok} {I : List Itm}
theorem M_itemP (h : PM B0 B1 g M v0 lt dt et T i li di ei I) {t : Itm} {s : Nat} (hs1 : (t.op = 2 ∨ t.op = 3) → WDm M (m_nx B0) s t.wd) (hs2 : ¬ (t.op = 2 ∨ t.op = 3) → s = t.sg) (hl : I.length ≤ 50000) (hg : g) : ∃ M' di' ei', F_X40_item M v0 t.op (iw (t.pl : Int)) s t.n t.bt = some M' ∧ PM B0 B1 g M' v0 lt dt et T i li di' ei' (I ++ [t]) ∧ Df n2 n2 n2 B0 M' ∧ m_nx M' ≤ m_nx M + 2 ∧ m_sl M' + rcs M di ≤ m_sl M + 5 + rcs M' di' := by
  obtain ⟨⟨b1, b2, b3, b4, b5, b6, b7⟩, ⟨v1, v2, v3⟩, ⟨c1, c2, c3, c4⟩, ⟨l1, l2, l3⟩, ⟨p1, p2, p3⟩, q, r, ⟨t1, t2, t3, t4⟩, s1, s2⟩ := h
  have nn := b2.1
  have k0 := NCl.start M 45
  have k1 := k0.wI 2880 t.op
  have k2 := k1.wI 2881 (iw (t.pl : Int))
  have k3 := k2.wR 2882 s
  have k4 := k3.wI 2883 t.n
  have k5 := k4.wJ 2884 t.bt
  obtain ⟨D, hD⟩ : ∃ D, D = wJ (wI (wR (wI (wI (mo M 45) (m_nx M) 2880 t.op) (m_nx M) 2881 (iw (t.pl : Int))) (m_nx M) 2882 s) (m_nx M) 2883 t.n) (m_nx M) 2884 t.bt := ⟨_, rfl⟩
  rw [← hD] at k5
  have x45 : x_cn 45 = 5 := by decide
  have g1 := k5.2.1
  have g2 := k5.2.2.1
  have dD := k5.1
  have nI0 : nIt n2 n2 n2 M (m_nx B0) := fun x i _ _ _ => ⟨fun q => q, fun q => q, fun q => q⟩
  have im : IMm D (m_nx B0) (m_nx M) t := by
    refine ⟨⟨by omega, by omega, k5.2.2.2⟩, ?_, ?_, ?_, ?_, fun w => ?_, fun w => ?_⟩
    · rw [hD, cI_wJ, cI_wI, if_neg (by omega), cI_wR, cI_wI, if_neg (by omega), cI_wI, if_pos ⟨rfl, rfl⟩]
    · rw [hD, cI_wJ, cI_wI, if_neg (by omega), cI_wR, cI_wI, if_pos ⟨rfl, rfl⟩]
    · rw [hD, cI_wJ, cI_wI, if_pos ⟨rfl, rfl⟩]
    · rw [hD, cJ_wJ, if_pos ⟨rfl, rfl⟩]
    · have : cR D (m_nx M) 2882 = s := by rw [hD, cR_wJ, cR_wI, cR_wR, if_pos ⟨rfl, rfl⟩]
      rw [this]
      exact (hs1 w).df dD nI0.tk
    · rw [hD, cR_wJ, cR_wI, cR_wR, if_pos ⟨rfl, rfl⟩]
      exact hs2 w
  obtain ⟨apD, rcD⟩ := p1.df dD (fun q => q) (fun q => q) (fun _ _ q => q)
  have alD := l1.df dD (fun q => q) (fun q => q) (fun _ _ q => q)
  have tg4 := dD.2.2 4 (by omega)
  obtain ⟨M', ds', e1, e2, e3, e4, e5, e6, e7⟩ := apD.add (v := m_nx M) (by omega) ⟨tg4.1.trans b5, tg4.2.1.trans b6⟩ (by omega) (Or.inr ⟨by omega, by rw [k5.2.2.2]; decide⟩)
  have lto : m_tg D li = 67 := apD.1.2.1
  have dig := apD.1.tg
  have dtg := alD.tg
  have vD : m_tg D v0 = 41 := (dD.2.2 v0 v2).1.trans v3
  have dM : Df n2 n2 n2 B0 M' := (b2.trans dD).then e4 (fun x i hx q => (show False by unfold at1 at q; omega)) (fun _ _ _ q => q) (fun x i hx q => (show False by rcases q with q | q; omega; have := p3 q.2; omega))
  have nI1 : nIt (at1 li) n2 (fun x i => (x = li ∧ i = 4288) ∨ (x = di ∧ 1334 ≤ di)) D (m_nx B0) := fun x i x1 x2 x3 => by
    refine ⟨fun q => ?_, fun q => q, fun q => ?_⟩
    · unfold at1 at q; rw [q, lto] at x3; omega
    · rcases q with q | q
      · rw [q.1, lto] at x3; omega
      · rw [q.1, (dig.2 q.2).1] at x3; omega
  have vli : v0 ≠ li := fun w => by rw [← w, vD] at lto; exact absurd lto (by decide)
  have vdi : ¬ (v0 = di ∧ 1334 ≤ di) := fun w => by have := (dig.2 w.2).1; rw [← w.1, vD] at this; exact absurd this (by decide)
  have rO : ∀ i, cR M' v0 i = cR M v0 i := fun i => by
    rw [e4.cR (by omega) (fun w => by rcases w with w | w; exact vli w.1; exact vdi w), dD.cR v2 (fun w => w)]
  have cO : ∀ i, cI M' v0 i = cI M v0 i := fun i => by
    rw [e4.cI (by omega) (fun w => vli w), dD.cI v2 (fun w => w)]
  have alM : AL M' lt dt et := alD.df e4 (fun w => q w) (fun w => by
    rcases w with w | w
    · exact q w.1
    · have := (dig.2 w.2).1; rw [← w.1, dtg.1] at this; exact absurd this (by decide)) (fun j hd w => by
    rcases w with w | w
    · have := (dtg.2 hd).1; rw [w.1, lto] at this; exact absurd this (by decide)
    · have := r w.1; omega)
  have sM' : ST M' := (b3.df dD (fun _ _ q => q)).df e4 (fun p hp q => by
    have := stR_lt p hp
    rcases q with q | q
    · omega
    · have := p3 q.2; omega)
  have kM' : K0 M' := (b4.df b3 dD (fun _ _ _ q => q) (fun _ _ _ q => q)).df (b3.df dD (fun _ _ q => q)) e4 (fun a i q w => by unfold at1 at w; omega) (fun a i q w => by
    rcases w with w | w
    · omega
    · have := p3 w.2; omega)
  have tg4' := e4.2.2 4 (by omega)
  refine ⟨M', ds', ei ++ [m_nx M], ?_, ⟨⟨b1, dM, sM', kM', tg4'.1.trans (tg4.1.trans b5), tg4'.2.1.trans (tg4.2.1.trans b6), b7.1, fun z => by rcases e3 with w | w; rw [w] at e7 ⊢; exact b7.2.1 e7; have := b7.2.2.1.1; omega, (b7.2.2.1.then dD (fun _ _ _ w => w.elim) (fun _ _ _ w => w) (fun _ _ _ w => w.elim)).then e4 (fun x i hx w => Or.inr (Or.inl w)) (fun _ _ _ w => w) (fun x i hx w => by rcases w with w | w; exact Or.inr w; have := b7.2.1 w.2; omega), fun s w hw => ((b7.2.2.2 s w hw).df dD nI0.tk).df e4 nI1.tk⟩, ⟨v1, by have := e4.1; omega, (e4.2.2 v0 (by omega)).1.trans vD⟩, ⟨by rw [rO]; exact c1, by rw [rO]; exact c2, by rw [cO]; exact c3, fun hg => by rw [rO]; exact c4 hg⟩, ⟨alM, l2, l3⟩, ⟨e2, p2, fun _ => by rcases e3 with w | w; rw [w] at e7 ⊢; exact p3 e7; omega⟩, q, fun w => ?_, ⟨t1, t2, t3, fun j hj => ((t4 j hj).df dD nI0.tk).df e4 nI1.tk⟩, ?_, fun j hj => ?_⟩, dM, by omega, by omega⟩
  · unfold F_X40_item F_X44_init
    simp only [gr_of v3 (show x_fr 41 2627 = true by decide), c4 hg, ng_of k0.2.2.2 (show (45 : Nat) ≠ 0 by decide), pi_of _ k0.2.2.2 (show x_wi 45 2880 = true by decide) rfl, pi_of _ k1.2.2.2 (show x_wi 45 2881 = true by decide) rfl, pr_of _ k2.2.2.2 (show x_wr 45 2882 = true by decide), pi_of _ k3.2.2.2 (show x_wi 45 2883 = true by decide) rfl, pj_of _ k4.2.2.2 (show x_wj 45 2884 = true by decide), ← hD, vg_of lto (show x_isa 67 67 = true by decide), e1, Option.bind_some]
  · rcases e3 with z | z
    · rw [z] at w; exact r w
    · rcases l1.2.2.2.2 with y | y
      · omega
      · omega
  · rw [List.length_append, List.length_append, List.length_singleton, List.length_singleton, s1]
  · rw [List.length_append, List.length_singleton] at hj
    rcases Nat.lt_or_ge j I.length with z | z
    · rw [getD_l z, getD_l (l := ei) (by omega)]
      exact ((s2 j z).df dD nI0).df e4 nI1
    · obtain rfl : j = I.length := by omega
      rw [getD_r (Nat.le_refl _), getD_r (l := ei) (by omega), s1, Nat.sub_self]
      exact im.df e4 nI1
end
