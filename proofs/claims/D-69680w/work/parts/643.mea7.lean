/-! ===== FORMULAS, 68: what items mean: short ways, choices ===== -/
section
variable {C : MeC} {M N : Mem} {V W : MeV} {P : List Int32} {O Oa Ob : List Mo} {B ia a : Nat} {o : Mo}
/-- frames from any start at which the step a was not yet there -/
def RL (C : MeC) (M : Mem) (V : MeV) (N : Mem) (W : MeV) (k a : Nat) : Prop := ∀ (M0 : Mem) (V0 : MeV) (j : Nat), RG C M0 M V0 V j → m_nx M0 ≤ a → RG C M0 N V0 W (j + k)
theorem RL.of {k : Nat} (h : RG C M N V W k) : RL C M V N W k a := fun M0 V0 j r _ => r.trans h
theorem RL.trans {L : Mem} {X : MeV} {k j : Nat} (h : RL C M V N W k a) (g : RL C N W L X j a) : RL C M V L X (k + j) a := fun M0 V0 i r ha => by rw [← Nat.add_assoc]; exact g M0 V0 (i + k) (h M0 V0 i r ha) ha
theorem RL.mono {k j : Nat} (h : RL C M V N W k a) (hk : k ≤ j) : RL C M V N W j a := fun M0 V0 i r ha => (h M0 V0 i r ha).mono (by omega)
theorem M_setM {o' : Mo} (h : MeG C M V P (Oa ++ (o :: Ob))) (ha : V.eo.getD Oa.length 0 = a) (d : Df (at1 a) (at1 a) (at1 a) M N) (h1 : m_nx N = m_nx M) (h2 : m_sl N = m_sl M) (hq : MOq M C.H C.fa a o → MOq N C.H C.fa a o') : MeG C N V P (Oa ++ (o' :: Ob)) ∧ RL C M V N V 0 a := by
  have hl : Oa.length < (Oa ++ (o :: Ob)).length := by rw [List.length_append, List.length_cons]; omega
  have q := h.2.2.2.2.2.2.1 Oa.length hl
  rw [ha, getD_r (Nat.le_refl _), Nat.sub_self] at q
  obtain ⟨s1, s2⟩ := M_setS h hl ha d (hq q)
  rw [set_mid] at s1
  exact ⟨s1, fun M0 V0 j r hm => r.set d hm h1 h2 s2⟩
theorem M_tag (h : MeG C M V P (Oa ++ (o :: Ob))) (ha : V.eo.getD Oa.length 0 = a) : m_tg M a = 48 ∧ a < m_nx M := by
  have hl : Oa.length < (Oa ++ (o :: Ob)).length := by rw [List.length_append, List.length_cons]; omega
  have q := h.2.2.2.2.2.2.1 Oa.length hl
  rw [ha] at q
  exact ⟨q.1.2.2, q.1.2.1⟩
theorem M_pjp (h : MeG C M V P (Oa ++ (o :: Ob))) (ha : V.eo.getD Oa.length 0 = a) (v : Int32) : pi M a 3078 v = some (wI M a 3078 v) ∧ MeG C (wI M a 3078 v) V P (Oa ++ ({ o with jp := v } :: Ob)) ∧ RL C M V (wI M a 3078 v) V 0 a :=
  ⟨pi_of v (M_tag h ha).1 (show x_wi 48 3078 = true by decide) rfl, M_setM h ha (Df.wI v rfl) rfl rfl (fun q => q.sjp v)⟩
theorem M_pk (h : MeG C M V P (Oa ++ (o :: Ob))) (ha : V.eo.getD Oa.length 0 = a) (v : Int32) : pi M a 3074 v = some (wI M a 3074 v) ∧ MeG C (wI M a 3074 v) V P (Oa ++ ({ o with k := v } :: Ob)) ∧ RL C M V (wI M a 3074 v) V 0 a :=
  ⟨pi_of v (M_tag h ha).1 (show x_wi 48 3074 = true by decide) rfl, M_setM h ha (Df.wI v rfl) rfl rfl (fun q => q.sk v)⟩
theorem M_pto (h : MeG C M V P (Oa ++ (o :: Ob))) (ha : V.eo.getD Oa.length 0 = a) (v : Int32) : pi M a 3076 v = some (wI M a 3076 v) ∧ MeG C (wI M a 3076 v) V P (Oa ++ ({ o with to := v } :: Ob)) ∧ RL C M V (wI M a 3076 v) V 0 a :=
  ⟨pi_of v (M_tag h ha).1 (show x_wi 48 3076 = true by decide) rfl, M_setM h ha (Df.wI v rfl) rfl rfl (fun q => q.sto v)⟩
theorem BGd.df {P' Q' R' : Nat → Nat → Prop} {b x y : Nat} {l : Int32} (h : BGd M b x y l) (d : Df P' Q' R' M N) (hP : ∀ i, ¬ P' b i) (hR : ∀ i, ¬ R' b i) : BGd N b x y l := by
  obtain ⟨h1, h2, h3, h4, h5⟩ := h
  have nn := d.1
  exact ⟨by omega, (d.2.2 b h1).1.trans h2, by rw [d.cR h1 (hR _)]; exact h3, by rw [d.cR h1 (hR _)]; exact h4, by rw [d.cI h1 (hP _)]; exact h5⟩
theorem BGd.w48 {b x y i : Nat} {l : Int32} (h : BGd M b x y l) (ha : m_tg M a = 48) (v : Int32) : BGd (wI M a i v) b x y l := h.df (P' := at1 a) (Q' := n2) (R' := n2) (Df.wI v rfl) (fun j q => by unfold at1 at q; have := h.2.1; rw [q] at this; omega) (fun j q => q)
/-- how many steps there are -/
theorem M_cntO (h : MeG C M V P O) : gr M C.v0 2948 = some C.cd ∧ gr M C.cd 3008 = some C.lo ∧ vg M C.lo 67 = some () ∧ F_J6_size M C.lo = some (iw (O.length : Int)) := by
  obtain ⟨-, -, ⟨c1, c2, c3, c4, c5, c6, c7, c8⟩, ⟨d1, d2, d3, d4⟩, -⟩ := h.1
  exact ⟨by rw [gr_of c3 (show x_fr 46 2948 = true by decide), c8], by rw [gr_of d3 (show x_fr 47 3008 = true by decide), d4], vg_of h.tg3.2.2 (show x_isa 67 67 = true by decide), by rw [h.2.2.2.2.1.1.size, h.2.2.2.2.2.1]⟩
theorem M_lbO (h : MeG C M V P O) : gr M C.v0 2947 = some C.lb ∧ vg M C.lb 67 = some () := by
  obtain ⟨-, -, ⟨c1, c2, c3, c4, c5, c6, c7, c8⟩, -⟩ := h.1
  exact ⟨by rw [gr_of c3 (show x_fr 46 2947 = true by decide), c7], vg_of h.tg3.2.1 (show x_isa 67 67 = true by decide)⟩
/-- an object that tells what was begun is made, the lane is taken, it is kept -/
theorem M_mkBg {l : Int32} {x : Nat} (h : MeG C M V (P ++ [l]) O) : ∃ N W, F_X45_take (mo M 49) C.v0 = some (l, N) ∧ ng N (m_nx M) = some () ∧ ∃ N2, F_X48_init N (m_nx M) x l = some N2 ∧ OKs C M V N2 W P O 1 ∧ BGd N2 (m_nx M) x 0 l ∧ W.eo = V.eo := by
  have d0 := (NCl.start M 49).1
  obtain ⟨g, gc⟩ := h.new d0
  have t0 : m_tg (mo M 49) (m_nx M) = 49 := (NCl.start M 49).2.2.2
  have s0 : m_nx (mo M 49) = m_nx M + 1 ∧ m_sl (mo M 49) = m_sl M + x_cn 49 := ⟨rfl, rfl⟩
  have x49 : x_cn 49 ≤ 10 := by decide
  obtain ⟨N, W, n1, n2', n3, n4, n5⟩ := M_takeS g
  have b0 : m_nx M < m_nx (mo M 49) := by omega
  have bg0 : BGd (mo M 49) (m_nx M) 0 0 0 := ⟨b0, t0, by show cR (m_new M 49 (x_cn 49)) _ _ = 0; rw [cR_new, if_pos rfl], by show cR (m_new M 49 (x_cn 49)) _ _ = 0; rw [cR_new, if_pos rfl], by show cI (m_new M 49 (x_cn 49)) _ _ = 0; rw [cI_new, if_pos rfl]⟩
  have bgN := bg0.fg n3.1 g.tg3
  obtain ⟨N2, e2⟩ : ∃ N2, N2 = wI (wR N (m_nx M) 3136 x) (m_nx M) 3138 l := ⟨_, rfl⟩
  have d2 : Df (at1 (m_nx M)) n2 (at1 (m_nx M)) N N2 := by
    rw [e2]
    exact (Df.wR (P := at1 (m_nx M)) (Q := n2) (R := at1 (m_nx M)) x rfl).trans (Df.wI (P := at1 (m_nx M)) (Q := n2) (R := at1 (m_nx M)) l rfl)
  have s2 : m_nx N2 = m_nx N ∧ m_sl N2 = m_sl N := by rw [e2]; exact ⟨rfl, rfl⟩
  have nb : ∀ y, m_tg N y ≠ 49 → ∀ i, ¬ at1 (m_nx M) y i := fun y hy i q => by unfold at1 at q; rw [q] at hy; exact hy bgN.2.1
  obtain ⟨h1, h2, h3, h6, h7⟩ := n2'
  obtain ⟨t1, t2, t3⟩ := h3.1.tg
  obtain ⟨u1, u2, u3⟩ := h6.tg
  obtain ⟨v1, v2, v3⟩ := h7.1.tg
  have b1 := h1.2.1.1
  have H0 : C.H ≤ m_nx M := by have := h.1.2.2.1; omega
  obtain ⟨p1, p2⟩ := h3.df d2 (nb _ (by omega) _) (nb _ (by omega) _) (fun i hi => nb _ (by have := (t3 hi).1; omega) _) (fun y i hy q => by unfold at1 at q; omega)
  obtain ⟨q1, q2⟩ := h6.df d2 (nb _ (by omega) _) (nb _ (by omega) _) (fun i hi => nb _ (by have := (u3 hi).1; omega) _)
  obtain ⟨r1, r2⟩ := h7.df d2 (nb _ (by omega) _) (nb _ (by omega) _) (fun i hi => nb _ (by have := (v3 hi).1; omega) _) (fun y i hy => ⟨nb _ (by omega) _, fun q => q, nb _ (by omega) _⟩)
  have G2 : MeG C N2 W P O := ⟨h1.df d2 (fun y i q => by unfold at1 at q; omega) (fun y i q => by unfold at1 at q; rw [q]; have := bgN.2.1; omega), h2, p1, q1, r1⟩
  refine ⟨N, W, n1, ng_of bgN.2.1 (by decide), N2, ?_, ⟨G2, ⟨?_, ?_, ?_⟩, ⟨[], by rw [n4, List.append_nil]⟩, n5⟩, ⟨by have := bgN.1; omega, by rw [e2]; exact bgN.2.1, ?_, ?_, ?_⟩, n4⟩
  · unfold F_X48_init
    have tW : m_tg (wR N (m_nx M) 3136 x) (m_nx M) = 49 := bgN.2.1
    rw [ng_of bgN.2.1 (show (49 : Nat) ≠ 0 by decide), Option.bind_some, pr_of x bgN.2.1 (show x_wr 49 3136 = true by decide), Option.bind_some, pi_of l tW (show x_wi 49 3138 = true by decide) rfl, Option.bind_some, ← e2]
  · have f0 : FG C M (mo M 49) := (Df.refl _ _ _ M).then d0 (fun _ _ _ q => q.elim) (fun _ _ _ q => q.elim) (fun _ _ _ q => q.elim)
    exact (f0.trans n3.1).then d2 (fun y i hy q => by unfold at1 at q; omega) (fun _ _ _ q => q) (fun y i hy q => by unfold at1 at q; omega)
  · have := n3.2.1; omega
  · have := n3.2.2
    have e3 : cst3 N2 W = cst3 N W := by unfold cst3; rw [p2, q2, r2]
    omega
  · rw [e2, cR_wI, cR_wR, if_pos ⟨rfl, rfl⟩]
  · rw [e2, cR_wI, cR_wR, if_neg (by omega)]; exact bgN.2.2.2.1
  · rw [e2, cI_wI, if_pos ⟨rfl, rfl⟩]
/-- a short way begins -/
theorem M_one7 {p : Nat} {s : Int32} {l : Int32} (h : MeG C M V (P ++ [l]) O) (hs : s = 18 ∨ s = 19) (hi : IMm M B ia { op := 7, pl := p, sg := sgT s }) (hO : O.length + 1 ≤ C.K) (hB : V.eb.length + 1 ≤ C.K) : ∃ N W a b, F_X45_one M C.v0 ia = some (.inl N) ∧ MeG C N W P (O ++ [{ op := 14, n := if s = 18 then 0 else 1 }]) ∧ RG C M N V W 10 ∧ W.eo = V.eo ++ [a] ∧ W.eb = V.eb ++ [b] ∧ BGd N b a 0 l ∧ m_nx M ≤ a := by
  have o0 : gi M ia 2880 = some (7 : Int32) := by rw [gi_of hi.1.2.2 (show x_fi 45 2880 = true by decide)]; exact congrArg some hi.2.1
  obtain ⟨N1, W1, n1, n2⟩ := OKs.op h 14 hO
  have hi1 := hi.fg n2.1.2.1.1 h.tg3
  have k1 := n2.1.1.1.1.2.1
  have bd : 20 ≤ sgT s ∧ sgT s < 65 := by rcases hs with rfl | rfl <;> decide
  have e27 : (sgT s = 27) ↔ s = 18 := by rcases hs with rfl | rfl <;> decide
  unfold F_X45_one
  rw [o0, Option.bind_some, if_neg (by decide), if_neg (by decide), if_neg (by decide), if_neg (by decide), if_neg (by decide), if_neg (by decide), if_pos rfl, h.v, Option.bind_some, n1, Option.bind_some, show gr N1 ia 2882 = some (sgT s) from hi1.sgr (show ¬ ((7 : Int32) = 2 ∨ (7 : Int32) = 3) by decide), Option.bind_some, k1.vg bd.1 bd.2, Option.bind_some, k1.eq bd.1 bd.2 (show 20 ≤ 27 by decide) (by decide), Option.bind_some]
  have fin : ∀ v : Int32, v = (if s = 18 then 0 else 1) → ∃ N W a b, F_X45_one_b204 N1 (m_nx M) v C.v0 (m_nx M) = some (.inl N) ∧ MeG C N W P (O ++ [{ op := 14, n := if s = 18 then 0 else 1 }]) ∧ RG C M N V W 10 ∧ W.eo = V.eo ++ [a] ∧ W.eb = V.eb ++ [b] ∧ BGd N b a 0 l ∧ m_nx M ≤ a := fun v hv => by
    unfold F_X45_one_b204
    obtain ⟨e1, n3⟩ := n2.pn v
    obtain ⟨g1, g2⟩ := M_lbO n3.1.1
    rw [e1, Option.bind_some, g1, Option.bind_some]
    obtain ⟨N2, W2, m1, m2, N3, m3, m4, m5, m6⟩ := M_mkBg (x := m_nx M) n3.1.1
    have v0' : vg (mo (wI N1 (m_nx M) 3077 v) 49) C.v0 46 = some () := (n3.1.1.new (NCl.start _ 49).1).1.v
    show ∃ N W a b, ((vg (mo (wI N1 (m_nx M) 3077 v) 49) C.v0 46).bind fun _ => (F_X45_take (mo (wI N1 (m_nx M) 3077 v) 49) C.v0).bind fun z17 => (ng z17.2 (m_nx (wI N1 (m_nx M) 3077 v))).bind fun _ => (F_X48_init z17.2 (m_nx (wI N1 (m_nx M) 3077 v)) (m_nx M) z17.1).bind fun z19 => (vg z19 C.lb 67).bind fun _ => (F_J6_add z19 C.lb (m_nx (wI N1 (m_nx M) 3077 v))).bind fun z21 => some (Sum.inl z21.2)) = some (.inl N) ∧ _
    rw [v0', Option.bind_some, m1, Option.bind_some, m2, Option.bind_some, m3, Option.bind_some, (M_lbO m4.1).2, Option.bind_some]
    have tot := n3.1.trans m4
    obtain ⟨N4, W4, q1, q2, q3, q4, q5⟩ := M_begS m4.1 ⟨m5.1, m5.2.1⟩ (by rw [tot.2.2.2]; exact hB)
    rw [q1, Option.bind_some]
    have hl : V.eo.length = O.length := h.2.2.2.2.2.1
    have eo1 : W1.eo = V.eo ++ [m_nx M] := by
      obtain ⟨es, he⟩ := n2.1.2.2.1
      have l1 : W1.eo.length = O.length + 1 := by rw [n2.1.1.2.2.2.2.2.1, List.length_append, List.length_singleton]
      have l2 : es.length = 1 := by rw [he, List.length_append] at l1; omega
      have g := n2.2.2.2
      rw [he, getD_r (by omega), hl, Nat.sub_self] at g
      match es, l2, g, he with
      | [e], _, g, he => rw [he]; have : e = m_nx M := g; rw [this]
    refine ⟨N4, W4, m_nx M, _, rfl, ?_, (tot.2.1.trans q3).mono (by omega), by rw [q4, m6, eo1], by rw [q5, tot.2.2.2], m5.fg q3.1 m4.1.tg3, Nat.le_refl _⟩
    rw [← hv]
    exact q2
  by_cases q : s = 18
  · rw [if_pos (e27.mpr q), if_neg (show ¬ (1 : Int32) = 0 by decide)]
    exact fin 0 (by rw [if_pos q])
  · rw [if_neg (fun w => q (e27.mp w)), if_pos rfl]
    exact fin 1 (by rw [if_neg q])
/-- a short way ends -/
theorem M_one8 {p b : Nat} {s : Int32} {k l : Int32} {es : List Nat} (h : MeG C M V (P ++ [l]) (Oa ++ (o :: Ob))) (hi : IMm M B ia { op := 8, pl := p, sg := sgT s }) (he : V.eb = es ++ [b]) (hb : BGd M b a 0 k) (ha : V.eo.getD Oa.length 0 = a) (hP : P.length + 1 ≤ C.K) :
    ((k = 0 ∧ l = 0) ∧ ∃ N W, F_X45_one M C.v0 ia = some (.inl N) ∧ MeG C N W (P ++ [0]) (Oa ++ ({ o with jp := iw ((Oa ++ (o :: Ob)).length : Int) } :: Ob)) ∧ RL C M V N W 10 a ∧ W.eo = V.eo ∧ W.eb = es) ∨ (¬ (k = 0 ∧ l = 0) ∧ ERs C M V 10 (F_X45_one M C.v0 ia) p) := by
  have o0 : gi M ia 2880 = some (8 : Int32) := by rw [gi_of hi.1.2.2 (show x_fi 45 2880 = true by decide)]; exact congrArg some hi.2.1
  obtain ⟨N1, W1, n1, n2', n3, n4, n5⟩ := M_endS h he ⟨hb.2.1, hb.1⟩
  obtain ⟨N2, W2, m1, m2, m3, m4, m5⟩ := M_takeS n2'
  have b1 := hb.fg n3.1 h.tg3
  have b2 := b1.fg m3.1 n2'.tg3
  have r2 := n3.trans m3
  have hi2 := hi.fg r2.1 h.tg3
  have L0 : Lk 0 := by unfold Lk; decide
  unfold F_X45_one
  rw [o0, Option.bind_some, if_neg (by decide), if_neg (by decide), if_neg (by decide), if_neg (by decide), if_neg (by decide), if_neg (by decide), if_neg (by decide), if_pos rfl, h.v, Option.bind_some, n1, Option.bind_some, n2'.v, Option.bind_some, m1, Option.bind_some]
  have bad : ERs C M V 10 (F_X45_one_b256 N2 C.v0 0 C.v0 ia b) p := by
    unfold F_X45_one_b256
    rw [hi2.pl, Option.bind_some, m2.v, Option.bind_some, M_mustF m2]
    exact ⟨N2, W2, _, _, rfl, m2, r2.mono (by omega)⟩
  by_cases q : l = 0
  · rw [if_pos q, gi_of b2.2.1 (show x_fi 49 3138 = true by decide), b2.2.2.2.2, Option.bind_some]
    by_cases q2 : k = 0
    · left
      rw [if_pos q2]
      refine ⟨⟨q2, q⟩, ?_⟩
      unfold F_X45_one_b256
      obtain ⟨c1, c2, c3, c4⟩ := M_cntO m2
      rw [hi2.pl, Option.bind_some, m2.v, Option.bind_some, M_mustT m2, tb_l, gr_of b2.2.1 (show x_fr 49 3136 = true by decide), b2.2.2.1, Option.bind_some, c1, Option.bind_some, c2, Option.bind_some, c3, Option.bind_some, c4, Option.bind_some]
      obtain ⟨d1, d2, d3⟩ := M_pjp (a := a) m2 (by rw [m4, n4]; exact ha) (iw ((Oa ++ (o :: Ob)).length : Int))
      rw [d1, Option.bind_some, d2.v, Option.bind_some]
      obtain ⟨N3, W3, e1, e2, e3, e4, e5⟩ := M_giveS L0 d2 hP
      rw [e1, Option.bind_some]
      exact ⟨N3, W3, rfl, e2, (((RL.of n3).trans (RL.of m3)).trans d3 |>.trans (RL.of e3)).mono (by omega), by rw [e4, m4, n4], by rw [e5, m5, n5]⟩
    · right
      rw [if_neg q2]
      exact ⟨fun w => q2 w.1, bad⟩
  · right
    rw [if_neg q]
    exact ⟨fun w => q w.2, bad⟩
end
