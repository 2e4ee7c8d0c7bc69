/-! ===== FORMULAS, 69: what items mean: choices ===== -/
section
variable {C : MeC} {M N : Mem} {V W : MeV} {P : List Int32} {O Oa Ob Oc : List Mo} {B ia a : Nat} {o ow og : Mo}
/-- a step that was just added, as an entry -/
theorem Lst.eo {x k : Nat} (h : Lst C M V N W x P O o k) (hl : V.eo.length = O.length) : W.eo = V.eo ++ [x] := by
  obtain ⟨es, he⟩ := h.1.2.2.1
  have l1 : W.eo.length = O.length + 1 := by rw [h.1.1.2.2.2.2.2.1, List.length_append, List.length_singleton]
  have l2 : es.length = 1 := by rw [he, List.length_append] at l1; omega
  have g := h.2.2.2
  rw [he, getD_r (by omega), hl, Nat.sub_self] at g
  match es, l2, g, he with
  | [e], _, g, he => rw [he]; have : e = x := g; rw [this]
/-- a choice begins -/
theorem M_one9 {p : Nat} {l : Int32} (h : MeG C M V (P ++ [l]) O) (hi : IMm M B ia { op := 9, pl := p }) (hO : O.length + 1 ≤ C.K) (hB : V.eb.length + 1 ≤ C.K) : ∃ N W a b, F_X45_one M C.v0 ia = some (.inl N) ∧ MeG C N W P (O ++ [{ op := 15 }]) ∧ RG C M N V W 10 ∧ W.eo = V.eo ++ [a] ∧ W.eb = V.eb ++ [b] ∧ BGd N b a 0 l ∧ m_nx M ≤ a := by
  have o0 : gi M ia 2880 = some (9 : Int32) := by rw [gi_of hi.1.2.2 (show x_fi 45 2880 = true by decide)]; exact congrArg some hi.2.1
  obtain ⟨N1, W1, n1, n3⟩ := OKs.op h 15 hO
  obtain ⟨g1, g2⟩ := M_lbO n3.1.1
  unfold F_X45_one
  rw [o0, Option.bind_some, if_neg (by decide), if_neg (by decide), if_neg (by decide), if_neg (by decide), if_neg (by decide), if_neg (by decide), if_neg (by decide), if_neg (by decide), if_pos rfl, h.v, Option.bind_some, n1, Option.bind_some, g1, Option.bind_some]
  obtain ⟨N2, W2, m1, m2, N3, m3, m4, m5, m6⟩ := M_mkBg (x := m_nx M) n3.1.1
  have v0' : vg (mo N1 49) C.v0 46 = some () := (n3.1.1.new (NCl.start _ 49).1).1.v
  show ∃ N W a b, ((vg (mo N1 49) C.v0 46).bind fun _ => (F_X45_take (mo N1 49) C.v0).bind fun z17 => (ng z17.2 (m_nx N1)).bind fun _ => (F_X48_init z17.2 (m_nx N1) (m_nx M) z17.1).bind fun z19 => (vg z19 C.lb 67).bind fun _ => (F_J6_add z19 C.lb (m_nx N1)).bind fun z21 => some (Sum.inl z21.2)) = some (.inl N) ∧ _
  rw [v0', Option.bind_some, m1, Option.bind_some, m2, Option.bind_some, m3, Option.bind_some, (M_lbO m4.1).2, Option.bind_some]
  have tot := n3.1.trans m4
  obtain ⟨N4, W4, q1, q2, q3, q4, q5⟩ := M_begS m4.1 ⟨m5.1, m5.2.1⟩ (by rw [tot.2.2.2]; exact hB)
  rw [q1, Option.bind_some]
  have hl : V.eo.length = O.length := h.2.2.2.2.2.1
  exact ⟨N4, W4, m_nx M, _, rfl, q2, (tot.2.1.trans q3).mono (by omega), by rw [q4, m6, n3.eo hl], by rw [q5, tot.2.2.2], m5.fg q3.1 m4.1.tg3, Nat.le_refl _⟩
/-- the other part of a choice begins -/
theorem M_one10 {p b : Nat} {l k : Int32} {es : List Nat} (h : MeG C M V (P ++ [l]) (Oa ++ (o :: Ob))) (hi : IMm M B ia { op := 10, pl := p }) (he : V.eb = es ++ [b]) (hb : BGd M b a 0 k) (ha : V.eo.getD Oa.length 0 = a) (hO : (Oa ++ (o :: Ob)).length + 2 ≤ C.K) (hB : V.eb.length + 1 ≤ C.K) :
    ∃ N W w g b2, F_X45_one M C.v0 ia = some (.inl N) ∧ MeG C N W P (Oa ++ ({ o with jp := iw ((Oa.length + Ob.length + 3 : Nat) : Int) } :: (Ob ++ [{ op := 5 }] ++ [{ op := 16 }]))) ∧ RL C M V N W 10 a ∧ W.eo = V.eo ++ [w] ++ [g] ∧ W.eb = V.eb ++ [b2] ∧ BGd N b2 w g l ∧ BGd N b a 0 k ∧ m_nx M ≤ w ∧ m_nx M ≤ g := by
  have o0 : gi M ia 2880 = some (10 : Int32) := by rw [gi_of hi.1.2.2 (show x_fi 45 2880 = true by decide)]; exact congrArg some hi.2.1
  have hl : V.eo.length = (Oa ++ (o :: Ob)).length := h.2.2.2.2.2.1
  have ll : (Oa ++ (o :: Ob)).length = Oa.length + Ob.length + 1 := by rw [List.length_append, List.length_cons]; omega
  obtain ⟨N1, W1, n1, n3⟩ := OKs.op h 5 (by omega)
  unfold F_X45_one
  rw [o0, Option.bind_some, if_neg (by decide), if_neg (by decide), if_neg (by decide), if_neg (by decide), if_neg (by decide), if_neg (by decide), if_neg (by decide), if_neg (by decide), if_neg (by decide), if_pos rfl, h.v, Option.bind_some, n1, Option.bind_some]
  obtain ⟨N2, W2, m1, m2, N3, m3, m4, m5, m6⟩ := M_mkBg (x := m_nx M) n3.1.1
  have v0' : vg (mo N1 49) C.v0 46 = some () := (n3.1.1.new (NCl.start _ 49).1).1.v
  dsimp only
  rw [v0', Option.bind_some, m1, Option.bind_some, m2, Option.bind_some, m3, Option.bind_some, m4.1.v, Option.bind_some]
  have t1 := n3.1.trans m4
  have hl3 : W2.eo.length = (Oa ++ (o :: Ob) ++ [({ op := 5 } : Mo)]).length := m4.1.2.2.2.2.2.1
  obtain ⟨N4, W4, q1, q3⟩ := OKs.op m4.1 16 (by rw [List.length_append, List.length_singleton]; omega)
  have b24 : BGd N4 (m_nx N1) (m_nx M) 0 l := m5.fg q3.1.2.1.1 m4.1.tg3
  have t2 := t1.trans q3.1
  have b04 : BGd N4 b a 0 k := hb.fg t2.2.1.1 h.tg3
  rw [q1, Option.bind_some, pr_of _ b24.2.1 (show x_wr 49 3137 = true by decide), Option.bind_some]
  obtain ⟨N5, e5⟩ : ∃ N5, N5 = wR N4 (m_nx N1) 3137 (m_nx N3) := ⟨_, rfl⟩
  rw [← e5]
  have d5 : Df n2 n2 (at1 (m_nx N1)) N4 N5 := by rw [e5]; exact Df.wR _ rfl
  have s5 : m_nx N5 = m_nx N4 ∧ m_sl N5 = m_sl N4 := by rw [e5]; exact ⟨rfl, rfl⟩
  have nb : ∀ y, m_tg N4 y ≠ 49 → ∀ i, ¬ at1 (m_nx N1) y i := fun y hy i q => by unfold at1 at q; rw [q] at hy; exact hy b24.2.1
  have G5 : MeG C N5 W4 P (Oa ++ (o :: Ob) ++ [{ op := 5 }] ++ [{ op := 16 }]) ∧ cst3 N5 W4 = cst3 N4 W4 := by
    obtain ⟨h1, h2, h3, h6, h7⟩ := q3.1.1
    obtain ⟨y1, y2, y3⟩ := h3.1.tg
    obtain ⟨u1, u2, u3⟩ := h6.tg
    obtain ⟨v1, v2, v3⟩ := h7.1.tg
    have H1 : C.H ≤ m_nx N1 := by have := n3.1.1.1.2.2.1; omega
    obtain ⟨c1, c2⟩ := h3.df d5 (fun q => q) (nb _ (by omega) _) (fun i hi => nb _ (by have := (y3 hi).1; omega) _) (fun y i hy q => q)
    obtain ⟨c3, c4⟩ := h6.df d5 (fun q => q) (nb _ (by omega) _) (fun i hi => nb _ (by have := (u3 hi).1; omega) _)
    obtain ⟨c5, c6⟩ := h7.df d5 (fun q => q) (nb _ (by omega) _) (fun i hi => nb _ (by have := (v3 hi).1; omega) _) (fun y i hy => ⟨fun q => q, fun q => q, nb _ (by omega) _⟩)
    exact ⟨⟨h1.df d5 (fun y i q => q.elim) (fun y i q => by unfold at1 at q; rw [q]; have := b24.2.1; omega), h2, c1, c3, c5⟩, by unfold cst3; rw [c2, c4, c6]⟩
  obtain ⟨G5a, G5b⟩ := G5
  have nb1 : m_nx M ≤ m_nx N1 := n3.1.2.1.1.1
  have nb3 : m_nx M ≤ m_nx N3 := t1.2.1.1.1
  have bne : b ≠ m_nx N1 := fun q => by have := hb.1; omega
  have b05 : BGd N5 b a 0 k := b04.df d5 (fun i q => q) (fun i q => bne q)
  have b25 : BGd N5 (m_nx N1) (m_nx M) (m_nx N3) l := by
    obtain ⟨z1, z2, z3, z4, z5⟩ := b24
    exact ⟨by omega, by rw [e5]; exact z2, by rw [e5, cR_wR, if_neg (by omega)]; exact z3, by rw [e5, cR_wR, if_pos ⟨rfl, rfl⟩], by rw [e5]; exact z5⟩
  obtain ⟨g1, g2⟩ := M_lbO G5a
  obtain ⟨c1, c2, c3, c4⟩ := M_cntO G5a
  have eb4 : W4.eb = es ++ [b] := by rw [t2.2.2.2, he]
  have al : AL N5 C.lb W4.db (es ++ [b]) := by rw [← eb4]; exact G5a.2.2.2.1.1
  have sz : F_J6_size N5 C.lb = some (iw ((es.length + 1 : Nat) : Int)) := by rw [al.size, List.length_append, List.length_singleton]
  have gg : F_J6_get N5 C.lb (iw ((es.length + 1 : Nat) : Int) - 1) = some b := by
    rw [show iw ((es.length + 1 : Nat) : Int) - 1 = iw (es.length : Int) by show iw ((es.length + 1 : Nat) : Int) - iw ((1 : Nat) : Int) = _; rw [iw_sub]; congr 1; omega, al.get (by rw [List.length_append, List.length_singleton]; omega), getD_r (Nat.le_refl _), Nat.sub_self]
    rfl
  simp only [g1, g2, sz, gg, cc_of b05.2.1 (show x_cast 49 49 = true by decide), gr_of b05.2.1 (show x_fr 49 3136 = true by decide), b05.2.2.1, c1, c2, c3, c4, Option.bind_some]
  have eoW : W4.eo = V.eo ++ [m_nx M] ++ [m_nx N3] := by rw [q3.eo hl3, m6, n3.eo hl]
  have lO : (Oa ++ (o :: Ob) ++ [({ op := 5 } : Mo)] ++ [({ op := 16 } : Mo)]).length = Oa.length + Ob.length + 3 := by rw [List.length_append, List.length_append, ll, List.length_singleton, List.length_singleton]
  have eO : Oa ++ (o :: Ob) ++ [({ op := 5 } : Mo)] ++ [({ op := 16 } : Mo)] = Oa ++ (o :: (Ob ++ [({ op := 5 } : Mo)] ++ [({ op := 16 } : Mo)])) := by simp only [List.append_assoc, List.cons_append, List.nil_append]
  rw [lO]
  rw [eO] at G5a
  have eoa : W4.eo.getD Oa.length 0 = a := by rw [eoW, List.append_assoc, getD_l (by omega)]; exact ha
  obtain ⟨d1, d2, d3⟩ := M_pjp (a := a) G5a eoa (iw ((Oa.length + Ob.length + 3 : Nat) : Int))
  have ta := (M_tag G5a eoa).1
  have b06 := b05.w48 (i := 3078) ta (iw ((Oa.length + Ob.length + 3 : Nat) : Int))
  have b26 := b25.w48 (i := 3078) ta (iw ((Oa.length + Ob.length + 3 : Nat) : Int))
  obtain ⟨g3, g4⟩ := M_lbO d2
  rw [d1, Option.bind_some, g3, Option.bind_some, g4, Option.bind_some]
  obtain ⟨N7, W7, x1, x2, x3, x4, x5⟩ := M_begS d2 ⟨b26.1, b26.2.1⟩ (by rw [eb4, ← he]; exact hB)
  rw [x1, Option.bind_some]
  have r5 : RG C M N5 V W4 5 := by
    have r4 := t2.2.1
    refine ⟨r4.1.then d5 (fun _ _ _ q => q.elim) (fun _ _ _ q => q.elim) (fun y i hy q => by unfold at1 at q; omega), by have := r4.2.1; omega, by have := r4.2.2; omega⟩
  refine ⟨N7, W7, m_nx M, m_nx N3, m_nx N1, rfl, x2, (((RL.of r5).trans d3).trans (RL.of x3)).mono (by omega), by rw [x4, eoW], by rw [x5, t2.2.2.2], b26.fg x3.1 d2.tg3, b06.fg x3.1 d2.tg3, Nat.le_refl _, nb3⟩
end
