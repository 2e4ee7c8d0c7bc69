/-! ===== VIEWS, 17: the model makes a view, whole ===== -/
theorem M_viewed {M0 Mi : Mem} {own o L d nn c0 n : Nat} {es : List Nat} {its : List (Nat → Int)} {k b0 p0 : Int32} {z : Nat → Nat} {t : Nat → Int32} (h : ST Mi) (g : GM Mi own k nn z t b0 c0 p0) (hnn : nn ≤ 4) (hz : ∀ i, i < nn → z i ≤ 4096) (hp0 : p0 = 0 ∨ p0 = 1) (ls : LIt M0 Mi o L d es its) (hI : ∀ it, it ∈ its → IT it) (hlen : its.length ≤ 17000) :
    (∀ p, vfin n nn z t b0 its = .inl p → ∃ u M', F_X16_viewed Mi 1068 own L (iw (n : Int)) = some (.inr (u, M')) ∧ MFw Mi M' p (m_nx Mi + 3) (m_sl Mi + 2 * its.length + 40)) ∧
    (∀ σ, vfin n nn z t b0 its = .inr σ → ∃ M' a, F_X16_viewed Mi 1068 own L (iw (n : Int)) = some (.inl (a, M')) ∧ ST M' ∧ m_nx Mi ≤ a ∧ GM M' a k σ.1 σ.2.2.2.1 σ.2.2.2.2 σ.2.2.1 c0 p0 ∧ σ.1 ≤ 4 ∧ Df n2 n2 n2 Mi M' ∧ m_nx M' ≤ m_nx Mi + 5 ∧ m_sl M' ≤ m_sl Mi + 2 * its.length + 60) := by
  have h0 := h.1
  have hxN : xN = 1099511627776 := rfl
  obtain ⟨l1, l2, l3, l4, l5, l6⟩ := id ls
  obtain ⟨w, hw⟩ : ∃ w, w = its.length + 8 := ⟨_, rfl⟩
  obtain ⟨v4, hv4⟩ : ∃ v4, v4 = m_nx Mi := ⟨_, rfl⟩
  obtain ⟨v5, hv5⟩ : ∃ v5, v5 = m_nx Mi + 1 := ⟨_, rfl⟩
  obtain ⟨A, hA⟩ : ∃ A, A = m_new Mi 1005 w := ⟨_, rfl⟩
  obtain ⟨M1, hM1⟩ : ∃ M1, M1 = m_new A 1005 w := ⟨_, rfl⟩
  have dA : Df n2 n2 n2 Mi A := hA ▸ Df.new _ _
  have d1 : Df n2 n2 n2 Mi M1 := dA.trans (hM1 ▸ Df.new _ _)
  have nA : m_nx A = v5 := by rw [hA]; show m_nx Mi + 1 = _; omega
  have n1 : m_nx M1 = m_nx Mi + 2 := by rw [hM1]; show m_nx A + 1 = _; omega
  have s1 : m_sl M1 = m_sl Mi + w + w := by rw [hM1]; show m_sl A + w = _; rw [hA]; rfl
  have sA : ST A := h.df dA n2_st
  have sM1 : ST M1 := h.df d1 n2_st
  have alA : AL A L d es := l1.df dA (fun q => q) (fun q => q) (fun i _ q => q)
  have e8 : (8 : Int32) + iw (es.length : Nat) = iw (w : Int) := by rw [show (8 : Int32) = iw ((8 : Nat) : Int) from rfl, iw_nad, hw, l4, Nat.add_comm]
  have mA : mk Mi 1005 (iw (w : Int)) = some A := by rw [mk_of (by omega), hA]
  have mB : mk A 1005 (iw (w : Int)) = some M1 := by rw [mk_of (by omega), hM1]
  have g1475 : gi M1 own 1475 = some b0 := by
    have g' := g.df d1 qt_n2 qt_n2
    rw [gi_of g'.2.2.1 (show x_fi 23 1475 = true by decide), g'.2.2.2.2.2.2.1]
  have hd : F_X16_viewed Mi 1068 own L (iw (n : Int)) = F_X16_viewed_b37 xN M1 1068 own L (iw (n : Int)) v4 v5 0 0 b0 0 := by
    unfold F_X16_viewed
    rw [vg_of l1.2.1 (show x_isa 67 67 = true by decide), Option.bind_some, l1.size, Option.bind_some, e8, mA, Option.bind_some, vg_of alA.2.1 (show x_isa 67 67 = true by decide), Option.bind_some, alA.size, Option.bind_some, e8, mB, Option.bind_some, g1475, Option.bind_some, nA, ← hv4]
  have v0 : VMo M1 M1 v4 v5 w (0, 0, b0, fun _ => 0, fun _ => 0) := ⟨sM1, Df.refl _ _ _ _, rfl, rfl, by rw [hM1, tg_new, if_neg (by omega), hA, tg_new, if_pos hv4], by rw [hM1, ln_new, if_neg (by omega), hA, ln_new, if_pos hv4], by rw [hM1, tg_new, if_pos nA.symm], by rw [hM1, ln_new, if_pos nA.symm], by omega, fun j hj => absurd hj (Nat.not_lt_zero j), fun j _ => by rw [hM1, cI_new, if_pos nA.symm]⟩
  obtain ⟨N1, hN1⟩ : ∃ N1, N1 + 1 + its.length = xN := ⟨xN - 1 - its.length, by omega⟩
  obtain ⟨w1, w2⟩ := M_vlp (v3 := iw (n : Int)) g hnn hz ls hI hw.symm (by omega) d1 (show m_nx Mi ≤ v4 by omega) (show m_nx Mi ≤ v5 by omega) its [] N1 (0, 0, b0, fun _ => 0, fun _ => 0) M1 rfl v0 (Nat.le_refl _) (Nat.zero_le _)
  rw [hN1] at w1 w2
  have hd' : F_X16_viewed Mi 1068 own L (iw (n : Int)) = F_X16_viewed_b37 xN M1 1068 own L (iw (n : Int)) v4 v5 (iw ((0 : Nat) : Int)) (iw ((0 : Nat) : Int)) b0 (iw ((0 : Nat) : Int)) := by rw [hd, show iw ((0 : Nat) : Int) = 0 from rfl]
  have fl : ∀ (M' : Mem) (σ' : VS) (p : Nat), VMo M1 M' v4 v5 w σ' → MFw Mi (mT M' 1 (iw (p : Int))) p (m_nx Mi + 3) (m_sl Mi + 2 * its.length + 40) := fun M' σ' p v => by
    obtain ⟨q1, q2⟩ := mT_nx M' 1 (iw (p : Int))
    have u3 := v.2.2.1
    have u4 := v.2.2.2.1
    exact ⟨v.1.df (mT_at1 _ _ _) n2_st, ((v.dn d1 (by omega) (by omega)).mono (fun _ _ q => q.elim) (fun _ _ q => q) (fun _ _ q => q)).trans (mT_at1 _ _ _), by omega, by omega, (mT_c 1 _ v.1.1).2⟩
  unfold vfin
  cases hv : vall nn z t its (0, 0, b0, fun _ => 0, fun _ => 0) with
  | inl p =>
    refine ⟨fun q hq => ?_, fun σ hσ => by cases hσ⟩
    cases hq
    obtain ⟨M', y1, σ', y2⟩ := w1 p hv
    exact ⟨_, _, by rw [hd']; exact y1, fl M' σ' p y2⟩
  | inr σ =>
    obtain ⟨A2, y1, y2, y3, y4⟩ := w2 σ hv
    obtain ⟨r, hr⟩ : ∃ r, r = nn - σ.2.1 := ⟨_, rfl⟩
    obtain ⟨N2, hN2⟩ : ∃ N2, N2 + 1 + r = xN := ⟨xN - 1 - r, by omega⟩
    obtain ⟨B, x1, x2, x3⟩ := M_vrest (v3 := iw (n : Int)) g hnn (show w < 100000 by omega) d1 (show m_nx Mi ≤ v4 by omega) (show m_nx Mi ≤ v5 by omega) r N2 σ A2 (by omega) y2 (by omega)
    rw [hN2] at x1
    have hd2 : F_X16_viewed Mi 1068 own L (iw (n : Int)) = F_X16_viewed_b461 (N2 + 1) B 1068 own (iw (n : Int)) v4 v5 (iw ((vrs z t r σ).1 : Nat)) (iw (nn : Int)) (vrs z t r σ).2.2.1 := by
      rw [hd']
      exact y1.trans x1
    obtain ⟨τ, hτ⟩ : ∃ τ, τ = vrs z t r σ := ⟨_, rfl⟩
    rw [← hτ] at hd2 x2 x3
    show (∀ p, (if 4 < (vrs z t (nn - σ.2.1) σ).1 then (.inl n : Nat ⊕ VS) else .inr (vrs z t (nn - σ.2.1) σ)) = .inl p → _) ∧ (∀ σ', (if 4 < (vrs z t (nn - σ.2.1) σ).1 then (.inl n : Nat ⊕ VS) else .inr (vrs z t (nn - σ.2.1) σ)) = .inr σ' → _)
    rw [← hr, ← hτ, hd2]
    have dB := x2.dn d1 (show m_nx Mi ≤ v4 by omega) (show m_nx Mi ≤ v5 by omega)
    have gB := g.df dB qt_n2 qt_n2
    obtain ⟨o1, o2, o3, o4, o5, o6, o7, o8, o9⟩ := id gB
    obtain ⟨b1, b2, b3, b4, b5, b6, b7, b8, b9, b10, b11⟩ := id x2
    have hd3 : F_X16_viewed_b461 (N2 + 1) B 1068 own (iw (n : Int)) v4 v5 (iw (τ.1 : Nat)) (iw (nn : Int)) τ.2.2.1 = if 4 < τ.1 then some (.inr (m_nx B, mT B 1 (iw (n : Int)))) else
        (gi (mo B 23) own 1472).bind fun t16 =>
        (F_X16_first (mo B 23) v4 (iw (τ.1 : Nat))).bind fun z17 =>
        (F_X16_first z17.2 v5 (iw (τ.1 : Nat))).bind fun z18 =>
        (gr z18.2 own 1476).bind fun t19 =>
        (gi z18.2 own 1477).bind fun t20 =>
        (ng z18.2 (m_nx B)).bind fun _ =>
        (F_X22_init z18.2 (m_nx B) t16 z17.1 z18.1 τ.2.2.1 t19 t20).bind fun z22 =>
        some (.inl (m_nx B, z22)) := by
      show F_X16_viewed_b461_st (F_X16_viewed_b461 N2) B 1068 own _ _ _ _ _ _ = _
      unfold F_X16_viewed_b461_st
      simp only [vg_of o3 (show x_isa 23 23 = true by decide), M_vaxes gB, Option.bind_some]
      rw [if_neg (by rw [iw_le4 (by omega) (by omega)]; omega)]
      have q : (4 : Int32) < iw (τ.1 : Nat) ↔ 4 < τ.1 := by rw [show (4 : Int32) = iw ((4 : Nat) : Int) from rfl, iw_le4 (by omega) (by omega)]
      by_cases c : 4 < τ.1
      · rw [if_pos (q.mpr c), if_pos c]
        simp only [g1068_1103, v1075, b1, Option.bind_some]
        exact M_verr b1 _
      · rw [if_neg (fun hh => c (q.mp hh)), if_neg c]
    rw [hd3]
    by_cases c4 : 4 < τ.1
    · rw [if_pos c4, if_pos c4]
      refine ⟨fun q hq => ?_, fun σ' hσ => by cases hσ⟩
      cases hq
      exact ⟨_, _, rfl, fl B τ n x2⟩
    · rw [if_neg c4, if_neg c4]
      refine ⟨fun q hq => (by cases hq), fun σ' hσ => ?_⟩
      have hσ' : τ = σ' := Sum.inr.inj hσ
      subst hσ'
      have x23 : x_cn 23 ≤ 20 := by decide
      obtain ⟨O, hO⟩ : ∃ O, O = mo B 23 := ⟨_, rfl⟩
      rw [← hO]
      have dO : Df n2 n2 n2 B O := hO ▸ Df.new _ _
      have sO : ST O := b1.df dO n2_st
      have nO : m_nx O = m_nx B + 1 := by rw [hO]; rfl
      have lO : m_sl O ≤ m_sl B + 20 := by rw [hO]; show m_sl B + x_cn 23 ≤ _; omega
      have tO : m_tg O (m_nx B) = 23 := by rw [hO]; show m_tg (m_new B 23 (x_cn 23)) (m_nx B) = 23; exact tg_new.trans (if_pos rfl)
      have gO := gB.df dO qt_n2 qt_n2
      have t4O : m_tg O v4 = 1005 := by rw [(dO.2.2 v4 (by omega)).1]; exact b5
      have l4O : m_ln O v4 = w := by rw [(dO.2.2 v4 (by omega)).2.1]; exact b6
      obtain ⟨P1, f1, f2, f3, f4, f5⟩ := M_first (src := v4) (L := w) (n := τ.1) sO.1 (by omega) (by omega) (by omega) (by omega) t4O l4O
      have dP1 := dO.trans f4
      have t5P : m_tg P1 v5 = 1005 := by rw [(dP1.2.2 v5 (by omega)).1]; exact b7
      have l5P : m_ln P1 v5 = w := by rw [(dP1.2.2 v5 (by omega)).2.1]; exact b8
      have sP1 : ST P1 := b1.df dP1 n2_st
      obtain ⟨P2, h1, h2, h3, h4, h5⟩ := M_first (src := v5) (L := w) (n := τ.1) sP1.1 (by omega) (by omega) (by omega) (by omega) t5P l5P
      have dP2 := dP1.trans h4
      have sP2 : ST P2 := b1.df dP2 n2_st
      have gP2 := gB.df dP2 qt_n2 qt_n2
      have tP2 : m_tg P2 (m_nx B) = 23 := by rw [((f4.trans h4).2.2 _ (by omega)).1]; exact tO
      have rS : IRw P2 (m_nx O) τ.1 (fun i => iw (τ.2.2.2.1 i : Nat)) := by
        obtain ⟨e1, e2, e3, e4, e5⟩ := f5
        have dx := h4.2.2 _ e2
        exact ⟨e1, by omega, dx.1.trans e3, dx.2.1.trans e4, fun i hi => by rw [h4.cI e2 (fun q => q), e5 i hi]; show cI O v4 i = _; rw [dO.cI (by omega) (fun q => q)]; exact (b10 i hi).1⟩
      have rT : IRw P2 (m_nx P1) τ.1 τ.2.2.2.2 := by
        obtain ⟨e1, e2, e3, e4, e5⟩ := h5
        exact ⟨e1, e2, e3, e4, fun i hi => by rw [e5 i hi]; show cI P1 v5 i = _; rw [dP1.cI (by omega) (fun q => q)]; exact (b10 i hi).2⟩
      obtain ⟨Q, u1, u2, u3, u4, u5⟩ := M_obj (k := k) (b := τ.2.2.1) (c := c0) (p := p0) (show 1334 ≤ m_nx B by omega) (by omega) tP2 hp0 rS rT
      have dQ : Df n2 n2 n2 Mi Q := Df.then (dB.trans dP2) u4 (fun x i hx q => by unfold at1 at q; omega) (fun _ _ _ q => q) (fun x i hx q => by unfold at1 at q; omega)
      refine ⟨Q, m_nx B, ?_, h.df dQ n2_st, by omega, u5, by omega, dQ, by omega, by omega⟩
      rw [gi_of gO.2.2.1 (show x_fi 23 1472 = true by decide), gO.2.2.2.1, Option.bind_some, f1, Option.bind_some]
      show ((F_X16_first P1 v5 (iw (τ.1 : Nat))).bind fun z18 => (gr z18.2 own 1476).bind fun t19 => (gi z18.2 own 1477).bind fun t20 => (ng z18.2 (m_nx B)).bind fun _ => (F_X22_init z18.2 (m_nx B) k (m_nx O) z18.1 τ.2.2.1 t19 t20).bind fun z22 => (some (Sum.inl (m_nx B, z22)) : Option ((Nat × Mem) ⊕ (Nat × Mem)))) = _
      rw [h1, Option.bind_some]
      show ((gr P2 own 1476).bind fun t19 => (gi P2 own 1477).bind fun t20 => (ng P2 (m_nx B)).bind fun _ => (F_X22_init P2 (m_nx B) k (m_nx O) (m_nx P1) τ.2.2.1 t19 t20).bind fun z22 => (some (Sum.inl (m_nx B, z22)) : Option ((Nat × Mem) ⊕ (Nat × Mem)))) = _
      rw [gr_of gP2.2.2.1 (show x_fr 23 1476 = true by decide), gP2.2.2.2.2.2.2.2.1, Option.bind_some, gi_of gP2.2.2.1 (show x_fi 23 1477 = true by decide), gP2.2.2.2.2.2.2.2.2, Option.bind_some, ng_of tP2 (by decide), Option.bind_some, u1, Option.bind_some]
