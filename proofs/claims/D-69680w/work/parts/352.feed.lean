/-! ===== CALLS, 1: feed, end ===== -/
theorem M_word {M : Mem} {t : Nat} {v : Int32} (h : ST M) (ht : cI M 1068 1089 = iw t) (hb : t + 4 ≤ 16000) : ∃ M', F_X16_word M 1068 v = some M' ∧ m_nx M' = m_nx M ∧ m_sl M' = m_sl M ∧ cI M' 1068 1089 = iw (t + 4) ∧ (∀ i, cI M' 1069 i = if t ≤ i ∧ i < t + 4 then wb v (i - t) else cI M 1069 i) ∧ Df (fun a i => a = 1069 ∨ (a = 1068 ∧ i = 1089)) n2 n2 M M' := by
  have step : ∀ (N k : Nat) (M : Mem), k < 4 → ST M → cI M 1068 1089 = iw ((t + k : Nat) : Int) → F_X16_word_b2 (N + 1) M 1068 v (iw (k : Int)) = F_X16_word_b2 N (wI (wI M 1069 (t + k) (wb v k)) 1068 1089 (iw ((t + (k + 1) : Nat) : Int))) 1068 v (iw ((k + 1 : Nat) : Int)) := by
    intro N k M hk h hc
    show F_X16_word_b2_st (F_X16_word_b2 N) M 1068 v _ = _
    unfold F_X16_word_b2_st
    rw [if_pos (by rw [show (4 : Int32) = iw 4 from rfl, iw_lt (by omega) (by omega) (by omega) (by omega)]; omega), g1068_1088 h]
    simp only [Option.bind_some]
    rw [g1068_1089 h, hc]
    simp only [Option.bind_some]
    rw [sb_of (j := t + k) _ (t1069 h) (l1069 h) (by omega) (by decide)]
    simp only [Option.bind_some]
    have e : (24 : Int32) - 8 * iw (k : Int) = iw (24 - 8 * (k : Int)) := by rw [show (24 : Int32) = iw 24 from rfl, show (8 : Int32) = iw 8 from rfl, iw_mul, iw_sub]
    rw [e]
    have h1 := h.wI 1069 (t + k) (j_i2b (j_i2b (j_ishr v (iw (24 - 8 * (k : Int))))))
    rw [g1068_1089 h1]
    simp only [Option.bind_some]
    rw [cI_wI, if_neg (by omega), hc, p1068_1089 h1]
    simp only [Option.bind_some]
    rw [show (1 : Int32) = iw 1 from rfl, iw_add, iw_add]
    rfl
  obtain ⟨N, hN⟩ : ∃ N, xN = N + 1 + 1 + 1 + 1 + 1 := ⟨xN - 5, by decide⟩
  unfold F_X16_word
  rw [hN, show (0 : Int32) = iw ((0 : Nat) : Int) from rfl, step _ 0 M (by decide) h (by simpa using ht)]
  have c1 : ∀ (M : Mem) (x : Int32), cI (wI M 1068 1089 x) 1068 1089 = x := fun M x => by rw [cI_wI, if_pos ⟨rfl, rfl⟩]
  rw [step _ 1 _ (by decide) ((h.wI _ _ _).wI _ _ _) (c1 _ _), step _ 2 _ (by decide) ((((h.wI _ _ _).wI _ _ _).wI _ _ _).wI _ _ _) (c1 _ _), step _ 3 _ (by decide) ((((((h.wI _ _ _).wI _ _ _).wI _ _ _).wI _ _ _).wI _ _ _).wI _ _ _) (c1 _ _)]
  refine ⟨_, rfl, rfl, rfl, ?_, ?_, ?_⟩
  · rw [c1]
    rfl
  · intro i
    simp only [cI_wI]
    by_cases e0 : i = t + 0
    · subst e0; simp
    by_cases e1 : i = t + 1
    · subst e1; simp
    by_cases e2 : i = t + 2
    · subst e2; simp
    by_cases e3 : i = t + 3
    · subst e3; simp
    have : ¬ (t ≤ i ∧ i < t + 4) := by omega
    simp [this, e1, e2, e3, show ¬ i = t by omega]
  · have a := fun (M : Mem) (i : Nat) (x : Int32) => Df.wI (P := fun a i => a = 1069 ∨ (a = 1068 ∧ i = 1089)) (Q := n2) (R := n2) (M := M) (a := 1069) (i := i) x (Or.inl rfl)
    have b := fun (M : Mem) (x : Int32) => Df.wI (P := fun a i => a = 1069 ∨ (a = 1068 ∧ i = 1089)) (Q := n2) (R := n2) (M := M) (a := 1068) (i := 1089) x (Or.inr ⟨rfl, rfl⟩)
    exact (a _ _ _).trans ((b _ _).trans ((a _ _ _).trans ((b _ _).trans ((a _ _ _).trans ((b _ _).trans ((a _ _ _).trans (b _ _)))))))
theorem n2_st : ∀ p ∈ stR, ¬ n2 p.1 p.2.1 := fun _ _ h => h
theorem ST.n {P Q : Nat → Nat → Prop} {M M' : Mem} (h : ST M) (d : Df P Q n2 M M') : ST M' := h.df d n2_st
/-- reading what has not changed -/
theorem Df.cI {P Q R : Nat → Nat → Prop} {M M' : Mem} (d : Df P Q R M M') {a i : Nat} (ha : a < m_nx M) (h : ¬ P a i) : cI M' a i = cI M a i := ((d.2.2 a ha).2.2 i).1 h
theorem Df.cJ {P Q R : Nat → Nat → Prop} {M M' : Mem} (d : Df P Q R M M') {a i : Nat} (ha : a < m_nx M) (h : ¬ Q a i) : cJ M' a i = cJ M a i := ((d.2.2 a ha).2.2 i).2.1 h
theorem Df.cR {P Q R : Nat → Nat → Prop} {M M' : Mem} (d : Df P Q R M M') {a i : Nat} (ha : a < m_nx M) (h : ¬ R a i) : cR M' a i = cR M a i := ((d.2.2 a ha).2.2 i).2.2 h
/-- five words -/
theorem E_five {M : Mem} {t : Nat} {a b c d e : Int32} (h : ST M) (ht : cI M 1000 65 = iw t) (hb : t + 20 ≤ 16000) : ∃ M', ((F_X0_four M 1000 a).bind fun z4 => (F_X0_four z4 1000 b).bind fun z6 => (F_X0_four z6 1000 c).bind fun z8 => (F_X0_four z8 1000 d).bind fun z10 => F_X0_four z10 1000 e) = some M' ∧ m_nx M' = m_nx M ∧ m_sl M' = m_sl M ∧ cI M' 1000 65 = iw (t + 20) ∧
    (∀ i, cI M' 1001 i = if t + 16 ≤ i ∧ i < t + 20 then wb e (i - (t + 16)) else if t + 12 ≤ i ∧ i < t + 16 then wb d (i - (t + 12)) else if t + 8 ≤ i ∧ i < t + 12 then wb c (i - (t + 8)) else if t + 4 ≤ i ∧ i < t + 8 then wb b (i - (t + 4)) else if t ≤ i ∧ i < t + 4 then wb a (i - t) else cI M 1001 i) ∧ Df (fun a i => a = 1001 ∨ (a = 1000 ∧ i = 65)) n2 n2 M M' := by
  obtain ⟨M1, e1, n1, s1, c1, b1, d1⟩ := E_four (v := a) h ht (by omega)
  have h1 := h.n d1
  obtain ⟨M2, e2, n2', s2, c2, b2, d2⟩ := E_four (t := t + 4) (v := b) h1 c1 (by omega)
  have h2 := h1.n d2
  obtain ⟨M3, e3, n3, s3, c3, b3, d3⟩ := E_four (t := t + 4 + 4) (v := c) h2 c2 (by omega)
  have h3 := h2.n d3
  obtain ⟨M4, e4, n4, s4, c4, b4, d4⟩ := E_four (t := t + 4 + 4 + 4) (v := d) h3 c3 (by omega)
  have h4 := h3.n d4
  obtain ⟨M5, e5, n5, s5, c5, b5, d5⟩ := E_four (t := t + 4 + 4 + 4 + 4) (v := e) h4 c4 (by omega)
  refine ⟨M5, by rw [e1]; simp only [Option.bind_some]; rw [e2]; simp only [Option.bind_some]; rw [e3]; simp only [Option.bind_some]; rw [e4]; simp only [Option.bind_some]; rw [e5], by omega, by omega, c5, fun i => ?_, ((d1.trans d2).trans d3).trans (d4.trans d5)⟩
  rw [b5, b4, b3, b2, b1]
theorem M_five {M : Mem} {t : Nat} {a b c d e : Int32} (h : ST M) (ht : cI M 1068 1089 = iw t) (hb : t + 20 ≤ 16000) : ∃ M', ((F_X16_word M 1068 a).bind fun z4 => (F_X16_word z4 1068 b).bind fun z6 => (F_X16_word z6 1068 c).bind fun z8 => (F_X16_word z8 1068 d).bind fun z10 => F_X16_word z10 1068 e) = some M' ∧ m_nx M' = m_nx M ∧ m_sl M' = m_sl M ∧ cI M' 1068 1089 = iw (t + 20) ∧
    (∀ i, cI M' 1069 i = if t + 16 ≤ i ∧ i < t + 20 then wb e (i - (t + 16)) else if t + 12 ≤ i ∧ i < t + 16 then wb d (i - (t + 12)) else if t + 8 ≤ i ∧ i < t + 12 then wb c (i - (t + 8)) else if t + 4 ≤ i ∧ i < t + 8 then wb b (i - (t + 4)) else if t ≤ i ∧ i < t + 4 then wb a (i - t) else cI M 1069 i) ∧ Df (fun a i => a = 1069 ∨ (a = 1068 ∧ i = 1089)) n2 n2 M M' := by
  obtain ⟨M1, e1, n1, s1, c1, b1, d1⟩ := M_word (v := a) h ht (by omega)
  have h1 := h.n d1
  obtain ⟨M2, e2, n2', s2, c2, b2, d2⟩ := M_word (t := t + 4) (v := b) h1 c1 (by omega)
  have h2 := h1.n d2
  obtain ⟨M3, e3, n3, s3, c3, b3, d3⟩ := M_word (t := t + 4 + 4) (v := c) h2 c2 (by omega)
  have h3 := h2.n d3
  obtain ⟨M4, e4, n4, s4, c4, b4, d4⟩ := M_word (t := t + 4 + 4 + 4) (v := d) h3 c3 (by omega)
  have h4 := h3.n d4
  obtain ⟨M5, e5, n5, s5, c5, b5, d5⟩ := M_word (t := t + 4 + 4 + 4 + 4) (v := e) h4 c4 (by omega)
  refine ⟨M5, by rw [e1]; simp only [Option.bind_some]; rw [e2]; simp only [Option.bind_some]; rw [e3]; simp only [Option.bind_some]; rw [e4]; simp only [Option.bind_some]; rw [e5], by omega, by omega, c5, fun i => ?_, ((d1.trans d2).trans d3).trans (d4.trans d5)⟩
  rw [b5, b4, b3, b2, b1]
/-- both trays alike -/
def I1 (M : Mem) : Prop := ∃ t f : Nat, t ≤ 16000 ∧ t ≤ f ∧ f ≤ 65536 ∧ cI M 1000 65 = iw t ∧ cI M 1068 1089 = iw t ∧ cI M 1000 66 = iw f ∧ cI M 1068 1090 = iw f ∧ ∀ i, i < t → cI M 1001 i = cI M 1069 i ∧ bt (cI M 1001 i)
/-- what both trays are made of -/
def pTray : Nat → Nat → Prop := fun a i => a = 1001 ∨ a = 1069 ∨ (a = 1000 ∧ (i = 65 ∨ i = 66)) ∨ (a = 1068 ∧ (i = 1089 ∨ i = 1090))
theorem bt_wb (v : Int32) (k : Nat) : bt (wb v k) := bt_i2b _
theorem c_feed {M : Mem} {a b c d e : Int32} (h : ST M) (hi : I1 M) : ∃ (r : Int32) (M1 M2 : Mem), F_X0_feed M 1000 a b c d e = some (r, M1) ∧ F_X16_feed M1 1068 a b c d e = some (r, M2) ∧ I1 M2 ∧ Df pTray n2 n2 M M2 ∧ m_nx M2 = m_nx M ∧ m_sl M2 = m_sl M := by
  obtain ⟨t, f, ht, htf, hf, k1, k2, k3, k4, k5⟩ := hi
  have h13 := h.1
  unfold F_X0_feed F_X0_feed_b25
  rw [g1000_65 h, k1]
  simp only [Option.bind_some]
  have q1 : (16000 : Int32) < iw (t : Int) + 20 ↔ 16000 < t + 20 := by
    rw [show (20 : Int32) = iw 20 from rfl, iw_add, show (16000 : Int32) = iw 16000 from rfl, iw_lt (by omega) (by omega) (by omega) (by omega)]
    omega
  have q2 : (65536 : Int32) < iw (f : Int) + 20 ↔ 65536 < f + 20 := by
    rw [show (20 : Int32) = iw 20 from rfl, iw_add, show (65536 : Int32) = iw 65536 from rfl, iw_lt (by omega) (by omega) (by omega) (by omega)]
    omega
  simp only [q1]
  by_cases c1 : 16000 < t + 20
  · rw [if_pos c1]
    refine ⟨_, _, M, rfl, ?_, ⟨t, f, ht, htf, hf, k1, k2, k3, k4, k5⟩, Df.refl _ _ _ _, rfl, rfl⟩
    unfold F_X16_feed F_X16_feed_b25
    rw [g1068_1089 h, k2]
    simp only [Option.bind_some, q1]
    rw [if_pos c1]
  · rw [if_neg c1, g1000_66 h, k3]
    simp only [Option.bind_some, q2]
    by_cases c2 : 65536 < f + 20
    · rw [if_pos c2]
      refine ⟨_, _, M, rfl, ?_, ⟨t, f, ht, htf, hf, k1, k2, k3, k4, k5⟩, Df.refl _ _ _ _, rfl, rfl⟩
      unfold F_X16_feed F_X16_feed_b25
      rw [g1068_1089 h, k2]
      simp only [Option.bind_some, q1]
      rw [if_neg c1, g1068_1090 h, k4]
      simp only [Option.bind_some, q2]
      rw [if_pos c2]
    · rw [if_neg c2]
      obtain ⟨M5, e5, n5, s5, u5, b5, d5⟩ := E_five (a := a) (b := b) (c := c) (d := d) (e := e) h k1 (by omega)
      have h5 := h.n d5
      -- the engine's rows
      have run : ((vg M 1000 1).bind fun _ => (F_X0_four M 1000 a).bind fun z4 => (vg z4 1000 1).bind fun _ => (F_X0_four z4 1000 b).bind fun z6 => (vg z6 1000 1).bind fun _ => (F_X0_four z6 1000 c).bind fun z8 => (vg z8 1000 1).bind fun _ => (F_X0_four z8 1000 d).bind fun z10 => (vg z10 1000 1).bind fun _ => (F_X0_four z10 1000 e).bind fun z12 => (gi z12 1000 66).bind fun t13 => (pi z12 1000 66 (t13 + 20)).bind fun M14 => (gi M14 1000 65).bind fun t15 => some (t15, M14)) = ((gi M5 1000 66).bind fun t13 => (pi M5 1000 66 (t13 + 20)).bind fun M14 => (gi M14 1000 65).bind fun t15 => some (t15, M14)) := by
        obtain ⟨A1, f1, -, -, g1, -, p1⟩ := E_four (v := a) h k1 (by omega)
        have j1 := h.n p1
        obtain ⟨A2, f2, -, -, g2, -, p2⟩ := E_four (t := t + 4) (v := b) j1 g1 (by omega)
        have j2 := j1.n p2
        obtain ⟨A3, f3, -, -, g3, -, p3⟩ := E_four (t := t + 4 + 4) (v := c) j2 g2 (by omega)
        have j3 := j2.n p3
        obtain ⟨A4, f4, -, -, g4, -, p4⟩ := E_four (t := t + 4 + 4 + 4) (v := d) j3 g3 (by omega)
        have j4 := j3.n p4
        simp only [f1, f2, f3, f4, Option.bind_some] at e5
        simp only [v1000 h, v1000 j1, v1000 j2, v1000 j3, v1000 j4, f1, f2, f3, f4, e5, Option.bind_some]
      rw [run, g1000_66 h5, d5.cI (by omega) (by omega), k3]
      simp only [Option.bind_some]
      rw [p1000_66 h5]
      simp only [Option.bind_some]
      rw [show (20 : Int32) = iw 20 from rfl, iw_add]
      have h6 := h5.wI 1000 66 (iw ((f : Int) + 20))
      rw [g1000_65 h6, cI_wI, if_neg (by decide), u5]
      simp only [Option.bind_some]
      obtain ⟨N, hN⟩ : ∃ N, N = wI M5 1000 66 (iw ((f : Int) + 20)) := ⟨_, rfl⟩
      rw [← hN] at h6 ⊢
      have dN : Df (fun a i => a = 1001 ∨ (a = 1000 ∧ (i = 65 ∨ i = 66))) n2 n2 M N := by
        rw [hN]
        exact (d5.mono (fun a i p => p.imp id (fun q => ⟨q.1, Or.inl q.2⟩)) (fun _ _ p => p) (fun _ _ p => p)).trans (Df.wI _ (Or.inr ⟨rfl, Or.inr rfl⟩))
      -- the model's
      have m1 : cI N 1068 1089 = iw t := by rw [dN.cI (by omega) (by omega), k2]
      have m2 : cI N 1068 1090 = iw f := by rw [dN.cI (by omega) (by omega), k4]
      obtain ⟨K5, x5, y5, z5, w5, v5, r5⟩ := M_five (a := a) (b := b) (c := c) (d := d) (e := e) h6 m1 (by omega)
      have hK := h6.n r5
      have hnx : m_nx N = m_nx M := by rw [hN]; exact n5
      refine ⟨_, N, wI K5 1068 1090 (iw ((f : Int) + 20)), rfl, ?_, ?_, ?_, ?_, ?_⟩
      · unfold F_X16_feed
        rw [g1068_1089 h6, m1]
        simp only [Option.bind_some, q1]
        rw [if_neg c1, g1068_1090 h6, m2]
        simp only [Option.bind_some, q2]
        rw [if_neg c2]
        have run2 : ((vg N 1068 17).bind fun _ => (F_X16_word N 1068 a).bind fun z4 => (vg z4 1068 17).bind fun _ => (F_X16_word z4 1068 b).bind fun z6 => (vg z6 1068 17).bind fun _ => (F_X16_word z6 1068 c).bind fun z8 => (vg z8 1068 17).bind fun _ => (F_X16_word z8 1068 d).bind fun z10 => (vg z10 1068 17).bind fun _ => (F_X16_word z10 1068 e).bind fun z12 => (gi z12 1068 1090).bind fun t13 => (pi z12 1068 1090 (t13 + 20)).bind fun M14 => (gi M14 1068 1089).bind fun t15 => some (t15, M14)) = ((gi K5 1068 1090).bind fun t13 => (pi K5 1068 1090 (t13 + 20)).bind fun M14 => (gi M14 1068 1089).bind fun t15 => some (t15, M14)) := by
          obtain ⟨A1, f1, -, -, g1, -, p1⟩ := M_word (v := a) h6 m1 (by omega)
          have j1 := h6.n p1
          obtain ⟨A2, f2, -, -, g2, -, p2⟩ := M_word (t := t + 4) (v := b) j1 g1 (by omega)
          have j2 := j1.n p2
          obtain ⟨A3, f3, -, -, g3, -, p3⟩ := M_word (t := t + 4 + 4) (v := c) j2 g2 (by omega)
          have j3 := j2.n p3
          obtain ⟨A4, f4, -, -, g4, -, p4⟩ := M_word (t := t + 4 + 4 + 4) (v := d) j3 g3 (by omega)
          have j4 := j3.n p4
          simp only [f1, f2, f3, f4, Option.bind_some] at x5
          simp only [v1068 h6, v1068 j1, v1068 j2, v1068 j3, v1068 j4, f1, f2, f3, f4, x5, Option.bind_some]
        rw [run2, g1068_1090 hK, r5.cI (by omega) (by omega), m2]
        simp only [Option.bind_some]
        rw [p1068_1090 hK]
        simp only [Option.bind_some]
        rw [show (20 : Int32) = iw 20 from rfl, iw_add, g1068_1089 (hK.wI _ _ _), cI_wI, if_neg (by decide), w5]
        rfl
      · refine ⟨t + 20, f + 20, by omega, by omega, by omega, ?_, ?_, ?_, ?_, fun i hi => ?_⟩
        · rw [cI_wI, if_neg (by decide), r5.cI (by omega) (by omega), hN, cI_wI, if_neg (by decide), u5]
          rfl
        · rw [cI_wI, if_neg (by decide), w5]
          rfl
        · rw [cI_wI, if_neg (by decide), r5.cI (by omega) (by omega), hN, cI_wI, if_pos ⟨rfl, rfl⟩]
          rfl
        · rw [cI_wI, if_pos ⟨rfl, rfl⟩]
          rfl
        · have hA := (show cI (wI K5 1068 1090 (iw ((f : Int) + 20))) 1001 i = cI M5 1001 i by rw [cI_wI, if_neg (by omega), r5.cI (by omega) (by omega), hN, cI_wI, if_neg (by omega)]).trans (b5 i)
          have hB := (show cI (wI K5 1068 1090 (iw ((f : Int) + 20))) 1069 i = cI K5 1069 i by rw [cI_wI, if_neg (by omega)]).trans (v5 i)
          rw [dN.cI (a := 1069) (by omega) (by omega)] at hB
          rw [hA, hB]
          by_cases g0 : i < t
          · have x1 : ¬ (t + 16 ≤ i ∧ i < t + 20) := by omega
            have x2 : ¬ (t + 12 ≤ i ∧ i < t + 16) := by omega
            have x3 : ¬ (t + 8 ≤ i ∧ i < t + 12) := by omega
            have x4 : ¬ (t + 4 ≤ i ∧ i < t + 8) := by omega
            have x5 : ¬ (t ≤ i ∧ i < t + 4) := by omega
            simp only [x1, x2, x3, x4, x5, if_false]
            exact k5 i g0
          · have x5 : ¬ (t + 16 ≤ i ∧ i < t + 20) → ¬ (t + 12 ≤ i ∧ i < t + 16) → ¬ (t + 8 ≤ i ∧ i < t + 12) → ¬ (t + 4 ≤ i ∧ i < t + 8) → (t ≤ i ∧ i < t + 4) := by omega
            by_cases x1 : t + 16 ≤ i ∧ i < t + 20
            · simp only [x1, and_self, if_true]
              exact ⟨trivial, bt_wb _ _⟩
            · by_cases x2 : t + 12 ≤ i ∧ i < t + 16
              · simp only [if_neg x1, if_pos x2]
                exact ⟨trivial, bt_wb _ _⟩
              · by_cases x3 : t + 8 ≤ i ∧ i < t + 12
                · simp only [if_neg x1, if_neg x2, if_pos x3]
                  exact ⟨trivial, bt_wb _ _⟩
                · by_cases x4 : t + 4 ≤ i ∧ i < t + 8
                  · simp only [if_neg x1, if_neg x2, if_neg x3, if_pos x4]
                    exact ⟨trivial, bt_wb _ _⟩
                  · simp only [if_neg x1, if_neg x2, if_neg x3, if_neg x4, if_pos (x5 x1 x2 x3 x4)]
                    exact ⟨trivial, bt_wb _ _⟩
      · have s1 := dN.mono (P' := pTray) (Q' := n2) (R' := n2) (fun a i p => p.elim Or.inl (fun q => Or.inr (Or.inr (Or.inl q)))) (fun _ _ p => p) (fun _ _ p => p)
        have s2 := r5.mono (P' := pTray) (Q' := n2) (R' := n2) (fun a i p => p.elim (fun q => Or.inr (Or.inl q)) (fun q => Or.inr (Or.inr (Or.inr ⟨q.1, Or.inl q.2⟩)))) (fun _ _ p => p) (fun _ _ p => p)
        exact (s1.trans s2).trans (Df.wI _ (Or.inr (Or.inr (Or.inr ⟨rfl, Or.inr rfl⟩))))
      · show m_nx K5 = m_nx M
        omega
      · show m_sl K5 = m_sl M
        have : m_sl N = m_sl M := by rw [hN]; exact s5
        omega
