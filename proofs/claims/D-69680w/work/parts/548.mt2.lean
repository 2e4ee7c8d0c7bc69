/-! ===== TABLES, 34: the model's call table ===== -/
/-- what was read is a table -/
theorem MRl.tm {M : Mem} {B o tb ln dn lc dc n a : Nat} {en ec : List Nat} {f : Nat → Int32} {d : TD} (h : MRl M B o tb ln dn en lc dc ec f n a (d.2.2.1.map Prod.fst) d.2.2.2) (g : GT d) (hdn : dn < 1334 ∨ B ≤ dn) : TM0 M (fun x => B ≤ x ∧ x < m_nx M) tb d ln dn en lc dc ec := by
  obtain ⟨⟨t, h1, h2, h3, h4, h5, h6, h7, h8, h9, h10⟩, h11, h12, h13, h14, h15, h16, h17⟩ := h
  obtain ⟨g1, g2, g3, g4, g5, g6, g7⟩ := g
  have rw' : ∀ {l dl : Nat} {es : List Nat}, AL M l dl es → (dl < 1334 ∨ B ≤ dl) → (1334 ≤ dl → B ≤ dl ∧ dl < m_nx M) := fun {l dl es} al hd q => by
    rcases al.2.2.2.2 with e | e
    · have := e.2; omega
    · have := e.2.1; omega
  have ml : (d.2.2.1.map Prod.fst).length = d.2.2.1.length := List.length_map ..
  refine ⟨⟨⟨h9, h2⟩, h3⟩, h4, h11, ⟨⟨h10, h5.1⟩, rw' h5 hdn, h5⟩, ⟨⟨h14, h12.1⟩, rw' h12 h15, h12⟩, by rw [h6.1, ml]; exact g4, by rw [h13.1]; exact g5, fun k hk => ?_, fun k hk => ?_⟩
  · obtain ⟨q1, q2, q3, q4, q5, q6⟩ := h6.2 k (by rw [h6.1, ml]; omega)
    rw [mp_gd] at q1
    exact ⟨⟨q3, q4⟩, q2, ⟨q5, q6⟩, q1⟩
  · obtain ⟨q1, q2, q3, q4, q5, q6, q7, q8, q9, q10⟩ := h13.2 k (by rw [h13.1]; omega)
    exact ⟨⟨q2, q3⟩, q1, q4, ⟨q7, q8⟩, q6, ⟨q9, q10⟩, q5⟩
def pMt : Nat → Nat → Prop := fun a i => (a = 1068 ∧ (i = 1091 ∨ i = 1089 ∨ i = 1123 ∨ i = 1124)) ∨ a = 1075
def rMt (m : Nat) : Nat → Nat → Prop := fun a i => a = 1324 ∧ i = m + 1
theorem M_tableC {E : Mem} {t m W : Nat} {f : Nat → Int32} (S : ST E) (k0 : K0 E) (k4 : m_tg E 4 = 1091 ∧ m_ln E 4 = 0) (ht : t ≤ 1280) (h95 : cI E 1068 1095 = 0) (h89 : cI E 1068 1089 = iw (t : Int)) (hf : ∀ i, i < t → cI E 1069 i = f i ∧ bt (f i)) (hm : cI E 1068 1123 = iw (m : Int)) (hm2 : m ≤ 40) (hW : cI E 1068 1124 = iw (W : Int)) (hW2 : W ≤ 65536) : match ttx f t with
    | .inl p => ∃ M2, F_X16_table E 1068 = some (-20, M2) ∧ cI M2 1068 1091 = iw (p : Int) ∧ cI M2 1068 1089 = 0 ∧ Df (fun a i => (a = 1068 ∧ (i = 1091 ∨ i = 1089)) ∨ a = 1075) n2 n2 E M2 ∧ m_nx M2 ≤ m_nx E + 10 * t + 20 ∧ m_sl M2 ≤ m_sl E + 3605 * t + 300
    | .inr r => ∀ d : TD, d = (r.1, r.2.1, r.2.2.take r.1, r.2.2.drop r.1) → GT d → ((m = 40 ∨ 65536 < W + (fla r.2.2).length) → ∃ M2, F_X16_table E 1068 = some (-12, M2) ∧ cI M2 1068 1091 = -1 ∧ cI M2 1068 1089 = 0 ∧ Df (fun a i => (a = 1068 ∧ (i = 1091 ∨ i = 1089)) ∨ a = 1075) n2 n2 E M2 ∧ m_nx M2 ≤ m_nx E + 10 * t + 20 ∧ m_sl M2 ≤ m_sl E + 3605 * t + 300) ∧
      (¬ (m = 40 ∨ 65536 < W + (fla r.2.2).length) → ∃ M2, F_X16_table E 1068 = some (iw ((m + 1 : Nat) : Int), M2) ∧ cI M2 1068 1091 = -1 ∧ cI M2 1068 1089 = 0 ∧ TMt M2 (fun x => m_nx E ≤ x ∧ x < m_nx M2) (cR M2 1324 (m + 1)) d ∧ cI M2 1068 1123 = iw ((m + 1 : Nat) : Int) ∧ cI M2 1068 1124 = iw ((W + (fla r.2.2).length : Nat) : Int) ∧ Df pMt n2 (rMt m) E M2 ∧ m_nx M2 ≤ m_nx E + 10 * t + 20 ∧ m_sl M2 ≤ m_sl E + 3605 * t + 300) := by
  have h0 := S.1
  obtain ⟨B, hB⟩ : ∃ B, B = wI E 1068 1091 (-1) := ⟨_, rfl⟩
  obtain ⟨B1, hB1⟩ : ∃ B1, B1 = wI B 1068 1089 0 := ⟨_, rfl⟩
  have sB : ST B := hB ▸ S
  have sB1 : ST B1 := hB1 ▸ sB
  have dB1 : Df (fun a i => (a = 1068 ∧ (i = 1091 ∨ i = 1089)) ∨ a = 1075) n2 n2 E B1 := by
    rw [hB1, hB]
    exact (Df.wI _ (Or.inl ⟨rfl, Or.inl rfl⟩)).trans (Df.wI _ (Or.inl ⟨rfl, Or.inr rfl⟩))
  have b95 : cI B 1068 1095 = 0 := by rw [hB, cI_wI, if_neg (by decide)]; exact h95
  have usM : F_X16_used B 1068 = some (iw (t : Int), B1) := by
    have : cI B 1068 1089 = iw (t : Int) := by rw [hB, cI_wI, if_neg (by decide)]; exact h89
    simp only [F_X16_used, g1068_1089, p1068_1089, sB, this, ← hB1, Option.bind_some]
  have c91 : cI B1 1068 1091 = -1 := by rw [hB1, cI_wI, if_neg (by decide), hB, cI_wI, if_pos ⟨rfl, rfl⟩]
  have c89 : cI B1 1068 1089 = 0 := by rw [hB1, cI_wI, if_pos ⟨rfl, rfl⟩]
  have nB : m_nx B1 = m_nx E ∧ m_sl B1 = m_sl E := by rw [hB1, hB]; exact ⟨rfl, rfl⟩
  have kB : K0 B1 := k0.df S dB1 (fun a i q k => by omega) (fun _ _ _ q => q)
  obtain ⟨B2, hB2⟩ : ∃ B2, B2 = mo B1 54 := ⟨_, rfl⟩
  have d2 : Df n2 n2 n2 B1 B2 := hB2 ▸ Df.new _ _
  have sB2 : ST B2 := sB1.df d2 n2_st
  have ngB : ng B2 (m_nx B1) = some () := ng_of (t := 54) (by rw [hB2]; show m_tg (m_new B1 54 (x_cn 54)) (m_nx B1) = 54; exact tg_new.trans (if_pos rfl)) (by decide)
  have head : F_X16_table E 1068 = tc (F_X53_init B2 (m_nx B1) 1075 1069 (iw (t : Int))) (fun z13 =>
      (gr z13 (m_nx B1) 3461).bind fun t15 => (gi z13 (m_nx B1) 3462).bind fun t16 => (vg z13 1068 17).bind fun _ => (F_X16_tabled z13 1068 t15 t16).bind fun z18 => some (z18.1, z18.2)) (fun z14 => F_X16_table_b40 z14.2 z14.1 1068) := by
    unfold F_X16_table
    rw [p1068_1091 S, Option.bind_some, ← hB, g1068_1095 sB, Option.bind_some, b95, if_pos rfl, v1068 sB, Option.bind_some, usM, Option.bind_some]
    simp only [← hB2, g1068_1103, g1068_1088, sB2, ngB, Option.bind_some]
  have rd := M_readT (M := B1) (f := f) (n := t) sB1 ⟨(dB1.2.2 4 (by omega)).1.trans k4.1, (dB1.2.2 4 (by omega)).2.1.trans k4.2⟩ ht (fun i hi => by rw [dB1.cI (by omega) (fun q => by omega)]; exact hf i hi)
  rw [← hB2] at rd
  rw [head]
  cases hx : ttx f t with
  | inl p =>
    rw [hx] at rd
    obtain ⟨M1, f1, f2, f3, f4, f5⟩ := rd
    obtain ⟨M3, hM3⟩ : ∃ M3, M3 = mT M1 1 (iw (p : Int)) := ⟨_, rfl⟩
    rw [← hM3] at f1
    have d3 : Df (fun a i => (a = 1068 ∧ (i = 1091 ∨ i = 1089)) ∨ a = 1075) n2 n2 M1 M3 := by
      rw [hM3]
      unfold mT
      exact ((Df.wI (P := fun a i => (a = 1068 ∧ (i = 1091 ∨ i = 1089)) ∨ a = 1075) (Q := n2) (R := n2) (M := M1) (a := 1075) (i := 1152) 1 (Or.inr rfl)).trans (Df.wI (a := 1075) (i := 1153) _ (Or.inr rfl))).trans (Df.new _ _)
    have s3 : ST M3 := f2.df d3 n2_st
    have c53 : cI M3 1075 1153 = iw (p : Int) := by
      have h10 := f2.1
      rw [hM3]
      show cI (m_new (wI (wI M1 1075 1152 1) 1075 1153 (iw (p : Int))) 64 (x_cn 64)) 1075 1153 = _
      rw [cI_new, if_neg (show ¬ 1075 = m_nx (wI (wI M1 1075 1152 1) 1075 1153 (iw (p : Int))) from fun q => by have q2 : 1075 = m_nx M1 := q; omega), cI_wI, if_pos ⟨rfl, rfl⟩]
    have x64 : x_cn 64 ≤ 20 := by decide
    have n3 : m_nx M3 = m_nx M1 + 1 ∧ m_sl M3 ≤ m_sl M1 + 20 := by rw [hM3]; exact ⟨rfl, by show m_sl M1 + x_cn 64 ≤ _; omega⟩
    obtain ⟨M2, hM2⟩ : ∃ M2, M2 = wI M3 1068 1091 (iw (p : Int)) := ⟨_, rfl⟩
    have dd : Df (fun a i => (a = 1068 ∧ (i = 1091 ∨ i = 1089)) ∨ a = 1075) n2 n2 E M3 := (dB1.trans (f3.mono (fun _ _ q => q.elim) (fun _ _ q => q) (fun _ _ q => q))).trans d3
    have h10 := f2.1
    refine ⟨M2, ?_, by rw [hM2, cI_wI, if_pos ⟨rfl, rfl⟩], ?_, dd.trans (by rw [hM2]; exact Df.wI _ (Or.inl ⟨rfl, Or.inl rfl⟩)), by rw [hM2]; show m_nx M3 ≤ _; omega, by rw [hM2]; show m_sl M3 ≤ _; omega⟩
    · rw [f1, tc_inr]
      simp only [F_X16_table_b40, g1068_1103, g1075_1153, p1068_1091, s3, c53, ← hM2, Option.bind_some]
    · rw [hM2, cI_wI, if_neg (by decide), hM3]
      show cI (m_new (wI (wI M1 1075 1152 1) 1075 1153 (iw (p : Int))) 64 (x_cn 64)) 1068 1089 = _
      rw [cI_new, if_neg (show ¬ 1068 = m_nx (wI (wI M1 1075 1152 1) 1075 1153 (iw (p : Int))) from fun q => by have q2 : 1068 = m_nx M1 := q; omega), cI_wI, if_neg (by decide), cI_wI, if_neg (by decide), f3.cI (by omega) (fun q => q)]
      exact c89
  | inr r =>
    rw [hx] at rd
    obtain ⟨M1, dn, en, dc, ec, hd, cs, f1, f2, f3, f4, f5, f6, f7, f8, f9⟩ := rd
    intro d hd' g
    have e1 : hd = r.2.2.take r.1 := by rw [f2, ← f3, List.take_left]
    have e2 : cs = r.2.2.drop r.1 := by rw [f2, ← f3, List.drop_left]
    have ed : d = (r.1, r.2.1, hd, cs) := by rw [hd', e1, e2]
    obtain ⟨o, ho⟩ : ∃ o, o = m_nx B1 := ⟨_, rfl⟩
    rw [← ho] at f1 f4 f5 f7 f9 ⊢
    have f4' : MRl M1 o o (o + 1) (o + 2) dn en (o + 3) dc ec f t t (d.2.2.1.map Prod.fst) d.2.2.2 := by rw [ed]; exact f4
    have tm := f4'.tm g f9
    have S1 := f4.1.1.2.2.2.2.2.2.2.2.1
    have k1 : K0 M1 := kB.df sB1 f6 (fun _ _ _ q => q) (fun _ _ _ q => q)
    have gr1 : gr M1 o 3461 = some (o + 1) := f4.1.gt.1
    have gi1 : gi M1 o 3462 = some (iw ((fla r.2.2).length : Nat)) := by rw [gi_of f4.1.1.2.1 (show x_fi 54 3462 = true by decide), f5]
    have hfl : (fla r.2.2).length ≤ 1000000 := by
      have a1 : cI M1 o 3462 = iw ((fla r.2.2).length : Nat) := f5
      have : ∀ cs : List (List Int32 × Bool), (∀ k, k < cs.length → (cl cs k).1.length ≤ 40) → (fla cs).length ≤ 40 * cs.length := by
        intro cs
        induction cs with
        | nil => intro _; exact Nat.le_refl _
        | cons c cs ih =>
          intro q
          have q0 := q 0 (by simp)
          have q1 := ih (fun k hk => q (k + 1) (by simpa using hk))
          rw [fla_cons, List.length_append, List.length_cons]
          have : (cl (c :: cs) 0).1 = c.1 := rfl
          rw [this] at q0
          omega
      obtain ⟨g1, g2, g3, g4, g5, g6, g7⟩ := g
      rw [ed] at g1 g2 g3 g4 g5 g6 g7
      simp only [] at g1 g2 g3 g4 g5 g6 g7
      have hCR : r.1 * r.2.1 ≤ 16 * 499 := Nat.mul_le_mul g2 (by omega)
      have l1 := this hd (fun k hk => by have := (g6 k (by omega)).2.2; omega)
      have l2 := this cs (fun k hk => (g7 k (by omega)).2.1)
      have l3 : (fla r.2.2).length = (fla hd).length + (fla cs).length := by
        rw [f2]
        unfold fla
        rw [List.map_append, List.flatten_append, List.length_append]
      omega
    have m23 : cI M1 1068 1123 = iw (m : Int) := by rw [f6.cI (by omega) (fun q => q), dB1.cI (by omega) (fun q => by omega)]; exact hm
    have m24 : cI M1 1068 1124 = iw (W : Int) := by rw [f6.cI (by omega) (fun q => q), dB1.cI (by omega) (fun q => by omega)]; exact hW
    have h10 := S1.1
    have tbd := M_tabled (M := M1) (Z := fun x => o ≤ x ∧ x < m_nx M1) (m := m) (W := W) (X := (fla r.2.2).length) S1 k1 g (fun x hx => by omega) tm m23 hm2 m24 hW2 hfl
    have run : tc (F_X53_init B2 o 1075 1069 (iw (t : Int))) (fun z13 =>
      (gr z13 o 3461).bind fun t15 => (gi z13 o 3462).bind fun t16 => (vg z13 1068 17).bind fun _ => (F_X16_tabled z13 1068 t15 t16).bind fun z18 => some (z18.1, z18.2)) (fun z14 => F_X16_table_b40 z14.2 z14.1 1068) = ((F_X16_tabled M1 1068 (o + 1) (iw ((fla r.2.2).length : Nat))).bind fun z18 => some (z18.1, z18.2)) := by
      rw [f1, tc_inl]
      simp only [gr1, gi1, v1068, S1, Option.bind_some]
    rw [run]
    have dE1 : Df (fun a i => (a = 1068 ∧ (i = 1091 ∨ i = 1089)) ∨ a = 1075) n2 n2 E M1 := dB1.trans (f6.mono (fun _ _ q => q.elim) (fun _ _ q => q) (fun _ _ q => q))
    have a91 : cI M1 1068 1091 = -1 := by rw [f6.cI (by omega) (fun q => q)]; exact c91
    have a89 : cI M1 1068 1089 = 0 := by rw [f6.cI (by omega) (fun q => q)]; exact c89
    refine ⟨fun full => ⟨M1, by rw [tbd.1 full, Option.bind_some], a91, a89, dE1, by omega, by omega⟩, fun nf => ?_⟩
    obtain ⟨M2, u1, u2, u3, u4, u5, u6, u7, u8, u9, u10⟩ := tbd.2 nf
    have nn := u8.1
    refine ⟨M2, by rw [u1, Option.bind_some], by rw [u8.cI (by omega) (fun q => by unfold pTa at q; omega)]; exact a91, by rw [u8.cI (by omega) (fun q => by unfold pTa at q; omega)]; exact a89, ?_, u5, u6, ?_, by omega, by omega⟩
    · rw [u7]
      exact u4.w (fun x hx => show m_nx E ≤ x ∧ x < m_nx M2 by have n1 := nB.1; have n6 := f6.1; have hx2 : (o ≤ x ∧ x < m_nx M1) ∨ x = m_nx M1 := hx; omega)
    · refine Df.then (dE1.mono (fun a i q => ?_) (fun _ _ q => q) (fun _ _ q => q.elim)) u8 (fun x i hx q => ?_) (fun _ _ _ q => q) (fun x i hx q => ?_)
      · unfold pMt; omega
      · unfold pTa at q; unfold pMt; omega
      · unfold rTa at q; unfold rMt; omega
