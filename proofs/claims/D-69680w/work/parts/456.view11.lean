/-! ===== VIEWS, 11: the model reads a number, an item ===== -/
theorem M_num21 {M0 M : Mem} {o L : Nat} {f : Nat → Int32} {n a : Nat} {s : Int32} (t : TM M0 M o L f n a) :
    (¬ isD f n a = true → ∃ x M', F_X25_number_b21 M o s = some (.inr (x, M')) ∧ MFv M0 M M' a) ∧ (isD f n a = true →
    (∀ p, vdg f n 9 0 a = .inl p → ∃ x M', F_X25_number_b21 M o s = some (.inr (x, M')) ∧ MFv M0 M M' p) ∧
    (∀ x b, vdg f n 9 0 a = .inr (x, b) → ∃ M', F_X25_number_b21 M o s = some (.inl (if s = 0 then iw x else -(iw x), M')) ∧ SM M M' o (skpa f n b))) := by
  have hxN : xN = 1099511627776 := rfl
  obtain ⟨f1, f2, f3, f4, f5, f6, f7⟩ := t.fs
  refine ⟨fun c => ⟨m_nx M, _, ?_, t.fail a⟩, fun c => ?_⟩
  · unfold F_X25_number_b21
    simp only [f1, M_isD t, eq_false_of_ne_true c, show mr false = 0 by decide, f5, f2, v1075, t.1, Option.bind_some, if_true]
    exact M_verr t.1 _
  · have hd : F_X25_number_b21 M o s = F_X25_number_b45 xN M o s (iw 0) (iw ((9 - 9 : Nat) : Int)) := by
      unfold F_X25_number_b21
      simp only [f1, M_isD t, c, show ¬ mr true = 0 by decide, Option.bind_some, if_false]
      rfl
    obtain ⟨N, hN⟩ : ∃ N, N + 1 + 9 = xN := ⟨xN - 1 - 9, by omega⟩
    rw [hd, ← hN]
    exact M_vdg 9 N 0 a M (by decide) t
theorem M_vnum {M0 M : Mem} {o L : Nat} {f : Nat → Int32} {n a : Nat} (t : TM M0 M o L f n a) :
    (∀ p, vnm f n a = .inl p → ∃ x M', F_X25_number M o = some (.inr (x, M')) ∧ MFv M0 M M' p) ∧
    (∀ x b, vnm f n a = .inr (x, b) → ∃ M', F_X25_number M o = some (.inl (iw x, M')) ∧ SM M M' o (skpa f n b)) := by
  obtain ⟨f1, f2, f3, f4, f5, f6, f7⟩ := t.fs
  have is45 : F_X25_is M o 45 = some (mr (isC f n a 45)) := M_is t (c := 45) (by decide)
  by_cases c : isC f n a 45 = true
  · have hl := (isC_t.mp c).1
    have sw := SM.w (o := o) t.1 (a + 1)
    have tt := sw.tm t (by omega)
    have hd : F_X25_number M o = F_X25_number_b21 (wI M o 1667 (iw ((a + 1 : Nat) : Int))) o 1 := by
      unfold F_X25_number
      rw [is45, c, f1]
      simp only [Option.bind_some]
      rw [if_neg (by decide), f2]
      simp only [f7, iw_succ, Option.bind_some]
      rfl
    obtain ⟨j1, j2⟩ := M_num21 (s := 1) tt
    unfold vnm
    rw [if_pos c, hd]
    by_cases d : isD f n (a + 1) = true
    · obtain ⟨k1, k2⟩ := j2 d
      rw [if_pos d]
      cases hv : vdg f n 9 0 (a + 1) with
      | inl p =>
        refine ⟨fun q hq => ?_, fun x b h => by cases h⟩
        cases hq
        obtain ⟨x, M', y1, y2⟩ := k1 p hv
        exact ⟨x, M', y1, sw.mf y2⟩
      | inr vb =>
        obtain ⟨v, b'⟩ := vb
        refine ⟨fun q hq => (by cases hq), fun x b h => ?_⟩
        have h' : Sum.inr ((if isC f n a 45 = true then -v else v), b') = (Sum.inr (x, b) : Nat ⊕ (Int × Nat)) := h
        rw [if_pos c] at h'
        cases h'
        obtain ⟨M', y1, y2⟩ := k2 v b' hv
        rw [if_neg (by decide), iw_neg'] at y1
        exact ⟨M', y1, sw.trans y2⟩
    · rw [if_neg d]
      refine ⟨fun q hq => ?_, fun x b h => by cases h⟩
      cases hq
      obtain ⟨x, M', y1, y2⟩ := j1 d
      exact ⟨x, M', y1, sw.mf y2⟩
  · have hd : F_X25_number M o = F_X25_number_b21 M o 0 := by
      unfold F_X25_number
      rw [is45, eq_false_of_ne_true c, f1]
      simp only [Option.bind_some]
      rw [if_pos (by decide)]
      rfl
    obtain ⟨j1, j2⟩ := M_num21 (s := 0) t
    unfold vnm
    rw [if_neg c, hd]
    by_cases d : isD f n a = true
    · obtain ⟨k1, k2⟩ := j2 d
      rw [if_pos d]
      cases hv : vdg f n 9 0 a with
      | inl p =>
        refine ⟨fun q hq => ?_, fun x b h => by cases h⟩
        cases hq
        exact k1 p hv
      | inr vb =>
        obtain ⟨v, b'⟩ := vb
        refine ⟨fun q hq => (by cases hq), fun x b h => ?_⟩
        have h' : Sum.inr ((if isC f n a 45 = true then -v else v), b') = (Sum.inr (x, b) : Nat ⊕ (Int × Nat)) := h
        rw [if_neg c] at h'
        cases h'
        obtain ⟨M', y1, y2⟩ := k2 v b' hv
        rw [if_pos rfl] at y1
        exact ⟨M', y1, y2⟩
    · rw [if_neg d]
      refine ⟨fun q hq => ?_, fun x b h => by cases h⟩
      cases hq
      exact j1 d
/-! items of the model -/
def AR (M0 M : Mem) (y : Nat) (g : Nat → Int) : Prop := m_nx M0 ≤ y ∧ y < m_nx M ∧ m_tg M y = 1005 ∧ m_ln M y = 8 ∧ ∀ i, i < 8 → cI M y i = iw (g i)
def IM (M M' : Mem) (o y : Nat) : Prop := ST M' ∧ Df (fun x i => (x = o ∧ i = 1667) ∨ x = y) n2 n2 M M' ∧ m_nx M' = m_nx M ∧ m_sl M' = m_sl M
theorem SM.im {M M' : Mem} {o y a : Nat} (s : SM M M' o a) : IM M M' o y := ⟨s.1, s.2.1.mono (fun _ _ q => Or.inl q) (fun _ _ q => q) (fun _ _ q => q), s.2.2.2.1, s.2.2.2.2⟩
theorem IM.trans {M M' M'' : Mem} {o y : Nat} (s : IM M M' o y) (t : IM M' M'' o y) : IM M M'' o y := ⟨t.1, s.2.1.trans t.2.1, t.2.2.1.trans s.2.2.1, t.2.2.2.trans s.2.2.2⟩
theorem SM.ar {M0 M M' : Mem} {o y a : Nat} {g : Nat → Int} (s : SM M M' o a) (r : AR M0 M y g) (hy : y ≠ o) : AR M0 M' y g := by
  obtain ⟨r1, r2, r3, r4, r5⟩ := r
  have d := s.2.1.2.2 y r2
  exact ⟨r1, by rw [s.2.2.2.1]; exact r2, d.1.trans r3, d.2.1.trans r4, fun i hi => by rw [s.2.1.cI r2 (by omega)]; exact r5 i hi⟩
theorem AR.w {M0 M : Mem} {y i : Nat} {g : Nat → Int} (r : AR M0 M y g) (v : Int) : AR M0 (wI M y i (iw v)) y (putn g i v) := by
  obtain ⟨r1, r2, r3, r4, r5⟩ := r
  refine ⟨r1, r2, r3, r4, fun j hj => ?_⟩
  unfold putn
  rw [cI_wI]
  by_cases c : j = i
  · rw [if_pos ⟨rfl, c⟩, if_pos c]
  · rw [if_neg (by omega), if_neg c]
    exact r5 j hj
theorem AR.si {M0 M : Mem} {y i : Nat} {g : Nat → Int} (r : AR M0 M y g) (hi : i < 8) (v : Int32) : si M y (iw (i : Int)) v = some (wI M y i v) := si_of v r.2.2.1 r.2.2.2.1 hi (by decide)
theorem AR.eq {M0 M : Mem} {y : Nat} {g g' : Nat → Int} (r : AR M0 M y g) (h : ∀ i, i < 8 → g i = g' i) : AR M0 M y g' := ⟨r.1, r.2.1, r.2.2.1, r.2.2.2.1, fun i hi => by rw [← h i hi]; exact r.2.2.2.2 i hi⟩
theorem lt8 {P : Nat → Prop} (h0 : P 0) (h1 : P 1) (h2 : P 2) (h3 : P 3) (h4 : P 4) (h5 : P 5) (h6 : P 6) (h7 : P 7) : ∀ i, i < 8 → P i := fun i hi => by
  have : i = 0 ∨ i = 1 ∨ i = 2 ∨ i = 3 ∨ i = 4 ∨ i = 5 ∨ i = 6 ∨ i = 7 := by omega
  rcases this with rfl | rfl | rfl | rfl | rfl | rfl | rfl | rfl
  · exact h0
  · exact h1
  · exact h2
  · exact h3
  · exact h4
  · exact h5
  · exact h6
  · exact h7
theorem TM.wy {M0 M : Mem} {o L : Nat} {f : Nat → Int32} {n a y i : Nat} {v : Int32} (t : TM M0 M o L f n a) (hy : m_nx M0 ≤ y) (hyo : y ≠ o) : TM M0 (wI M y i v) o L f n a := by
  obtain ⟨t1, t2, t3, t4, t5, t6, t7, t8, t9, t10, t11, t12, t13, t14⟩ := t
  exact ⟨t1, Df.then t2 (Df.wI (P := fun x _ => x = y) (Q := n2) (R := n2) v rfl) (fun x i hx q => by omega) (fun _ _ _ q => q) (fun _ _ _ q => q), t3, t4, t5, t6, t7, by rw [cI_wI, if_neg (by omega)]; exact t8, t9, by rw [cI_wI, if_neg (by omega)]; exact t10, t11, t12, fun i hi => by rw [cI_wI, if_neg (by omega)]; exact t13 i hi, t14⟩
theorem IM.w {M : Mem} {o y i : Nat} (h : ST M) (v : Int32) : IM M (wI M y i v) o y := ⟨h, Df.wI _ (Or.inr rfl), rfl, rfl⟩
theorem IM.mf {M0 M M' M'' : Mem} {o y p : Nat} (s : IM M M' o y) (v : MFv M0 M' M'' p) : MFv M0 M M'' p := ⟨v.1, v.2.1, by rw [← s.2.2.1]; exact v.2.2.1, by rw [← s.2.2.2]; exact v.2.2.2.1, v.2.2.2.2⟩
theorem isN_or {f : Nat → Int32} {n a : Nat} {α : Type} {x y : α} : (if mr (isC f n a 45) = 0 then (if mr (isD f n a) = 0 then x else y) else y) = if isN f n a = true then y else x := by
  unfold isN
  cases isC f n a 45 <;> cases isD f n a <;> rfl
theorem M_i162 {M0 M : Mem} {o L y : Nat} {f : Nat → Int32} {n a e : Nat} {hf x ht yv : Int} (t : TM M0 M o L f n (skpa f n e)) (hy : y ≠ o) (r : AR M0 M y (itv a 2 hf x ht yv 0 0)) :
    (∀ p, vi3 f n a hf x ht yv e = .inl p → ∃ u M', F_X25_item_b162 M o y = some (.inr (u, M')) ∧ MFv M0 M M' p) ∧
    (∀ it b, vi3 f n a hf x ht yv e = .inr (it, b) → ∃ M', F_X25_item_b162 M o y = some (.inl M') ∧ TM M0 M' o L f n (skpa f n b) ∧ AR M0 M' y it ∧ IM M M' o y) := by
  obtain ⟨f1, f2, f3, f4, f5, f6, f7⟩ := t.fs
  have is58 : F_X25_is M o 58 = some (mr (isC f n (skpa f n e) 58)) := M_is t (c := 58) (by decide)
  unfold vi3
  by_cases c : isC f n (skpa f n e) 58 = true
  · have hl := (isC_t.mp c).1
    have sw := SM.w (o := o) t.1 (skpa f n e + 1)
    have tw := sw.tm t (by omega)
    obtain ⟨B, k1, s2⟩ := M_blanks tw
    have le2 := skpa_le (f := f) (a := skpa f n e + 1) (n := n) (by omega)
    have tB := s2.tm tw le2
    have s02 := sw.trans s2
    have rB := s02.ar r hy
    have hd : F_X25_item_b162 M o y = if isN f n (skpa f n (skpa f n e + 1)) = true then F_X25_item_b202 B o y else F_X25_item_b215 B := by
      unfold F_X25_item_b162
      rw [is58, c, f1]
      simp only [Option.bind_some]
      rw [if_neg (by decide), f2]
      simp only [f7, iw_succ, tw.fs.1, k1, tB.fs.1, show F_X25_is B o 45 = some (mr (isC f n (skpa f n (skpa f n e + 1)) 45)) from M_is tB (c := 45) (by decide), M_isD tB, Option.bind_some]
      exact isN_or
    rw [if_pos c, hd]
    by_cases cn : isN f n (skpa f n (skpa f n e + 1)) = true
    · rw [if_pos cn, if_pos cn]
      have rC := rB.w (i := 6) 1
      have tC := tB.wy (i := 6) (v := iw 1) r.1 hy
      have iC := (s02.im (y := y)).trans (IM.w (o := o) (y := y) (i := 6) tB.1 (iw 1))
      obtain ⟨n1, n2⟩ := M_vnum tC
      have hd2 : F_X25_item_b202 B o y = tb (F_X25_number (wI B y 6 (iw 1)) o) fun z3 => (si z3.2 y 7 z3.1).bind fun M4 => F_X25_item_b215 M4 := by
        unfold F_X25_item_b202
        rw [show si B y 6 1 = some (wI B y 6 (iw 1)) from rB.si (i := 6) (by decide) (iw 1)]
        simp only [tC.fs.1, Option.bind_some]
      rw [hd2]
      cases hv : vnm f n (skpa f n (skpa f n e + 1)) with
      | inl p =>
        refine ⟨fun q hq => ?_, fun it b h => by cases h⟩
        cases hq
        obtain ⟨u, M', y1, y2⟩ := n1 p hv
        exact ⟨u, M', by rw [y1, tb_r], iC.mf y2⟩
      | inr wb =>
        refine ⟨fun q hq => (by cases hq), fun it b h => ?_⟩
        have h' : (Sum.inr (itv (a : Int) 2 hf x ht yv 1 wb.1, wb.2) : Nat ⊕ ((Nat → Int) × Nat)) = Sum.inr (it, b) := h
        have h2 := Sum.inr.inj h'
        have hb : wb.2 = b := congrArg Prod.snd h2
        have hi : itv (a : Int) 2 hf x ht yv 1 wb.1 = it := congrArg Prod.fst h2
        obtain ⟨M', y1, y2⟩ := n2 wb.1 wb.2 hv
        have hw := vnm_le le2 hv
        have tD := y2.tm tC (skpa_le hw.2)
        have rD := y2.ar rC hy
        rw [← hb, ← hi]
        refine ⟨wI M' y 7 (iw wb.1), ?_, tD.wy r.1 hy, (rD.w (i := 7) wb.1).eq (lt8 rfl rfl rfl rfl rfl rfl rfl rfl), (iC.trans (y2.im (y := y))).trans (IM.w tD.1 _)⟩
        rw [y1, tb_l]
        show (si M' y 7 (iw wb.1)).bind _ = _
        rw [show si M' y 7 (iw wb.1) = some (wI M' y 7 (iw wb.1)) from rD.si (i := 7) (by decide) (iw wb.1), Option.bind_some]
        rfl
    · rw [if_neg cn, if_neg cn]
      refine ⟨fun q hq => (by cases hq), fun it b h => ?_⟩
      have h2 := Sum.inr.inj h
      have hb : skpa f n (skpa f n e + 1) = b := congrArg Prod.snd h2
      have hi : itv (a : Int) 2 hf x ht yv 0 0 = it := congrArg Prod.fst h2
      rw [← hb, ← hi, skpa_2]
      exact ⟨B, rfl, tB, rB, s02.im⟩
  · rw [if_neg c]
    refine ⟨fun q hq => (by cases hq), fun it b h => ?_⟩
    have h2 := Sum.inr.inj h
    have hb : skpa f n e = b := congrArg Prod.snd h2
    have hi : itv (a : Int) 2 hf x ht yv 0 0 = it := congrArg Prod.fst h2
    rw [← hb, ← hi, skpa_2]
    refine ⟨M, ?_, t, r, (SM.refl t).im⟩
    unfold F_X25_item_b162
    rw [is58, eq_false_of_ne_true c, f1]
    simp only [Option.bind_some]
    rw [if_pos (by decide)]
theorem M_i90 {M0 M : Mem} {o L y : Nat} {f : Nat → Int32} {n a b0 : Nat} {hf x : Int} (t : TM M0 M o L f n (skpa f n b0)) (hy : y ≠ o) (h01 : hf = 0 ∨ hf = 1) (r : AR M0 M y (itv a hf hf x 0 0 0 0)) :
    (∀ p, vi2 f n a hf x b0 = .inl p → ∃ u M', F_X25_item_b90 M o y (iw hf) = some (.inr (u, M')) ∧ MFv M0 M M' p) ∧
    (∀ it b, vi2 f n a hf x b0 = .inr (it, b) → ∃ M', F_X25_item_b90 M o y (iw hf) = some (.inl M') ∧ TM M0 M' o L f n (skpa f n b) ∧ AR M0 M' y it ∧ IM M M' o y) := by
  obtain ⟨f1, f2, f3, f4, f5, f6, f7⟩ := t.fs
  have is58 : F_X25_is M o 58 = some (mr (isC f n (skpa f n b0) 58)) := M_is t (c := 58) (by decide)
  unfold vi2
  by_cases c : isC f n (skpa f n b0) 58 = true
  · have hl := (isC_t.mp c).1
    have rA := r.w (i := 1) 2
    have tA := t.wy (i := 1) (v := iw 2) r.1 hy
    have iA := IM.w (o := o) (y := y) (i := 1) t.1 (iw 2)
    have sw := SM.w (o := o) tA.1 (skpa f n b0 + 1)
    have tw := sw.tm tA (by omega)
    obtain ⟨B, k1, s2⟩ := M_blanks tw
    have le2 := skpa_le (f := f) (a := skpa f n b0 + 1) (n := n) (by omega)
    have tB := s2.tm tw le2
    have s02 := sw.trans s2
    have rB := s02.ar rA hy
    have iB := iA.trans (s02.im (y := y))
    have hd : F_X25_item_b90 M o y (iw hf) = if isN f n (skpa f n (skpa f n b0 + 1)) = true then F_X25_item_b151 B o y else F_X25_item_b162 B o y := by
      unfold F_X25_item_b90
      rw [is58, c, f1]
      simp only [Option.bind_some]
      rw [if_neg (by decide), show si M y 1 2 = some (wI M y 1 (iw 2)) from r.si (i := 1) (by decide) (iw 2)]
      simp only [Option.bind_some, tA.fs.2.1, tA.fs.2.2.2.2.2.2, iw_succ, tw.fs.1, k1, tB.fs.1, show F_X25_is B o 45 = some (mr (isC f n (skpa f n (skpa f n b0 + 1)) 45)) from M_is tB (c := 45) (by decide), M_isD tB]
      exact isN_or
    rw [if_pos c, hd]
    by_cases cn : isN f n (skpa f n (skpa f n b0 + 1)) = true
    · rw [if_pos cn, if_pos cn]
      have rC := rB.w (i := 4) 1
      have tC := tB.wy (i := 4) (v := iw 1) r.1 hy
      have iC := iB.trans (IM.w (o := o) (y := y) (i := 4) tB.1 (iw 1))
      obtain ⟨n1, n2⟩ := M_vnum tC
      have hd2 : F_X25_item_b151 B o y = tb (F_X25_number (wI B y 4 (iw 1)) o) fun z17 => (si z17.2 y 5 z17.1).bind fun M18 => F_X25_item_b162 M18 o y := by
        unfold F_X25_item_b151
        rw [show si B y 4 1 = some (wI B y 4 (iw 1)) from rB.si (i := 4) (by decide) (iw 1)]
        simp only [tC.fs.1, Option.bind_some]
      rw [hd2]
      cases hv : vnm f n (skpa f n (skpa f n b0 + 1)) with
      | inl p =>
        refine ⟨fun q hq => ?_, fun it b h => by cases h⟩
        cases hq
        obtain ⟨u, M', y1, y2⟩ := n1 p hv
        exact ⟨u, M', by rw [y1, tb_r], iC.mf y2⟩
      | inr wb =>
        obtain ⟨M', y1, y2⟩ := n2 wb.1 wb.2 hv
        have hw := vnm_le le2 hv
        have tD := y2.tm tC (skpa_le hw.2)
        have rD := y2.ar rC hy
        have rE := (rD.w (i := 5) wb.1).eq (g' := itv (a : Int) 2 hf x 1 wb.1 0 0) (lt8 rfl rfl rfl rfl rfl rfl rfl rfl)
        have tE := tD.wy (i := 5) (v := iw wb.1) r.1 hy
        have iE := (iC.trans (y2.im (y := y))).trans (IM.w (o := o) (y := y) (i := 5) tD.1 (iw wb.1))
        obtain ⟨j1, j2⟩ := M_i162 tE hy rE
        rw [y1, tb_l]
        show (∀ p, vi3 f n a hf x 1 wb.1 wb.2 = .inl p → ∃ u M'', ((si M' y 5 (iw wb.1)).bind fun M18 => F_X25_item_b162 M18 o y) = _ ∧ _) ∧ (∀ it b, vi3 f n a hf x 1 wb.1 wb.2 = .inr (it, b) → ∃ M'', ((si M' y 5 (iw wb.1)).bind fun M18 => F_X25_item_b162 M18 o y) = _ ∧ _)
        rw [show si M' y 5 (iw wb.1) = some (wI M' y 5 (iw wb.1)) from rD.si (i := 5) (by decide) (iw wb.1), Option.bind_some]
        refine ⟨fun p hp => ?_, fun it b h => ?_⟩
        · obtain ⟨u, M'', z1, z2⟩ := j1 p hp
          exact ⟨u, M'', z1, iE.mf z2⟩
        · obtain ⟨M'', z1, z2, z3, z4⟩ := j2 it b h
          exact ⟨M'', z1, z2, z3, iE.trans z4⟩
    · rw [if_neg cn, if_neg cn]
      have tB' : TM M0 B o L f n (skpa f n (skpa f n (skpa f n b0 + 1))) := by rw [skpa_2]; exact tB
      obtain ⟨j1, j2⟩ := M_i162 (e := skpa f n (skpa f n b0 + 1)) (ht := 0) (yv := 0) tB' hy (rB.eq (g' := itv (a : Int) 2 hf x 0 0 0 0) (lt8 rfl rfl rfl rfl rfl rfl rfl rfl))
      refine ⟨fun p hp => ?_, fun it b h => ?_⟩
      · obtain ⟨u, M'', z1, z2⟩ := j1 p hp
        exact ⟨u, M'', z1, iB.mf z2⟩
      · obtain ⟨M'', z1, z2, z3, z4⟩ := j2 it b h
        exact ⟨M'', z1, z2, z3, iB.trans z4⟩
  · rw [if_neg c]
    have hd : F_X25_item_b90 M o y (iw hf) = if iw hf = 0 then (F_X17_at M 1075 1 (iw (skpa f n b0 : Nat))).bind (fun z => (ie z.2 z.1).bind fun _ => (some (.inr (z.1, z.2)) : Option (Mem ⊕ (Nat × Mem)))) else some (.inl M) := by
      unfold F_X25_item_b90
      rw [is58, eq_false_of_ne_true c, f1]
      simp only [Option.bind_some]
      rw [if_pos (by decide)]
      simp only [f5, f2, v1075, t.1, Option.bind_some]
    rw [hd]
    rcases h01 with rfl | rfl
    · rw [if_pos rfl, if_pos (by decide), M_verr t.1]
      refine ⟨fun q hq => ?_, fun it b h => by cases h⟩
      cases hq
      exact ⟨_, _, rfl, t.fail _⟩
    · rw [if_neg (by decide), if_neg (by decide)]
      refine ⟨fun q hq => (by cases hq), fun it b h => ?_⟩
      have h2 := Sum.inr.inj h
      have hb : skpa f n b0 = b := congrArg Prod.snd h2
      have hi : itv (a : Int) 1 1 x 0 0 0 0 = it := congrArg Prod.fst h2
      rw [← hb, ← hi, skpa_2]
      exact ⟨M, rfl, t, r, (SM.refl t).im⟩
