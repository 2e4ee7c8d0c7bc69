/-! ===== VIEWS, 13: the model reads all items, whole ===== -/
theorem vis_cases {f : Nat → Int32} {n e a : Nat} : (∃ p, vit f n a = .inl p ∧ vis f n (e + 1) a = .inl p) ∨ (∃ it b, vit f n a = .inr (it, b) ∧ ((skpa f n b < n ∧ isC f n (skpa f n b) 44 = true ∧ vis f n (e + 1) a = match vis f n e (skpa f n (skpa f n b + 1)) with | .inl p => .inl p | .inr l => .inr (it :: l)) ∨ (skpa f n b < n ∧ ¬ isC f n (skpa f n b) 44 = true ∧ vis f n (e + 1) a = .inl (skpa f n b)) ∨ (¬ skpa f n b < n ∧ vis f n (e + 1) a = .inr [it]))) := by
  have ev : vis f n (e + 1) a = match vit f n a with
    | .inl p => .inl p
    | .inr ib => if skpa f n ib.2 < n then
      (if isC f n (skpa f n ib.2) 44 = true then
        (match vis f n e (skpa f n (skpa f n ib.2 + 1)) with
        | .inl p => .inl p
        | .inr l => .inr (ib.1 :: l))
      else .inl (skpa f n ib.2))
    else .inr [ib.1] := rfl
  cases hv : vit f n a with
  | inl p =>
    rw [hv] at ev
    exact Or.inl ⟨p, rfl, ev⟩
  | inr ib =>
    rw [hv] at ev
    have ev' : vis f n (e + 1) a = (if skpa f n ib.2 < n then (if isC f n (skpa f n ib.2) 44 = true then (match vis f n e (skpa f n (skpa f n ib.2 + 1)) with | .inl p => (.inl p : Nat ⊕ List (Nat → Int)) | .inr l => .inr (ib.1 :: l)) else .inl (skpa f n ib.2)) else .inr [ib.1]) := ev
    refine Or.inr ⟨ib.1, ib.2, rfl, ?_⟩
    by_cases c : skpa f n ib.2 < n
    · rw [if_pos c] at ev'
      by_cases c4 : isC f n (skpa f n ib.2) 44 = true
      · rw [if_pos c4] at ev'
        exact Or.inl ⟨c, c4, ev'⟩
      · rw [if_neg c4] at ev'
        exact Or.inr (Or.inl ⟨c, c4, ev'⟩)
    · rw [if_neg c] at ev'
      exact Or.inr (Or.inr ⟨c, ev'⟩)
theorem vi3_b {f : Nat → Int32} {n a e : Nat} {hf x ht y : Int} {it : Nat → Int} {b : Nat} (he : e ≤ n) (h : vi3 f n a hf x ht y e = .inr (it, b)) : e ≤ b ∧ b ≤ n := by
  have le1 := skpa_le (f := f) he
  have ge1 := skpa_ge (f := f) (n := n) (a := e)
  have ge2 := skpa_ge (f := f) (n := n) (a := skpa f n e + 1)
  unfold vi3 at h
  by_cases c : isC f n (skpa f n e) 58 = true
  · have hl := (isC_t.mp c).1
    have le2 := skpa_le (f := f) (a := skpa f n e + 1) (n := n) (by omega)
    rw [if_pos c] at h
    by_cases cn : isN f n (skpa f n (skpa f n e + 1)) = true
    · rw [if_pos cn] at h
      cases hv : vnm f n (skpa f n (skpa f n e + 1)) with
      | inl p => rw [hv] at h; cases h
      | inr wb =>
        rw [hv] at h
        have h' : (Sum.inr (itv (a : Int) 2 hf x ht y 1 wb.1, wb.2) : Nat ⊕ ((Nat → Int) × Nat)) = Sum.inr (it, b) := h
        have hb : wb.2 = b := congrArg Prod.snd (Sum.inr.inj h')
        have := vnm_le le2 hv
        omega
    · rw [if_neg cn] at h
      have hb : skpa f n (skpa f n e + 1) = b := congrArg Prod.snd (Sum.inr.inj h)
      omega
  · rw [if_neg c] at h
    have hb : skpa f n e = b := congrArg Prod.snd (Sum.inr.inj h)
    omega
theorem vi2_b {f : Nat → Int32} {n a b0 : Nat} {hf x : Int} {it : Nat → Int} {b : Nat} (he : b0 ≤ n) (h : vi2 f n a hf x b0 = .inr (it, b)) : b0 ≤ b ∧ b ≤ n := by
  have le1 := skpa_le (f := f) he
  have ge1 := skpa_ge (f := f) (n := n) (a := b0)
  have ge2 := skpa_ge (f := f) (n := n) (a := skpa f n b0 + 1)
  unfold vi2 at h
  by_cases c : isC f n (skpa f n b0) 58 = true
  · have hl := (isC_t.mp c).1
    have le2 := skpa_le (f := f) (a := skpa f n b0 + 1) (n := n) (by omega)
    rw [if_pos c] at h
    by_cases cn : isN f n (skpa f n (skpa f n b0 + 1)) = true
    · rw [if_pos cn] at h
      cases hv : vnm f n (skpa f n (skpa f n b0 + 1)) with
      | inl p => rw [hv] at h; cases h
      | inr wb =>
        rw [hv] at h
        have h1 := vnm_le le2 hv
        have := vi3_b h1.2 h
        omega
    · rw [if_neg cn] at h
      have := vi3_b le2 h
      omega
  · rw [if_neg c] at h
    by_cases c0 : hf = 0
    · rw [if_pos c0] at h; cases h
    · rw [if_neg c0] at h
      have hb : skpa f n b0 = b := congrArg Prod.snd (Sum.inr.inj h)
      omega
theorem E_item_b {f : Nat → Int32} {n a : Nat} {it : Nat → Int} {b : Nat} (h : vit f n a = .inr (it, b)) (ha : a ≤ n) : a ≤ b ∧ b ≤ n := by
  unfold vit at h
  by_cases c : isC f n a 42 = true
  · have hl := (isC_t.mp c).1
    rw [if_pos c] at h
    have hb : a + 1 = b := congrArg Prod.snd (Sum.inr.inj h)
    omega
  · rw [if_neg c] at h
    by_cases cn : isN f n a = true
    · rw [if_pos cn] at h
      cases hv : vnm f n a with
      | inl p => rw [hv] at h; cases h
      | inr wb =>
        rw [hv] at h
        have h1 := vnm_le ha hv
        have := vi2_b h1.2 h
        omega
    · rw [if_neg cn] at h
      exact vi2_b ha h
def MFw (M0 M' : Mem) (p x w : Nat) : Prop := ST M' ∧ Df (at1 1075) n2 n2 M0 M' ∧ m_nx M' ≤ x ∧ m_sl M' ≤ w ∧ cI M' 1075 1153 = iw (p : Int)
theorem M_iloop {M0 : Mem} {o L : Nat} {f : Nat → Int32} {n W : Nat} (k4 : m_tg M0 4 = 1091 ∧ m_ln M0 4 = 0) : ∀ (e N a d : Nat) (es : List Nat) (its : List (Nat → Int)) (M : Mem), n + 1 ≤ a + e → es.length + e ≤ 17000 → 2 * (es.length + e) + 90 ≤ W → TM M0 M o L f n a → LIt M0 M o L d es its → skpa f n a = a →
    (∀ p, vis f n e a = .inl p → ∃ u M', (tb (F_X25_item M o) fun z => F_X25_init_b47 (N + 1 + e) z o 1075 1069 (iw (n : Int))) = some (.inr (u, M')) ∧ MFw M0 M' p (m_nx M + 2 * e + 1) (m_sl M + e * W)) ∧
    (∀ l, vis f n e a = .inr l → ∃ M' d' es' b, (tb (F_X25_item M o) fun z => F_X25_init_b47 (N + 1 + e) z o 1075 1069 (iw (n : Int))) = some (.inl M') ∧ TM M0 M' o L f n b ∧ LIt M0 M' o L d' es' (its ++ l) ∧ m_nx M' ≤ m_nx M + 2 * e ∧ m_sl M' ≤ m_sl M + e * W) := by
  intro e
  induction e with
  | zero => intro N a d es its M h1 h2 h3 t; have := t.2.2.2.2.2.2.2.2.2.2.1; omega
  | succ e ih =>
    intro N a d es its M h1 h2 h3 t ls ha
    have hen := t.2.2.2.2.2.2.2.2.2.2.1
    have hn := t.2.2.2.2.2.2.2.2.1
    obtain ⟨i1, i2⟩ := M_vitem k4 t ls (by omega) ha
    have eW : (e + 1) * W = e * W + W := Nat.succ_mul e W
    rcases vis_cases (f := f) (n := n) (e := e) (a := a) with ⟨p, v1, v2⟩ | ⟨it, b, v1, v2⟩
    · rw [v2]
      refine ⟨fun q hq => ?_, fun l hl => by cases hl⟩
      cases hq
      obtain ⟨u, M', y1, y2, y3, y4, y5, y6⟩ := i1 p v1
      exact ⟨u, M', by rw [y1, tb_r], y2, y3, by omega, by omega, y6⟩
    · obtain ⟨A, d1, y, y1, y2, y3, y4, y5⟩ := i2 it b v1
      have hb := (E_item_b v1 hen)
      have ge1 := skpa_ge (f := f) (n := n) (a := b)
      obtain ⟨f1, f2, f3, f4, f5, f6, f7⟩ := y2.fs
      have hA0 := y2.1.1
      have hle : skpa f n b ≤ n := y2.2.2.2.2.2.2.2.2.2.2.1
      have lenA : (es ++ [y]).length = es.length + 1 := by rw [List.length_append]; rfl
      rw [y1, tb_l]
      have st : F_X25_init_b47 (N + 1 + (e + 1)) A o 1075 1069 (iw (n : Int)) = F_X25_init_b47_st (F_X25_init_b47 (N + 1 + e)) A o 1075 1069 (iw (n : Int)) := rfl
      rcases v2 with ⟨c, c4, v3⟩ | ⟨c, c4, v3⟩ | ⟨c, v3⟩
      · have sw := SM.w (o := o) y2.1 (skpa f n b + 1)
        have tw := sw.tm y2 (by omega)
        obtain ⟨B, k1, s2⟩ := M_blanks tw
        have tB := s2.tm tw (skpa_le (by omega))
        have s02 := sw.trans s2
        have ge2 := skpa_ge (f := f) (n := n) (a := skpa f n b + 1)
        have lsB : LIt M0 B o L d1 (es ++ [y]) (its ++ [it]) := by
          obtain ⟨l1, l2, l3, l4, l5, l6⟩ := y3
          refine ⟨l1.df s02.2.1 (fun q => l5 q.1) (fun q => q) (fun i _ q => q), l2, l3, l4, l5, fun i hi => ?_⟩
          have r := l6 i hi
          exact s02.ar r (fun ee => by have r3 := r.2.2.1; rw [ee, y2.2.2.2.2.1] at r3; exact absurd r3 (by decide))
        have hd : F_X25_init_b47 (N + 1 + (e + 1)) A o 1075 1069 (iw (n : Int)) = tb (F_X25_item B o) fun z => F_X25_init_b47 (N + 1 + e) z o 1075 1069 (iw (n : Int)) := by
          rw [st]
          unfold F_X25_init_b47_st
          simp only [f2, Option.bind_some]
          rw [if_pos (by rw [iw_le4 (by omega) (by omega)]; exact c), y2.ab c]
          have q : f (skpa f n b) = 44 ↔ bn (f (skpa f n b)) = 44 := bt_is (y2.2.2.2.2.2.2.2.2.2.2.2.2.1 _ c).2 (c := 44) (by decide)
          simp only [Option.bind_some]
          rw [if_pos (q.mpr (isC_t.mp c4).2)]
          simp only [f7, iw_succ, tw.fs.1, k1, tB.fs.1, Option.bind_some]
        obtain ⟨w1, w2⟩ := ih N (skpa f n (skpa f n b + 1)) d1 (es ++ [y]) (its ++ [it]) B (by omega) (by omega) (by omega) tB lsB skpa_2
        have nB : m_nx B = m_nx A ∧ m_sl B = m_sl A := ⟨s02.2.2.2.1, s02.2.2.2.2⟩
        rw [hd, v3]
        cases hw : vis f n e (skpa f n (skpa f n b + 1)) with
        | inl p =>
          refine ⟨fun q hq => ?_, fun l hl => by cases hl⟩
          cases hq
          obtain ⟨u, M', z1, z2, z3, z4, z5, z6⟩ := w1 p hw
          exact ⟨u, M', z1, z2, z3, by omega, by omega, z6⟩
        | inr l' =>
          refine ⟨fun q hq => (by cases hq), fun l hl => ?_⟩
          have hl' : it :: l' = l := Sum.inr.inj hl
          obtain ⟨M', d', es', b', z1, z2, z3, z4, z5⟩ := w2 l' hw
          rw [List.append_assoc] at z3
          rw [← hl']
          exact ⟨M', d', es', b', z1, z2, z3, by omega, by omega⟩
      · have hd : F_X25_init_b47 (N + 1 + (e + 1)) A o 1075 1069 (iw (n : Int)) = some (.inr (m_nx A, mT A 1 (iw (skpa f n b : Nat)))) := by
          rw [st]
          unfold F_X25_init_b47_st
          simp only [f2, Option.bind_some]
          rw [if_pos (by rw [iw_le4 (by omega) (by omega)]; exact c), y2.ab c]
          have q : f (skpa f n b) = 44 ↔ bn (f (skpa f n b)) = 44 := bt_is (y2.2.2.2.2.2.2.2.2.2.2.2.2.1 _ c).2 (c := 44) (by decide)
          simp only [Option.bind_some]
          rw [if_neg (fun hh => c4 (isC_t.mpr ⟨c, q.mp hh⟩))]
          simp only [v1075, y2.1, Option.bind_some]
          exact M_verr y2.1 _
        rw [hd, v3]
        refine ⟨fun q hq => ?_, fun l hl => by cases hl⟩
        cases hq
        have fl := y2.fail (skpa f n b)
        exact ⟨_, _, rfl, fl.1, fl.2.1, by have := fl.2.2.1; omega, by have := fl.2.2.2.1; omega, fl.2.2.2.2⟩
      · rw [v3]
        refine ⟨fun q hq => (by cases hq), fun l hl => ?_⟩
        have hl' : [it] = l := Sum.inr.inj hl
        rw [← hl']
        refine ⟨A, d1, es ++ [y], skpa f n b, ?_, y2, y3, by omega, by omega⟩
        rw [st]
        unfold F_X25_init_b47_st
        simp only [f2, Option.bind_some]
        rw [if_neg (by rw [iw_le4 (by omega) (by omega)]; exact c)]
theorem M_vinit {M0 : Mem} {f : Nat → Int32} {n : Nat} (h : ST M0) (k4 : m_tg M0 4 = 1091 ∧ m_ln M0 4 = 0) (hn : n ≤ 16000) (hf : ∀ i, i < n → cI M0 1069 i = f i ∧ bt (f i)) :
    (∀ p, vtx f n = .inl p → ∃ u M', F_X25_init (mo M0 26) (m_nx M0) 1075 1069 (iw (n : Int)) = some (.inr (u, M')) ∧ MFw M0 M' p (m_nx M0 + 2 * n + 10) (m_sl M0 + (n + 1) * (2 * n + 92) + 60)) ∧
    (∀ l, vtx f n = .inr l → ∃ M' L d es, F_X25_init (mo M0 26) (m_nx M0) 1075 1069 (iw (n : Int)) = some (.inl M') ∧ ST M' ∧ Df (at1 1075) n2 n2 M0 M' ∧ gr M' (m_nx M0) 1668 = some L ∧ LIt M0 M' (m_nx M0) L d es l ∧ m_nx M' ≤ m_nx M0 + 2 * n + 10 ∧ m_sl M' ≤ m_sl M0 + (n + 1) * (2 * n + 92) + 60) := by
  have h0 := h.1
  have hxN : xN = 1099511627776 := rfl
  obtain ⟨o, ho⟩ : ∃ o, o = m_nx M0 := ⟨_, rfl⟩
  rw [← ho]
  obtain ⟨A, hA⟩ : ∃ A, A = mo M0 26 := ⟨_, rfl⟩
  rw [← hA]
  have x26 : x_cn 26 ≤ 20 := by decide
  have x67 : x_cn 67 ≤ 20 := by decide
  have dA : Df n2 n2 n2 M0 A := hA ▸ Df.new _ _
  have nA : m_nx A = o + 1 := by rw [hA, ho]; rfl
  have lA : m_sl A ≤ m_sl M0 + 20 := by rw [hA]; show m_sl M0 + x_cn 26 ≤ _; omega
  have tA : m_tg A o = 26 := by rw [hA, ho]; show m_tg (m_new M0 26 (x_cn 26)) (m_nx M0) = 26; exact tg_new.trans (if_pos rfl)
  have zA : ∀ i, cI A o i = 0 := fun i => by rw [hA, ho]; show cI (m_new M0 26 (x_cn 26)) (m_nx M0) i = 0; rw [cI_new, if_pos rfl]
  obtain ⟨L, hL⟩ : ∃ L, L = m_nx A := ⟨_, rfl⟩
  obtain ⟨B, hB⟩ : ∃ B, B = mo A 67 := ⟨_, rfl⟩
  have dB : Df n2 n2 n2 A B := hB ▸ Df.new _ _
  have nB : m_nx B = L + 1 := by rw [hB, hL]; rfl
  have lB : m_sl B ≤ m_sl A + 20 := by rw [hB]; show m_sl A + x_cn 67 ≤ _; omega
  have tB : m_tg B L = 67 := by rw [hB, hL]; show m_tg (m_new A 67 (x_cn 67)) (m_nx A) = 67; exact tg_new.trans (if_pos rfl)
  have zB : cI B L 4289 = 0 := by rw [hB, hL]; show cI (m_new A 67 (x_cn 67)) (m_nx A) 4289 = 0; rw [cI_new, if_pos rfl]
  obtain ⟨C, c1, c2, c3, c4, c5⟩ := AL.init (M := B) (a := L) (by omega) tB zB
  have dB0 : Df n2 n2 n2 M0 B := dA.trans dB
  have dC0 : Df n2 n2 n2 M0 C := Df.then dB0 c3 (fun x i hx q => by unfold at1 at q; omega) (fun _ _ _ q => q) (fun x i hx q => by unfold at1 at q; omega)
  have oB := dB.2.2 o (by omega)
  have oC := c3.2.2 o (by omega)
  have tgC : m_tg C o = 26 := oC.1.trans (oB.1.trans tA)
  have cC : ∀ i, cI C o i = 0 := fun i => by rw [c3.cI (by omega) (fun q => by unfold at1 at q; omega), dB.cI (by omega) (fun q => q)]; exact zA i
  obtain ⟨D, hD⟩ : ∃ D, D = wI (wR (wR (wR C o 1668 L) o 1664 1075) o 1665 1069) o 1666 (iw (n : Int)) := ⟨_, rfl⟩
  have dD0 : Df n2 n2 n2 M0 D := by
    rw [hD]
    refine Df.then dC0 (P' := at1 o) (Q' := n2) (R' := at1 o) ?_ (fun x i hx q => by unfold at1 at q; omega) (fun _ _ _ q => q) (fun x i hx q => by unfold at1 at q; omega)
    exact (((Df.wR (P := at1 o) (Q := n2) (R := at1 o) (M := C) (a := o) (i := 1668) L rfl).trans (Df.wR (P := at1 o) (Q := n2) (R := at1 o) (a := o) (i := 1664) 1075 rfl)).trans (Df.wR (P := at1 o) (Q := n2) (R := at1 o) (a := o) (i := 1665) 1069 rfl)).trans (Df.wI (P := at1 o) (Q := n2) (R := at1 o) (a := o) (i := 1666) _ rfl)
  have sD : ST D := h.df dD0 n2_st
  have nD : m_nx D = m_nx C ∧ m_sl D = m_sl C := by rw [hD]; exact ⟨rfl, rfl⟩
  have tgD : m_tg D o = 26 := by rw [hD]; exact tgC
  have tm : TM M0 D o L f n 0 := by
    refine ⟨sD, dD0.mono (fun _ _ q => q.elim) (fun _ _ q => q) (fun _ _ q => q), by omega, by omega, tgD, ?_, ?_, ?_, hn, ?_, by omega, ?_, fun i hi => by rw [dD0.cI (by omega) (fun q => q)]; exact hf i hi, h0⟩
    · rw [hD, cR_wI, cR_wR, if_neg (by omega), cR_wR, if_pos ⟨rfl, rfl⟩]
    · rw [hD, cR_wI, cR_wR, if_pos ⟨rfl, rfl⟩]
    · rw [hD, cI_wI, if_pos ⟨rfl, rfl⟩]
    · rw [hD, cI_wI, if_neg (by omega)]
      exact cC 1667
    · rw [hD, cR_wI, cR_wR, if_neg (by omega), cR_wR, if_neg (by omega), cR_wR, if_pos ⟨rfl, rfl⟩]
  have alD : AL D L 4 [] := by
    rw [hD]
    have dd : Df (at1 o) n2 (at1 o) C (wI (wR (wR (wR C o 1668 L) o 1664 1075) o 1665 1069) o 1666 (iw (n : Int))) := (((Df.wR (P := at1 o) (Q := n2) (R := at1 o) (M := C) (a := o) (i := 1668) L rfl).trans (Df.wR (P := at1 o) (Q := n2) (R := at1 o) (a := o) (i := 1664) 1075 rfl)).trans (Df.wR (P := at1 o) (Q := n2) (R := at1 o) (a := o) (i := 1665) 1069 rfl)).trans (Df.wI (P := at1 o) (Q := n2) (R := at1 o) (a := o) (i := 1666) _ rfl)
    exact c2.df dd (fun q => by unfold at1 at q; omega) (fun q => by unfold at1 at q; omega) (fun i hi => by omega)
  obtain ⟨E, k1, s1⟩ := M_blanks tm
  have tE := s1.tm tm (skpa_le (by omega))
  have lsE : LIt M0 E o L 4 [] [] := ⟨alD.df s1.2.1 (fun q => by omega) (fun q => q) (fun i _ q => q), by omega, Or.inl rfl, rfl, by omega, fun i hi => absurd hi (Nat.not_lt_zero i)⟩
  have nE : m_nx E = m_nx D ∧ m_sl E = m_sl D := ⟨s1.2.2.2.1, s1.2.2.2.2⟩
  have hd : F_X25_init A o 1075 1069 (iw (n : Int)) = if skpa f n 0 = n then some (.inl E) else tb (F_X25_item E o) fun z27 => F_X25_init_b47 xN z27 o 1075 1069 (iw (n : Int)) := by
    have tg1 : m_tg (wR C o 1668 L) o = 26 := tgC
    have tg2 : m_tg (wR (wR C o 1668 L) o 1664 1075) o = 26 := tgC
    have tg3 : m_tg (wR (wR (wR C o 1668 L) o 1664 1075) o 1665 1069) o = 26 := tgC
    unfold F_X25_init
    rw [ng_of tA (by decide)]
    simp only [← hL, ← hB, ng_of tB (by decide), c1, pr_of _ tgC (show x_wr 26 1668 = true by decide), pr_of _ tg1 (show x_wr 26 1664 = true by decide), pr_of _ tg2 (show x_wr 26 1665 = true by decide), pi_of _ tg3 (show x_wi 26 1666 = true by decide) (show x_fit (x_ft 1666) (iw (n : Int)) = true from rfl), ← hD, tm.fs.1, k1, tE.fs.1, tE.fs.2.1, Option.bind_some]
    have hle : skpa f n 0 ≤ n := skpa_le (by omega)
    have q : iw (skpa f n 0 : Nat) = iw (n : Int) ↔ skpa f n 0 = n := by rw [iw_eq (by omega) (by omega) (by omega) (by omega)]; omega
    by_cases c : skpa f n 0 = n
    · rw [if_pos (q.mpr c), if_pos c]
    · rw [if_neg (fun hh => c (q.mp hh)), if_neg c]
  have hle : skpa f n 0 ≤ n := skpa_le (by omega)
  unfold vtx
  rw [hd]
  by_cases c : skpa f n 0 = n
  · rw [if_pos c, if_neg (by omega)]
    refine ⟨fun q hq => (by cases hq), fun l hl => ?_⟩
    have hl' : [] = l := Sum.inr.inj hl
    rw [← hl']
    exact ⟨E, L, 4, [], rfl, tE.1, tE.2.1, tE.fs.2.2.2.2.2.1, lsE, by omega, by omega⟩
  · rw [if_neg c, if_pos (by omega)]
    obtain ⟨NN, hNN⟩ : ∃ NN, NN + 1 + (n + 1) = xN := ⟨xN - 1 - (n + 1), by omega⟩
    obtain ⟨w1, w2⟩ := M_iloop (W := 2 * n + 92) k4 (n + 1) NN (skpa f n 0) 4 [] [] E (by omega) (by show 0 + (n + 1) ≤ _; omega) (by show 2 * (0 + (n + 1)) + 90 ≤ _; omega) tE lsE skpa_2
    rw [hNN] at w1 w2
    refine ⟨fun p hp => ?_, fun l hl => ?_⟩
    · obtain ⟨u, M', z1, z2, z3, z4, z5, z6⟩ := w1 p hp
      exact ⟨u, M', z1, z2, z3, by omega, by omega, z6⟩
    · obtain ⟨M', d', es', b, z1, z2, z3, z4, z5⟩ := w2 l hl
      exact ⟨M', L, d', es', z1, z2.1, z2.2.1, z2.fs.2.2.2.2.2.1, z3, by omega, by omega⟩
