/-! ===== TABLES, 19: the model reads a text ===== -/
theorem Df.top {P Q R : Nat → Nat → Prop} {M N : Mem} (d : Df P Q R M N) (hP : ∀ x i, x < m_nx M → ¬ P x i) (hQ : ∀ x i, x < m_nx M → ¬ Q x i) (hR : ∀ x i, x < m_nx M → ¬ R x i) : Df n2 n2 n2 M N := ⟨d.1, d.2.1, fun a ha => ⟨(d.2.2 a ha).1, (d.2.2 a ha).2.1, fun i => ⟨fun _ => ((d.2.2 a ha).2.2 i).1 (hP a i ha), fun _ => ((d.2.2 a ha).2.2 i).2.1 (hQ a i ha), fun _ => ((d.2.2 a ha).2.2 i).2.2 (hR a i ha)⟩⟩⟩
theorem M_readT {M : Mem} {f : Nat → Int32} {n : Nat} (h : ST M) (k4 : m_tg M 4 = 1091 ∧ m_ln M 4 = 0) (hn : n ≤ 1280) (hf : ∀ i, i < n → cI M 1069 i = f i ∧ bt (f i)) : match ttx f n with
    | .inl p => ∃ M1, F_X53_init (mo M 54) (m_nx M) 1075 1069 (iw (n : Int)) = some (.inr (m_nx M1, mT M1 1 (iw (p : Int)))) ∧ ST M1 ∧ Df n2 n2 n2 M M1 ∧ m_nx M1 ≤ m_nx M + 10 * n + 10 ∧ m_sl M1 ≤ m_sl M + 3605 * n + 200
    | .inr r => ∃ M1 dn en dc ec hd cs, F_X53_init (mo M 54) (m_nx M) 1075 1069 (iw (n : Int)) = some (.inl M1) ∧ r.2.2 = hd ++ cs ∧ hd.length = r.1 ∧ MRl M1 (m_nx M) (m_nx M) (m_nx M + 1) (m_nx M + 2) dn en (m_nx M + 3) dc ec f n n (hd.map Prod.fst) cs ∧ cI M1 (m_nx M) 3462 = iw ((fla r.2.2).length : Nat) ∧ Df n2 n2 n2 M M1 ∧ m_nx M1 ≤ m_nx M + 8 * n + 4 ∧ m_sl M1 ≤ m_sl M + 3600 * n + 100 ∧ (dn < 1334 ∨ m_nx M ≤ dn) := by
  have hxN : xN = 1099511627776 := rfl
  have h0 := h.1
  have x54 : x_cn 54 ≤ 20 := by decide
  obtain ⟨o, ho⟩ : ∃ o, o = m_nx M := ⟨_, rfl⟩
  rw [← ho]
  obtain ⟨A0, hA0⟩ : ∃ A0, A0 = mo M 54 := ⟨_, rfl⟩
  have d0 : Df n2 n2 n2 M A0 := hA0 ▸ Df.new _ _
  have n0 : m_nx A0 = o + 1 := by rw [hA0, ho]; rfl
  have l0 : m_sl A0 ≤ m_sl M + 20 := by rw [hA0]; show m_sl M + x_cn 54 ≤ _; omega
  have t0 : m_tg A0 o = 54 := by rw [hA0, ho]; show m_tg (m_new M 54 (x_cn 54)) (m_nx M) = 54; exact tg_new.trans (if_pos rfl)
  have z0 : ∀ i, cI A0 o i = 0 := fun i => by rw [hA0, ho]; show cI (m_new M 54 (x_cn 54)) (m_nx M) i = 0; rw [cI_new, if_pos rfl]
  obtain ⟨A1, a1, a2, a3, a4, a5, a6, a7, a8, a9, a10⟩ := M_mktab (M := A0) (by omega)
  rw [n0] at a1 a2 a4 a6 a7 a8 a9 a10
  rw [show o + 1 + 1 = o + 2 from rfl] at a7 a9
  rw [show o + 1 + 2 = o + 3 from rfl] at a8 a10
  have t1 : m_tg A1 o = 54 := (a3.2.2 o (by omega)).1.trans t0
  obtain ⟨A2, hA2⟩ : ∃ A2, A2 = wR A1 o 3461 (o + 1) := ⟨_, rfl⟩
  have t2 : m_tg A2 o = 54 := by rw [hA2]; exact t1
  obtain ⟨A3, hA3⟩ : ∃ A3, A3 = wR A2 o 3456 1075 := ⟨_, rfl⟩
  have t3 : m_tg A3 o = 54 := by rw [hA3]; exact t2
  obtain ⟨A4, hA4⟩ : ∃ A4, A4 = wR A3 o 3457 1069 := ⟨_, rfl⟩
  have t4 : m_tg A4 o = 54 := by rw [hA4]; exact t3
  obtain ⟨A, hA⟩ : ∃ A, A = wI A4 o 3458 (iw (n : Int)) := ⟨_, rfl⟩
  have tA : m_tg A o = 54 := by rw [hA]; exact t4
  have dA : Df (at1 o) n2 (at1 o) A1 A := by
    rw [hA, hA4, hA3, hA2]
    exact (((Df.wR (P := at1 o) (Q := n2) (R := at1 o) (M := A1) (a := o) (i := 3461) (o + 1) rfl).trans (Df.wR (P := at1 o) (Q := n2) (R := at1 o) (a := o) (i := 3456) 1075 rfl)).trans (Df.wR (P := at1 o) (Q := n2) (R := at1 o) (a := o) (i := 3457) 1069 rfl)).trans (Df.wI (P := at1 o) (Q := n2) (R := at1 o) (a := o) (i := 3458) _ rfl)
  have D1 : Df n2 n2 n2 M A1 := d0.trans a3
  have D : Df n2 n2 n2 M A := Df.then D1 dA (fun x i hx q => by unfold at1 at q; omega) (fun _ _ _ q => q) (fun x i hx q => by unfold at1 at q; omega)
  have sA : ST A := h.df D n2_st
  have nA : m_nx A = o + 4 := by rw [hA, hA4, hA3, hA2]; show m_nx A1 = _; omega
  have lA : m_sl A ≤ m_sl M + 80 := by rw [hA, hA4, hA3, hA2]; show m_sl A1 ≤ _; omega
  have zA : ∀ i, i ≠ 3458 → cI A o i = 0 := fun i hi => by
    rw [hA, cI_wI, if_neg (by omega), hA4, hA3, hA2]
    show cI A1 o i = 0
    rw [a3.cI (by omega) (fun q => q)]
    exact z0 i
  have r61 : cR A o 3461 = o + 1 := by
    rw [hA]; show cR A4 o 3461 = _
    rw [hA4, cR_wR, if_neg (by omega), hA3, cR_wR, if_neg (by omega), hA2, cR_wR, if_pos ⟨rfl, rfl⟩]
  have r56 : cR A o 3456 = 1075 := by
    rw [hA]; show cR A4 o 3456 = _
    rw [hA4, cR_wR, if_neg (by omega), hA3, cR_wR, if_pos ⟨rfl, rfl⟩]
  have r57 : cR A o 3457 = 1069 := by
    rw [hA]; show cR A4 o 3457 = _
    rw [hA4, cR_wR, if_pos ⟨rfl, rfl⟩]
  have c58 : cI A o 3458 = iw (n : Int) := by rw [hA, cI_wI, if_pos ⟨rfl, rfl⟩]
  have tr : TR A o f n 0 := ⟨by omega, tA, r56, r57, c58, by omega, zA _ (by omega), Nat.zero_le _, sA, fun i hi => by rw [D.cI (by omega) (fun q => q)]; exact hf i hi, by omega⟩
  have tb1 := dA.2.2 (o + 1) (by omega)
  have alA : AL A (o + 2) 4 [] := a9.df dA (fun q => by unfold at1 at q; omega) (fun q => by unfold at1 at q; omega) (fun i q => by omega)
  have clA : AL A (o + 3) 4 [] := a10.df dA (fun q => by unfold at1 at q; omega) (fun q => by unfold at1 at q; omega) (fun i q => by omega)
  have r20 : cR A (o + 1) 3520 = o + 2 := by rw [dA.cR (by omega) (fun q => by unfold at1 at q; omega)]; exact a7
  have r21 : cR A (o + 1) 3521 = o + 3 := by rw [dA.cR (by omega) (fun q => by unfold at1 at q; omega)]; exact a8
  have mr0 : MRn A o o (o + 1) (o + 2) 4 [] f n 0 [] := ⟨tr, r61, by omega, tb1.1.trans a6, r20, alA, ⟨rfl, fun i hi => by cases hi⟩, by omega, by omega, by omega, by omega⟩
  have k4A : m_tg A 4 = 1091 ∧ m_ln A 4 = 0 := ⟨(D.2.2 4 (by omega)).1.trans k4.1, (D.2.2 4 (by omega)).2.1.trans k4.2⟩
  obtain ⟨K, hK⟩ : ∃ K, K + 1 + (n + 1) = xN := ⟨xN - 1 - (n + 1), by omega⟩
  have en := M_names_l (B := o) (o := o) (tbl := o + 1) (ln := o + 2) (n := n) (f := f) (Z := fun z => z = o + 1 ∨ z = o + 3) (n + 1) K 0 4 [] [] A (by omega) mr0 (by rw [zA _ (by omega)]; rfl) (by decide) k4A (Or.inl (by decide)) (by omega) (fun z hz => by omega)
  rw [hK] at en
  have hd : F_X53_init A0 o 1075 1069 (iw (n : Int)) = tb (F_X53_names A o) fun z19 => F_X53_init_b37 xN z19 o (iw (n : Int)) 1 := by
    unfold F_X53_init
    have e00 : ng A0 o = some () := ng_of t0 (by decide)
    have p1 : pr A1 o 3461 (o + 1) = some A2 := by rw [pr_of _ t1 (show x_wr 54 3461 = true by decide), ← hA2]
    have p2 : pr A2 o 3456 1075 = some A3 := by rw [pr_of _ t2 (show x_wr 54 3456 = true by decide), ← hA3]
    have p3 : pr A3 o 3457 1069 = some A4 := by rw [pr_of _ t3 (show x_wr 54 3457 = true by decide), ← hA4]
    have p4 : pi A4 o 3458 (iw (n : Int)) = some A := by rw [pi_of _ t4 (show x_wi 54 3458 = true by decide) (show x_fit (x_ft 3458) _ = true from rfl), ← hA]
    simp only [e00, n0, a2, a1, p1, p2, p3, p4, tr.vg, Option.bind_some]
  rw [← hA0, hd]
  unfold ttx
  have hnm : F_X53_names A o = F_X53_names_b2 xN A o 1 := rfl
  rw [← hnm] at en
  rw [show ([] : List (List Int32 × Bool)).length = 0 from rfl] at en
  have tz : ∀ {N : Mem}, Df (pTz o (fun z => z = o + 1 ∨ z = o + 3)) n2 (pTz o (fun z => z = o + 1 ∨ z = o + 3)) A N → Df n2 n2 n2 M N := fun d => D.then d (fun x i hx q => by have := q.1; omega) (fun _ _ _ q => q) (fun x i hx q => by have := q.1; omega)
  cases ht : tln true 16 f n (n + 1) 0 0 [] with
  | inl p =>
    rw [ht] at en
    obtain ⟨M1, f1, f2, f3, f4, f5⟩ := en
    refine ⟨M1, ?_, f2, tz f3, by omega, by omega⟩
    rw [f1]
    rfl
  | inr q =>
    rw [ht] at en
    obtain ⟨M1, dn, en', f1, f2, f3, f4, f5, f6, f7⟩ := en
    obtain ⟨l1, l2, l3, l4, l5⟩ := tln_len _ _ _ _ _ (Nat.zero_le _) (Nat.zero_le _) ht
    simp only [List.length_nil] at l3 l4
    have nn := f4.1
    have cl1 : AL M1 (o + 3) 4 [] := clA.df f4 (fun q => q.2 (Or.inr rfl)) (fun q => q.2 (Or.inr rfl)) (fun i q => by omega)
    have r1 : cR M1 (o + 1) 3521 = o + 3 := by rw [f4.cR (by omega) (fun q => q.2 (Or.inl rfl))]; exact r21
    have hml : (q.1.map Prod.fst).length = q.1.length := List.length_map ..
    have ml : MRl M1 o o (o + 1) (o + 2) dn en' (o + 3) 4 [] f n q.2 (q.1.map Prod.fst) [] := ⟨f2, r1, cl1, ⟨rfl, fun i hi => by cases hi⟩, by omega, Or.inl (by decide), by omega, fun q => by omega⟩
    have k41 : m_tg M1 4 = 1091 ∧ m_ln M1 4 = 0 := ⟨(f4.2.2 4 (by omega)).1.trans k4A.1, (f4.2.2 4 (by omega)).2.1.trans k4A.2⟩
    have ih := M_lines (B := o) (o := o) (tbl := o + 1) (ln := o + 2) (dn := dn) (lc := o + 3) (n := n) (C := q.1.length) (en := en') (f := f) (ns := q.1.map Prod.fst) (hd := q.1) (by omega) hml (n + 1) K q.2 1 4 [] [] M1 (by omega) ml (by rw [List.append_nil]; exact f3) k41 (by show 0 + (n - q.2) ≤ 1280; omega) (by omega) (by decide) (by decide)
    rw [hK, List.append_nil] at ih
    rw [f1, tb_l]
    have tb2 : ∀ {N : Mem}, Df (pTb o) n2 (pTb o) M1 N → Df n2 n2 n2 M N := fun d => (tz f4).then d (fun x i hx q => by unfold pTb at q; omega) (fun _ _ _ q => q) (fun x i hx q => by unfold pTb at q; omega)
    simp only []
    cases hl : tls q.1.length f n (n + 1) q.2 1 q.1 with
    | inl p =>
      rw [hl] at ih
      obtain ⟨M2, i1, i2, i3, i4, i5⟩ := ih
      exact ⟨M2, i1, i2, tb2 i3, by omega, by omega⟩
    | inr r =>
      rw [hl] at ih
      obtain ⟨M2, dc', ec', cs', i1, i2, i3, i4, i5, i6, i7⟩ := ih
      exact ⟨M2, dn, en', dc', ec', q.1, cs', i1, i2, rfl, i3, i4, tb2 i5, by omega, by omega, f7⟩
