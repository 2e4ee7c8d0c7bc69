/-! ===== CALLS: named ===== -/
/-- a name is what lies in the tray -/
def eqw (w : List Int32) (f : Nat → Int32) (t : Nat) : Prop := w.length = t ∧ ∀ i, i < t → wf w i = f i
noncomputable def nmf (hd : List (List Int32 × Bool)) (f : Nat → Int32) (t : Nat) : Nat → Nat → Int32
  | 0, _ => -1
  | m + 1, c => pif (eqw (cl hd c).1 f t) (iw (c : Int)) (nmf hd f t m (c + 1))
noncomputable def nmg (hd : List (List Int32 × Bool)) (f : Nat → Int32) (t : Nat) : Nat → Nat → Int32
  | 0, _ => -14
  | m + 1, c => pif (eqw (cl hd c).1 f t) (iw (c : Int)) (nmg hd f t m (c + 1))
theorem nm_eq {hd : List (List Int32 × Bool)} {f : Nat → Int32} {t : Nat} : ∀ (m c : Nat), c + m ≤ 100 → nmg hd f t m c = if nmf hd f t m c < 0 then -14 else nmf hd f t m c
  | 0, c, _ => by
    unfold nmg nmf
    rw [if_pos (by decide)]
  | m + 1, c, h => by
    unfold nmg nmf
    by_cases q : eqw (cl hd c).1 f t
    · rw [tpif q, tpif q, if_neg (by rw [iw_lt0 (by omega) (by omega)]; omega)]
    · rw [fpif q, fpif q]
      exact nm_eq m (c + 1) (by omega)
theorem E_nm_in {M : Mem} {T t c s : Nat} {w : List Int32} {f : Nat → Int32} {k3 : Mem → Nat → Nat → Nat → Int32 → Int32 → Option Int32} (h : ST M) (ht : t ≤ 16000) (hf : ∀ i, i < t → cI M 1001 i = f i) (e : WE M s w) (hl : w.length = t) (x1 : gr M T 3394 = some (cR M T 3394)) (x2 : ai M (cR M T 3394) (iw (c : Int)) = some (iw (s : Int))) : ∀ (m N i : Nat), i + m = t → (∀ q, q < i → wf w q = f q) → F_X11_named_b36 k3 (N + 2 + m) M 1037 T 1001 (iw (t : Int)) (iw (c : Int)) 1 (iw (i : Int)) = pif (∀ q, q < t → wf w q = f q) (some (iw (c : Int))) (k3 M 1037 T 1001 (iw (t : Int)) (iw (c : Int) + 1))
  | 0, N, i, hi, hb => by
    have n1 : ¬ (1 : Int32) = 0 := by decide
    show F_X11_named_b36_st k3 (F_X11_named_b36 k3 (N + 1)) M 1037 T 1001 (iw (t : Int)) (iw (c : Int)) 1 (iw (i : Int)) = _
    unfold F_X11_named_b36_st F_X11_named_b85
    rw [if_neg (show ¬ iw (i : Int) < iw (t : Int) by rw [iw_le4 (by omega) (by omega)]; omega), if_neg n1, tpif (fun q hq => hb q (by omega))]
  | m + 1, N, i, hi, hb => by
    have n1 : ¬ (1 : Int32) = 0 := by decide
    show F_X11_named_b36_st k3 (F_X11_named_b36 k3 (N + 2 + m)) M 1037 T 1001 (iw (t : Int)) (iw (c : Int)) 1 (iw (i : Int)) = _
    unfold F_X11_named_b36_st F_X11_named_b77
    rw [if_pos (show iw (i : Int) < iw (t : Int) by rw [iw_le4 (by omega) (by omega)]; omega), if_neg n1]
    have a1 : ab M 1001 (iw (i : Int)) = some (f i) := by rw [ab_of (Or.inr (Or.inl (t1001 h))) (l1001 h) (show i < 16000 by omega) (by decide), hf i (by omega)]
    simp only [g1037_769, g1038_832, h, x1, x2, iw_nad, e.ab h (show i < w.length by omega), a1, Option.bind_some]
    by_cases ci : wf w i = f i
    · rw [if_pos ci, iw_succ]
      exact E_nm_in h ht hf e hl x1 x2 m N (i + 1) (by omega) (fun q hq => by
        by_cases k : q = i
        · rw [k]; exact ci
        · exact hb q (by omega))
    · rw [if_neg ci, iw_succ, fpif (fun q => ci (q i (by omega))), show N + 2 + m = N + 1 + m + 1 by omega]
      show F_X11_named_b36_st k3 (F_X11_named_b36 k3 (N + 1 + m)) M 1037 T 1001 (iw (t : Int)) (iw (c : Int)) 0 (iw ((i + 1 : Nat) : Int)) = _
      unfold F_X11_named_b36_st F_X11_named_b85
      by_cases cr : iw ((i + 1 : Nat) : Int) < iw (t : Int)
      · rw [if_pos cr, if_pos rfl, if_pos rfl]
      · rw [if_neg cr, if_pos rfl]
theorem E_nm0 {M : Mem} {T t c : Nat} {k3 : Mem → Nat → Nat → Nat → Int32 → Int32 → Option Int32} {v : Int32} : F_X11_named_b31 k3 M 0 1037 T 1001 (iw (t : Int)) v = k3 M 1037 T 1001 (iw (t : Int)) (v + 1) := by
  unfold F_X11_named_b31
  show F_X11_named_b36_st k3 (F_X11_named_b36 k3 1099511627775) M 1037 T 1001 (iw (t : Int)) v 0 0 = _
  unfold F_X11_named_b36_st F_X11_named_b85
  by_cases cr : 0 < iw (t : Int)
  · rw [if_pos cr, if_pos rfl, if_pos rfl]
  · rw [if_neg cr, if_pos rfl]
theorem E_nm {M : Mem} {Z : Nat → Prop} {W T t : Nat} {d : TD} {f : Nat → Int32} (h : ST M) (hW : W ≤ 65536) (g : GT d) (te : TE M Z W T d) (ht : t ≤ 16000) (hf : ∀ i, i < t → cI M 1001 i = f i) : ∀ (m N c : Nat), c + m = d.1 → F_X11_named_b3 (N + 1 + m) M 1037 T 1001 (iw (t : Int)) (iw (c : Int)) = some (nmf d.2.2.1 f t m c)
  | 0, N, c, hc => by
    have g2 := g.2.1
    show F_X11_named_b3_st (F_X11_named_b3 N) M 1037 T 1001 (iw (t : Int)) (iw (c : Int)) = _
    unfold F_X11_named_b3_st nmf
    rw [gi_of te.1.2 (show x_fi 53 3392 = true by decide), te.2.1, Option.bind_some, if_neg (by rw [iw_le4 (by omega) (by omega)]; omega)]
  | m + 1, N, c, hc => by
    have g2 := g.2.1
    have g6 := g.2.2.2.2.2.1 c (by omega)
    obtain ⟨⟨a1, a2, a3⟩, ⟨b1, b2, b3⟩, rk⟩ := te.2.2.2.1
    obtain ⟨r1, s, r2, r3, r4⟩ := rk c (by omega)
    show F_X11_named_b3_st (F_X11_named_b3 (N + 1 + m)) M 1037 T 1001 (iw (t : Int)) (iw (c : Int)) = _
    have x1 : gr M T 3394 = some (cR M T 3394) := gr_of te.1.2 (by decide)
    have x2 : ai M (cR M T 3394) (iw (c : Int)) = some (iw (s : Int)) := by rw [ai_of a2 a3 (show c < d.1 by omega) (by omega), r2]
    have x3 : gr M T 3395 = some (cR M T 3395) := gr_of te.1.2 (by decide)
    have x4 : ab M (cR M T 3395) (iw (c : Int)) = some (enc (cl d.2.2.1 c)) := by rw [ab_of (Or.inr (Or.inl b2)) b3 (show c < d.1 by omega) (by omega), r1]
    have x5 : enc (cl d.2.2.1 c) &&& 63 = iw ((cl d.2.2.1 c).1.length : Nat) := by
      obtain ⟨e1, e2, e3, e4⟩ := enc_ok (show (cl d.2.2.1 c).1.length < 64 by omega)
      unfold enc
      by_cases q : (cl d.2.2.1 c).2 = true
      · rw [if_pos q]; exact e1
      · rw [if_neg q, if_neg (by omega)]; exact e2
    have we : WE M s (cl d.2.2.1 c).1 := ⟨by omega, r4⟩
    unfold F_X11_named_b3_st nmf
    rw [gi_of te.1.2 (show x_fi 53 3392 = true by decide), te.2.1, Option.bind_some, if_pos (show iw (c : Int) < iw (d.1 : Int) by rw [iw_le4 (by omega) (by omega)]; omega)]
    simp only [x3, x4, x5, Option.bind_some]
    have ih := E_nm h hW g te ht hf m N (c + 1) (by omega)
    by_cases cl' : (cl d.2.2.1 c).1.length = t
    · rw [if_pos (show iw ((cl d.2.2.1 c).1.length : Nat) = iw (t : Int) by rw [cl'])]
      unfold F_X11_named_b31
      obtain ⟨K, hK⟩ : ∃ K, K + 2 + t = xN := ⟨xN - 2 - t, by have : xN = 1099511627776 := rfl; omega⟩
      have lp := E_nm_in (k3 := F_X11_named_b3 (N + 1 + m)) (c := c) h ht hf we cl' x1 x2 t K 0 (by omega) (fun q hq => by omega)
      rw [hK] at lp
      refine Eq.trans lp ?_
      by_cases q : ∀ q, q < t → wf (cl d.2.2.1 c).1 q = f q
      · rw [tpif q, tpif (show eqw (cl d.2.2.1 c).1 f t from ⟨cl', q⟩)]
      · rw [fpif q, fpif (fun k => q k.2), iw_succ]
        exact ih
    · rw [if_neg (show ¬ iw ((cl d.2.2.1 c).1.length : Nat) = iw (t : Int) by rw [iw_eq (by omega) (by omega) (by omega) (by omega)]; omega), E_nm0 (c := c), iw_succ, fpif (fun k => cl' k.1)]
      exact ih
/-! the model -/
theorem M_nm_in {M : Mem} {t e : Nat} {w : List Int32} {f : Nat → Int32} {v c : Int32} {k28 : Mem → Nat → Int32 → Int32 → Int32 → Option (Int32 × Mem)} (h : ST M) (ht : t ≤ 16000) (hf : ∀ i, i < t → cI M 1069 i = f i ∧ bt (f i)) (sw : SB M e w) (hw : ascs w) (hl : w.length = t) : ∀ (m N i : Nat), i + m = t → (∀ q, q < i → wf w q = f q) → F_X16_named_b81 k28 (N + 2 + m) M 1068 v (iw (t : Int)) c e 1 (iw (i : Int)) = pif (∀ q, q < t → wf w q = f q) (some (c, M)) (k28 M 1068 v (iw (t : Int)) (c + 1))
  | 0, N, i, hi, hb => by
    have n1 : ¬ (1 : Int32) = 0 := by decide
    show F_X16_named_b81_st k28 (F_X16_named_b81 k28 (N + 1)) M 1068 v (iw (t : Int)) c e 1 (iw (i : Int)) = _
    unfold F_X16_named_b81_st F_X16_named_b126
    rw [if_neg (show ¬ iw (i : Int) < iw (t : Int) by rw [iw_le4 (by omega) (by omega)]; omega), if_neg n1, tpif (fun q hq => hb q (by omega))]
  | m + 1, N, i, hi, hb => by
    have n1 : ¬ (1 : Int32) = 0 := by decide
    show F_X16_named_b81_st k28 (F_X16_named_b81 k28 (N + 2 + m)) M 1068 v (iw (t : Int)) c e 1 (iw (i : Int)) = _
    unfold F_X16_named_b81_st F_X16_named_b118
    rw [if_pos (show iw (i : Int) < iw (t : Int) by rw [iw_le4 (by omega) (by omega)]; omega), if_neg n1]
    obtain ⟨f1, f2⟩ := hf i (by omega)
    have a1 : ab M 1069 (iw (i : Int)) = some (f i) := by rw [ab_of (Or.inr (Or.inl (t1069 h))) (l1069 h) (show i < 16000 by omega) (by decide), f1]
    have hq : wf w i = f i &&& 255 ↔ wf w i = f i := by
      obtain ⟨b1, b2⟩ := asc_bn (hw i (by omega))
      have b3 : f i &&& 255 = iw (bn (f i) : Nat) := by rw [bn_and]; rfl
      have b4 := bn_lt (f i)
      rw [b3]
      generalize wf w i = z at *
      rw [b1, iw_eq (by omega) (by omega) (by omega) (by omega)]
      have b5 := bt_ch f2 (c := bn z) b2
      constructor
      · intro k; exact (b5.mpr (by omega)).symm
      · intro k; have := b5.mp k.symm; omega
    simp only [sw.vg, wch sw hw (show i < w.length by omega), g1068_1088, h, a1, Option.bind_some]
    by_cases ci : wf w i = f i
    · rw [if_pos (hq.mpr ci), iw_succ]
      exact M_nm_in h ht hf sw hw hl m N (i + 1) (by omega) (fun q hq => by
        by_cases k : q = i
        · rw [k]; exact ci
        · exact hb q (by omega))
    · rw [if_neg (fun k => ci (hq.mp k)), iw_succ, fpif (fun q => ci (q i (by omega))), show N + 2 + m = N + 1 + m + 1 by omega]
      show F_X16_named_b81_st k28 (F_X16_named_b81 k28 (N + 1 + m)) M 1068 v (iw (t : Int)) c e 0 (iw ((i + 1 : Nat) : Int)) = _
      unfold F_X16_named_b81_st F_X16_named_b126
      by_cases cr : iw ((i + 1 : Nat) : Int) < iw (t : Int)
      · rw [if_pos cr, if_pos rfl, if_pos rfl]
      · rw [if_neg cr, if_pos rfl]
theorem M_nm0 {M : Mem} {t e : Nat} {v c : Int32} {k28 : Mem → Nat → Int32 → Int32 → Int32 → Option (Int32 × Mem)} : F_X16_named_b76 k28 M 0 1068 v (iw (t : Int)) c e = k28 M 1068 v (iw (t : Int)) (c + 1) := by
  unfold F_X16_named_b76
  show F_X16_named_b81_st k28 (F_X16_named_b81 k28 1099511627775) M 1068 v (iw (t : Int)) c e 0 0 = _
  unfold F_X16_named_b81_st F_X16_named_b126
  by_cases cr : 0 < iw (t : Int)
  · rw [if_pos cr, if_pos rfl, if_pos rfl]
  · rw [if_neg cr, if_pos rfl]
theorem M_nm {M : Mem} {Z : Nat → Prop} {T t : Nat} {d : TD} {f : Nat → Int32} {v : Int32} (h : ST M) (k0 : K0 M) (g : GT d) (tm : TMt M Z T d) (hZ : ∀ x, Z x → 1334 ≤ x ∧ x < m_nx M) (hv : ar M 1324 v = some T) (ht : t ≤ 16000) (hf : ∀ i, i < t → cI M 1069 i = f i ∧ bt (f i)) : ∀ (m N c : Nat), c + m = d.1 → F_X16_named_b28 (N + 1 + m) M 1068 v (iw (t : Int)) (iw (c : Int)) = some (nmg d.2.2.1 f t m c, M)
  | 0, N, c, hc => by
    have g2 := g.2.1
    obtain ⟨r1, r2, ln, r3, r4, r5⟩ := tm.rows g k0 hZ
    show F_X16_named_b28_st (F_X16_named_b28 N) M 1068 v (iw (t : Int)) (iw (c : Int)) = _
    unfold F_X16_named_b28_st nmg
    simp only [g1068_1122, h, hv, r3, r4, r5, Option.bind_some]
    rw [if_neg (by rw [iw_le4 (by omega) (by omega)]; omega)]
  | m + 1, N, c, hc => by
    have ih := M_nm h k0 g tm hZ hv ht hf m N (c + 1) (by omega)
    have g2 := g.2.1
    have g6 := g.2.2.2.2.2.1 c (by omega)
    obtain ⟨⟨ln, dn, en, lc, dc, ec, q⟩, -⟩ := tm
    have tc := q.c g k0 hZ
    obtain ⟨q1, q2, q3, q4, q5, q6, q7⟩ := tc.g
    obtain ⟨p1, p2, p3, p4⟩ := q.2.2.2.2.2.2.2.1 c (by omega)
    have al := q.2.2.2.1.2.2
    have hlen := q.2.2.2.2.2.1
    have gt' := al.get (show c < en.length by omega)
    have hcc : cc M (en.getD c 0) 76 = some () := by unfold cc; rw [if_pos (Or.inr (by rw [p2]; decide))]
    show F_X16_named_b28_st (F_X16_named_b28 (N + 1 + m)) M 1068 v (iw (t : Int)) (iw (c : Int)) = _
    unfold F_X16_named_b28_st nmg
    simp only [g1068_1122, h, hv, q1, q3, q5, Option.bind_some]
    rw [if_pos (show iw (c : Int) < iw (d.1 : Int) by rw [iw_le4 (by omega) (by omega)]; omega)]
    simp only [gt', hcc, p4.vg, J_len p4, Option.bind_some]
    by_cases cl' : (cl d.2.2.1 c).1.length = t
    · rw [if_pos (show iw ((cl d.2.2.1 c).1.length : Nat) = iw (t : Int) by rw [cl'])]
      unfold F_X16_named_b76
      obtain ⟨K, hK⟩ : ∃ K, K + 2 + t = xN := ⟨xN - 2 - t, by have : xN = 1099511627776 := rfl; omega⟩
      have lp := M_nm_in (k28 := F_X16_named_b28 (N + 1 + m)) (v := v) (c := iw (c : Int)) h ht hf p4 g6.1 cl' t K 0 (by omega) (fun q hq => by omega)
      rw [hK] at lp
      refine Eq.trans lp ?_
      by_cases qq : ∀ q, q < t → wf (cl d.2.2.1 c).1 q = f q
      · rw [tpif qq, tpif (show eqw (cl d.2.2.1 c).1 f t from ⟨cl', qq⟩)]
      · rw [fpif qq, fpif (fun k => qq k.2), iw_succ]
        exact ih
    · rw [if_neg (show ¬ iw ((cl d.2.2.1 c).1.length : Nat) = iw (t : Int) by rw [iw_eq (by omega) (by omega) (by omega) (by omega)]; omega), M_nm0, iw_succ, fpif (fun k => cl' k.1)]
      exact ih
theorem isT_w {A : Mem} (s : ST A) {i : Nat} {x v : Int32} (hi : i ≠ 1123) : F_X16_isTable (wI A 1068 i x) 1068 v = F_X16_isTable A 1068 v := by
  have s' : ST (wI A 1068 i x) := s
  have c : cI (wI A 1068 i x) 1068 1123 = cI A 1068 1123 := by rw [cI_wI, if_neg (by omega)]
  unfold F_X16_isTable
  rw [g1068_1123 s', g1068_1123 s, c, g1068_1122 s', g1068_1122 s]
  rfl
def pNm : Nat → Nat → Prop := fun a i => (a = 1000 ∧ i = 65) ∨ (a = 1068 ∧ i = 1089)
theorem noT_pNm {Z : Nat → Prop} {M : Mem} (hZ : ∀ x, Z x → 1334 ≤ x ∧ x < m_nx M) : noT pNm n2 Z := ⟨fun x i q k => by have := hZ x q; unfold pNm at k; omega, fun _ _ _ q => q, fun i q => by unfold pNm at q; omega, fun q => by unfold pNm at q; omega, fun q => by unfold pNm at q; omega, fun q => by unfold pNm at q; omega, fun q => by unfold pNm at q; omega, fun _ q => q, fun _ q => q⟩
def NCn (M : Mem) (v : Int32) : Prop := ∃ (r : Int32) (M1 M2 : Mem), F_X0_named M 1000 v = some (r, M1) ∧ F_X16_named M1 1068 v = some (r, M2) ∧ I1 M2 ∧ Df pNm n2 n2 M M2 ∧ m_nx M2 = m_nx M ∧ m_sl M2 = m_sl M
theorem c_named {M : Mem} {Z : Nat → Prop} (h : ST M) (k0 : K0 M) (h1 : I1 M) (h4 : I4 M) (h6 : I6 M Z) (v : Int32) : NCn M v := by
  have h0 := h.1
  have h1x := h1
  obtain ⟨t, f, t1, t2, t3, t4, t5, t6, t7, t8⟩ := h1
  have n1 : ¬ (1 : Int32) = 0 := by decide
  by_cases c97 : cI M 1000 97 = 1
  · have c95 : cI M 1068 1095 = 1 := by rw [← h4.2.2.2.2.1]; exact c97
    refine ⟨-13, M, M, ?_, ?_, h1x, Df.refl _ _ _ _, rfl, rfl⟩
    · simp only [F_X0_named, g1000_97, h, c97, n1, if_false, Option.bind_some]
    · simp only [F_X16_named, g1068_1095, h, c95, n1, if_false, Option.bind_some]
  have z97 : cI M 1000 97 = 0 := h4.2.2.2.1.resolve_right c97
  have z95 : cI M 1068 1095 = 0 := by rw [← h4.2.2.2.2.1]; exact z97
  obtain ⟨A, hA⟩ : ∃ A, A = wI M 1000 65 0 := ⟨_, rfl⟩
  have sA : ST A := hA ▸ h
  have dA : Df pNm n2 n2 M A := by rw [hA]; exact Df.wI _ (Or.inl ⟨rfl, rfl⟩)
  obtain ⟨B, hB⟩ : ∃ B, B = wI A 1068 1089 0 := ⟨_, rfl⟩
  have sB : ST B := hB ▸ sA
  have dAB : Df pNm n2 n2 A B := by rw [hB]; exact Df.wI _ (Or.inr ⟨rfl, rfl⟩)
  have dB := dA.trans dAB
  have nA : m_nx A = m_nx M := by rw [hA]; rfl
  have kA : K0 A := k0.df h dA (fun a i q k => by unfold pNm at k; omega) (fun _ _ _ q => q)
  have kB : K0 B := k0.df h dB (fun a i q k => by unfold pNm at k; omega) (fun _ _ _ q => q)
  have h4A : I4 A := I4.dfg h dA h4 (fun a i q k => by unfold pNm at k; omega)
  have h6A : I6 A Z := h6.df dA h0 (noT_pNm h6.1)
  have us : F_X0_used M 1000 = some (iw (t : Int), A) := by simp only [F_X0_used, g1000_65, p1000_65, h, t4, ← hA, Option.bind_some]
  have cA : ∀ a i, a ≠ 1000 → cI A a i = cI M a i := fun a i q => by rw [hA, cI_wI, if_neg (by omega)]
  have usM : F_X16_used A 1068 = some (iw (t : Int), B) := by
    have : cI A 1068 1089 = iw (t : Int) := by rw [cA _ _ (by decide)]; exact t5
    simp only [F_X16_used, g1068_1089, p1068_1089, sA, this, ← hB, Option.bind_some]
  have zA : cI A 1068 1095 = 0 := by rw [cA _ _ (by decide)]; exact z95
  have hI1 : I1 B := I1.emp h dB h1x (by rw [hB, cI_wI, if_neg (by decide), hA, cI_wI, if_pos ⟨rfl, rfl⟩]) (by rw [hB, cI_wI, if_pos ⟨rfl, rfl⟩]) (by unfold pNm; omega) (by unfold pNm; omega)
  have nB : m_nx B = m_nx M ∧ m_sl B = m_sl M := by rw [hB, hA]; exact ⟨rfl, rfl⟩
  have n06 : ¬ (0 : Nat) = 6 := by decide
  have a97 : cI A 1000 97 = 0 := by rw [hA, cI_wI, if_neg (by decide)]; exact z97
  rcases lookT sA h4A h6A v with ⟨a1, -⟩ | ⟨a1, a2, a3, a4, a5, a6⟩ | ⟨a1, a2, d, W, k, m, ev, k1, k2, m40, e71, e23, w65, e33, e24, g, te, tm, fT, z1, z2, it, cT, ar2⟩
  · rw [a97] at a1; exact absurd a1 (by decide)
  · refine ⟨-14, A, B, ?_, ?_, hI1, dB, nB.1, nB.2⟩
    · simp only [F_X0_named, g1000_97, h, z97, v1000, us, sA, a3, n06, F_X0_named_b42, F_X0_named_b56, show ((-1 : Int32) < 0) = True by decide, if_true, if_false, Option.bind_some]
    · have it2 : F_X16_isTable B 1068 v = some 0 := by rw [hB, isT_w sA (by decide)]; exact a4
      simp only [F_X16_named, g1068_1095, sA, zA, v1068, usM, sB, it2, if_true, Option.bind_some]
  · obtain ⟨ff, hff⟩ : ∃ ff, ff = cI M 1001 := ⟨_, rfl⟩
    have g2 := g.2.1
    have e6 : ¬ cR A 1040 k = 6 := by omega
    have e0 : ¬ cR A 1040 k = 0 := by omega
    obtain ⟨K, hK⟩ : ∃ K, K + 1 + d.1 = xN := ⟨xN - 1 - d.1, by have : xN = 1099511627776 := rfl; omega⟩
    have en := E_nm (f := ff) sA w65 g te t1 (fun i hi => by rw [cA _ _ (by decide), hff]) d.1 K 0 (by omega)
    rw [hK] at en
    have tmB : TMt B Z (cR A 1324 k) d := tm.df dAB (fun x hx => by have := h6A.1 x hx; omega) (noT_pNm h6.1).1 (noT_pNm h6.1).2.1
    have mn := M_nm (M := B) (f := ff) (v := v) (t := t) sB kB g tmB (fun x hx => by have := h6.1 x hx; omega) (by rw [hB]; exact ar2) t1 (fun i hi => ⟨by rw [hB, cI_wI, if_neg (by omega), cA _ _ (by decide), hff]; exact (t8 i hi).1.symm, by rw [hff]; exact (t8 i hi).2⟩) d.1 K 0 (by omega)
    rw [hK] at mn
    have eqr := nm_eq (hd := d.2.2.1) (f := ff) (t := t) d.1 0 (by omega)
    refine ⟨nmg d.2.2.1 ff t d.1 0, A, B, ?_, ?_, hI1, dB, nB.1, nB.2⟩
    · simp only [F_X0_named, g1000_97, h, z97, v1000, us, sA, fT, e6, e0, g1000_77, g1000_64, v1037, if_true, if_false, Option.bind_some]
      rw [show F_X11_named A 1037 (cR A 1040 k) 1001 (iw (t : Int)) = _ from en, Option.bind_some]
      unfold F_X0_named_b42 F_X0_named_b56
      rw [eqr]
      by_cases q : nmf d.2.2.1 ff t d.1 0 < 0
      · rw [if_pos q, if_pos q]
      · rw [if_neg q, if_neg q]
    · have it2 : F_X16_isTable B 1068 v = some 1 := by rw [hB, isT_w sA (by decide)]; exact it
      simp only [F_X16_named, g1068_1095, sA, zA, v1068, usM, sB, it2, n1, if_true, if_false, Option.bind_some]
      exact mn
