/-! ===== FORMULAS, 14: hashes of texts; the model knows lanes' words ===== -/
theorem BD.str2 {M : Mem} {a ds c : Nat} {x : List Int32} (h : BD M a ds c x) (hl : x.length ≤ 70000) (h0 : 1334 ≤ m_nx M) : ∃ M', F_J14_toString M a = some (m_nx M, M') ∧ SB M' (m_nx M) x ∧ m_tg M' (m_nx M) = 76 ∧ cR M' (m_nx M) 4864 = m_nx M + 1 ∧ (m_tg M' (m_nx M + 1) = 1002 ∧ cI M' (m_nx M) 4866 = 0 ∧ cI M' (m_nx M) 4867 = 0) ∧ Df n2 n2 n2 M M' ∧ m_nx M' = m_nx M + 2 ∧ m_sl M' = m_sl M + x.length + x_cn 76 := by
  obtain ⟨h1, h2, h3, h4, h5, h6, h7, h8, h9, h10, h11, h12, h13⟩ := h
  obtain ⟨A, hA⟩ : ∃ A, A = mo M 76 := ⟨_, rfl⟩
  have dA : Df n2 n2 n2 M A := by rw [hA]; exact Df.new _ _
  have nA : m_nx A = m_nx M + 1 := by rw [hA]; rfl
  have sA : m_sl A = m_sl M + x_cn 76 := by rw [hA]; rfl
  have tN : m_tg A (m_nx M) = 76 := by rw [hA]; show m_tg (m_new M 76 _) _ = _; rw [tg_new, if_pos rfl]
  have tA : m_tg A a = 75 := (dA.2.2 a h1).1.trans h2
  have cA3 : cR A a 4736 = ds := by rw [dA.cR h1 (fun q => q)]; exact h3
  have cA4 : cI A a 4737 = 0 := by rw [dA.cI h1 (fun q => q)]; exact h4
  have cA5 : cI A a 4739 = iw (x.length : Nat) := by rw [dA.cI h1 (fun q => q)]; exact h5
  obtain ⟨B, hB⟩ : ∃ B, B = wI A (m_nx M) 4865 0 := ⟨_, rfl⟩
  have nB : m_nx B = m_nx M + 1 := by rw [hB]; exact nA
  have u := dA.2.2 ds h7
  have tD : m_tg B ds = 1002 := by rw [hB]; exact u.1.trans h9
  have lD : m_ln B ds = c := by rw [hB]; exact u.2.1.trans h10
  obtain ⟨G, g1, g2, g3, g4, g5, g6, g7⟩ := J_copyR (M := B) (s := ds) (n := x.length) tD (by omega) (by omega) (by omega)
  have tG : m_tg G (m_nx M) = 76 := (g2.2.2 _ (by omega)).1.trans (by rw [hB]; exact tN)
  obtain ⟨W, hW⟩ : ∃ W, W = wR G (m_nx M) 4864 (m_nx B) := ⟨_, rfl⟩
  have cW : cR W (m_nx M) 4864 = m_nx M + 1 := by rw [hW, cR_wR, if_pos ⟨rfl, rfl⟩, nB]
  have n1 : ¬ (1 : Int32) = 0 := by decide
  refine ⟨W, ?_, ⟨Or.inr (by rw [hW]; exact tG), ?_, ?_, ?_, hl, fun i hi => ?_⟩, by rw [hW]; exact tG, cW, ⟨by rw [hW, ← nB]; exact g5, by rw [hW]; show cI G _ 4866 = 0; rw [g2.cI (by omega) (fun q => q), hB, cI_wI, if_neg (by omega), hA]; show cI (m_new M 76 _) _ _ = _; rw [cI_new, if_pos rfl], by rw [hW]; show cI G _ 4867 = 0; rw [g2.cI (by omega) (fun q => q), hB, cI_wI, if_neg (by omega), hA]; show cI (m_new M 76 _) _ _ = _; rw [cI_new, if_pos rfl]⟩, ?_, by rw [hW]; show m_nx G = _; omega, ?_⟩
  · unfold F_J14_toString F_J15_init F_J15_init_2 F_J15_init_2_b97 F_J13_getValue F_J14_length F_J13_length
    simp only [← hA, ng_of tN (by decide), ng_of tA (by decide), vg_of tA (show x_isa 75 74 = true by decide), vg_of tA (show x_isa 75 75 = true by decide), gr_of tA (show x_fr 75 4736 = true by decide), gi_of tA (show x_fi 75 4739 = true by decide), cA3, cA5, BD.lat tA cA4, n1, if_false, pi_of 0 tN (show x_wi 76 4865 = true by decide) fit_4865, ← hB, g1, pr_of _ tG (show x_wr 76 4864 = true by decide), ← hW, Option.bind_some]
  · rw [hW]; show cI G _ 4865 = 0; rw [g2.cI (by omega) (fun q => q), hB, cI_wI, if_pos ⟨rfl, rfl⟩]
  · right; rw [cW, ← nB, hW]; exact g5
  · rw [cW, ← nB, hW]; exact g6
  · rw [cW, ← nB, hW]
    show cI G (m_nx B) i = _
    rw [g7 i hi (by omega), hB, cI_wI, if_neg (by omega), dA.cI h7 (fun q => q)]
    exact h13 i hi
  · have d1 : Df (at1 (m_nx M)) n2 (at1 (m_nx M)) A W := by
      rw [hW]
      refine ((Df.wI (P := at1 (m_nx M)) (Q := n2) (R := at1 (m_nx M)) (M := A) (a := m_nx M) (i := 4865) 0 rfl).trans ?_).trans (Df.wR _ rfl)
      rw [← hB]
      exact g2.mono (fun _ _ q => q.elim) (fun _ _ q => q) (fun _ _ q => q.elim)
    exact dA.then d1 (fun y _ hy q => by unfold at1 at q; omega) (fun _ _ _ q => q) (fun y _ hy q => by unfold at1 at q; omega)
  · rw [hW]
    show m_sl G = _
    rw [g4, hB]
    show m_sl A + _ = _
    omega
/-- a text's hash -/
def hsh (w : List Int32) : Int32 := w.foldl (fun h c => 31 * h + (c &&& 255)) 0
theorem hsh_app (w : List Int32) (c : Int32) : hsh (w ++ [c]) = 31 * hsh w + (c &&& 255) := by unfold hsh; rw [List.foldl_append]; rfl
theorem hsh_c : hsh (cty 51).1 = 64711720 ∧ hsh (cty 53).1 = 3039496 ∧ hsh (cty 60).1 = 109413500 ∧ hsh (cty 54).1 = 3052374 ∧ hsh (cty 58).1 = 104431 ∧ hsh (cty 59).1 = 3327612 ∧ hsh (cty 57).1 = 97526364 ∧ hsh (cty 55).1 = -1325958191 := by decide +kernel
/-- the hash that a text keeps -/
def HS (M : Mem) (s : Nat) (w : List Int32) : Prop := m_tg M (cR M s 4864) = 1002 ∧ (cI M s 4866 = 0 ∨ cI M s 4866 = hsh w) ∧ (cI M s 4867 = 0 ∨ hsh w = 0)
theorem take_succ_getD {w : List Int32} {i : Nat} (h : i < w.length) : w.take (i + 1) = w.take i ++ [w.getD i 0] := by
  rw [List.take_add_one, List.getElem?_eq_getElem h, List.getD_eq_getElem?_getD, List.getElem?_eq_getElem h]
  rfl
theorem J_hash17 {M : Mem} {s : Nat} {w : List Int32} (sw : SB M s w) (ht : m_tg M (cR M s 4864) = 1002) : F_J17_hashCode M (cR M s 4864) = some (hsh w) := by
  have hl := sw.2.2.2.2.1
  have hxN : xN = 1099511627776 := rfl
  have hab : ∀ i, i < w.length → ab M (cR M s 4864) (iw (i : Int)) = some (w.getD i 0) := fun i hi => by
    rw [← sw.2.2.2.2.2 i hi]
    exact ab_of (Or.inr (Or.inl ht)) sw.2.2.2.1 hi (by omega)
  have loop : ∀ (m N i : Nat), i + m = w.length → m + 1 ≤ N → F_J9_signedHashCode_b8 N M (hsh (w.take i)) (cR M s 4864) (iw (w.length : Nat)) (iw (i : Int)) = some (hsh w) := by
    intro m
    induction m with
    | zero =>
      intro N i hi hN
      obtain ⟨N', rfl⟩ : ∃ N', N = N' + 1 := ⟨N - 1, by omega⟩
      show F_J9_signedHashCode_b8_st _ M _ _ _ _ = _
      unfold F_J9_signedHashCode_b8_st
      rw [if_neg (by rw [iw_le4 (by omega) (by omega)]; omega), List.take_of_length_le (by omega)]
    | succ m ih =>
      intro N i hi hN
      obtain ⟨N', rfl⟩ : ∃ N', N = N' + 1 := ⟨N - 1, by omega⟩
      have R0 := ih N' (i + 1) (by omega) (by omega)
      rw [take_succ_getD (by omega), hsh_app] at R0
      show F_J9_signedHashCode_b8_st (F_J9_signedHashCode_b8 N') M _ _ _ _ = _
      unfold F_J9_signedHashCode_b8_st
      rw [if_pos (by rw [iw_le4 (by omega) (by omega)]; omega), hab i (by omega), Option.bind_some]
      simp only [iw_succ]
      exact R0
  unfold F_J17_hashCode F_J17_hashCode_b51
  rw [sw.an, Option.bind_some]
  by_cases q0 : w.length = 0
  · rw [if_pos (by rw [q0]; rfl)]
    have : w = [] := List.length_eq_zero_iff.mp q0
    rw [this]; rfl
  · rw [if_neg (by rw [iw_eq0 (by omega) (by omega)]; omega)]
    by_cases q1 : w.length = 1
    · rw [if_pos (by rw [q1]; rfl), show (0 : Int32) = iw ((0 : Nat) : Int) from rfl, hab 0 (by omega), Option.bind_some]
      obtain ⟨c, rfl⟩ := List.length_eq_one_iff.mp q1
      show some (c &&& 255) = some (31 * 0 + (c &&& 255))
      rw [show (31 : Int32) * 0 + (c &&& 255) = c &&& 255 by rw [show (31 : Int32) * 0 = 0 from rfl, Int32.zero_add]]
    · rw [if_neg (by rw [show (1 : Int32) = iw ((1 : Nat) : Int) from rfl, iw_eq (by omega) (by omega) (by omega) (by omega)]; omega), Option.bind_some]
      unfold F_J9_vectorizedHashCode F_J9_signedHashCode F_J9_vectorizedHashCode_b157
      rw [if_pos rfl, cc_of ht (show x_cast 1002 1002 = true by decide), Option.bind_some]
      have L := loop w.length xN 0 (by omega) (by omega)
      have L' : F_J9_signedHashCode_b8 xN M 0 (cR M s 4864) (0 + iw (w.length : Nat)) 0 = some (hsh w) := by rw [Int32.zero_add]; exact L
      rw [L', Option.bind_some]
      rfl
def pHs (s : Nat) : Nat → Nat → Prop := fun a i => a = s ∧ (i = 4866 ∨ i = 4867)
theorem J_hash {M : Mem} {s : Nat} {w : List Int32} (sw : SB M s w) (ht : m_tg M s = 76) (hh : HS M s w) (hsx : s < m_nx M) : ∃ M', F_J15_hashCode M s = some (hsh w, M') ∧ Df (pHs s) n2 n2 M M' ∧ HS M' s w ∧ m_nx M' = m_nx M ∧ m_sl M' = m_sl M := by
  obtain ⟨h1, h2, h3⟩ := hh
  unfold F_J15_hashCode F_J15_hashCode_b58
  rw [gi_of ht (show x_fi 76 4866 = true by decide), Option.bind_some]
  by_cases c : cI M s 4866 = 0
  · rw [if_pos c, gi_of ht (show x_fi 76 4867 = true by decide), Option.bind_some]
    by_cases d : cI M s 4867 = 0
    · rw [if_pos d, sw.vg, Option.bind_some]
      have il : F_J15_isLatin1 M s = some 1 := by
        unfold F_J15_isLatin1 F_J15_isLatin1_b18
        rw [if_neg (by decide), sw.gi, Option.bind_some, if_pos rfl]
        rfl
      rw [il, Option.bind_some, if_neg (by decide), sw.gr, Option.bind_some, J_hash17 sw h1, Option.bind_some]
      unfold F_J15_hashCode_b40 F_J15_hashCode_b58
      by_cases z : hsh w = 0
      · rw [if_pos z, pi_of 1 ht (show x_wi 76 4867 = true by decide) (by decide), Option.bind_some]
        refine ⟨_, rfl, Df.wI _ ⟨rfl, Or.inr rfl⟩, ⟨h1, Or.inl ?_, Or.inr z⟩, rfl, rfl⟩
        rw [cI_wI, if_neg (by omega)]; exact c
      · rw [if_neg z, pi_of (hsh w) ht (show x_wi 76 4866 = true by decide) rfl, Option.bind_some]
        refine ⟨_, rfl, Df.wI _ ⟨rfl, Or.inl rfl⟩, ⟨h1, Or.inr ?_, Or.inl ?_⟩, rfl, rfl⟩
        · rw [cI_wI, if_pos ⟨rfl, rfl⟩]
        · rw [cI_wI, if_neg (by omega)]; exact d
    · rw [if_neg d]
      have z : hsh w = 0 := h3.resolve_left d
      exact ⟨M, by rw [c, z], Df.refl _ _ _ _, ⟨h1, h2, h3⟩, rfl, rfl⟩
  · rw [if_neg c]
    exact ⟨M, by rw [h2.resolve_left c], Df.refl _ _ _ _, ⟨h1, h2, h3⟩, rfl, rfl⟩
theorem SB.hs {M M' : Mem} {s x : Nat} {w : List Int32} (sw : SB M s w) (d : Df (pHs x) n2 n2 M M') (hs : s < m_nx M) (hr : cR M s 4864 < m_nx M) (hne : cR M s 4864 ≠ x) : SB M' s w := by
  obtain ⟨h1, h2, h3, h4, h5, h6⟩ := sw
  have er : cR M' s 4864 = cR M s 4864 := d.cR hs (fun q => q)
  have u := d.2.2 _ hr
  refine ⟨by rw [(d.2.2 s hs).1]; exact h1, by rw [d.cI hs (fun q => by unfold pHs at q; omega)]; exact h2, by rw [er, u.1]; exact h3, by rw [er, u.2.1]; exact h4, h5, fun i hi => by rw [er, d.cI hr (fun q => hne q.1)]; exact h6 i hi⟩
theorem M_laneOf_w {M : Mem} {s : Nat} {w : List Int32} (k0 : K0 M) (h0 : ST M) (sw : SB M s w) (ht : m_tg M s = 76) (hh : HS M s w) (hsx : s < m_nx M) (h1 : 1334 ≤ s) (hr : cR M s 4864 < m_nx M) : ∃ M', F_X16_laneOf M s = some (lnW w, M') ∧ Df (pHs s) n2 n2 M M' ∧ HS M' s w ∧ m_nx M' = m_nx M ∧ m_sl M' = m_sl M := by
  obtain ⟨N, e1, e2, e3, e4, e5⟩ := J_hash sw ht hh hsx
  have k0N : K0 N := k0.df h0 e2 (fun a i q w => by unfold pHs at w; omega) (fun a i q w => w)
  have swN : SB N s w := sw.hs e2 hsx hr (fun q => by have := hh.1; rw [q, ht] at this; exact absurd this (by decide))
  have eq : ∀ a, 20 ≤ a → a < 65 → F_J15_equals N s a = some (pif (w = (cty a).1) 1 0) := fun a a1 a2 => J_eqs swN (k0N.sb a1 a2) (ac_txt (by omega) a1 (by omega)) (by omega)
  refine ⟨N, ?_, e2, e3, e4, e5⟩
  obtain ⟨c1, c2, c3, c4, c5, c6, c7, c8⟩ := hsh_c
  have b203 : ∀ k : Int32, (k = -1 ∨ k = 0 ∨ k = 1 ∨ k = 2 ∨ k = 3 ∨ k = 4 ∨ k = 5 ∨ k = 6 ∨ k = 7) → F_X16_laneOf_b203 N k = some (k, N) := by
    rintro k (rfl | rfl | rfl | rfl | rfl | rfl | rfl | rfl | rfl) <;> rfl
  unfold F_X16_laneOf
  simp only [sw.vg, e1, Option.bind_some, swN.vg, eq 55 (by decide) (by decide), eq 58 (by decide) (by decide), eq 53 (by decide) (by decide), eq 54 (by decide) (by decide), eq 59 (by decide) (by decide), eq 51 (by decide) (by decide), eq 57 (by decide) (by decide), eq 60 (by decide) (by decide)]
  have ne : ∀ a b : Nat, w = (cty a).1 → (cty a).1 ≠ (cty b).1 → ¬ w = (cty b).1 := fun a b q r x => r (q.symm.trans x)
  have key : ∀ (a : Nat) (k : Int32), (k = -1 ∨ k = 0 ∨ k = 1 ∨ k = 2 ∨ k = 3 ∨ k = 4 ∨ k = 5 ∨ k = 6 ∨ k = 7) → (w = (cty a).1 → lnW w = k) → (¬ w = (cty a).1 → lnW w = -1) → (if pif (w = (cty a).1) (1 : Int32) 0 = 0 then F_X16_laneOf_b203 N (-1) else F_X16_laneOf_b203 N k) = some (lnW w, N) := fun a k hk h1 h2 => by
    by_cases q : w = (cty a).1
    · rw [pif_pos q, if_neg (by decide), b203 k hk, h1 q]
    · rw [pif_neg q, if_pos rfl, b203 (-1) (Or.inl rfl), h2 q]
  have lv : lnW (cty 51).1 = 0 ∧ lnW (cty 53).1 = 1 ∧ lnW (cty 60).1 = 2 ∧ lnW (cty 54).1 = 3 ∧ lnW (cty 58).1 = 4 ∧ lnW (cty 59).1 = 5 ∧ lnW (cty 57).1 = 6 ∧ lnW (cty 55).1 = 7 := by decide +kernel
  obtain ⟨l1, l2, l3, l4, l5, l6, l7, l8⟩ := lv
  have nl1 : ∀ h : Int32, hsh w = h → (h ≠ 64711720 → ¬ w = (cty 51).1) ∧ (h ≠ 3039496 → ¬ w = (cty 53).1) ∧ (h ≠ 109413500 → ¬ w = (cty 60).1) ∧ (h ≠ 3052374 → ¬ w = (cty 54).1) ∧ (h ≠ 104431 → ¬ w = (cty 58).1) ∧ (h ≠ 3327612 → ¬ w = (cty 59).1) ∧ (h ≠ 97526364 → ¬ w = (cty 57).1) ∧ (h ≠ -1325958191 → ¬ w = (cty 55).1) := fun h hw =>
    ⟨fun q x => q (by rw [← hw, x]; exact c1), fun q x => q (by rw [← hw, x]; exact c2), fun q x => q (by rw [← hw, x]; exact c3), fun q x => q (by rw [← hw, x]; exact c4), fun q x => q (by rw [← hw, x]; exact c5), fun q x => q (by rw [← hw, x]; exact c6), fun q x => q (by rw [← hw, x]; exact c7), fun q x => q (by rw [← hw, x]; exact c8)⟩
  have no : ∀ h : Int32, hsh w = h → (h = 64711720 → ¬ w = (cty 51).1) → (h = 3039496 → ¬ w = (cty 53).1) → (h = 109413500 → ¬ w = (cty 60).1) → (h = 3052374 → ¬ w = (cty 54).1) → (h = 104431 → ¬ w = (cty 58).1) → (h = 3327612 → ¬ w = (cty 59).1) → (h = 97526364 → ¬ w = (cty 57).1) → (h = -1325958191 → ¬ w = (cty 55).1) → lnW w = -1 := fun h hw g1 g2 g3 g4 g5 g6 g7 g8 => by
    obtain ⟨n1, n2', n3, n4, n5, n6, n7, n8⟩ := nl1 h hw
    have f : ∀ {p : Prop} {a b : Int32}, (a = b → ¬ p) → (a ≠ b → ¬ p) → ¬ p := fun u v => (Classical.em _).elim u v
    unfold lnW
    rw [if_neg (f g1 n1), if_neg (f g2 n2'), if_neg (f g3 n3), if_neg (f g4 n4), if_neg (f g5 n5), if_neg (f g6 n6), if_neg (f g7 n7), if_neg (f g8 n8)]
  by_cases q8 : hsh w = -1325958191
  · rw [if_pos q8]
    exact key 55 7 (by decide) (fun x => by rw [x]; exact l8) (fun x => no _ q8 (fun y => absurd y (by decide)) (fun y => absurd y (by decide)) (fun y => absurd y (by decide)) (fun y => absurd y (by decide)) (fun y => absurd y (by decide)) (fun y => absurd y (by decide)) (fun y => absurd y (by decide)) (fun _ => x))
  rw [if_neg q8]
  by_cases q5 : hsh w = 104431
  · rw [if_pos q5]
    exact key 58 4 (by decide) (fun x => by rw [x]; exact l5) (fun x => no _ q5 (fun y => absurd y (by decide)) (fun y => absurd y (by decide)) (fun y => absurd y (by decide)) (fun y => absurd y (by decide)) (fun _ => x) (fun y => absurd y (by decide)) (fun y => absurd y (by decide)) (fun y => absurd y (by decide)))
  rw [if_neg q5]
  by_cases q2 : hsh w = 3039496
  · rw [if_pos q2]
    exact key 53 1 (by decide) (fun x => by rw [x]; exact l2) (fun x => no _ q2 (fun y => absurd y (by decide)) (fun _ => x) (fun y => absurd y (by decide)) (fun y => absurd y (by decide)) (fun y => absurd y (by decide)) (fun y => absurd y (by decide)) (fun y => absurd y (by decide)) (fun y => absurd y (by decide)))
  rw [if_neg q2]
  by_cases q4 : hsh w = 3052374
  · rw [if_pos q4]
    exact key 54 3 (by decide) (fun x => by rw [x]; exact l4) (fun x => no _ q4 (fun y => absurd y (by decide)) (fun y => absurd y (by decide)) (fun y => absurd y (by decide)) (fun _ => x) (fun y => absurd y (by decide)) (fun y => absurd y (by decide)) (fun y => absurd y (by decide)) (fun y => absurd y (by decide)))
  rw [if_neg q4]
  by_cases q6 : hsh w = 3327612
  · rw [if_pos q6]
    exact key 59 5 (by decide) (fun x => by rw [x]; exact l6) (fun x => no _ q6 (fun y => absurd y (by decide)) (fun y => absurd y (by decide)) (fun y => absurd y (by decide)) (fun y => absurd y (by decide)) (fun y => absurd y (by decide)) (fun _ => x) (fun y => absurd y (by decide)) (fun y => absurd y (by decide)))
  rw [if_neg q6]
  by_cases q1 : hsh w = 64711720
  · rw [if_pos q1]
    exact key 51 0 (by decide) (fun x => by rw [x]; exact l1) (fun x => no _ q1 (fun _ => x) (fun y => absurd y (by decide)) (fun y => absurd y (by decide)) (fun y => absurd y (by decide)) (fun y => absurd y (by decide)) (fun y => absurd y (by decide)) (fun y => absurd y (by decide)) (fun y => absurd y (by decide)))
  rw [if_neg q1]
  by_cases q7 : hsh w = 97526364
  · rw [if_pos q7]
    exact key 57 6 (by decide) (fun x => by rw [x]; exact l7) (fun x => no _ q7 (fun y => absurd y (by decide)) (fun y => absurd y (by decide)) (fun y => absurd y (by decide)) (fun y => absurd y (by decide)) (fun y => absurd y (by decide)) (fun y => absurd y (by decide)) (fun _ => x) (fun y => absurd y (by decide)))
  rw [if_neg q7]
  by_cases q3 : hsh w = 109413500
  · rw [if_pos q3]
    exact key 60 2 (by decide) (fun x => by rw [x]; exact l3) (fun x => no _ q3 (fun y => absurd y (by decide)) (fun y => absurd y (by decide)) (fun _ => x) (fun y => absurd y (by decide)) (fun y => absurd y (by decide)) (fun y => absurd y (by decide)) (fun y => absurd y (by decide)) (fun y => absurd y (by decide)))
  rw [if_neg q3, b203 (-1) (Or.inl rfl), no _ rfl (fun y => (q1 y).elim) (fun y => (q2 y).elim) (fun y => (q3 y).elim) (fun y => (q4 y).elim) (fun y => (q5 y).elim) (fun y => (q6 y).elim) (fun y => (q7 y).elim) (fun y => (q8 y).elim)]
