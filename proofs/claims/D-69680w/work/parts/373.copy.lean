/-! ===== CALLS, 9: copy ===== -/
theorem prd_congr {z z' : Nat → Nat} : ∀ n, (∀ i, i < n → z i = z' i) → prd z n = prd z' n
  | 0, _ => rfl
  | n + 1, h => by
    show prd z n * z n = prd z' n * z' n
    rw [prd_congr n (fun i hi => h i (by omega)), h n (by omega)]
/-- a place, after what leaves the grid's head -/
theorem GP.placeE {P Q R : Nat → Nat → Prop} {M N : Mem} {a b : Nat} {k : Int32} {n : Nat} {z : Nat → Nat} {s t : Nat → Int32} {x y : Int32} {c d L : Nat} {p : Int32} (g : GP M a b k n z s t x y c d L p) (dd : Df P Q R M N) (hP : qt P) (hR : qt R) {j : Nat} (hj : j < prd z n) : F_X21_place N a (iw (j : Int)) = some (iw (gpos n z s x j : Nat)) := by
  obtain ⟨gE, gM, hk, hn, hz, hc, hp, hC, hv⟩ := g
  have h0 : prd z n ≠ 0 := by omega
  have hz0 := (prd_pos n).mp h0
  obtain ⟨v1, v2, v3⟩ := hv h0
  rw [E_place (gE.df dd hP hR) hn (fun i hi => ⟨hz0 i hi, hz i hi⟩) (x := j) (by omega)]
  have hr := v3.pos (fun i hi => dg_lt n j i hi (hz0 i hi))
  rw [← plc_sm] at hr
  rw [show x.toInt + plc z s n j = (gpos n z s x j : Int) by unfold gpos; omega]
theorem GP.placeM {P Q R : Nat → Nat → Prop} {M N : Mem} {a b : Nat} {k : Int32} {n : Nat} {z : Nat → Nat} {s t : Nat → Int32} {x y : Int32} {c d L : Nat} {p : Int32} (g : GP M a b k n z s t x y c d L p) (dd : Df P Q R M N) (hP : qt P) (hR : qt R) {j : Nat} (hj : j < prd z n) : F_X22_place N b (iw (j : Int)) = some (iw (gpos n z s x j : Nat)) := by
  obtain ⟨gE, gM, hk, hn, hz, hc, hp, hC, hv⟩ := g
  have h0 : prd z n ≠ 0 := by omega
  have hz0 := (prd_pos n).mp h0
  obtain ⟨v1, v2, v3⟩ := hv h0
  have hd : ∀ i, i < n → dg z n j i < z i := fun i hi => dg_lt n j i hi (hz0 i hi)
  rw [M_place (gM.df dd hP hR) hn (fun i hi => ⟨hz0 i hi, hz i hi⟩) (x := j) (by omega)]
  have hr := v3.pos hd
  rw [← plc_sm] at hr
  have e3 : plc z t n j = plc z s n j := by rw [plc_sm, plc_sm, sm_ag n hd v2]
  rw [e3, ← v1, show x.toInt + plc z s n j = (gpos n z s x j : Int) by unfold gpos; omega]
/-- writes from i on, so many -/
def wr (f : Nat → Int64) (pos : Nat → Nat) (v : Nat → Int64) : Nat → Nat → Nat → Int64
  | _, 0 => f
  | i, e + 1 => wr (fun q => if q = pos i then v i else f q) pos v (i + 1) e
theorem wr_congr {pos : Nat → Nat} {v : Nat → Int64} {q : Nat} : ∀ (e i : Nat) (f f' : Nat → Int64), f q = f' q → wr f pos v i e q = wr f' pos v i e q
  | 0, _, _, _, h => h
  | e + 1, i, f, f', h => wr_congr e (i + 1) _ _ (by show (if q = pos i then v i else f q) = (if q = pos i then v i else f' q); rw [h])
theorem wr_all {pos : Nat → Nat} {v : Nat → Int64} {q : Nat} {V : Int64 → Prop} : ∀ (e i : Nat) (f : Nat → Int64), V (f q) → (∀ j, i ≤ j → j < i + e → V (v j)) → V (wr f pos v i e q)
  | 0, _, _, h, _ => h
  | e + 1, i, f, h, hv => wr_all e (i + 1) _ (by
      show V (if q = pos i then v i else f q)
      by_cases c : q = pos i
      · rw [if_pos c]; exact hv i (Nat.le_refl _) (by omega)
      · rw [if_neg c]; exact h) (fun j h1 h2 => hv j (by omega) (by omega))
theorem E_cp_loop {M0 : Mem} {a b : Nat} {k : Int32} {n : Nat} {z : Nat → Nat} {s t : Nat → Int32} {x y : Int32} {c d L : Nat} {p : Int32} {a' b' : Nat} {k' : Int32} {n' : Nat} {z' : Nat → Nat} {s' t' : Nat → Int32} {x' y' : Int32} {c' d' L' : Nat} {p' : Int32} (h0 : ST M0) (g : GP M0 a b k n z s t x y c d L p) (g' : GP M0 a' b' k' n' z' s' t' x' y' c' d' L' p') (u : Nat → Int64) (hv : ∀ i, i < prd z' n' → vb k (u i)) (hf : fit k k') : ∀ (e N i : Nat) (M : Mem), i + e = prd z' n' → e + 1 ≤ N → Df n2 (fun _ _ => True) n2 M0 M → (∀ x, x < prd z' n' → cJ M 1057 x = u x) →
    ∃ M', F_X0_copy_b82 N M 1000 a a' (iw (prd z' n' : Nat)) (iw (i : Int)) = some (0, M') ∧ m_nx M' = m_nx M ∧ m_sl M' = m_sl M ∧ Df n2 (fun a _ => a = c') n2 M M' ∧ ∀ q, cJ M' c' q = wr (fun q => cJ M c' q) (gpos n' z' s' x') (fun i => cvt k k' (u i)) i e q := by
  have hp := g'.2.2.2.2.2.1
  have hL := g'.2.2.2.2.2.2.2.1.2.2.2.2.2.2.2.2.1
  have hc := g'.2.2.2.2.2.2.2.1.1
  intro e
  induction e with
  | zero =>
    intro N i M hi hN dd hu
    obtain ⟨N, rfl⟩ : ∃ x, N = x + 1 := ⟨N - 1, by omega⟩
    refine ⟨M, ?_, rfl, rfl, Df.refl _ _ _ _, fun q => rfl⟩
    show F_X0_copy_b82_st (F_X0_copy_b82 N) M _ _ _ _ _ = _
    unfold F_X0_copy_b82_st
    rw [if_neg (by rw [iw_le4 (by omega) (by omega)]; omega)]
  | succ e ih =>
    intro N i M hi hN dd hu
    obtain ⟨N, rfl⟩ : ∃ x, N = x + 1 := ⟨N - 1, by omega⟩
    have hlt : i < prd z' n' := by omega
    have h : ST M := h0.n dd
    have hpos : gpos n' z' s' x' i < L' := (g'.place hlt).1
    have tc : m_tg M c' = 1006 := (dd.2.2 _ g'.2.2.2.2.2.2.2.1.2.1).1.trans g'.2.2.2.2.2.2.2.1.2.2.2.2.1
    have lc : m_ln M c' = L' := (dd.2.2 _ g'.2.2.2.2.2.2.2.1.2.1).2.1.trans g'.2.2.2.2.2.2.2.1.2.2.2.2.2.2.1
    have d1 : Df n2 (fun a _ => a = c') n2 M (wJ M c' (gpos n' z' s' x' i) (cvt k k' (u i))) := Df.wJ _ rfl
    obtain ⟨M', f1, f2, f3, f4, f5⟩ := ih N (i + 1) (wJ M c' (gpos n' z' s' x' i) (cvt k k' (u i))) (by omega) (by omega) (dd.trans (d1.mono (fun _ _ q => q) (fun _ _ _ => trivial) (fun _ _ q => q))) (fun x hx => by rw [cJ_wJ, if_neg (fun hh => by have := hh.1; omega)]; exact hu x hx)
    refine ⟨M', ?_, f2, f3, d1.trans f4, fun q => ?_⟩
    · rw [← f1]
      show F_X0_copy_b82_st (F_X0_copy_b82 N) M _ _ _ _ _ = _
      unfold F_X0_copy_b82_st
      rw [if_pos (by rw [iw_le4 (by omega) (by omega)]; exact hlt)]
      simp only [gi_of (g.1.df dd qt_n2 qt_n2).2.2.1 (show x_fi 22 1408 = true by decide), gi_of (g'.1.df dd qt_n2 qt_n2).2.2.1 (show x_fi 22 1408 = true by decide), (g.1.df dd qt_n2 qt_n2).2.2.2.1, (g'.1.df dd qt_n2 qt_n2).2.2.2.1, g1000_81 h, al_of (j := i) (t1057 h) (l1057 h) (show i < 100000 by omega) (by decide), hu i hlt, E_convert (hv i hlt), vg_of (g'.1.df dd qt_n2 qt_n2).2.2.1 (show x_isa 22 22 = true by decide), F_X21_set, gr_of (g'.1.df dd qt_n2 qt_n2).2.2.1 (show x_fr 22 1413 = true by decide), (g'.1.df dd qt_n2 qt_n2).2.2.2.2.2.2.2.2.1, g'.placeE dd qt_n2 qt_n2 hlt, sj_of (j := gpos n' z' s' x' i) (cvt k k' (u i)) tc lc hpos (by omega), Option.bind_some]
      rw [show iw (i : Int) + 1 = iw ((i + 1 : Nat) : Int) by rw [show (1 : Int32) = iw 1 from rfl, iw_add]; rfl]
    · rw [f5 q]
      refine wr_congr e (i + 1) _ _ ?_
      show cJ (wJ M c' (gpos n' z' s' x' i) (cvt k k' (u i))) c' q = if q = gpos n' z' s' x' i then cvt k k' (u i) else cJ M c' q
      rw [cJ_wJ]
      by_cases e1 : q = gpos n' z' s' x' i
      · rw [if_pos ⟨rfl, e1⟩, if_pos e1]
      · rw [if_neg (fun hh => e1 hh.2), if_neg e1]
theorem M_cp_loop {M0 : Mem} {a b : Nat} {k : Int32} {n : Nat} {z : Nat → Nat} {s t : Nat → Int32} {x y : Int32} {c d L : Nat} {p : Int32} {a' b' : Nat} {k' : Int32} {n' : Nat} {z' : Nat → Nat} {s' t' : Nat → Int32} {x' y' : Int32} {c' d' L' : Nat} {p' : Int32} (h0 : ST M0) (g : GP M0 a b k n z s t x y c d L p) (g' : GP M0 a' b' k' n' z' s' t' x' y' c' d' L' p') (u : Nat → Int64) (hv : ∀ i, i < prd z' n' → vb k (u i)) (hf : fit k k') : ∀ (e N i : Nat) (M : Mem), i + e = prd z' n' → e + 1 ≤ N → Df n2 (fun _ _ => True) n2 M0 M → (∀ x, x < prd z' n' → cJ M 1073 x = u x) →
    ∃ M', F_X16_copy_b102 N M 1068 b b' (iw (prd z' n' : Nat)) (iw (i : Int)) = some (0, M') ∧ m_nx M' = m_nx M ∧ m_sl M' = m_sl M ∧ Df n2 (fun a _ => a = d') n2 M M' ∧ ∀ q, cJ M' d' q = wr (fun q => cJ M d' q) (gpos n' z' s' x') (fun i => cvt k k' (u i)) i e q := by
  have hp := g'.2.2.2.2.2.1
  have hL := g'.2.2.2.2.2.2.2.1.2.2.2.2.2.2.2.2.1
  have hc := g'.2.2.2.2.2.2.2.1.2.2.1
  intro e
  induction e with
  | zero =>
    intro N i M hi hN dd hu
    obtain ⟨N, rfl⟩ : ∃ x, N = x + 1 := ⟨N - 1, by omega⟩
    refine ⟨M, ?_, rfl, rfl, Df.refl _ _ _ _, fun q => rfl⟩
    show F_X16_copy_b102_st (F_X16_copy_b102 N) M _ _ _ _ _ = _
    unfold F_X16_copy_b102_st
    rw [if_neg (by rw [iw_le4 (by omega) (by omega)]; omega)]
  | succ e ih =>
    intro N i M hi hN dd hu
    obtain ⟨N, rfl⟩ : ∃ x, N = x + 1 := ⟨N - 1, by omega⟩
    have hlt : i < prd z' n' := by omega
    have h : ST M := h0.n dd
    have hpos : gpos n' z' s' x' i < L' := (g'.place hlt).1
    have tc : m_tg M d' = 1006 := (dd.2.2 _ g'.2.2.2.2.2.2.2.1.2.2.2.1).1.trans g'.2.2.2.2.2.2.2.1.2.2.2.2.2.1
    have lc : m_ln M d' = L' := (dd.2.2 _ g'.2.2.2.2.2.2.2.1.2.2.2.1).2.1.trans g'.2.2.2.2.2.2.2.1.2.2.2.2.2.2.2.1
    have d1 : Df n2 (fun a _ => a = d') n2 M (wJ M d' (gpos n' z' s' x' i) (cvt k k' (u i))) := Df.wJ _ rfl
    obtain ⟨M', f1, f2, f3, f4, f5⟩ := ih N (i + 1) (wJ M d' (gpos n' z' s' x' i) (cvt k k' (u i))) (by omega) (by omega) (dd.trans (d1.mono (fun _ _ q => q) (fun _ _ _ => trivial) (fun _ _ q => q))) (fun x hx => by rw [cJ_wJ, if_neg (fun hh => by have := hh.1; omega)]; exact hu x hx)
    refine ⟨M', ?_, f2, f3, d1.trans f4, fun q => ?_⟩
    · rw [← f1]
      show F_X16_copy_b102_st (F_X16_copy_b102 N) M _ _ _ _ _ = _
      unfold F_X16_copy_b102_st
      rw [if_pos (by rw [iw_le4 (by omega) (by omega)]; exact hlt)]
      simp only [gi_of (g.2.1.df dd qt_n2 qt_n2).2.2.1 (show x_fi 23 1472 = true by decide), gi_of (g'.2.1.df dd qt_n2 qt_n2).2.2.1 (show x_fi 23 1472 = true by decide), (g.2.1.df dd qt_n2 qt_n2).2.2.2.1, (g'.2.1.df dd qt_n2 qt_n2).2.2.2.1, g1068_1100 h, al_of (j := i) (t1073 h) (l1073 h) (show i < 100000 by omega) (by decide), hu i hlt, M_widened g.2.2.1 g'.2.2.1 hf (hv i hlt), vg_of (g'.2.1.df dd qt_n2 qt_n2).2.2.1 (show x_isa 23 23 = true by decide), gr_of (g'.2.1.df dd qt_n2 qt_n2).2.2.1 (show x_fr 23 1476 = true by decide), (g'.2.1.df dd qt_n2 qt_n2).2.2.2.2.2.2.2.1, g'.placeM dd qt_n2 qt_n2 hlt, sj_of (j := gpos n' z' s' x' i) (cvt k k' (u i)) tc lc hpos (by omega), Option.bind_some]
      rw [show iw (i : Int) + 1 = iw ((i + 1 : Nat) : Int) by rw [show (1 : Int32) = iw 1 from rfl, iw_add]; rfl]
    · rw [f5 q]
      refine wr_congr e (i + 1) _ _ ?_
      show cJ (wJ M d' (gpos n' z' s' x' i) (cvt k k' (u i))) d' q = if q = gpos n' z' s' x' i then cvt k k' (u i) else cJ M d' q
      rw [cJ_wJ]
      by_cases e1 : q = gpos n' z' s' x' i
      · rw [if_pos ⟨rfl, e1⟩, if_pos e1]
      · rw [if_neg (fun hh => e1 hh.2), if_neg e1]
theorem E_shp {M : Mem} {a b : Nat} {k : Int32} {n : Nat} {z : Nat → Nat} {s t : Nat → Int32} {x y : Int32} {c d L : Nat} {p : Int32} {a' b' : Nat} {k' : Int32} {n' : Nat} {z' : Nat → Nat} {s' t' : Nat → Int32} {x' y' : Int32} {c' d' L' : Nat} {p' : Int32} (g : GP M a b k n z s t x y c d L p) (g' : GP M a' b' k' n' z' s' t' x' y' c' d' L' p') : F_X21_isShaped M a a' = some (pif (n = n' ∧ ∀ i, i < n → z i = z' i) 1 0) := by
  have hn := g.2.2.2.1
  have hn' := g'.2.2.2.1
  have hz := g.2.2.2.2.1
  have hz' := g'.2.2.2.2.1
  have loop : n = n' → ∀ (e N i : Nat), i + e = n → e + 1 ≤ N → F_X21_isShaped_b15 N M a a' (iw (i : Int)) = some (pif (∀ j, i ≤ j → j < n → z j = z' j) 1 0) := by
    intro hnn e
    induction e with
    | zero =>
      intro N i hi hN
      obtain ⟨N, rfl⟩ : ∃ x, N = x + 1 := ⟨N - 1, by omega⟩
      show F_X21_isShaped_b15_st (F_X21_isShaped_b15 N) M _ _ _ = _
      unfold F_X21_isShaped_b15_st
      simp only [gi_of g.1.2.2.1 (show x_fi 22 1409 = true by decide), g.1.2.2.2.2.1, Option.bind_some]
      rw [if_neg (by rw [iw_le4 (by omega) (by omega)]; omega), pif_pos (fun j h1 h2 => by omega)]
    | succ e ih =>
      intro N i hi hN
      obtain ⟨N, rfl⟩ : ∃ x, N = x + 1 := ⟨N - 1, by omega⟩
      show F_X21_isShaped_b15_st (F_X21_isShaped_b15 N) M _ _ _ = _
      unfold F_X21_isShaped_b15_st
      have z1 := hz i (by omega)
      have z2 := hz' i (by omega)
      simp only [gi_of g.1.2.2.1 (show x_fi 22 1409 = true by decide), g.1.2.2.2.2.1, Option.bind_some]
      rw [if_pos (by rw [iw_le4 (by omega) (by omega)]; omega)]
      simp only [gr_of g.1.2.2.1 (show x_fr 22 1410 = true by decide), gr_of g'.1.2.2.1 (show x_fr 22 1410 = true by decide), g.1.2.2.2.2.2.1.ai hn (show i < n by omega), g'.1.2.2.2.2.2.1.ai (by omega) (show i < n' by omega), Option.bind_some]
      by_cases c1 : z i = z' i
      · rw [if_pos (by rw [c1]), show iw (i : Int) + 1 = iw ((i + 1 : Nat) : Int) by rw [show (1 : Int32) = iw 1 from rfl, iw_add]; rfl, ih N (i + 1) (by omega) (by omega)]
        have hq : (∀ j, i + 1 ≤ j → j < n → z j = z' j) ↔ (∀ j, i ≤ j → j < n → z j = z' j) := by
          refine ⟨fun h j h1 h2 => ?_, fun h j h1 h2 => h j (by omega) h2⟩
          by_cases e1 : j = i
          · rw [e1]; exact c1
          · exact h j (by omega) h2
        simp only [hq]
      · rw [if_neg (by rw [iw_eq (by omega) (by omega) (by omega) (by omega)]; omega), pif_neg (fun h => c1 (h i (Nat.le_refl _) (by omega)))]
  unfold F_X21_isShaped
  simp only [gi_of g.1.2.2.1 (show x_fi 22 1409 = true by decide), g.1.2.2.2.2.1, gi_of g'.1.2.2.1 (show x_fi 22 1409 = true by decide), g'.1.2.2.2.2.1, Option.bind_some]
  by_cases e : n = n'
  · rw [if_pos (by rw [e]), show (0 : Int32) = iw ((0 : Nat) : Int) from rfl, loop e n xN 0 (by omega) (by have : xN = 1099511627776 := rfl; omega)]
    have hq : (∀ j, 0 ≤ j → j < n → z j = z' j) ↔ (n = n' ∧ ∀ i, i < n → z i = z' i) := ⟨fun h => ⟨e, fun i hi => h i (Nat.zero_le _) hi⟩, fun h j _ h2 => h.2 j h2⟩
    simp only [hq]
    rfl
  · rw [if_neg (by rw [iw_eq (by omega) (by omega) (by omega) (by omega)]; omega), pif_neg (fun h => e h.1)]
theorem M_shp1 {M : Mem} {b : Nat} {k : Int32} {n : Nat} {z : Nat → Nat} {t : Nat → Int32} {y : Int32} {d : Nat} {p : Int32} {b' : Nat} {k' : Int32} {n' : Nat} {z' : Nat → Nat} {t' : Nat → Int32} {y' : Int32} {d' : Nat} {p' : Int32} (g : GM M b k n z t y d p) (g' : GM M b' k' n' z' t' y' d' p') (hn : n ≤ 4) (hn' : n' ≤ 4) (hz : ∀ i, i < n → z i ≤ 4096) (hz' : ∀ i, i < n' → z' i ≤ 4096) : F_X16_areAlike M b b' = some (pif (n = n' ∧ ∀ i, i < n → z i = z' i) 1 0) := by
  have loop : n = n' → ∀ (e N i : Nat), i + e = n → e + 1 ≤ N → F_X16_areAlike_b15 N M b b' (iw (i : Int)) = some (pif (∀ j, i ≤ j → j < n → z j = z' j) 1 0) := by
    intro hnn e
    induction e with
    | zero =>
      intro N i hi hN
      obtain ⟨N, rfl⟩ : ∃ x, N = x + 1 := ⟨N - 1, by omega⟩
      show F_X16_areAlike_b15_st (F_X16_areAlike_b15 N) M _ _ _ = _
      unfold F_X16_areAlike_b15_st
      simp only [vg_of g.2.2.1 (show x_isa 23 23 = true by decide), M_axes g, Option.bind_some]
      rw [if_neg (by rw [iw_le4 (by omega) (by omega)]; omega), pif_pos (fun j h1 h2 => by omega)]
    | succ e ih =>
      intro N i hi hN
      obtain ⟨N, rfl⟩ : ∃ x, N = x + 1 := ⟨N - 1, by omega⟩
      show F_X16_areAlike_b15_st (F_X16_areAlike_b15 N) M _ _ _ = _
      unfold F_X16_areAlike_b15_st
      have z1 := hz i (by omega)
      have z2 := hz' i (by omega)
      simp only [vg_of g.2.2.1 (show x_isa 23 23 = true by decide), M_axes g, Option.bind_some]
      rw [if_pos (by rw [iw_le4 (by omega) (by omega)]; omega)]
      simp only [gr_of g.2.2.1 (show x_fr 23 1473 = true by decide), gr_of g'.2.2.1 (show x_fr 23 1473 = true by decide), g.2.2.2.2.1.ai hn (show i < n by omega), g'.2.2.2.2.1.ai (by omega) (show i < n' by omega), Option.bind_some]
      by_cases c1 : z i = z' i
      · rw [if_pos (by rw [c1]), show iw (i : Int) + 1 = iw ((i + 1 : Nat) : Int) by rw [show (1 : Int32) = iw 1 from rfl, iw_add]; rfl, ih N (i + 1) (by omega) (by omega)]
        have hq : (∀ j, i + 1 ≤ j → j < n → z j = z' j) ↔ (∀ j, i ≤ j → j < n → z j = z' j) := by
          refine ⟨fun h j h1 h2 => ?_, fun h j h1 h2 => h j (by omega) h2⟩
          by_cases e1 : j = i
          · rw [e1]; exact c1
          · exact h j (by omega) h2
        simp only [hq]
      · rw [if_neg (by rw [iw_eq (by omega) (by omega) (by omega) (by omega)]; omega), pif_neg (fun h => c1 (h i (Nat.le_refl _) (by omega)))]
  unfold F_X16_areAlike
  simp only [vg_of g.2.2.1 (show x_isa 23 23 = true by decide), M_axes g, vg_of g'.2.2.1 (show x_isa 23 23 = true by decide), M_axes g', Option.bind_some]
  by_cases e : n = n'
  · rw [if_pos (by rw [e]), show (0 : Int32) = iw ((0 : Nat) : Int) from rfl, loop e n xN 0 (by omega) (by have : xN = 1099511627776 := rfl; omega)]
    have hq : (∀ j, 0 ≤ j → j < n → z j = z' j) ↔ (n = n' ∧ ∀ i, i < n → z i = z' i) := ⟨fun h => ⟨e, fun i hi => h i (Nat.zero_le _) hi⟩, fun h j _ h2 => h.2 j h2⟩
    simp only [hq]
    rfl
  · rw [if_neg (by rw [iw_eq (by omega) (by omega) (by omega) (by omega)]; omega), pif_neg (fun h => e h.1)]
theorem M_shp {M : Mem} {a b : Nat} {k : Int32} {n : Nat} {z : Nat → Nat} {s t : Nat → Int32} {x y : Int32} {c d L : Nat} {p : Int32} {a' b' : Nat} {k' : Int32} {n' : Nat} {z' : Nat → Nat} {s' t' : Nat → Int32} {x' y' : Int32} {c' d' L' : Nat} {p' : Int32} (g : GP M a b k n z s t x y c d L p) (g' : GP M a' b' k' n' z' s' t' x' y' c' d' L' p') : F_X16_areAlike M b b' = some (pif (n = n' ∧ ∀ i, i < n → z i = z' i) 1 0) := M_shp1 g.2.1 g'.2.1 g.2.2.2.1 g'.2.2.2.1 g.2.2.2.2.1 g'.2.2.2.2.1
