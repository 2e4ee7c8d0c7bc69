/-! ===== CALLS, 12: turned ===== -/
/-- two axes change places -/
def sw (a b i : Nat) : Nat := if i = a then b else if i = b then a else i
theorem sw_lt {a b i n : Nat} (ha : a < n) (hb : b < n) (hi : i < n) : sw a b i < n := by
  unfold sw
  split
  · omega
  · split <;> omega
theorem sw_sw (a b i : Nat) : sw a b (sw a b i) = i := by
  unfold sw
  by_cases h1 : i = a
  · by_cases h2 : b = a
    · simp [h1, h2]
    · simp [h1, h2]
  · by_cases h2 : i = b
    · simp [h2]
    · simp [h1, h2]
theorem prd_sw {z : Nat → Nat} {a b n : Nat} (hn : n ≤ 4) (ha : a < n) (hb : b < n) : prd (fun i => z (sw a b i)) n = prd z n := by
  have hn' : n = 0 ∨ n = 1 ∨ n = 2 ∨ n = 3 ∨ n = 4 := by omega
  have ha' : a = 0 ∨ a = 1 ∨ a = 2 ∨ a = 3 := by omega
  have hb' : b = 0 ∨ b = 1 ∨ b = 2 ∨ b = 3 := by omega
  rcases hn' with rfl | rfl | rfl | rfl | rfl <;> rcases ha' with rfl | rfl | rfl | rfl <;> rcases hb' with rfl | rfl | rfl | rfl <;> first | omega | (simp only [prd, sw, Nat.reduceEqDiff, if_true, if_false]; try ac_rfl)
theorem sm_sw {s : Nat → Int32} {ix : Nat → Nat} {a b n : Nat} (hn : n ≤ 4) (ha : a < n) (hb : b < n) : sm (fun i => s (sw a b i)) ix n = sm s (fun i => ix (sw a b i)) n := by
  have hn' : n = 0 ∨ n = 1 ∨ n = 2 ∨ n = 3 ∨ n = 4 := by omega
  have ha' : a = 0 ∨ a = 1 ∨ a = 2 ∨ a = 3 := by omega
  have hb' : b = 0 ∨ b = 1 ∨ b = 2 ∨ b = 3 := by omega
  rcases hn' with rfl | rfl | rfl | rfl | rfl <;> rcases ha' with rfl | rfl | rfl | rfl <;> rcases hb' with rfl | rfl | rfl | rfl <;> first | omega | (simp only [sm, sw, Nat.reduceEqDiff, if_true, if_false]; try ac_rfl)
theorem VLsw {n : Nat} {z : Nat → Nat} {s : Nat → Int32} {x : Int32} {L a b : Nat} (h : VL n z s x L) (hn : n ≤ 4) (ha : a < n) (hb : b < n) : VL n (fun i => z (sw a b i)) (fun i => s (sw a b i)) x L := by
  intro ix hi
  rw [sm_fold, sm_sw hn ha hb]
  refine h.pos (fun i hi' => ?_)
  have : ix (sw a b i) < z (sw a b (sw a b i)) := hi (sw a b i) (sw_lt ha hb hi')
  rw [sw_sw] at this
  exact this
theorem E_turned_loop {M0 : Mem} {own sa ta n a b c : Nat} {k x p : Int32} {z : Nat → Nat} {s : Nat → Int32} (g : GE M0 own k n z s x c p) (hn : n ≤ 4) (ha : a < n) (hb : b < n) (hs0 : m_nx M0 ≤ sa) (hst : sa ≠ ta) (ht0 : m_nx M0 ≤ ta) : ∀ (e N i : Nat) (M : Mem), i + e = n → e + 1 ≤ N → Df n2 n2 n2 M0 M → m_tg M sa = 1005 → m_ln M sa = n → m_tg M ta = 1005 → m_ln M ta = n → (∀ y, y < i → cI M sa y = iw (z (sw a b y) : Nat) ∧ cI M ta y = s (sw a b y)) →
    ∃ M', F_X0_turned_b68 N M 1000 (iw (a : Int)) (iw (b : Int)) own sa ta (iw (i : Int)) = F_X0_turned_b68 1 M' 1000 (iw (a : Int)) (iw (b : Int)) own sa ta (iw (n : Int)) ∧ m_nx M' = m_nx M ∧ m_sl M' = m_sl M ∧ Df (fun q _ => q = sa ∨ q = ta) n2 n2 M M' ∧ (∀ y, y < n → cI M' sa y = iw (z (sw a b y) : Nat) ∧ cI M' ta y = s (sw a b y)) := by
  have g1 := g.2.1
  have g6 := g.2.2.2.2.2.1
  have g7 := g.2.2.2.2.2.2.1
  intro e
  induction e with
  | zero =>
    intro N i M hi hN dd t1 l1 t2 l2 hv
    obtain ⟨N, rfl⟩ : ∃ x, N = x + 1 := ⟨N - 1, by omega⟩
    have hi : i = n := by omega
    subst hi
    refine ⟨M, ?_, rfl, rfl, Df.refl _ _ _ _, hv⟩
    have gM := g.df dd qt_n2 qt_n2
    show F_X0_turned_b68_st (F_X0_turned_b68 N) M _ _ _ _ _ _ _ = F_X0_turned_b68_st (F_X0_turned_b68 0) M _ _ _ _ _ _ _
    unfold F_X0_turned_b68_st
    simp only [gi_of gM.2.2.1 (show x_fi 22 1409 = true by decide), gM.2.2.2.2.1, Option.bind_some]
    rw [if_neg (by rw [iw_le4 (by omega) (by omega)]; omega), if_neg (by rw [iw_le4 (by omega) (by omega)]; omega)]
  | succ e ih =>
    intro N i M hi hN dd t1 l1 t2 l2 hv
    obtain ⟨N, rfl⟩ : ∃ x, N = x + 1 := ⟨N - 1, by omega⟩
    have hlt : i < n := by omega
    have hsw := sw_lt ha hb hlt
    have gM := g.df dd qt_n2 qt_n2
    obtain ⟨M1, hM1⟩ : ∃ M1, M1 = wI M sa i (iw (z (sw a b i) : Nat)) := ⟨_, rfl⟩
    obtain ⟨M2, hM2⟩ : ∃ M2, M2 = wI M1 ta i (s (sw a b i)) := ⟨_, rfl⟩
    have d1 : Df (fun q _ => q = sa ∨ q = ta) n2 n2 M M1 := by rw [hM1]; exact Df.wI _ (Or.inl rfl)
    have d2 : Df (fun q _ => q = sa ∨ q = ta) n2 n2 M M2 := by rw [hM2]; exact d1.trans (Df.wI _ (Or.inr rfl))
    have d01 : Df n2 n2 n2 M0 M1 := dd.then d1 (fun q _ hq h => by rcases h with h | h <;> omega) (fun _ _ _ q => q) (fun _ _ _ q => q)
    have d02 : Df n2 n2 n2 M0 M2 := dd.then d2 (fun q _ hq h => by rcases h with h | h <;> omega) (fun _ _ _ q => q) (fun _ _ _ q => q)
    have gM1 := g.df d01 qt_n2 qt_n2
    obtain ⟨M', f1, f2, f3, f4, f5⟩ := ih N (i + 1) M2 (by omega) (by omega) d02 (by rw [hM2, hM1]; exact t1) (by rw [hM2, hM1]; exact l1) (by rw [hM2, hM1]; exact t2) (by rw [hM2, hM1]; exact l2) (fun y hy => by
      rw [hM2, hM1]
      simp only [cI_wI]
      by_cases e1 : y = i
      · subst e1
        simp only [hst, and_true, if_true, if_false, true_and]
      · simp only [e1, and_false, if_false]
        exact hv y (by omega))
    have n1 : m_nx M1 = m_nx M := by rw [hM1]; rfl
    refine ⟨M', ?_, by rw [f2, hM2, hM1]; rfl, by rw [f3, hM2, hM1]; rfl, d2.trans f4, f5⟩
    rw [← f1]
    have qa : iw (i : Int) = iw (a : Int) ↔ i = a := by rw [iw_eq (by omega) (by omega) (by omega) (by omega)]; omega
    have qb : iw (i : Int) = iw (b : Int) ↔ i = b := by rw [iw_eq (by omega) (by omega) (by omega) (by omega)]; omega
    have s1 : si M sa (iw (i : Int)) (iw (z (sw a b i) : Nat)) = some M1 := by rw [hM1]; exact si_of _ t1 l1 hlt (by omega)
    have s2 : si M1 ta (iw (i : Int)) (s (sw a b i)) = some M2 := by rw [hM2]; exact si_of _ (by rw [hM1]; exact t2) (by rw [hM1]; exact l2) hlt (by omega)
    have body : F_X0_turned_b100 (F_X0_turned_b68 N) M (iw (sw a b i : Nat)) 1000 (iw (a : Int)) (iw (b : Int)) own sa ta (iw (i : Int)) = F_X0_turned_b68 N M2 1000 (iw (a : Int)) (iw (b : Int)) own sa ta (iw ((i + 1 : Nat) : Int)) := by
      unfold F_X0_turned_b100
      simp only [gr_of gM.2.2.1 (show x_fr 22 1410 = true by decide), gM.2.2.2.2.2.1.ai hn hsw, s1, gr_of gM1.2.2.1 (show x_fr 22 1411 = true by decide), gM1.2.2.2.2.2.2.1.ai hn hsw, s2, iw_succ, Option.bind_some]
    rw [← body]
    show F_X0_turned_b68_st (F_X0_turned_b68 N) M _ _ _ _ _ _ _ = _
    unfold F_X0_turned_b68_st
    simp only [gi_of gM.2.2.1 (show x_fi 22 1409 = true by decide), gM.2.2.2.2.1, Option.bind_some]
    rw [if_pos (by rw [iw_le4 (by omega) (by omega)]; omega)]
    simp only [qa, qb]
    unfold sw
    by_cases c1 : i = a
    · simp only [c1, if_true]
    · by_cases c2 : i = b
      · simp only [c1, c2, if_true, if_false]
        by_cases c3 : b = a
        · exact absurd (c2.trans c3) c1
        · simp only [c3, if_false]
      · simp only [c1, c2, if_false]
theorem nsc (i : Nat) : ¬ psc 1068 i := fun q => by unfold psc at q; omega
theorem c_turned {M : Mem} {g va vb' : Int32} (h : ST M) (h4 : I4 M) (h5 : I5 M) : CR (pg n2) (rG M) (fun _ => True) M (fun M => F_X0_turned M 1000 g va vb') (fun M => F_X16_turned M 1068 g va vb') := by
  have h0 := h.1
  have h5x := h5
  obtain ⟨m, w, K, n, Z, S, T, X, Y, C, D, L, P, h5⟩ := h5
  have q1 := h5.1
  have q2 := h5.2.1
  have z00 : ¬ (0 : Int32) < 0 := by decide
  have l13 : (0 : Int32) < 13 := by decide
  have l14 : (0 : Int32) < 14 := by decide
  have no : ∀ r : Int32, F_X0_turned M 1000 g va vb' = some (r, M) → F_X16_turned M 1068 g va vb' = some (r, M) → CR (pg n2) (rG M) (fun _ => True) M (fun M => F_X0_turned M 1000 g va vb') (fun M => F_X16_turned M 1068 g va vb') := fun r e1 e2 =>
    CR.no h h5x r M M e1 e2 trivial (Df.refl n2 _ _ _) (fun _ _ q => q.elim) qt_n2 noGr_n2 (by omega) (by omega)
  rcases look h h4 h5 g with ⟨b1, b2, e1, e2, e3⟩ | ⟨b1, b2, e1, e2, e3, -⟩ | ⟨b1, b2, j, j1, j2, hg, e1, e4, e5, e3, e7, e6, gp⟩
  · exact no (-13) (by simp only [F_X0_turned, v1000, h, e1, e2, Option.bind_some, Nat.reduceEqDiff, if_false, if_true]) (by simp only [F_X16_turned, v1068, h, e3, l13, Option.bind_some, if_true])
  · exact no (-14) (by simp only [F_X0_turned, v1000, h, e1, e2, Option.bind_some, Nat.reduceEqDiff, if_false, if_true]) (by simp only [F_X16_turned, v1068, h, e3, l14, Option.bind_some, if_true])
  · have hn := gp.2.2.2.1
    have ax : gi M (cR M 1005 j) 1409 = some (iw (n j : Int)) := by rw [gi_of gp.1.2.2.1 (by decide), gp.1.2.2.2.2.1]
    have vM := vg_of gp.2.1.2.2.1 (show x_isa 23 23 = true by decide)
    have aM := M_axes gp.2.1
    have lt0 : ∀ {v : Int32}, ¬ v < 0 → ∃ i : Nat, v = iw (i : Int) ∧ i ≤ 2147483647 := fun {v} c => by
      rw [Int32.lt_iff_toInt_lt] at c
      have : (0 : Int32).toInt = 0 := rfl
      have hv2 := Int32.toInt_lt v
      exact ⟨v.toInt.toNat, i32_nat (by omega), by omega⟩
    by_cases c1 : va < 0
    · exact no (-2) (by simp only [F_X0_turned, F_X0_turned_b44, v1000, h, e1, e4, e5, c1, Option.bind_some, if_false, if_true]) (by simp only [F_X16_turned, F_X16_turned_b49, v1068, h, e3, z00, g1068_1092, e6, c1, Option.bind_some, if_false, if_true])
    obtain ⟨a, ha, ha2⟩ := lt0 c1
    have qa : va < iw (n j : Int) ↔ a < n j := by rw [ha, iw_le4 ha2 (by omega)]
    by_cases c3 : ¬ a < n j
    · by_cases c2 : vb' < 0
      · exact no (-2) (by simp only [F_X0_turned, F_X0_turned_b44, v1000, h, e1, e4, e5, c1, c2, Option.bind_some, if_false, if_true]) (by simp only [F_X16_turned, F_X16_turned_b49, v1068, h, e3, z00, g1068_1092, e6, c1, vM, aM, qa, c3, Option.bind_some, if_false])
      · exact no (-2) (by simp only [F_X0_turned, F_X0_turned_b44, v1000, h, e1, e4, e5, c1, c2, ax, qa, c3, Option.bind_some, if_false]) (by simp only [F_X16_turned, F_X16_turned_b49, v1068, h, e3, z00, g1068_1092, e6, c1, vM, aM, qa, c3, Option.bind_some, if_false])
    have c3 : a < n j := Decidable.of_not_not c3
    by_cases c2 : vb' < 0
    · exact no (-2) (by simp only [F_X0_turned, F_X0_turned_b44, v1000, h, e1, e4, e5, c1, c2, Option.bind_some, if_false, if_true]) (by simp only [F_X16_turned, F_X16_turned_b49, v1068, h, e3, z00, g1068_1092, e6, c1, vM, aM, qa, c3, c2, Option.bind_some, if_false, if_true])
    obtain ⟨b, hb, hb2⟩ := lt0 c2
    have qb : vb' < iw (n j : Int) ↔ b < n j := by rw [hb, iw_le4 hb2 (by omega)]
    by_cases c4 : ¬ b < n j
    · exact no (-2) (by simp only [F_X0_turned, F_X0_turned_b44, v1000, h, e1, e4, e5, c1, c2, ax, qa, c3, qb, c4, Option.bind_some, if_false, if_true]) (by simp only [F_X16_turned, F_X16_turned_b49, v1068, h, e3, z00, g1068_1092, e6, c1, vM, aM, qa, c3, c2, qb, c4, Option.bind_some, if_false, if_true])
    have c4 : b < n j := Decidable.of_not_not c4
    -- the engine's rows
    obtain ⟨A0, hA0⟩ : ∃ A0, A0 = m_new (m_new M 1005 (n j)) 1005 (n j) := ⟨_, rfl⟩
    have d0 : Df n2 n2 n2 M A0 := by rw [hA0]; exact (Df.new _ _).trans (Df.new _ _)
    have n0 : m_nx A0 = m_nx M + 2 := by rw [hA0]; rfl
    have s0 : m_sl A0 = m_sl M + n j + n j := by rw [hA0]; rfl
    have tS : m_tg A0 (m_nx M) = 1005 := by rw [hA0, tg_new, if_neg (by show ¬ m_nx M = m_nx M + 1; omega), tg_new, if_pos rfl]
    have lS : m_ln A0 (m_nx M) = n j := by rw [hA0, ln_new, if_neg (by show ¬ m_nx M = m_nx M + 1; omega), ln_new, if_pos rfl]
    have tT : m_tg A0 (m_nx M + 1) = 1005 := by rw [hA0, tg_new, if_pos (show m_nx M + 1 = m_nx (m_new M 1005 (n j)) from rfl)]
    have lT : m_ln A0 (m_nx M + 1) = n j := by rw [hA0, ln_new, if_pos (show m_nx M + 1 = m_nx (m_new M 1005 (n j)) from rfl)]
    obtain ⟨A1, f1, f2, f3, f4, f5⟩ := E_turned_loop (sa := m_nx M) (ta := m_nx M + 1) gp.1 hn c3 c4 (by omega) (by omega) (by omega) (n j) xN 0 A0 (by omega) (by have : xN = 1099511627776 := rfl; omega) d0 tS lS tT lT (fun y hy => by omega)
    have d1 : Df n2 n2 n2 M A1 := d0.then f4 (fun x _ hx q => by rcases q with q | q <;> omega) (fun _ _ _ q => q) (fun _ _ _ q => q)
    have gE1 := gp.1.df d1 qt_n2 qt_n2
    have iS : IRw A1 (m_nx M) (n j) (fun i => iw (Z j (sw a b i) : Nat)) := ⟨by omega, by omega, (f4.2.2 _ (by omega)).1.trans tS, (f4.2.2 _ (by omega)).2.1.trans lS, fun i hi => (f5 i hi).1⟩
    have iT : IRw A1 (m_nx M + 1) (n j) (fun i => S j (sw a b i)) := ⟨by omega, by omega, (f4.2.2 _ (by omega)).1.trans tT, (f4.2.2 _ (by omega)).2.1.trans lT, fun i hi => (f5 i hi).2⟩
    obtain ⟨A2, hA2⟩ : ∃ A2, A2 = mo A1 22 := ⟨_, rfl⟩
    have d2 : Df n2 n2 n2 A1 A2 := by rw [hA2]; exact Df.new _ _
    have n2' : m_nx A2 = m_nx A1 + 1 := by rw [hA2]; rfl
    have s2' : m_sl A2 = m_sl A1 + x_cn 22 := by rw [hA2]; rfl
    have t2 : m_tg A2 (m_nx A1) = 22 := by rw [hA2]; show m_tg (m_new A1 22 (x_cn 22)) (m_nx A1) = 22; rw [tg_new, if_pos rfl]
    obtain ⟨O, o1, o2, o3, o4, o5⟩ := E_obj (a := m_nx A1) (k := K j) (b := X j) (c := C j) (p := P j) (z := fun i => Z j (sw a b i)) (by omega) (by omega) t2 gp.2.2.2.2.2.2.1 (iS.df d2 qt_n2) (iT.df d2 qt_n2)
    have gE2 := gE1.df d2 qt_n2 qt_n2
    have dO : Df (pp n2) qsc n2 M O := (d1.mono (fun _ _ q => q.elim) (fun _ _ q => q.elim) (fun _ _ q => q)).then ((d2.mono (fun _ _ q => q.elim) (fun _ _ q => q) (fun _ _ q => q.elim)).trans o4) (fun x _ hx q => by unfold at1 at q; omega) (fun _ _ _ q => q.elim) (fun x _ hx q => by unfold at1 at q; omega)
    have hO : ST O := h.n dO
    have hprd := gp.2.2.2.2.2.1
    have psw := prd_sw (z := Z j) hn c3 c4
    have hzs : ∀ i, i < n j → Z j (sw a b i) ≤ 4096 := fun i hi => gp.2.2.2.2.1 _ (sw_lt c3 c4 hi)
    have hcnt := E_cnt (M := O) (a := cR O (m_nx A1) 1410) (n := n j) (z := fun i => Z j (sw a b i)) o5.2.2.2.2.2.1.2.2.1 o5.2.2.2.2.2.1.2.2.2.1 hn (Nat.le_refl _) (fun i hi => ⟨o5.2.2.2.2.2.1.2.2.2.2 i hi, hzs i hi⟩)
    have hcn : cnt (fun i => Z j (sw a b i)) (n j) = iw (prd (Z j) (n j) : Nat) := by unfold cnt; rw [psw, if_neg (by omega)]
    rw [hcn] at hcnt
    have c193 : cI O 1004 193 = iw m := by rw [dO.cI (by omega) (noGr_pp noGr_n2 _ _ (Or.inl ⟨rfl, Or.inl rfl⟩))]; exact h5.2.2.1
    have c194 : cI O 1004 194 = iw w := by rw [dO.cI (by omega) (noGr_pp noGr_n2 _ _ (Or.inl ⟨rfl, Or.inr rfl⟩))]; exact h5.2.2.2.2.1
    have hroom := E_room0 hO q1 q2 c193 c194
    have hneg : ¬ iw (prd (Z j) (n j) : Nat) < 0 := by rw [iw_lt0 (by omega) (by omega)]; omega
    have eg : F_X0_turned M 1000 g va vb' = F_X0_added O 1000 (m_nx A1) := by
      have f1' := f1
      rw [show F_X0_turned_b68 1 A1 1000 (iw (a : Int)) (iw (b : Int)) (cR M 1005 j) (m_nx M) (m_nx M + 1) (iw (n j : Int)) = F_X0_turned_b68_st (F_X0_turned_b68 0) A1 1000 (iw (a : Int)) (iw (b : Int)) (cR M 1005 j) (m_nx M) (m_nx M + 1) (iw (n j : Int)) from rfl] at f1'
      unfold F_X0_turned_b68_st at f1'
      simp only [gi_of gE1.2.2.1 (show x_fi 22 1409 = true by decide), gE1.2.2.2.2.1, Option.bind_some] at f1'
      rw [if_neg (by rw [iw_le4 (by omega) (by omega)]; omega), ← hA2] at f1'
      simp only [gi_of gE2.2.2.1 (show x_fi 22 1408 = true by decide), gi_of gE2.2.2.1 (show x_fi 22 1409 = true by decide), gi_of gE2.2.2.1 (show x_fi 22 1412 = true by decide), gi_of gE2.2.2.1 (show x_fi 22 1414 = true by decide), gr_of gE2.2.2.1 (show x_fr 22 1413 = true by decide), gE2.2.2.2.1, gE2.2.2.2.2.1, gE2.2.2.2.2.2.2.2.1, gE2.2.2.2.2.2.2.2.2.1, gE2.2.2.2.2.2.2.2.2.2, ng_of t2 (by decide), o1, v1000 hO, Option.bind_some] at f1'
      have ax2 : gi (m_new M 1005 (n j)) (cR M 1005 j) 1409 = some (iw (n j : Int)) := by
        have gx := gp.1.df (Df.new 1005 (n j) : Df n2 n2 n2 M (m_new M 1005 (n j))) qt_n2 qt_n2
        rw [gi_of gx.2.2.1 (by decide), gx.2.2.2.2.1]
      simp only [F_X0_turned, v1000, h, e1, e4, e5, c1, c2, ax, qa, c3, qb, c4, mk_of (show n j ≤ 67108864 by omega), ax2, ← hA0, Option.bind_some, if_false, if_true]
      rw [ha, hb, show m_nx (m_new M 1005 (n j)) = m_nx M + 1 from rfl, show (0 : Int32) = iw ((0 : Nat) : Int) from rfl, f1']
      cases F_X0_added O 1000 (m_nx A1) <;> rfl
    have ea : F_X0_added O 1000 (m_nx A1) = if m < 400 then some (iw ((m + 1 : Nat) : Int), wR (wI O 1004 193 (iw ((m + 1 : Nat) : Int))) 1005 (m + 1) (m_nx A1)) else some (-12, O) := by
      simp only [F_X0_added, F_X0_added_b26, gr_of o5.2.2.1 (show x_fr 22 1410 = true by decide), gi_of o5.2.2.1 (show x_fi 22 1409 = true by decide), o5.2.2.2.2.1, hcnt, hneg, g1000_68, v1004, hO, hroom, Option.bind_some, if_false]
      by_cases c : m < 400
      · rw [decide_eq_true c, if_pos c, if_neg (by decide), E_num hO c c193 o5.2.2.1]
        rfl
      · rw [decide_eq_false c, if_neg c]
        rfl
    have nO : m_nx O = m_nx M + 3 := by omega
    have sO : m_sl O = m_sl M + n j + n j + x_cn 22 := by omega
    have x22 : x_cn 22 ≤ 20 := by decide
    have x23 : x_cn 23 ≤ 20 := by decide
    -- the model in memory N that keeps its grids
    by_cases c5 : m < 400
    · rw [if_pos c5] at ea
      obtain ⟨M1, hM1⟩ : ∃ M1, M1 = wR (wI O 1004 193 (iw ((m + 1 : Nat) : Int))) 1005 (m + 1) (m_nx A1) := ⟨_, rfl⟩
      rw [← hM1] at ea
      have dM1 : Df (fun a i => pp n2 a i ∨ pNE a i) qsc rE M M1 := by
        rw [hM1]
        exact ((dO.mono (fun _ _ q => Or.inl q) (fun _ _ q => q) (fun _ _ q => q.elim)).trans (Df.wI _ (Or.inr ⟨rfl, Or.inl rfl⟩))).trans (Df.wR _ rfl)
      have nM1 : m_nx M1 = m_nx M + 3 := by rw [hM1]; exact nO
      have sM1' : m_sl M1 = m_sl O := by rw [hM1]; rfl
      have sM1 : ST M1 := h.df dM1 (fun p hp hr => (stR_na p hp).1 hr)
      have qx : qt (fun a i => pp n2 a i ∨ pNE a i) := fun a i a1 a2 => a2.elim (qt_pp qt_n2 a i a1) (qt_pNE a i a1)
      have gp1 := gp.df dM1 qx qt_qsc qt_rE
      obtain ⟨y1, y2, y3⟩ := M_see h dM1 sM1 (fun q => q.elim (fun q => q.elim (nsc _) (fun q => q)) (fun q => by unfold pNE at q; omega)) (fun q => q.elim (fun q => q.elim (nsc _) (fun q => q)) (fun q => by unfold pNE at q; omega)) (fun i q => by unfold rE at q; omega) g
      have gM1 := gp1.2.1
      have irS := gM1.2.2.2.2.1
      have irT := gM1.2.2.2.2.2.1
      obtain ⟨N1, u1, u2, u3, u4, u5⟩ := M_first (M := M1) (src := cR M1 (cR M 1070 j) 1473) (L := n j) (n := n j) (by omega) hn (Nat.le_refl _) (by omega) irS.2.1 irS.2.2.1 irS.2.2.2.1
      have gN1 := gM1.df u4 qt_n2 qt_n2
      have irT1 := gN1.2.2.2.2.2.1
      obtain ⟨N2, w1, w2, w3, w4, w5⟩ := M_first (M := N1) (src := cR N1 (cR M 1070 j) 1474) (L := n j) (n := n j) (by omega) hn (Nat.le_refl _) (by omega) irT1.2.1 irT1.2.2.1 irT1.2.2.2.1
      have gN2 := gN1.df w4 qt_n2 qt_n2
      have u5' := u5.df w4 qt_n2
      have gz : ∀ i, i < n j → cI N2 (m_nx M1) i = iw (Z j i : Nat) := fun i hi => (u5'.2.2.2.2 i hi).trans (irS.2.2.2.2 i hi)
      have gt : ∀ i, i < n j → cI N2 (m_nx N1) i = T j i := fun i hi => (w5.2.2.2.2 i hi).trans (irT1.2.2.2.2 i hi)
      have dN2 : Df n2 n2 n2 M1 N2 := u4.trans w4
      obtain ⟨N3, hN3⟩ : ∃ N3, N3 = wI N2 (m_nx M1) a (iw (Z j b : Nat)) := ⟨_, rfl⟩
      obtain ⟨N4, hN4⟩ : ∃ N4, N4 = wI N3 (m_nx M1) b (iw (Z j a : Nat)) := ⟨_, rfl⟩
      obtain ⟨N5, hN5⟩ : ∃ N5, N5 = wI N4 (m_nx N1) a (T j b) := ⟨_, rfl⟩
      obtain ⟨N6, hN6⟩ : ∃ N6, N6 = wI N5 (m_nx N1) b (T j a) := ⟨_, rfl⟩
      have d3 : Df (fun x _ => x = m_nx M1 ∨ x = m_nx N1) n2 n2 N2 N3 := by rw [hN3]; exact Df.wI _ (Or.inl rfl)
      have d4 : Df (fun x _ => x = m_nx M1 ∨ x = m_nx N1) n2 n2 N2 N4 := by rw [hN4]; exact d3.trans (Df.wI _ (Or.inl rfl))
      have d5 : Df (fun x _ => x = m_nx M1 ∨ x = m_nx N1) n2 n2 N2 N5 := by rw [hN5]; exact d4.trans (Df.wI _ (Or.inr rfl))
      have d6 : Df (fun x _ => x = m_nx M1 ∨ x = m_nx N1) n2 n2 N2 N6 := by rw [hN6]; exact d5.trans (Df.wI _ (Or.inr rfl))
      have dM : ∀ {Nk : Mem}, Df (fun x _ => x = m_nx M1 ∨ x = m_nx N1) n2 n2 N2 Nk → Df n2 n2 n2 M1 Nk := fun d => dN2.then d (fun x _ hx q => by rcases q with q | q <;> omega) (fun _ _ _ q => q) (fun _ _ _ q => q)
      have gk : ∀ {Nk : Mem}, Df (fun x _ => x = m_nx M1 ∨ x = m_nx N1) n2 n2 N2 Nk → GM Nk (cR M 1070 j) (K j) (n j) (Z j) (T j) (Y j) (D j) (P j) := fun d => gM1.df (dM d) qt_n2 qt_n2
      have tk : ∀ {Nk : Mem}, Df (fun x _ => x = m_nx M1 ∨ x = m_nx N1) n2 n2 N2 Nk → m_tg Nk (m_nx M1) = 1005 ∧ m_ln Nk (m_nx M1) = n j ∧ m_tg Nk (m_nx N1) = 1005 ∧ m_ln Nk (m_nx N1) = n j := fun d => ⟨(d.2.2 _ (by omega)).1.trans u5'.2.2.1, (d.2.2 _ (by omega)).2.1.trans u5'.2.2.2.1, (d.2.2 _ (by omega)).1.trans w5.2.2.1, (d.2.2 _ (by omega)).2.1.trans w5.2.2.2.1⟩
      have d2r : Df (fun x _ => x = m_nx M1 ∨ x = m_nx N1) n2 n2 N2 N2 := Df.refl _ _ _ _
      have nn : m_nx M1 ≠ m_nx N1 := by omega
      have nN6 : m_nx N6 = m_nx M1 + 2 := by rw [hN6, hN5, hN4, hN3]; show m_nx N2 = _; omega
      have sN6 : m_sl N6 = m_sl M1 + n j + n j := by rw [hN6, hN5, hN4, hN3]; show m_sl N2 = _; omega
      have iZ : IRw N6 (m_nx M1) (n j) (fun i => iw (Z j (sw a b i) : Nat)) := by
        refine ⟨by omega, by omega, (tk d6).1, (tk d6).2.1, fun i hi => ?_⟩
        rw [hN6, hN5, hN4, hN3]
        simp only [cI_wI, nn, nn.symm, false_and, if_false, true_and]
        unfold sw
        by_cases e1 : i = b
        · by_cases e2 : b = a
          · simp only [e1, e2, if_true]
          · simp only [e1, e2, if_true, if_false]
        · by_cases e2 : i = a
          · simp only [e1, e2, if_true, if_false]
            rw [if_neg (fun q => e1 (e2.trans q))]
          · simp only [e1, e2, if_false]
            exact gz i hi
      have iTT : IRw N6 (m_nx N1) (n j) (fun i => T j (sw a b i)) := by
        refine ⟨by omega, by omega, (tk d6).2.2.1, (tk d6).2.2.2, fun i hi => ?_⟩
        rw [hN6, hN5, hN4, hN3]
        simp only [cI_wI, nn, nn.symm, false_and, if_false, true_and]
        unfold sw
        by_cases e1 : i = b
        · by_cases e2 : b = a
          · simp only [e1, e2, if_true]
          · simp only [e1, e2, if_true, if_false]
        · by_cases e2 : i = a
          · simp only [e1, e2, if_true, if_false]
            rw [if_neg (fun q => e1 (e2.trans q))]
          · simp only [e1, e2, if_false]
            exact gt i hi
      obtain ⟨N7, hN7⟩ : ∃ N7, N7 = mo N6 23 := ⟨_, rfl⟩
      have d7 : Df n2 n2 n2 N6 N7 := by rw [hN7]; exact Df.new _ _
      have n7 : m_nx N7 = m_nx N6 + 1 := by rw [hN7]; rfl
      have s7 : m_sl N7 = m_sl N6 + x_cn 23 := by rw [hN7]; rfl
      have t7 : m_tg N7 (m_nx N6) = 23 := by rw [hN7]; show m_tg (m_new N6 23 (x_cn 23)) (m_nx N6) = 23; rw [tg_new, if_pos rfl]
      obtain ⟨B, o1', o2', o3', o4', o5'⟩ := M_obj (a := m_nx N6) (k := K j) (b := Y j) (c := D j) (p := P j) (z := fun i => Z j (sw a b i)) (by omega) (by omega) t7 gp.2.2.2.2.2.2.1 (iZ.df d7 qt_n2) (iTT.df d7 qt_n2)
      have g7 := (gk d6).df d7 qt_n2 qt_n2
      have dB : Df (pp n2) qsc n2 M1 B := ((dM d6).mono (fun _ _ q => q.elim) (fun _ _ q => q.elim) (fun _ _ q => q)).then ((d7.mono (fun _ _ q => q.elim) (fun _ _ q => q) (fun _ _ q => q.elim)).trans o4') (fun x _ hx q => by unfold at1 at q; omega) (fun _ _ _ q => q.elim) (fun x _ hx q => by unfold at1 at q; omega)
      have hB : ST B := sM1.n dB
      have c1093 : cI M1 1068 1093 = iw m := by rw [dM1.cI (by omega) (fun q => q.elim (fun q => q.elim (nsc _) (fun q => q)) (fun q => by unfold pNE at q; omega))]; exact h5.2.2.2.1
      have c1093' : cI B 1068 1093 = iw m := by rw [dB.cI (by omega) (noGr_pp noGr_n2 _ _ (Or.inr ⟨rfl, Or.inl rfl⟩))]; exact c1093
      have num := M_num (A := m_nx N6) hB c5 c1093' o5'.2.2.1
      obtain ⟨M2, hM2⟩ : ∃ M2, M2 = wR (wI B 1068 1093 (iw ((m + 1 : Nat) : Int))) 1070 (m + 1) (m_nx N6) := ⟨_, rfl⟩
      rw [← hM2] at num
      obtain ⟨r1, r2, r3, r4, r5⟩ := vw2 h h5 c5 j1 j2 e4 dO qt_n2 noGr_n2 o5 (by omega) hM1 dB o5' (by omega) hM2 hn hzs (by rw [psw]; exact hprd) gp.2.2.2.2.2.2.1 (fun hp0 => by
        rw [psw] at hp0
        obtain ⟨v1, v2, v3⟩ := gp.2.2.2.2.2.2.2.2 hp0
        exact ⟨v1, fun i hi hz => v2 _ (sw_lt c3 c4 hi) hz, VLsw v3 hn c3 c4⟩)
      refine ⟨iw ((m + 1 : Nat) : Int), M1, M2, by show F_X0_turned M 1000 g va vb' = _; rw [eg, ea], ?_, trivial, r1, r2, by omega, by omega⟩
      have x3 : si N2 (m_nx M1) va (iw (Z j b : Nat)) = some N3 := by rw [hN3, ha]; exact si_of _ (tk d2r).1 (tk d2r).2.1 c3 (by omega)
      have x4 : si N3 (m_nx M1) vb' (iw (Z j a : Nat)) = some N4 := by rw [hN4, hb]; exact si_of _ (tk d3).1 (tk d3).2.1 c4 (by omega)
      have x5 : si N4 (m_nx N1) va (T j b) = some N5 := by rw [hN5, ha]; exact si_of _ (tk d4).2.2.1 (tk d4).2.2.2 c3 (by omega)
      have x6 : si N5 (m_nx N1) vb' (T j a) = some N6 := by rw [hN6, hb]; exact si_of _ (tk d5).2.2.1 (tk d5).2.2.2 c4 (by omega)
      have zb : ∀ {Nk : Mem}, GM Nk (cR M 1070 j) (K j) (n j) (Z j) (T j) (Y j) (D j) (P j) → gr Nk (cR M 1070 j) 1473 = some (cR Nk (cR M 1070 j) 1473) ∧ gr Nk (cR M 1070 j) 1474 = some (cR Nk (cR M 1070 j) 1474) ∧ ai Nk (cR Nk (cR M 1070 j) 1473) vb' = some (iw (Z j b : Nat)) ∧ ai Nk (cR Nk (cR M 1070 j) 1473) va = some (iw (Z j a : Nat)) ∧ ai Nk (cR Nk (cR M 1070 j) 1474) vb' = some (T j b) ∧ ai Nk (cR Nk (cR M 1070 j) 1474) va = some (T j a) ∧ vg Nk (cR M 1070 j) 23 = some () ∧ F_X22_axes Nk (cR M 1070 j) = some (iw (n j : Int)) := fun gg =>
        ⟨gr_of gg.2.2.1 (by decide), gr_of gg.2.2.1 (by decide), by rw [hb]; exact gg.2.2.2.2.1.ai hn c4, by rw [ha]; exact gg.2.2.2.2.1.ai hn c3, by rw [hb]; exact gg.2.2.2.2.2.1.ai hn c4, by rw [ha]; exact gg.2.2.2.2.2.1.ai hn c3, vg_of gg.2.2.1 (by decide), M_axes gg⟩
      obtain ⟨-, -, -, -, -, -, a7, a8⟩ := zb gM1
      have a1 := (zb gM1).1
      obtain ⟨-, k2, -, -, -, -, k7, k8⟩ := zb gN1
      have m400 : ¬ iw (m : Int) = 400 := by rw [show (400 : Int32) = iw ((400 : Nat) : Int) from rfl, iw_eq (by omega) (by omega) (by omega) (by omega)]; omega
      show F_X16_turned M1 1068 g va vb' = _
      simp only [F_X16_turned, v1068, sM1, y1, e3, z00, g1068_1092, y3, e6, c1, a7, a8, qa, c3, c2, qb, c4, g1068_1093, c1093, m400, a1, u1, k2, k7, k8, w1, (zb gN2).1, (zb gN2).2.2.1, x3, (zb (gk d3)).1, (zb (gk d3)).2.2.2.1, x4, (zb (gk d4)).2.1, (zb (gk d4)).2.2.2.2.1, x5, (zb (gk d5)).2.1, (zb (gk d5)).2.2.2.2.2.1, x6, ← hN7, gi_of g7.2.2.1 (show x_fi 23 1472 = true by decide), gi_of g7.2.2.1 (show x_fi 23 1475 = true by decide), gi_of g7.2.2.1 (show x_fi 23 1477 = true by decide), gr_of g7.2.2.1 (show x_fr 23 1476 = true by decide), g7.2.2.2.1, g7.2.2.2.2.2.2.1, g7.2.2.2.2.2.2.2.1, g7.2.2.2.2.2.2.2.2, ng_of t7 (by decide), o1', hB, num, Option.bind_some, if_false, if_true]
    · rw [if_neg c5] at ea
      have hm400 : m = 400 := by omega
      refine CR.no h h5x (-12) O O (by show F_X0_turned M 1000 g va vb' = _; rw [eg, ea]) ?_ trivial dO pp_pg (qt_pp qt_n2) (noGr_pp noGr_n2) (by omega) (by omega)
      obtain ⟨y1, y2, y3⟩ := M_see h dO hO (fun q => q.elim (nsc _) (fun q => q)) (fun q => q.elim (nsc _) (fun q => q)) (fun i q => q) g
      have gpO := gp.df dO (qt_pp qt_n2) qt_qsc qt_n2
      have vO := vg_of gpO.2.1.2.2.1 (show x_isa 23 23 = true by decide)
      have aO := M_axes gpO.2.1
      have cO : cI O 1068 1093 = 400 := by rw [dO.cI (by omega) (noGr_pp noGr_n2 _ _ (Or.inr ⟨rfl, Or.inl rfl⟩)), h5.2.2.2.1, hm400]; rfl
      simp only [F_X16_turned, v1068, hO, y1, e3, z00, g1068_1092, y3, e6, c1, vO, aO, qa, c3, c2, qb, c4, g1068_1093, cO, Option.bind_some, if_false, if_true]
