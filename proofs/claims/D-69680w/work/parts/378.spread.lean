/-! ===== CALLS, 13: spread ===== -/
/-- strides of a spread view: the engine's, the model's -/
def spE (Z z : Nat → Nat) (S : Nat → Int32) (h i : Nat) : Int32 := if h ≤ i ∧ Z (i - h) = z i then S (i - h) else 0
def spM (Z : Nat → Nat) (T : Nat → Int32) (h i : Nat) : Int32 := if h ≤ i ∧ Z (i - h) ≠ 1 then T (i - h) else 0
theorem sp_sum {Z z : Nat → Nat} {S : Nat → Int32} {h : Nat} {ix : Nat → Nat} : ∀ m, sm (spE Z z S h) ix (h + m) = sm S (fun k => if Z k = z (h + k) then ix (h + k) else 0) m
  | 0 => by
    have : ∀ i, i ≤ h → sm (spE Z z S h) ix i = 0 := by
      intro i
      induction i with
      | zero => intro _; rfl
      | succ i ih =>
        intro hi
        show (ix i : Int) * (spE Z z S h i).toInt + sm (spE Z z S h) ix i = 0
        rw [ih (by omega), show spE Z z S h i = 0 by unfold spE; rw [if_neg (by omega)]]
        show (ix i : Int) * 0 + 0 = 0
        omega
    exact this h (Nat.le_refl _)
  | m + 1 => by
    show (ix (h + m) : Int) * (spE Z z S h (h + m)).toInt + sm (spE Z z S h) ix (h + m) = ((if Z m = z (h + m) then ix (h + m) else 0 : Nat) : Int) * (S m).toInt + sm S _ m
    rw [sp_sum m]
    unfold spE
    rw [show h + m - h = m by omega]
    by_cases c : Z m = z (h + m)
    · rw [if_pos ⟨by omega, c⟩, if_pos c]
    · rw [if_neg (fun q => c q.2), if_neg c]
      show (ix (h + m) : Int) * 0 + _ = ((0 : Nat) : Int) * _ + _
      simp
theorem sp_VL {n u : Nat} {Z z : Nat → Nat} {S : Nat → Int32} {x : Int32} {L h : Nat} (hv : VL n Z S x L) (hu : u = h + n) (hc : ∀ k, k < n → Z k = 1 ∨ Z k = z (h + k)) : VL u z (spE Z z S h) x L := by
  intro ix hi
  rw [sm_fold, hu, sp_sum]
  refine hv.pos (fun k hk => ?_)
  have := hi (h + k) (by omega)
  by_cases c : Z k = z (h + k)
  · rw [if_pos c]; omega
  · rw [if_neg c]
    have := hc k hk
    omega
theorem E_sp_chk {M : Mem} {a b : Nat} {k : Int32} {n : Nat} {Z : Nat → Nat} {s t : Nat → Int32} {x y : Int32} {c d L : Nat} {p : Int32} (h : ST M) (g : GP M a b k n Z s t x y c d L p) {u hh : Nat} {z : Nat → Nat} (hu : u = hh + n) (hu4 : u ≤ 4) (hz : ∀ i, i < u → cI M 1060 i = iw (z i) ∧ z i ≤ 4096) : ∀ (e N i : Nat), i + e = n → e + 1 ≤ N →
    F_X0_spread_b40 N M 1000 (iw (u : Int)) a (iw (hh : Int)) (iw (i : Int)) = pif (∀ k, i ≤ k → k < n → Z k = 1 ∨ Z k = z (hh + k)) (F_X0_spread_b40 1 M 1000 (iw (u : Int)) a (iw (hh : Int)) (iw (n : Int))) (some (-3, M)) := by
  have hn := g.2.2.2.1
  have ax : gi M a 1409 = some (iw (n : Int)) := by rw [gi_of g.1.2.2.1 (by decide), g.1.2.2.2.2.1]
  intro e
  induction e with
  | zero =>
    intro N i hi hN
    obtain ⟨N, rfl⟩ : ∃ x, N = x + 1 := ⟨N - 1, by omega⟩
    have hi : i = n := by omega
    subst hi
    rw [pif_pos (fun k h1 h2 => by omega)]
    show F_X0_spread_b40_st (F_X0_spread_b40 N) M _ _ _ _ _ = F_X0_spread_b40_st (F_X0_spread_b40 0) M _ _ _ _ _
    unfold F_X0_spread_b40_st
    rw [ax]
    simp only [Option.bind_some]
    rw [if_neg (by rw [iw_le4 (by omega) (by omega)]; omega), if_neg (by rw [iw_le4 (by omega) (by omega)]; omega)]
  | succ e ih =>
    intro N i hi hN
    obtain ⟨N, rfl⟩ : ∃ x, N = x + 1 := ⟨N - 1, by omega⟩
    have hlt : i < n := by omega
    have z1 := g.2.2.2.2.1 i hlt
    obtain ⟨z2, z3⟩ := hz (hh + i) (by omega)
    have q1 : iw (Z i : Nat) = 1 ↔ Z i = 1 := by rw [show (1 : Int32) = iw ((1 : Nat) : Int) from rfl, iw_eq (by omega) (by omega) (by omega) (by omega)]; omega
    have q2 : iw (Z i : Nat) = iw (z (hh + i) : Nat) ↔ Z i = z (hh + i) := by rw [iw_eq (by omega) (by omega) (by omega) (by omega)]; omega
    have a1 : ai M 1060 (iw (i : Int) + iw (hh : Int)) = some (iw (z (hh + i) : Nat)) := by
      rw [iw_add, show (i : Int) + (hh : Int) = ((hh + i : Nat) : Int) by omega, ai_of (t1060 h) (l1060 h) (by omega) (by decide), z2]
    have st : F_X0_spread_b40 (N + 1) M 1000 (iw (u : Int)) a (iw (hh : Int)) (iw (i : Int)) = if Z i = 1 ∨ Z i = z (hh + i) then F_X0_spread_b40 N M 1000 (iw (u : Int)) a (iw (hh : Int)) (iw ((i + 1 : Nat) : Int)) else some (-3, M) := by
      show F_X0_spread_b40_st (F_X0_spread_b40 N) M _ _ _ _ _ = _
      unfold F_X0_spread_b40_st F_X0_spread_b83
      rw [ax]
      simp only [Option.bind_some]
      rw [if_pos (by rw [iw_le4 (by omega) (by omega)]; omega)]
      simp only [gr_of g.1.2.2.1 (show x_fr 22 1410 = true by decide), g.1.2.2.2.2.2.1.ai hn hlt, g1000_84, h, a1, q1, q2, iw_succ, Option.bind_some]
      by_cases c1 : Z i = 1
      · rw [if_pos c1, if_pos (Or.inl c1)]
      · rw [if_neg c1]
        by_cases c2 : Z i = z (hh + i)
        · rw [if_pos c2, if_pos (Or.inr c2)]
        · rw [if_neg c2, if_neg (fun q => q.elim c1 c2)]
    rw [st]
    by_cases c1 : Z i = 1 ∨ Z i = z (hh + i)
    · rw [if_pos c1, ih N (i + 1) (by omega) (by omega)]
      have hq : (∀ k, i + 1 ≤ k → k < n → Z k = 1 ∨ Z k = z (hh + k)) ↔ (∀ k, i ≤ k → k < n → Z k = 1 ∨ Z k = z (hh + k)) := by
        refine ⟨fun q k h1 h2 => ?_, fun q k h1 h2 => q k (by omega) h2⟩
        by_cases e1 : k = i
        · rw [e1]; exact c1
        · exact q k (by omega) h2
      simp only [hq]
    · rw [if_neg c1, pif_neg (fun q => c1 (q i (Nat.le_refl _) hlt))]
theorem M_sp_chk {M : Mem} {a b : Nat} {k : Int32} {n : Nat} {Z : Nat → Nat} {s t : Nat → Int32} {x y : Int32} {c d L : Nat} {p : Int32} (h : ST M) (g : GP M a b k n Z s t x y c d L p) {u hh : Nat} {z : Nat → Nat} (hu : u = hh + n) (hu4 : u ≤ 4) (hz : ∀ i, i < u → cI M 1071 i = iw (z i) ∧ z i ≤ 4096) : ∀ (e N i : Nat), i + e = n → e + 1 ≤ N →
    F_X16_spread_b41 N M 1068 (iw (u : Int)) b (iw ((i + 1 : Nat) : Int)) = pif (∀ k, k < n - i → Z k = 1 ∨ Z k = z (hh + k)) (F_X16_spread_b41 1 M 1068 (iw (u : Int)) b (iw ((n + 1 : Nat) : Int))) (some (-3, M)) := by
  have hn := g.2.2.2.1
  have vM := vg_of g.2.1.2.2.1 (show x_isa 23 23 = true by decide)
  have ax := M_axes g.2.1
  intro e
  induction e with
  | zero =>
    intro N i hi hN
    obtain ⟨N, rfl⟩ : ∃ x, N = x + 1 := ⟨N - 1, by omega⟩
    have hi : i = n := by omega
    subst hi
    rw [pif_pos (fun k h1 => by omega)]
    show F_X16_spread_b41_st (F_X16_spread_b41 N) M _ _ _ _ = F_X16_spread_b41_st (F_X16_spread_b41 0) M _ _ _ _
    unfold F_X16_spread_b41_st
    rw [vM, ax]
    simp only [Option.bind_some]
    rw [if_pos (by rw [iw_le4 (by omega) (by omega)]; omega), if_pos (by rw [iw_le4 (by omega) (by omega)]; omega)]
  | succ e ih =>
    intro N i hi hN
    obtain ⟨N, rfl⟩ : ∃ x, N = x + 1 := ⟨N - 1, by omega⟩
    obtain ⟨r, hr⟩ : ∃ r, r = n - (i + 1) := ⟨_, rfl⟩
    have hlt : r < n := by omega
    have z1 := g.2.2.2.2.1 r hlt
    obtain ⟨z2, z3⟩ := hz (hh + r) (by omega)
    have q1 : iw (Z r : Nat) = 1 ↔ Z r = 1 := by rw [show (1 : Int32) = iw ((1 : Nat) : Int) from rfl, iw_eq (by omega) (by omega) (by omega) (by omega)]; omega
    have q2 : iw (Z r : Nat) = iw (z (hh + r) : Nat) ↔ Z r = z (hh + r) := by rw [iw_eq (by omega) (by omega) (by omega) (by omega)]; omega
    have a1 : ai M 1071 (iw (u : Int) - iw ((i + 1 : Nat) : Int)) = some (iw (z (hh + r) : Nat)) := by
      rw [iw_sub, show (u : Int) - ((i + 1 : Nat) : Int) = ((hh + r : Nat) : Int) by omega, ai_of (t1071 h) (l1071 h) (by omega) (by decide), z2]
    have a2 : ai M (cR M b 1473) (iw (n : Int) - iw ((i + 1 : Nat) : Int)) = some (iw (Z r : Nat)) := by
      rw [iw_sub, show (n : Int) - ((i + 1 : Nat) : Int) = (r : Int) by omega, g.2.1.2.2.2.2.1.ai hn hlt]
    have st : F_X16_spread_b41 (N + 1) M 1068 (iw (u : Int)) b (iw ((i + 1 : Nat) : Int)) = if Z r = 1 ∨ Z r = z (hh + r) then F_X16_spread_b41 N M 1068 (iw (u : Int)) b (iw ((i + 1 + 1 : Nat) : Int)) else some (-3, M) := by
      show F_X16_spread_b41_st (F_X16_spread_b41 N) M _ _ _ _ = _
      unfold F_X16_spread_b41_st F_X16_spread_b93
      rw [vM, ax]
      simp only [Option.bind_some]
      rw [if_neg (by rw [iw_le4 (by omega) (by omega)]; omega)]
      simp only [gr_of g.2.1.2.2.1 (show x_fr 23 1473 = true by decide), g1068_1096, h, a1, a2, q1, q2, iw_succ, Option.bind_some]
      by_cases c1 : Z r = 1
      · rw [if_pos c1, if_pos (Or.inl c1)]
      · rw [if_neg c1]
        by_cases c2 : Z r = z (hh + r)
        · rw [if_pos c2, if_pos (Or.inr c2)]
        · rw [if_neg c2, if_neg (fun q => q.elim c1 c2)]
    rw [st]
    by_cases c1 : Z r = 1 ∨ Z r = z (hh + r)
    · rw [if_pos c1, ih N (i + 1) (by omega) (by omega)]
      have hq : (∀ k, k < n - (i + 1) → Z k = 1 ∨ Z k = z (hh + k)) ↔ (∀ k, k < n - i → Z k = 1 ∨ Z k = z (hh + k)) := by
        refine ⟨fun q k h1 => ?_, fun q k h1 => q k (by omega)⟩
        by_cases e1 : k = r
        · rw [e1]; exact c1
        · exact q k (by omega)
      simp only [hq]
    · rw [if_neg c1, pif_neg (fun q => c1 (q r (by omega)))]
/-- the engine's rows of the view -/
theorem E_sp_fill {M0 : Mem} {own sa ta n u hh c : Nat} {k x p : Int32} {Z z : Nat → Nat} {s : Nat → Int32} (h0 : ST M0) (g : GE M0 own k n Z s x c p) (hn : n ≤ 4) (hZ : ∀ i, i < n → Z i ≤ 4096) (hu : u = hh + n) (hu4 : u ≤ 4) (hz : ∀ i, i < u → cI M0 1060 i = iw (z i) ∧ z i ≤ 4096) (hs0 : m_nx M0 ≤ sa) (hst : sa ≠ ta) (ht0 : m_nx M0 ≤ ta) : ∀ (e N i : Nat) (M : Mem), i + e = u → e + 1 ≤ N → Df n2 n2 n2 M0 M → m_tg M sa = 1005 → m_ln M sa = u → m_tg M ta = 1005 → m_ln M ta = u → (∀ y, y < i → cI M sa y = iw (z y : Nat) ∧ cI M ta y = spE Z z s hh y) →
    ∃ M', F_X0_spread_b128 N M 1000 (iw (u : Int)) own (iw (hh : Int)) sa ta (iw (i : Int)) = F_X0_spread_b128 1 M' 1000 (iw (u : Int)) own (iw (hh : Int)) sa ta (iw (u : Int)) ∧ m_nx M' = m_nx M ∧ m_sl M' = m_sl M ∧ Df (fun q _ => q = sa ∨ q = ta) n2 n2 M M' ∧ (∀ y, y < u → cI M' sa y = iw (z y : Nat) ∧ cI M' ta y = spE Z z s hh y) := by
  have hM0 := h0.1
  have g1 := g.2.1
  intro e
  induction e with
  | zero =>
    intro N i M hi hN dd t1 l1 t2 l2 hv
    obtain ⟨N, rfl⟩ : ∃ x, N = x + 1 := ⟨N - 1, by omega⟩
    have hi : i = u := by omega
    subst hi
    refine ⟨M, ?_, rfl, rfl, Df.refl _ _ _ _, hv⟩
    show F_X0_spread_b128_st (F_X0_spread_b128 N) M _ _ _ _ _ _ _ = F_X0_spread_b128_st (F_X0_spread_b128 0) M _ _ _ _ _ _ _
    unfold F_X0_spread_b128_st
    rw [if_neg (by rw [iw_le4 (by omega) (by omega)]; omega), if_neg (by rw [iw_le4 (by omega) (by omega)]; omega)]
  | succ e ih =>
    intro N i M hi hN dd t1 l1 t2 l2 hv
    obtain ⟨N, rfl⟩ : ∃ x, N = x + 1 := ⟨N - 1, by omega⟩
    have hlt : i < u := by omega
    obtain ⟨zi1, zi2⟩ := hz i hlt
    obtain ⟨M1, hM1⟩ : ∃ M1, M1 = wI M sa i (iw (z i : Nat)) := ⟨_, rfl⟩
    obtain ⟨M2, hM2⟩ : ∃ M2, M2 = wI M1 ta i (spE Z z s hh i) := ⟨_, rfl⟩
    have d1 : Df (fun q _ => q = sa ∨ q = ta) n2 n2 M M1 := by rw [hM1]; exact Df.wI _ (Or.inl rfl)
    have d2 : Df (fun q _ => q = sa ∨ q = ta) n2 n2 M M2 := by rw [hM2]; exact d1.trans (Df.wI _ (Or.inr rfl))
    have d01 : Df n2 n2 n2 M0 M1 := dd.then d1 (fun q _ hq h => by rcases h with h | h <;> omega) (fun _ _ _ q => q) (fun _ _ _ q => q)
    have d02 : Df n2 n2 n2 M0 M2 := dd.then d2 (fun q _ hq h => by rcases h with h | h <;> omega) (fun _ _ _ q => q) (fun _ _ _ q => q)
    have gM1 := g.df d01 qt_n2 qt_n2
    have sM : ST M := h0.n dd
    have sM1 : ST M1 := h0.n d01
    obtain ⟨M', f1, f2, f3, f4, f5⟩ := ih N (i + 1) M2 (by omega) (by omega) d02 (by rw [hM2, hM1]; exact t1) (by rw [hM2, hM1]; exact l1) (by rw [hM2, hM1]; exact t2) (by rw [hM2, hM1]; exact l2) (fun y hy => by
      rw [hM2, hM1]
      simp only [cI_wI]
      by_cases e1 : y = i
      · subst e1
        simp only [hst, and_true, if_true, if_false, true_and]
      · simp only [e1, and_false, if_false]
        exact hv y (by omega))
    refine ⟨M', ?_, by rw [f2, hM2, hM1]; rfl, by rw [f3, hM2, hM1]; rfl, d2.trans f4, f5⟩
    rw [← f1]
    have s1 : si M sa (iw (i : Int)) (iw (z i : Nat)) = some M1 := by rw [hM1]; exact si_of _ t1 l1 hlt (by omega)
    have s2 : si M1 ta (iw (i : Int)) (spE Z z s hh i) = some M2 := by rw [hM2]; exact si_of _ (by rw [hM1]; exact t2) (by rw [hM1]; exact l2) hlt (by omega)
    have a1 : ai M 1060 (iw (i : Int)) = some (iw (z i : Nat)) := by rw [ai_of (t1060 sM) (l1060 sM) (by omega) (by decide), dd.cI (by omega) (fun q => q), zi1]
    have a2 : ai M1 1060 (iw (i : Int)) = some (iw (z i : Nat)) := by rw [ai_of (t1060 sM1) (l1060 sM1) (by omega) (by decide), d01.cI (by omega) (fun q => q), zi1]
    have n10 : ¬ (1 : Int32) = 0 := by decide
    have qh : iw (i : Int) < iw (hh : Int) ↔ i < hh := iw_le4 (by omega) (by omega)
    show F_X0_spread_b128_st (F_X0_spread_b128 N) M _ _ _ _ _ _ _ = _
    unfold F_X0_spread_b128_st F_X0_spread_b177 F_X0_spread_b178 F_X0_spread_b203
    rw [if_pos (by rw [iw_le4 (by omega) (by omega)]; omega)]
    simp only [g1000_84, sM, sM1, a1, a2, s1, qh, iw_succ, Option.bind_some, if_true, n10, if_false]
    by_cases c1 : i < hh
    · have e0 : spE Z z s hh i = 0 := by unfold spE; rw [if_neg (by omega)]
      rw [e0] at s2
      simp only [c1, if_true, s2, Option.bind_some]
    · have hk : i - hh < n := by omega
      have e1 : iw (i : Int) - iw (hh : Int) = iw ((i - hh : Nat) : Int) := by rw [iw_sub]; congr 1; omega
      have zk := hZ (i - hh) hk
      have q2 : iw (Z (i - hh) : Nat) = iw (z i : Nat) ↔ Z (i - hh) = z i := by rw [iw_eq (by omega) (by omega) (by omega) (by omega)]; omega
      simp only [c1, if_false, e1, gr_of gM1.2.2.1 (show x_fr 22 1410 = true by decide), gr_of gM1.2.2.1 (show x_fr 22 1411 = true by decide), gM1.2.2.2.2.2.1.ai hn hk, gM1.2.2.2.2.2.2.1.ai hn hk, q2, Option.bind_some]
      by_cases c2 : Z (i - hh) = z i
      · have e0 : spE Z z s hh i = s (i - hh) := by unfold spE; rw [if_pos ⟨by omega, c2⟩]
        rw [e0] at s2
        simp only [c2, if_true, s2, Option.bind_some]
      · have e0 : spE Z z s hh i = 0 := by unfold spE; rw [if_neg (fun q => c2 q.2)]
        rw [e0] at s2
        simp only [c2, if_false, s2, Option.bind_some]
/-- the model's strides -/
theorem M_sp_fill {M0 : Mem} {own ta n u hh c : Nat} {k x p : Int32} {Z : Nat → Nat} {t : Nat → Int32} (g : GM M0 own k n Z t x c p) (hn : n ≤ 4) (hZ : ∀ i, i < n → Z i ≤ 4096) (hu : u = hh + n) (hu4 : u ≤ 4) (ht0 : m_nx M0 ≤ ta) : ∀ (e N i : Nat) (M : Mem), i + e = n → e + 1 ≤ N → Df n2 n2 n2 M0 M → m_tg M ta = 1005 → m_ln M ta = u → (∀ y, y < u → cI M ta y = if u - i ≤ y then spM Z t hh y else 0) →
    ∃ M', F_X16_spread_b135 N M 1068 (iw (u : Int)) own ta (iw ((i + 1 : Nat) : Int)) = F_X16_spread_b135 1 M' 1068 (iw (u : Int)) own ta (iw ((n + 1 : Nat) : Int)) ∧ m_nx M' = m_nx M ∧ m_sl M' = m_sl M ∧ Df (fun q _ => q = ta) n2 n2 M M' ∧ (∀ y, y < u → cI M' ta y = spM Z t hh y) := by
  have g1 := g.2.1
  intro e
  induction e with
  | zero =>
    intro N i M hi hN dd t2 l2 hv
    obtain ⟨N, rfl⟩ : ∃ x, N = x + 1 := ⟨N - 1, by omega⟩
    have hi : i = n := by omega
    subst hi
    refine ⟨M, ?_, rfl, rfl, Df.refl _ _ _ _, fun y hy => ?_⟩
    · have gM := g.df dd qt_n2 qt_n2
      show F_X16_spread_b135_st (F_X16_spread_b135 N) M _ _ _ _ _ = F_X16_spread_b135_st (F_X16_spread_b135 0) M _ _ _ _ _
      unfold F_X16_spread_b135_st
      rw [vg_of gM.2.2.1 (show x_isa 23 23 = true by decide), M_axes gM]
      simp only [Option.bind_some]
      rw [if_pos (by rw [iw_le4 (by omega) (by omega)]; omega), if_pos (by rw [iw_le4 (by omega) (by omega)]; omega)]
    · rw [hv y hy]
      by_cases c : u - i ≤ y
      · rw [if_pos c]
      · rw [if_neg c]
        unfold spM
        rw [if_neg (by omega)]
  | succ e ih =>
    intro N i M hi hN dd t2 l2 hv
    obtain ⟨N, rfl⟩ : ∃ x, N = x + 1 := ⟨N - 1, by omega⟩
    obtain ⟨r, hr⟩ : ∃ r, r = n - (i + 1) := ⟨_, rfl⟩
    have hlt : r < n := by omega
    have gM := g.df dd qt_n2 qt_n2
    obtain ⟨M2, hM2⟩ : ∃ M2, M2 = wI M ta (hh + r) (spM Z t hh (hh + r)) := ⟨_, rfl⟩
    have d2 : Df (fun q _ => q = ta) n2 n2 M M2 := by rw [hM2]; exact Df.wI _ rfl
    have d02 : Df n2 n2 n2 M0 M2 := dd.then d2 (fun q _ hq h => by have h : q = ta := h; omega) (fun _ _ _ q => q) (fun _ _ _ q => q)
    obtain ⟨M', f1, f2, f3, f4, f5⟩ := ih N (i + 1) M2 (by omega) (by omega) d02 (by rw [hM2]; exact t2) (by rw [hM2]; exact l2) (fun y hy => by
      rw [hM2, cI_wI]
      by_cases e1 : y = hh + r
      · rw [if_pos ⟨rfl, e1⟩, if_pos (by omega), e1]
      · rw [if_neg (fun q => e1 q.2), hv y hy]
        by_cases c : u - i ≤ y
        · rw [if_pos c, if_pos (by omega)]
        · rw [if_neg c, if_neg (by omega)])
    refine ⟨M', ?_, by rw [f2, hM2]; rfl, by rw [f3, hM2]; rfl, d2.trans f4, f5⟩
    rw [← f1]
    have s2 : si M ta (iw ((hh + r : Nat) : Int)) (spM Z t hh (hh + r)) = some M2 := by rw [hM2]; exact si_of _ t2 l2 (by omega) (by omega)
    have zr := hZ r hlt
    have q1 : iw (Z r : Nat) = 1 ↔ Z r = 1 := by rw [show (1 : Int32) = iw ((1 : Nat) : Int) from rfl, iw_eq (by omega) (by omega) (by omega) (by omega)]; omega
    have e1 : iw (u : Int) - iw ((i + 1 : Nat) : Int) = iw ((hh + r : Nat) : Int) := by rw [iw_sub]; congr 1; omega
    have e2 : iw (n : Int) - iw ((i + 1 : Nat) : Int) = iw (r : Int) := by rw [iw_sub]; congr 1; omega
    show F_X16_spread_b135_st (F_X16_spread_b135 N) M _ _ _ _ _ = _
    unfold F_X16_spread_b135_st F_X16_spread_b182
    rw [vg_of gM.2.2.1 (show x_isa 23 23 = true by decide), M_axes gM]
    simp only [Option.bind_some]
    rw [if_neg (by rw [iw_le4 (by omega) (by omega)]; omega)]
    simp only [gr_of gM.2.2.1 (show x_fr 23 1473 = true by decide), gr_of gM.2.2.1 (show x_fr 23 1474 = true by decide), e1, e2, gM.2.2.2.2.1.ai hn hlt, gM.2.2.2.2.2.1.ai hn hlt, q1, iw_succ, Option.bind_some]
    by_cases c1 : Z r = 1
    · have e0 : spM Z t hh (hh + r) = 0 := by unfold spM; rw [show hh + r - hh = r by omega, if_neg (fun q => q.2 c1)]
      rw [e0] at s2
      simp only [c1, if_true, s2, Option.bind_some]
    · have e0 : spM Z t hh (hh + r) = t r := by unfold spM; rw [show hh + r - hh = r by omega, if_pos ⟨by omega, c1⟩]
      rw [e0] at s2
      simp only [c1, if_false, s2, Option.bind_some]
