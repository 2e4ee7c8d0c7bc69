/-! ===== GRIDS, 9: a new grid, the model ===== -/
theorem M_fill {n sa ta : Nat} {z : Nat → Nat} (hn : n ≤ 4) (hz : ∀ i, i < n → z i ≤ 4096) (hst : sa ≠ ta) : ∀ (e N d : Nat) (M : Mem), d + e = n → e + 1 ≤ N → m_tg M sa = 1005 → m_ln M sa = n → m_tg M ta = 1005 → m_ln M ta = n → (∀ i, i < n → cI M sa i = iw (z i)) → (∀ i, n - d ≤ i → i < n → cI M ta i = iw (mfx z n (n - 1 - i) : Nat)) →
    ∃ M', F_X16_stridesOf_b12 N M sa ta (iw (mfx z n d : Nat)) (iw ((n : Int) - 1 - d)) = some (ta, M') ∧ m_nx M' = m_nx M ∧ m_sl M' = m_sl M ∧ Df (fun a _ => a = ta) n2 n2 M M' ∧ ∀ i, i < n → cI M' ta i = iw (mfx z n (n - 1 - i) : Nat) := by
  intro e
  induction e with
  | zero =>
    intro N d M hd hN t1 l1 t2 l2 hsz hfl
    obtain ⟨N, rfl⟩ : ∃ x, N = x + 1 := ⟨N - 1, by omega⟩
    refine ⟨M, ?_, rfl, rfl, Df.refl _ _ _ _, fun i hi => hfl i (by omega) hi⟩
    show F_X16_stridesOf_b12_st (F_X16_stridesOf_b12 N) M _ _ _ _ = _
    unfold F_X16_stridesOf_b12_st
    rw [if_pos (by rw [iw_lt0 (by omega) (by omega)]; omega)]
  | succ e ih =>
    intro N d M hd hN t1 l1 t2 l2 hsz hfl
    obtain ⟨N, rfl⟩ : ∃ x, N = x + 1 := ⟨N - 1, by omega⟩
    obtain ⟨i, hi⟩ : ∃ i : Nat, (n : Int) - 1 - d = (i : Int) := ⟨n - 1 - d, by omega⟩
    have hin : i < n := by omega
    have hid : i = n - 1 - d := by omega
    have hzi := hz i hin
    have hml := mfx_le z n d
    have s2 : ∀ v, si M ta (iw (i : Int)) v = some (wI M ta i v) := fun v => si_of v t2 l2 hin (by omega)
    have a2 : ∀ v, ai (wI M ta i v) sa (iw (i : Int)) = some (iw (z i : Nat)) := by
      intro v
      rw [ai_of (M := wI M ta i v) t1 l1 hin (by omega), cI_wI, if_neg (fun hh => hst hh.1), hsz i hin]
    have e1 : iw (mfx z n d : Nat) * iw ((max (z i) 1 : Nat) : Int) = iw ((mfx z n d * max (z i) 1 : Nat) : Int) := by rw [iw_mul, ← Int.natCast_mul]
    have hb : mfx z n d * max (z i) 1 ≤ 409600000 := by
      have := Nat.mul_le_mul hml (show max (z i) 1 ≤ 4096 by omega)
      omega
    have q : (100000 : Int32) < iw ((mfx z n d * max (z i) 1 : Nat) : Int) ↔ 100000 < mfx z n d * max (z i) 1 := by
      rw [show (100000 : Int32) = iw ((100000 : Nat) : Int) from rfl, iw_le4 (by omega) (by omega)]
    have em : mfx z n (d + 1) = if mfx z n d * max (z i) 1 ≤ 100000 then mfx z n d * max (z i) 1 else 1 := by
      rw [hid]
      rfl
    have e2 : iw (i : Int) + -1 = iw ((n : Int) - 1 - ((d + 1 : Nat) : Int)) := by
      rw [show (-1 : Int32) = iw (-1) from rfl, iw_add]
      refine congrArg iw ?_
      omega
    have step : F_X16_stridesOf_b12 (N + 1) M sa ta (iw (mfx z n d : Nat)) (iw ((n : Int) - 1 - d)) = F_X16_stridesOf_b12 N (wI M ta i (iw (mfx z n d : Nat))) sa ta (iw (mfx z n (d + 1) : Nat)) (iw ((n : Int) - 1 - ((d + 1 : Nat) : Int))) := by
      show F_X16_stridesOf_b12_st (F_X16_stridesOf_b12 N) M _ _ _ _ = _
      unfold F_X16_stridesOf_b12_st F_X16_stridesOf_b47
      rw [hi, if_neg (by rw [iw_lt0 (by omega) (by omega)]; omega)]
      simp only [s2, a2, Option.bind_some, J_max1 (show z i ≤ 100000 by omega), e1, e2, q]
      by_cases c : 100000 < mfx z n d * max (z i) 1
      · rw [if_pos c, em, if_neg (by omega)]
        rfl
      · rw [if_neg c, em, if_pos (by omega)]
    rw [step]
    obtain ⟨M', f1, f2, f3, f4, f5⟩ := ih N (d + 1) (wI M ta i (iw (mfx z n d : Nat))) (by omega) (by omega) t1 l1 t2 l2 (fun x hx => by rw [cI_wI, if_neg (fun hh => hst hh.1)]; exact hsz x hx) (fun x hx1 hx2 => by
      by_cases ex : x = i
      · subst ex
        rw [cI_wI, if_pos ⟨rfl, rfl⟩, show n - 1 - x = d by omega]
      · rw [cI_wI, if_neg (fun hh => ex hh.2)]
        exact hfl x (by omega) hx2)
    exact ⟨M', f1, f2, f3, (Df.wI (P := fun a _ => a = ta) (Q := n2) (R := n2) (a := ta) (i := i) _ rfl).trans f4, f5⟩
theorem M_strides {M : Mem} {n sa : Nat} {z : Nat → Nat} (hn : n ≤ 4) (hz : ∀ i, i < n → z i ≤ 4096) (hs : IRw M sa n (fun i => iw (z i))) : ∃ M', F_X16_stridesOf M sa = some (m_nx M, M') ∧ m_nx M' = m_nx M + 1 ∧ m_sl M' = m_sl M + n ∧ Df n2 n2 n2 M M' ∧ IRw M' (m_nx M) n (fun i => iw (mfx z n (n - 1 - i) : Nat)) := by
  obtain ⟨s1, s2, s3, s4, s5⟩ := hs
  obtain ⟨M2, hM2⟩ : ∃ M2, M2 = m_new M 1005 n := ⟨_, rfl⟩
  have d2 : Df n2 n2 n2 M M2 := by rw [hM2]; exact Df.new _ _
  have tT : m_tg M2 (m_nx M) = 1005 := by rw [hM2, tg_new, if_pos rfl]
  have lT : m_ln M2 (m_nx M) = n := by rw [hM2, ln_new, if_pos rfl]
  have t2 : m_tg M2 sa = 1005 := (d2.2.2 sa s2).1.trans s3
  have l2 : m_ln M2 sa = n := (d2.2.2 sa s2).2.1.trans s4
  have n2' : m_nx M2 = m_nx M + 1 := by rw [hM2]; rfl
  have sl2 : m_sl M2 = m_sl M + n := by rw [hM2]; rfl
  obtain ⟨M', f1, f2, f3, f4, f5⟩ := M_fill (sa := sa) (ta := m_nx M) hn hz (by omega) n xN 0 M2 (by omega) (by have : xN = 1099511627776 := rfl; omega) t2 l2 tT lT (fun i hi => by rw [d2.cI s2 (fun hh => hh)]; exact s5 i hi) (fun i a b => by omega)
  refine ⟨M', ?_, by omega, by omega, ?_, ?_⟩
  · unfold F_X16_stridesOf
    rw [an_of s3 (by decide) s4]
    simp only [Option.bind_some]
    rw [mk_of (by omega)]
    simp only [Option.bind_some]
    rw [← hM2, an_of t2 (by decide) l2]
    simp only [Option.bind_some]
    rw [show (1 : Int32) = iw ((1 : Nat) : Int) from rfl, iw_sub, show (n : Int) - ((1 : Nat) : Int) = (n : Int) - 1 - ((0 : Nat) : Int) by omega]
    exact f1
  · refine ⟨by omega, by omega, fun a ha => ?_⟩
    have a1 := f4.2.2 a (by omega)
    have a2 := d2.2.2 a ha
    exact ⟨a1.1.trans a2.1, a1.2.1.trans a2.2.1, fun i => ⟨fun _ => by rw [(a1.2.2 i).1 (by omega), (a2.2.2 i).1 (fun hh => hh)], fun _ => by rw [(a1.2.2 i).2.1 (fun hh => hh), (a2.2.2 i).2.1 (fun hh => hh)], fun _ => by rw [(a1.2.2 i).2.2 (fun hh => hh), (a2.2.2 i).2.2 (fun hh => hh)]⟩⟩
  · have a1 := f4.2.2 (m_nx M) (by omega)
    exact ⟨by omega, by omega, a1.1.trans tT, a1.2.1.trans lT, f5⟩
theorem M_copy {k : Int32} {r sa c p : Nat} (hp : p ≤ 100000) (hr6 : r ≠ 6) (hrc : r ≠ c) : ∀ (e N i : Nat) (M : Mem), i + e = p → e + 1 ≤ N → m_tg M c = 1006 → m_ln M c = p → (r ≠ 0 → m_tg M r = 1006 ∧ p ≤ m_ln M r ∧ m_ln M r ≤ 100000) → (∀ x, x < i → cJ M c x = if r = 0 then 0 else cJ M r x) → (r = 0 → ∀ x, cJ M c x = 0) →
    ∃ M', F_X16_made_b18 N M 1068 k sa r (iw (p : Int)) c (iw (i : Int)) = F_X16_made_b44 M' 1068 k sa (iw (p : Int)) c ∧ m_nx M' = m_nx M ∧ m_sl M' = m_sl M ∧ Df n2 (fun a _ => a = c) n2 M M' ∧ ∀ x, x < p → cJ M' c x = if r = 0 then 0 else cJ M r x := by
  intro e
  induction e with
  | zero =>
    intro N i M hi hN t1 l1 hr hx h0
    obtain ⟨N, rfl⟩ : ∃ x, N = x + 1 := ⟨N - 1, by omega⟩
    refine ⟨M, ?_, rfl, rfl, Df.refl _ _ _ _, fun x hx' => hx x (by omega)⟩
    show F_X16_made_b18_st (F_X16_made_b18 N) M 1068 _ _ _ _ _ _ = _
    unfold F_X16_made_b18_st
    rw [if_neg (by rw [iw_le4 (by omega) (by omega)]; omega)]
  | succ e ih =>
    intro N i M hi hN t1 l1 hr hx h0
    obtain ⟨N, rfl⟩ : ∃ x, N = x + 1 := ⟨N - 1, by omega⟩
    by_cases hr0 : r = 0
    · refine ⟨M, ?_, rfl, rfl, Df.refl _ _ _ _, fun x hx' => by rw [if_pos hr0]; exact h0 hr0 x⟩
      show F_X16_made_b18_st (F_X16_made_b18 N) M 1068 _ _ _ _ _ _ = _
      unfold F_X16_made_b18_st
      rw [if_pos (by rw [iw_le4 (by omega) (by omega)]; omega), if_neg hr6, if_pos hr0]
    · obtain ⟨r1, r2, r3⟩ := hr hr0
      have a1 : al M r (iw (i : Int)) = some (cJ M r i) := al_of r1 rfl (by omega) (by omega)
      have s1 : sj M c (iw (i : Int)) (cJ M r i) = some (wJ M c i (cJ M r i)) := sj_of _ t1 l1 (by omega) (by omega)
      have e2 : iw (i : Int) + 1 = iw ((i + 1 : Nat) : Int) := by rw [show (1 : Int32) = iw 1 from rfl, iw_add]; rfl
      have step : F_X16_made_b18 (N + 1) M 1068 k sa r (iw (p : Int)) c (iw (i : Int)) = F_X16_made_b18 N (wJ M c i (cJ M r i)) 1068 k sa r (iw (p : Int)) c (iw ((i + 1 : Nat) : Int)) := by
        show F_X16_made_b18_st (F_X16_made_b18 N) M 1068 _ _ _ _ _ _ = _
        unfold F_X16_made_b18_st
        rw [if_pos (by rw [iw_le4 (by omega) (by omega)]; omega), if_neg hr6, if_neg hr0]
        simp only [a1, s1, Option.bind_some, e2]
      rw [step]
      have hcr : ∀ x, cJ (wJ M c i (cJ M r i)) r x = cJ M r x := fun x => by rw [cJ_wJ, if_neg (fun hh => hrc hh.1)]
      obtain ⟨M', f1, f2, f3, f4, f5⟩ := ih N (i + 1) (wJ M c i (cJ M r i)) (by omega) (by omega) t1 l1 (fun _ => ⟨r1, r2, r3⟩) (fun x hx' => by
        rw [hcr, if_neg hr0]
        by_cases ex : x = i
        · subst ex
          rw [cJ_wJ, if_pos ⟨rfl, rfl⟩]
        · rw [cJ_wJ, if_neg (fun hh => ex hh.2)]
          have := hx x (by omega)
          rw [if_neg hr0] at this
          exact this) (fun hh => absurd hh hr0)
      refine ⟨M', f1, f2, f3, (Df.wJ (P := n2) (Q := fun a _ => a = c) (R := n2) (a := c) (i := i) _ rfl).trans f4, fun x hx' => ?_⟩
      have := f5 x hx'
      rw [hcr] at this
      exact this
theorem M_init {M : Mem} {a : Nat} {k : Int32} {s t : Nat} {b p : Int32} {c : Nat} (ht : m_tg M a = 23) (hp : p = 0 ∨ p = 1) : F_X22_init M a k s t b c p = some (wI (wR (wI (wR (wR (wI M a 1472 k) a 1473 s) a 1474 t) a 1475 b) a 1476 c) a 1477 p) := by
  have hw : x_fit (x_ft 1477) p = true := by rcases hp with rfl | rfl <;> decide
  have f1 : x_fit (x_ft 1472) k = true := rfl
  have f3 : x_fit (x_ft 1475) b = true := rfl
  unfold F_X22_init
  rw [ng_of ht (by decide)]
  simp only [Option.bind_some]
  rw [pi_of k ht (by decide) f1]
  simp only [Option.bind_some]
  rw [pr_of (M := wI M a 1472 k) s ht (by decide)]
  simp only [Option.bind_some]
  rw [pr_of (M := wR (wI M a 1472 k) a 1473 s) t ht (by decide)]
  simp only [Option.bind_some]
  rw [pi_of (M := wR (wR (wI M a 1472 k) a 1473 s) a 1474 t) b ht (by decide) f3]
  simp only [Option.bind_some]
  rw [pr_of (M := wI (wR (wR (wI M a 1472 k) a 1473 s) a 1474 t) a 1475 b) c ht (by decide)]
  simp only [Option.bind_some]
  rw [pi_of (M := wR (wI (wR (wR (wI M a 1472 k) a 1473 s) a 1474 t) a 1475 b) a 1476 c) p ht (by decide) hw]
  rfl
/-- what changes when the model makes a grid -/
def pNM : Nat → Nat → Prop := fun a i => a = 1068 ∧ (i = 1093 ∨ i = 1094)
def rNM (m : Nat) : Nat → Nat → Prop := fun a i => a = 1070 ∧ i = m + 1
theorem M_num {M : Mem} {m A : Nat} (h : ST M) (hm : m < 400) (k1 : cI M 1068 1093 = iw m) (tA : m_tg M A = 23) : F_X16_numbered M 1068 A = some (iw ((m + 1 : Nat) : Int), wR (wI M 1068 1093 (iw ((m + 1 : Nat) : Int))) 1070 (m + 1) A) := by
  have u2 : iw (m : Int) + 1 = iw ((m + 1 : Nat) : Int) := by rw [show (1 : Int32) = iw 1 from rfl, iw_add]; rfl
  have sr1 : sr (wI M 1068 1093 (iw ((m + 1 : Nat) : Int))) 1070 (iw ((m + 1 : Nat) : Int)) A = some (wR (wI M 1068 1093 (iw ((m + 1 : Nat) : Int))) 1070 (m + 1) A) := by
    have t5 : m_tg (wI M 1068 1093 (iw ((m + 1 : Nat) : Int))) 1070 = 1014 := t1070 h
    have tA : m_tg (wI M 1068 1093 (iw ((m + 1 : Nat) : Int))) A = 23 := tA
    exact sr_of (by rw [t5]; decide) (l1070 (M := wI M 1068 1093 (iw ((m + 1 : Nat) : Int))) h) (by omega) (by decide) (Or.inr (by rw [t5, tA]; decide))
  unfold F_X16_numbered
  simp only [g1068_1093, g1068_1092, p1068_1093, ST_wI, h, k1, u2, cI_wI, and_self, if_true, Option.bind_some, sr1, cI_wR]
  rw [g1068_1093 (M := wR (wI M 1068 1093 (iw ((m + 1 : Nat) : Int))) 1070 (m + 1) A) (h.df (P := pNM) (Q := n2) (R := rNM m) ((Df.wI _ ⟨rfl, Or.inl rfl⟩).trans (Df.wR _ ⟨rfl, rfl⟩)) (fun p hp hr => (stR_na p hp).2.1 hr.1))]
  simp only [cI_wI, cI_wR, and_self, if_true, Option.bind_some]
