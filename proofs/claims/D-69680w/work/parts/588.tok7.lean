/-! ===== FORMULAS, 13: the engine reads a token, whole ===== -/
section
variable {M : Mem} {f : Nat → Int32} {n : Nat}
theorem RK.pre {M9 : Mem} {x : Option (Mem ⊕ (Nat × Mem))} {T : Tok} (h : RK M9 f n x T) (d : Df pK qK rK M M9) (e1 : m_nx M9 = m_nx M) (e2 : m_sl M9 = m_sl M) : RK M f n x T := by
  obtain ⟨M', r1, r2, r3, r4⟩ := h
  refine ⟨M', ?_, d.trans r2, by omega, by omega⟩
  rw [e1] at r1
  exact r1
theorem lk_lo2 {a : Nat} (ha : a < n) : (lk f n a < 97 ↔ ¬ 97 ≤ bn (f a)) ∧ ((122 : Int32) < lk f n a ↔ ¬ bn (f a) ≤ 122) := by
  have hb := bn_256 (f a)
  unfold lk
  rw [if_pos ha]
  constructor
  · rw [show (97 : Int32) = iw ((97 : Nat) : Int) from rfl, iw_le4 (by omega) (by omega)]; omega
  · rw [show (122 : Int32) = iw ((122 : Nat) : Int) from rfl, iw_le4 (by omega) (by omega)]; omega
theorem RK.tb {x : Option (Mem ⊕ (Nat × Mem))} {T : Tok} (h : RK M f n x T) : RK M f n (tb x fun z => F_X5_next_b89 z) T := by
  obtain ⟨M', r1, r2⟩ := h
  refine ⟨M', ?_, r2⟩
  rcases r1 with ⟨w1, w2, w3⟩ | ⟨w1, w2, w3⟩
  · exact Or.inl ⟨w1, by rw [w2]; rfl, w3⟩
  · exact Or.inr ⟨w1, by rw [w2]; rfl, w3⟩
theorem E_next (t : TBk M f n) {k : Nat} (h : cI M 1012 389 = iw (k : Int)) (hk : k ≤ n) : RK M f n (F_X5_next M 1012) (tok f n k) := by
  have n4 := t.2.2.2.2.1
  have hxN : xN = 1099511627776 := rfl
  obtain ⟨a, he⟩ : ∃ a, a = sc (isBl f n) n k := ⟨_, rfl⟩
  obtain ⟨s1, s2, s3, s4⟩ := sc_spec (p := isBl f n) (n := n) (fun a h => isBl_lt h) (n - k) k (by omega)
  rw [← he] at s1 s2 s3 s4
  have stp : ∀ (N i : Nat), i ≤ n → isBl f n i = true → F_X5_next_b5 (N + 1) M 1012 (iw (i : Int)) = F_X5_next_b5 N M 1012 (iw ((i + 1 : Nat) : Int)) := by
    intro N i hi hb
    show F_X5_next_b5_st (F_X5_next_b5 N) M 1012 _ = _
    unfold F_X5_next_b5_st
    simp only [v1012, t.1, E_lkK t (show i ≤ 100000 by omega), k_blank, Option.bind_some, iw_succ, hb]
    rw [if_neg (by decide)]
  have loop : ∀ (m N i : Nat), i + m = a → k ≤ i → m + 1 ≤ N → F_X5_next_b5 N M 1012 (iw (i : Int)) = F_X5_next_b5 (N - m) M 1012 (iw (a : Int)) := by
    intro m
    induction m with
    | zero => intro N i hi ha hN; rw [show i = a by omega, Nat.sub_zero]
    | succ m ih =>
      intro N i hi hai hN
      obtain ⟨N', rfl⟩ : ∃ N', N = N' + 1 := ⟨N - 1, by omega⟩
      rw [stp N' i (by omega) (s4 i hai (by omega)), ih N' (i + 1) (by omega) (by omega) (by omega), show N' + 1 - (m + 1) = N' - m by omega]
  obtain ⟨A, hA⟩ : ∃ A, A = wI M 1012 388 (iw (a : Int)) := ⟨_, rfl⟩
  have dA : Df pK qK rK M A := by rw [hA]; exact Df.wI _ ⟨rfl, by decide⟩
  have tA : TBk A f n := t.df dA
  have nA : m_nx A = m_nx M ∧ m_sl A = m_sl M := by rw [hA]; exact ⟨rfl, rfl⟩
  have cA : cI A 1012 388 = iw (a : Int) := by rw [hA, cI_wI, if_pos ⟨rfl, rfl⟩]
  unfold F_X5_next tok
  rw [g1012_389 t.1, Option.bind_some, h, loop (a - k) xN k (by omega) (Nat.le_refl _) (by omega), ← he]
  obtain ⟨N2, hN2⟩ : ∃ N2, xN - (a - k) = N2 + 1 := ⟨xN - (a - k) - 1, by omega⟩
  rw [hN2]
  refine RK.pre ?_ dA nA.1 nA.2
  show RK A f n (F_X5_next_b5_st (F_X5_next_b5 N2) M 1012 _) (tok2 f n a)
  unfold F_X5_next_b5_st
  simp only [v1012, t.1, E_lkK t (show a ≤ 100000 by omega), k_blank, Option.bind_some, s3]
  rw [if_pos (by decide), p1012_388 t.1, Option.bind_some, ← hA]
  simp only [v1012, tA.1, E_lkK tA (show a ≤ 100000 by omega), Option.bind_some]
  unfold tok2
  by_cases c : n ≤ a
  · rw [if_pos (lk_neg.mpr c), if_pos c, E_setK tA.1, Option.bind_some]
    obtain ⟨c1, c2, c3, c4, c5, c6, c7, c8, c9, c10, c11⟩ := KS_c (M := A) 0 a 20
    refine ⟨KS A 0 a 20, Or.inr ⟨(show ¬ (0 : Int32) = 5 by decide), rfl, tA.df (KS_df 0 a 20), c1, by rw [c4 _ (by decide) (by decide)]; exact cA, c2, fun q => ?_, fun q => absurd q (show ¬ (0 : Int32) = 4 by decide), fun q => absurd q (show ¬ (0 : Int32) = 3 by decide)⟩, KS_df 0 a 20, by omega, by omega⟩
    rcases q with q | q
    · exact absurd q (show ¬ (0 : Int32) = 1 by decide)
    · exact absurd q (show ¬ (0 : Int32) = 2 by decide)
  · rw [if_neg (fun q => c (lk_neg.mp q)), if_neg c]
    have ha : a < n := by omega
    obtain ⟨l1, l2⟩ := lk_lo2 (f := f) ha
    have lo : isLo f n a = true ↔ 97 ≤ bn (f a) ∧ bn (f a) ≤ 122 := by
      unfold isLo cL
      rw [decide_eq_true ha, Bool.true_and, decide_eq_true_iff]
    have rest : ¬ isLo f n a = true → RK A f n (F_X5_next_b68 A 1012 (iw (a : Int)) (lk f n a)) (if isD f n a = true then tkN f n a else tkS f n a) := fun q => by
      unfold F_X5_next_b68
      rw [k_digit.1, Option.bind_some]
      cases d : isD f n a with
      | true =>
        rw [if_neg (by decide), v1012 tA.1, Option.bind_some, if_pos rfl]
        exact (E_readNumber tA cA (by omega)).tb
      | false =>
        rw [if_pos (by decide), v1012 tA.1, Option.bind_some, if_neg (by decide)]
        exact (E_readSign tA cA ha).tb
    by_cases q : isLo f n a = true
    · have q' := lo.mp q
      rw [if_neg (fun w => l1.mp w q'.1), if_neg (fun w => l2.mp w q'.2), if_pos q]
      exact (E_readName tA cA (by omega)).tb
    · rw [if_neg q]
      by_cases w : lk f n a < 97
      · rw [if_pos w]; exact rest q
      · rw [if_neg w]
        by_cases y : (122 : Int32) < lk f n a
        · rw [if_pos y]; exact rest q
        · exact (q (lo.mpr ⟨Classical.byContradiction (fun z => w (l1.mpr z)), Classical.byContradiction (fun z => y (l2.mpr z))⟩)).elim
theorem lk_m1 {a : Nat} (h : ¬ a < n) : lk f n a = -1 := by unfold lk; rw [if_neg h]
/-- a sign ends within the text -/
theorem sgl_in {a : Nat} (ha : a < n) : a + (sgl (lk f n a) (lk f n (a + 1)) (lk f n (a + 2))).1 ≤ n := by
  by_cases h1 : a + 1 < n
  · by_cases h2 : a + 2 < n
    · have : (sgl (lk f n a) (lk f n (a + 1)) (lk f n (a + 2))).1 ≤ 3 := by
        rcases nSg_v (lk f n a) (lk f n (a + 1)) (lk f n (a + 2)) with q | q | ⟨q, q1, q2, q3⟩
        · by_cases w : n29 (lk f n a)
          · have := (sgl_1 w q).1; omega
          · rw [sgl_0 w]; exact Nat.zero_le _
        · have := (sgl_2 q).1; omega
        · rw [q1, q2, q3]; exact Nat.le_refl _
      omega
    · rw [lk_m1 (a := a + 2) h2]
      rcases nSg_v (lk f n a) (lk f n (a + 1)) (-1) with q | q | ⟨q, q1, q2, q3⟩
      · by_cases w : n29 (lk f n a)
        · have := (sgl_1 w q).1; omega
        · rw [sgl_0 w]; show a + 0 ≤ n; omega
      · have := (sgl_2 q).1; omega
      · exact absurd q3 (by decide)
  · rw [lk_m1 (a := a + 1) h1]
    rcases nSg_v (lk f n a) (-1) (lk f n (a + 2)) with q | q | ⟨q, q1, q2, q3⟩
    · by_cases w : n29 (lk f n a)
      · have := (sgl_1 w q).1; omega
      · rw [sgl_0 w]; show a + 0 ≤ n; omega
    · unfold nSg at q
      rw [if_neg (fun w => absurd w.2.1 (by decide))] at q
      have q' : ¬ ((lk f n a = 60 ∧ ((-1 : Int32) = 60 ∨ (-1 : Int32) = 61)) ∨ (lk f n a = 62 ∧ ((-1 : Int32) = 62 ∨ (-1 : Int32) = 61)) ∨ ((lk f n a = 61 ∨ lk f n a = 33) ∧ (-1 : Int32) = 61) ∨ ((lk f n a = 38 ∨ lk f n a = 124) ∧ (-1 : Int32) = lk f n a)) := by
        rintro (⟨_, w⟩ | ⟨_, w⟩ | ⟨_, w⟩ | ⟨w1, w2⟩)
        · exact absurd w (by decide)
        · exact absurd w (by decide)
        · exact absurd w (by decide)
        · rw [← w2] at w1; exact absurd w1 (by decide)
      rw [if_neg q'] at q
      exact absurd q (by decide)
    · exact absurd q2 (by decide)
/-- tokens: where they stand -/
theorem tok_rng (f : Nat → Int32) {n k : Nat} (hk : k ≤ n) : k ≤ (tok f n k).pl ∧ (tok f n k).pl ≤ n ∧ (tok f n k).pl ≤ (tok f n k).to ∧ (tok f n k).to ≤ n ∧ ((tok f n k).kd = 0 ∨ (tok f n k).kd = 5 ∨ k < (tok f n k).to) := by
  obtain ⟨a, he⟩ : ∃ a, a = sc (isBl f n) n k := ⟨_, rfl⟩
  obtain ⟨s1, s2, s3, s4⟩ := sc_spec (p := isBl f n) (n := n) (fun a h => isBl_lt h) (n - k) k (by omega)
  unfold tok
  rw [← he] at s1 s2 s3 s4 ⊢
  unfold tok2
  have bad : k ≤ (tkX a).pl ∧ (tkX a).pl ≤ n ∧ (tkX a).pl ≤ (tkX a).to ∧ (tkX a).to ≤ n ∧ ((tkX a).kd = 0 ∨ (tkX a).kd = 5 ∨ k < (tkX a).to) := ⟨s1, s2, Nat.le_refl _, s2, Or.inr (Or.inl rfl)⟩
  by_cases c : n ≤ a
  · rw [if_pos c]; exact ⟨s1, s2, Nat.le_refl _, s2, Or.inl rfl⟩
  · rw [if_neg c]
    by_cases q : isLo f n a = true
    · rw [if_pos q]
      have hn : isNm f n a = true := by unfold isLo at q; unfold isNm; rw [(Bool.and_eq_true _ _).mp q |>.1, (Bool.and_eq_true _ _).mp q |>.2]; rfl
      obtain ⟨u1, u2, u3, u4⟩ := sc_spec (p := isNm f n) (n := n) (fun a h => isNm_lt h) (n - a) a (by omega)
      have u5 : a < sc (isNm f n) n a := by
        rcases Nat.lt_or_ge a (sc (isNm f n) n a) with w | w
        · exact w
        · have : sc (isNm f n) n a = a := by omega
          rw [this, hn] at u3
          cases u3
      unfold tkW tkW2
      split
      · exact bad
      · exact ⟨s1, s2, u1, u2, Or.inr (Or.inr (show k < sc (isNm f n) n a by omega))⟩
    · rw [if_neg q]
      by_cases d : isD f n a = true
      · rw [if_pos d]
        obtain ⟨u1, u2, u3, u4⟩ := sc_spec (p := isD f n) (n := n) (fun a h => isD_lt h) (n - a) a (by omega)
        have u5 : a < sc (isD f n) n a := by
          rcases Nat.lt_or_ge a (sc (isD f n) n a) with w | w
          · exact w
          · have : sc (isD f n) n a = a := by omega
            rw [this, d] at u3
            cases u3
        unfold tkN
        obtain ⟨e, he'⟩ : ∃ e, e = sc (isD f n) n a := ⟨_, rfl⟩
        rw [← he'] at u1 u2 u3 u4 u5 ⊢
        unfold tkN2
        split
        · rename_i w
          have := isD_lt w.2
          obtain ⟨x1, x2, x3, x4⟩ := sc_spec (p := isD f n) (n := n) (fun a h => isD_lt h) (n - (e + 1)) (e + 1) (by omega)
          obtain ⟨e2, he2⟩ : ∃ e2, e2 = sc (isD f n) n (e + 1) := ⟨_, rfl⟩
          rw [← he2] at x1 x2 x3 x4 ⊢
          unfold tkR
          split
          · exact bad
          · split
            · rename_i y
              have := (of_decide_eq_true y).1
              exact ⟨s1, s2, (show a ≤ e2 + 1 by omega), (show e2 + 1 ≤ n by omega), Or.inr (Or.inr (show k < e2 + 1 by omega))⟩
            · exact ⟨s1, s2, (show a ≤ e2 by omega), x2, Or.inr (Or.inr (show k < e2 by omega))⟩
        · unfold tkI
          split
          · rename_i y
            have := (of_decide_eq_true y).1
            split
            · exact bad
            · exact ⟨s1, s2, (show a ≤ e + 1 by omega), (show e + 1 ≤ n by omega), Or.inr (Or.inr (show k < e + 1 by omega))⟩
          · split
            · exact bad
            · exact ⟨s1, s2, u1, u2, Or.inr (Or.inr (show k < e by omega))⟩
      · rw [if_neg d]
        unfold tkS tkS2
        split
        · exact bad
        · rename_i w
          have hq := sgl_in (f := f) (n := n) (a := a) (by omega)
          exact ⟨s1, s2, Nat.le_add_right _ _, hq, Or.inr (Or.inr (by show k < a + _; omega))⟩
end
