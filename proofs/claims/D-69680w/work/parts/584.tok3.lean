/-! ===== FORMULAS, 9: the engine reads a token: names, signs ===== -/
/-- the present token -/
def KT (M : Mem) (B : Nat) (f : Nat → Int32) (n : Nat) (t : Tok) : Prop := TBk M f n ∧ cI M 1012 387 = t.kd ∧ cI M 1012 388 = iw (t.pl : Int) ∧ cI M 1012 389 = iw (t.to : Int) ∧ ((t.kd = 1 ∨ t.kd = 2) → NMk M B (cR M 1012 390) t.wd ∧ ascs t.wd ∧ t.wd.length ≤ 12) ∧ (t.kd = 4 → cR M 1012 390 = t.sg ∧ 20 ≤ t.sg ∧ t.sg < 65) ∧ (t.kd = 3 → cI M 1012 391 = t.ln ∧ cJ M 1012 392 = t.bt)
/-- what reading a token comes to -/
def RK (M : Mem) (f : Nat → Int32) (n : Nat) (x : Option (Mem ⊕ (Nat × Mem))) (t : Tok) : Prop := ∃ M', ((t.kd = 5 ∧ x = some (.inr (1003, eT M' 1 (iw (t.pl : Int)))) ∧ TBk M' f n) ∨ (t.kd ≠ 5 ∧ x = some (.inl M') ∧ KT M' (m_nx M) f n t)) ∧ Df pK qK rK M M' ∧ m_nx M' ≤ m_nx M + 50 ∧ m_sl M' ≤ m_sl M + 150
section
variable {M : Mem} {f : Nat → Int32} {n : Nat}
theorem RK.bad (t : TBk M f n) {a : Nat} (h : cI M 1012 388 = iw (a : Int)) : RK M f n ((vg M 1012 6).bind fun _ => (F_X5_wrong M 1012).bind fun z => (ie z.2 z.1).bind fun _ => (some (.inr (z.1, z.2)))) (tkX a) :=
  ⟨M, Or.inl ⟨rfl, by rw [E_wrongK t.1, h]; rfl, t⟩, Df.refl _ _ _ _, by omega, by omega⟩
theorem sgs_asc {a e : Nat} (t : TBk M f n) (h : ∀ i, a ≤ i → i < e → isNm f n i = true) : ascs (sgs f a (e - a)) := fun i hi => by
  rw [sgs_bsl, bsl_len] at hi
  unfold wf
  rw [sgs_bsl, bsl_get hi]
  have q := h (a + i) (by omega) (by omega)
  exact (nm_asc q (t.2.2.2.2.2 _ (isNm_lt q)).2).1
theorem E_readName (t : TBk M f n) {a : Nat} (h : cI M 1012 388 = iw (a : Int)) (ha : a ≤ n) : RK M f n (F_X5_readName M 1012 (iw (a : Int))) (tkW f n a) := by
  have hxN : xN = 1099511627776 := rfl
  have n4 := t.2.2.2.2.1
  obtain ⟨e, he⟩ : ∃ e, e = sc (isNm f n) n a := ⟨_, rfl⟩
  obtain ⟨s1, s2, s3, s4⟩ := sc_spec (p := isNm f n) (n := n) (fun a h => isNm_lt h) (n - a) a (by omega)
  rw [← he] at s1 s2 s3 s4
  have stp : ∀ (N i : Nat), i ≤ n → F_X5_readName_b2 (N + 1) M 1012 (iw (a : Int)) (iw (i : Int)) = if isNm f n i = true then F_X5_readName_b2 N M 1012 (iw (a : Int)) (iw ((i + 1 : Nat) : Int)) else (if (12 : Int32) < (iw (i : Int) - iw (a : Int)) then ((vg M 1012 6).bind fun _ => (F_X5_wrong M 1012).bind fun z => (ie z.2 z.1).bind fun _ => (some (.inr (z.1, z.2)))) else ((vg M 1012 6).bind fun _ => (F_X5_part M 1012 (iw (a : Int)) (iw (i : Int))).bind fun z13 => (F_X5_isWord z13.2 z13.1).bind fun z14 => if z14 = 0 then F_X5_readName_b63 z13.2 1012 (1 : Int32) (iw (i : Int)) z13.1 else F_X5_readName_b63 z13.2 1012 (2 : Int32) (iw (i : Int)) z13.1)) := by
    intro N i hi
    show F_X5_readName_b2_st (F_X5_readName_b2 N) M 1012 _ _ = _
    unfold F_X5_readName_b2_st F_X5_readName_b24
    rw [isNm_eq]
    simp only [v1012, t.1, E_lkK t (show i ≤ 100000 by omega), k_letE, k_digit.1, Option.bind_some, iw_succ, mr0]
    cases q1 : (decide (i < n) && (cL (bn (f i)) || cU (bn (f i)))) with
    | true => simp
    | false =>
      cases q2 : isD f n i with
      | true => simp
      | false => simp
  have loop : ∀ (m N i : Nat), i + m = e → a ≤ i → m + 1 ≤ N → F_X5_readName_b2 N M 1012 (iw (a : Int)) (iw (i : Int)) = F_X5_readName_b2 (N - m) M 1012 (iw (a : Int)) (iw (e : Int)) := by
    intro m
    induction m with
    | zero => intro N i hi ha hN; rw [show i = e by omega, Nat.sub_zero]
    | succ m ih =>
      intro N i hi hai hN
      obtain ⟨N', rfl⟩ : ∃ N', N = N' + 1 := ⟨N - 1, by omega⟩
      rw [stp N' i (by omega), if_pos (s4 i hai (by omega)), ih N' (i + 1) (by omega) (by omega) (by omega), show N' + 1 - (m + 1) = N' - m by omega]
  unfold F_X5_readName
  rw [loop (e - a) xN a (by omega) (Nat.le_refl _) (by omega)]
  obtain ⟨N2, hN2⟩ : ∃ N2, xN - (e - a) = N2 + 1 := ⟨xN - (e - a) - 1, by omega⟩
  rw [hN2, stp N2 e s2, if_neg (by rw [s3]; decide), iw_nsub s1]
  unfold tkW tkW2
  rw [← he]
  by_cases c : 12 < e - a
  · rw [if_pos (by rw [show (12 : Int32) = iw ((12 : Nat) : Int) from rfl, iw_le4 (by omega) (by omega)]; exact c), if_pos c]
    exact RK.bad t h
  · rw [if_neg (by rw [show (12 : Int32) = iw ((12 : Nat) : Int) from rfl, iw_le4 (by omega) (by omega)]; exact c), if_neg c]
    obtain ⟨K, k1, k2, k3, k4, k5⟩ := E_partK t s1 s2 (by omega)
    have tK : TBk K f n := t.df (k3.mono (fun _ _ q => q.elim) (fun _ _ q => q.elim) (fun _ _ q => q.elim))
    have ha2 := sgs_asc (a := a) (e := e) t s4
    have hlen : (sgs f a (e - a)).length ≤ 12 := by rw [sgs_bsl, bsl_len]; omega
    have W := E_isWordK tK.2.1 k2.1 ha2 (by omega)
    have h0 := t.1.1
    have nn := k3.1
    have fin : ∀ kd : Int32, (kd = 1 ∨ kd = 2) → (isKy (sgs f a (e - a)) = true ↔ kd = 2) → RK M f n (F_X5_readName_b63 K 1012 kd (iw (e : Int)) (m_nx K - 2)) { kd := if isKy (sgs f a (e - a)) = true then 2 else 1, pl := a, to := e, wd := sgs f a (e - a) } := fun kd hkd hk => by
      obtain ⟨c1, c2, c3, c4, c5, c6, c7, c8, c9, c10, c11⟩ := KS_c (M := K) kd e (m_nx K - 2)
      have hkd2 : (if isKy (sgs f a (e - a)) = true then (2 : Int32) else 1) = kd := by
        rcases hkd with rfl | rfl
        · rw [if_neg (fun q => absurd (hk.mp q) (by decide))]
        · rw [if_pos (hk.mpr rfl)]
      have n1012 : ∀ x, m_nx M ≤ x → x ≠ 1012 := fun x q => by omega
      refine ⟨KS K kd e (m_nx K - 2), Or.inr ⟨?_, ?_, tK.df (KS_df kd e _), ?_, ?_, c2, fun _ => ?_, fun q => ?_, fun q => ?_⟩, (k3.mono (fun _ _ q => q.elim) (fun _ _ q => q.elim) (fun _ _ q => q.elim)).trans (KS_df kd e _), by omega, by omega⟩
      · show (if isKy (sgs f a (e - a)) = true then (2 : Int32) else 1) ≠ 5
        rw [hkd2]; rcases hkd with rfl | rfl <;> decide
      · unfold F_X5_readName_b63
        rw [v1012 tK.1, Option.bind_some, E_setK tK.1, Option.bind_some]
      · show _ = (if isKy (sgs f a (e - a)) = true then (2 : Int32) else 1)
        rw [hkd2]; exact c1
      · rw [c4 _ (by decide) (by decide), k3.cI (by omega) (fun q => q)]; exact h
      · rw [c3]
        obtain ⟨a1, a2, ⟨a3, a4⟩, a5, a6⟩ := k2
        refine ⟨⟨⟨?_, ?_, ?_, ?_, a1.2.2.2.2.1, ?_⟩, by rw [c10]; exact a2, ⟨a3, by rw [c8]; exact a4⟩, by rw [c7 _ _ (n1012 _ a3)]; exact a5, by rw [c7 _ _ (n1012 _ a3), c8]; exact a6⟩, ha2, hlen⟩
        · rw [c10]; exact a1.1
        · rw [c5 _ _ (n1012 _ a3)]; exact a1.2.1
        · rw [c7 _ _ (n1012 _ a3), c10]; exact a1.2.2.1
        · rw [c7 _ _ (n1012 _ a3), c11]; exact a1.2.2.2.1
        · intro i hi; rw [c7 _ _ (n1012 _ a3), c5 _ _ (n1012 _ a5)]; exact a1.2.2.2.2.2 i hi
      · have q' : (if isKy (sgs f a (e - a)) = true then (2 : Int32) else 1) = 4 := q
        rw [hkd2] at q'; rcases hkd with rfl | rfl <;> exact absurd q' (by decide)
      · have q' : (if isKy (sgs f a (e - a)) = true then (2 : Int32) else 1) = 3 := q
        rw [hkd2] at q'; rcases hkd with rfl | rfl <;> exact absurd q' (by decide)
    simp only [v1012, t.1, k1, W, Option.bind_some]
    cases q : isKy (sgs f a (e - a)) with
    | true =>
      have F2 := fin 2 (Or.inr rfl) ⟨fun _ => rfl, fun _ => q⟩
      rw [q] at F2
      rw [if_neg (by decide)]
      exact F2
    | false =>
      have F2 := fin 1 (Or.inl rfl) ⟨fun w => (by rw [q] at w; cases w), fun w => absurd w (by decide)⟩
      rw [q] at F2
      rw [if_pos (by decide)]
      exact F2
end
