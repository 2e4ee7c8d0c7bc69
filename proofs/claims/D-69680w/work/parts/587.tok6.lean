/-! ===== FORMULAS, 12: the engine reads a number ===== -/
theorem iw_nl {k : Nat} (h : k < 2147483648) : (iw (k : Int)).toInt64 = nl k := by rw [iw_64 (by omega), nl_ofInt]
theorem ovf {mo V d : Nat} (hm : mo < 2 ^ 63) (m9 : 9 ≤ mo) (hV : V ≤ mo) (hd : d ≤ 9) : (nl mo - nl d) / 10 < nl V ↔ mo < 10 * V + d := by
  rw [nl_sub (by omega) (by omega), show (10 : Int64) = nl 10 from rfl, nl_div (by omega) (by omega), nl_lt (by omega) (by omega)]
  omega
theorem dig_lk {f : Nat → Int32} {n i : Nat} (h : isD f n i = true) : lk f n i - 48 = iw ((bn (f i) - 48 : Nat) : Int) ∧ lk f n i = iw (bn (f i) : Nat) ∧ 48 ≤ bn (f i) ∧ bn (f i) ≤ 57 := by
  obtain ⟨h1, h2, h3⟩ := of_decide_eq_true h
  have e : lk f n i = iw (bn (f i) : Nat) := by unfold lk; rw [if_pos h1]
  refine ⟨?_, e, h2, h3⟩
  rw [e, show (48 : Int32) = iw ((48 : Nat) : Int) from rfl, iw_nsub h2]
theorem lk76 {f : Nat → Int32} {n a : Nat} : lk f n a = 76 ↔ isC f n a 76 = true := lk_c (by decide)
theorem lk70 {f : Nat → Int32} {n a : Nat} : lk f n a = 70 ↔ isC f n a 70 = true := lk_c (by decide)
theorem lk46 {f : Nat → Int32} {n a : Nat} : lk f n a = 46 ↔ isC f n a 46 = true := lk_c (by decide)
theorem mul_nl (V d : Nat) : (10 : Int64) * nl V + nl d = nl (10 * V + d) := by rw [show (10 : Int64) = nl 10 from rfl, nl_mul, nl_add]
section
variable {M : Mem} {f : Nat → Int32} {n : Nat}
theorem RK.num (t : TBk M f n) {a e : Nat} {l : Int32} {v : Int64} (h : cI M 1012 388 = iw (a : Int)) : RK M f n ((vg M 1012 6).bind fun _ => (F_X5_number M 1012 l v (iw (e : Int))).bind fun z2 => some (.inl z2)) { kd := 3, pl := a, to := e, ln := l, bt := v } := by
  obtain ⟨A, hA⟩ : ∃ A, A = wI M 1012 391 l := ⟨_, rfl⟩
  have sA : ST A := hA ▸ t.1
  obtain ⟨B, hB⟩ : ∃ B, B = wJ A 1012 392 v := ⟨_, rfl⟩
  have sB : ST B := hB ▸ sA
  have dB : Df pK qK rK M B := by rw [hB, hA]; exact (Df.wI _ ⟨rfl, by decide⟩).trans (Df.wJ _ rfl)
  have tB : TBk B f n := t.df dB
  obtain ⟨c1, c2, c3, c4, c5, c6, c7, c8, c9, c10, c11⟩ := KS_c (M := B) 3 e 20
  have nB : m_nx B = m_nx M ∧ m_sl B = m_sl M := by rw [hB, hA]; exact ⟨rfl, rfl⟩
  have b8 : cI B 1012 388 = cI M 1012 388 := by rw [hB, hA]; show cI (wI M 1012 391 l) 1012 388 = _; rw [cI_wI, if_neg (by decide)]
  have b9 : cI B 1012 391 = l := by rw [hB, hA]; show cI (wI M 1012 391 l) 1012 391 = _; rw [cI_wI, if_pos ⟨rfl, rfl⟩]
  have b10 : cJ B 1012 392 = v := by rw [hB, cJ_wJ, if_pos ⟨rfl, rfl⟩]
  refine ⟨KS B 3 e 20, Or.inr ⟨(show ¬ (3 : Int32) = 5 by decide), ?_, tB.df (KS_df 3 e 20), c1, by rw [c4 _ (by decide) (by decide), b8]; exact h, c2, fun q => ?_, fun q => absurd q (show ¬ (3 : Int32) = 4 by decide), fun _ => ⟨by rw [c4 _ (by decide) (by decide)]; exact b9, by rw [c6]; exact b10⟩⟩, dB.trans (KS_df 3 e 20), by omega, by omega⟩
  · unfold F_X5_number
    simp only [v1012, t.1, p1012_391, ← hA, p1012_392, sA, ← hB, sB, E_setK sB, Option.bind_some]
  · rcases q with q | q
    · exact absurd q (show ¬ (3 : Int32) = 1 by decide)
    · exact absurd q (show ¬ (3 : Int32) = 2 by decide)
/-- whole numbers -/
theorem E_num86 (t : TBk M f n) {a e mo : Nat} {v3 : Int32} (h : cI M 1012 388 = iw (a : Int)) (he : e ≤ n) (hd : ∀ i, a ≤ i → i < e → isD f n i = true) (hm : mo < 2 ^ 63) (m9 : 9 ≤ mo) {T : Tok} (hbad : RK M f n (if v3 = 0 then F_X5_readNumber_b152 M 1012 (4 : Int32) (iw (e : Int)) v3 (nl (dcv f 0 a (e - a))) else F_X5_readNumber_b152 M 1012 (5 : Int32) (iw (e : Int)) v3 (nl (dcv f 0 a (e - a)))) T) :
    ∀ (m N i : Nat), i + m = e → a ≤ i → m + 1 ≤ N → dcv f 0 a (i - a) ≤ mo → RK M f n (F_X5_readNumber_b86 N M 1012 (iw (e : Int)) v3 (nl mo) (nl (dcv f 0 a (i - a))) (iw (i : Int))) (if mo < dcv f 0 a (e - a) then tkX a else T) := by
  have n4 := t.2.2.2.2.1
  intro m
  induction m with
  | zero =>
    intro N i hi hai hN hV
    obtain ⟨N', rfl⟩ : ∃ N', N = N' + 1 := ⟨N - 1, by omega⟩
    obtain rfl : i = e := by omega
    rw [if_neg (by omega)]
    show RK M f n (F_X5_readNumber_b86_st _ M 1012 _ v3 _ _ _) T
    unfold F_X5_readNumber_b86_st
    rw [if_neg (by rw [iw_le4 (by omega) (by omega)]; omega)]
    exact hbad
  | succ m ih =>
    intro N i hi hai hN hV
    obtain ⟨N', rfl⟩ : ∃ N', N = N' + 1 := ⟨N - 1, by omega⟩
    obtain ⟨d1, d2, d3, d4⟩ := dig_lk (hd i hai (by omega))
    have ev : dcv f 0 a (i + 1 - a) = 10 * dcv f 0 a (i - a) + (bn (f i) - 48) := by
      rw [show i + 1 - a = (i - a) + 1 by omega]
      show 10 * dcv f 0 a (i - a) + (bn (f (a + (i - a))) - 48) = _
      rw [show a + (i - a) = i by omega]
    have mono := dcv_mono (f := f) (V := 0) (a := a) (e - (i + 1)) (i + 1 - a)
    rw [show i + 1 - a + (e - (i + 1)) = e - a by omega] at mono
    have R0 := ih N' (i + 1) (by omega) (by omega) (by omega)
    show RK M f n (F_X5_readNumber_b86_st (F_X5_readNumber_b86 N') M 1012 _ v3 _ _ _) _
    unfold F_X5_readNumber_b86_st
    rw [if_pos (by rw [iw_le4 (by omega) (by omega)]; omega), v1012 t.1, Option.bind_some, E_lkK t (show i ≤ 100000 by omega), Option.bind_some]
    simp only [d1]
    rw [if_neg (by decide), iw_nl (by omega)]
    by_cases q : mo < 10 * dcv f 0 a (i - a) + (bn (f i) - 48)
    · rw [if_pos ((ovf hm m9 hV (by omega)).mpr q), if_pos (by omega)]
      have := RK.bad t h
      rw [v1012 t.1] at this
      exact this
    · rw [if_neg (fun w => q ((ovf hm m9 hV (by omega)).mp w)), mul_nl, iw_succ, ← ev]
      exact R0 (by omega)
theorem E_num49 (t : TBk M f n) {a e : Nat} (h : cI M 1012 388 = iw (a : Int)) (ha : a ≤ e) (he : e ≤ n) (hd : ∀ i, a ≤ i → i < e → isD f n i = true) : RK M f n (F_X5_readNumber_b49 M 1012 (iw (a : Int)) (iw (e : Int))) (tkI f n a e) := by
  have n4 := t.2.2.2.2.1
  have hxN : xN = 1099511627776 := rfl
  unfold F_X5_readNumber_b49 tkI
  rw [v1012 t.1, Option.bind_some, E_lkK t (show e ≤ 100000 by omega), Option.bind_some]
  have z0 : dcv f 0 a (a - a) = 0 := by rw [Nat.sub_self]; rfl
  by_cases c : isC f n e 76 = true
  · rw [if_pos (lk76.mpr c), if_pos c]
    unfold F_X5_readNumber_b64 F_X5_readNumber_b78
    rw [if_neg (by decide)]
    have R := E_num86 (mo := 9223372036854775807) (v3 := 1) t h he hd (by decide) (by decide) (T := { kd := 3, pl := a, to := e + 1, ln := 5, bt := nl (dcv f 0 a (e - a)) }) (by
      rw [if_neg (by decide)]
      unfold F_X5_readNumber_b152 F_X5_readNumber_b165
      rw [if_neg (by decide), iw_succ]
      exact RK.num t h) (e - a) xN a (by omega) (Nat.le_refl _) (by omega) (by rw [z0]; omega)
    rw [z0] at R
    exact R
  · rw [if_neg (fun q => c (lk76.mp q)), if_neg c]
    unfold F_X5_readNumber_b64 F_X5_readNumber_b78
    rw [if_pos rfl]
    have R := E_num86 (mo := 2147483647) (v3 := 0) t h he hd (by decide) (by decide) (T := { kd := 3, pl := a, to := e, ln := 4, bt := nl (dcv f 0 a (e - a)) }) (by
      rw [if_pos rfl]
      unfold F_X5_readNumber_b152 F_X5_readNumber_b165
      rw [if_pos rfl]
      exact RK.num t h) (e - a) xN a (by omega) (Nat.le_refl _) (by omega) (by rw [z0]; omega)
    rw [z0] at R
    exact R
/-- numbers with a point -/
theorem real_st (V b : Nat) (hb : 48 ≤ b) (hb2 : b ≤ 57) : (10 : Int64) * nl V + (iw (b : Int)).toInt64 - (48 : Int64) = nl (10 * V + (b - 48)) := by
  rw [iw_nl (by omega), show (10 : Int64) = nl 10 from rfl, show (48 : Int64) = nl 48 from rfl, nl_mul, nl_add, nl_ofInt, nl_ofInt, nl_ofInt, ← Int64.ofInt_sub]
  congr 1
  omega
/-- the worth of the digits up to i, the point at e not counted -/
def rdv (f : Nat → Int32) (a e i : Nat) : Nat := if i ≤ e then dcv f 0 a (i - a) else dcv f (dcv f 0 a (e - a)) (e + 1) (i - (e + 1))
theorem rdv_p (f : Nat → Int32) {a e : Nat} : rdv f a e (e + 1) = rdv f a e e := by
  unfold rdv
  rw [if_neg (by omega), if_pos (Nat.le_refl _), Nat.sub_self]
  rfl
theorem rdv_s (f : Nat → Int32) {a e i : Nat} (ha : a ≤ i) (h : i ≠ e) : rdv f a e (i + 1) = 10 * rdv f a e i + (bn (f i) - 48) := by
  unfold rdv
  rcases Nat.lt_or_ge i e with q | q
  · rw [if_pos (by omega), if_pos (by omega), show i + 1 - a = (i - a) + 1 by omega]
    show 10 * dcv f 0 a (i - a) + (bn (f (a + (i - a))) - 48) = _
    rw [show a + (i - a) = i by omega]
  · rw [if_neg (by omega), if_neg (by omega), show i + 1 - (e + 1) = (i - (e + 1)) + 1 by omega]
    show 10 * dcv f (dcv f 0 a (e - a)) (e + 1) (i - (e + 1)) + (bn (f (e + 1 + (i - (e + 1)))) - 48) = _
    rw [show e + 1 + (i - (e + 1)) = i by omega]
theorem rdv_lt {a e e2 : Nat} (ha : a ≤ e) (he : e < e2) (h1 : ∀ i, a ≤ i → i < e → bn (f i) ≤ 57) (h2 : ∀ i, e + 1 ≤ i → i < e2 → bn (f i) ≤ 57) (h3 : e2 - a - 1 ≤ 15) : rdv f a e e2 < 2 ^ 62 := by
  unfold rdv
  rw [if_neg (by omega)]
  have q1 := dcv_lt (f := f) (V := 0) (a := a) (m := 0) (by decide) (e - a) (fun i hi => h1 (a + i) (by omega) (by omega))
  have q2 := dcv_lt (f := f) (a := e + 1) q1 (e2 - (e + 1)) (fun i hi => h2 (e + 1 + i) (by omega) (by omega))
  have q3 : 10 ^ (0 + (e - a) + (e2 - (e + 1))) ≤ 10 ^ 15 := Nat.pow_le_pow_right (by decide) (by omega)
  have : (10 : Nat) ^ 15 < 2 ^ 62 := by decide
  omega
theorem E_real42 (t : TBk M f n) {a e e2 : Nat} (ha : a ≤ e) (he : e < e2) (h2 : e2 ≤ n) (hd1 : ∀ i, a ≤ i → i < e → isD f n i = true) (hd2 : ∀ i, e + 1 ≤ i → i < e2 → isD f n i = true) :
    ∀ (m N i : Nat), i + m = e2 → a ≤ i → m + 1 ≤ N → F_X5_readReal_b42 N M 1012 (iw (e : Int)) (iw (e2 : Int)) (nl (rdv f a e i)) (iw (i : Int)) = F_X5_readReal_b88 xN M 1012 (iw (e2 : Int)) (nl (rdv f a e e2)) (4607182418800017408 : UInt64) (iw ((e + 1 : Nat) : Int)) := by
  have n4 := t.2.2.2.2.1
  intro m
  induction m with
  | zero =>
    intro N i hi hai hN
    obtain ⟨N', rfl⟩ : ∃ N', N = N' + 1 := ⟨N - 1, by omega⟩
    obtain rfl : i = e2 := by omega
    show F_X5_readReal_b42_st _ M _ _ _ _ _ = _
    unfold F_X5_readReal_b42_st
    rw [if_neg (by rw [iw_le4 (by omega) (by omega)]; omega)]
    simp only [iw_succ]
  | succ m ih =>
    intro N i hi hai hN
    obtain ⟨N', rfl⟩ : ∃ N', N = N' + 1 := ⟨N - 1, by omega⟩
    have R0 := ih N' (i + 1) (by omega) (by omega) (by omega)
    rw [← R0]
    show F_X5_readReal_b42_st (F_X5_readReal_b42 N') M _ _ _ _ _ = _
    unfold F_X5_readReal_b42_st F_X5_readReal_b74
    rw [if_pos (by rw [iw_le4 (by omega) (by omega)]; omega)]
    by_cases q : i = e
    · rw [if_pos (by rw [q]), q, rdv_p]
      simp only [iw_succ]
    · rw [if_neg (by rw [iw_eq (by omega) (by omega) (by omega) (by omega)]; omega), v1012 t.1, Option.bind_some, E_lkK t (show i ≤ 100000 by omega), Option.bind_some]
      obtain ⟨d1, d2, d3, d4⟩ := dig_lk (f := f) (n := n) (i := i) (by rcases Nat.lt_or_ge i e with w | w; exact hd1 i hai w; exact hd2 i (by omega) (by omega))
      simp only [d2, real_st _ _ d3 d4, iw_succ, rdv_s f hai q]
theorem E_real88 (t : TBk M f n) {a e e2 V : Nat} (h : cI M 1012 388 = iw (a : Int)) (he : e < e2) (h2 : e2 ≤ n) (h3 : e2 - (e + 1) ≤ 15) (hV : V < 2 ^ 62) :
    ∀ (m N i : Nat), i + m = e2 → e + 1 ≤ i → m + 1 ≤ N → RK M f n (F_X5_readReal_b88 N M 1012 (iw (e2 : Int)) (nl V) (tn (i - (e + 1))) (iw (i : Int))) (if isC f n e2 70 = true then { kd := 3, pl := a, to := e2 + 1, ln := 6, bt := lnB 6 (FP.ddiv (FP.l2d (nl V)) (tn (e2 - (e + 1)))) } else { kd := 3, pl := a, to := e2, ln := 7, bt := lnB 7 (FP.ddiv (FP.l2d (nl V)) (tn (e2 - (e + 1)))) }) := by
  have n4 := t.2.2.2.2.1
  intro m
  induction m with
  | zero =>
    intro N i hi hai hN
    obtain ⟨N', rfl⟩ : ∃ N', N = N' + 1 := ⟨N - 1, by omega⟩
    obtain rfl : i = e2 := by omega
    obtain ⟨q1, -⟩ := quo_ok (V := V) (b := i - (e + 1)) hV h3
    have q2 : x_n64 (FP.ddiv (FP.l2d (nl V)) (tn (i - (e + 1)))) = true := xn64 q1
    show RK M f n (F_X5_readReal_b88_st _ M _ _ _ _ _) _
    unfold F_X5_readReal_b88_st F_X5_readReal_b123 F_X5_readReal_b138 F_X5_readReal_b150 F_X5_readReal_b171
    rw [if_neg (by rw [iw_le4 (by omega) (by omega)]; omega), v1012 t.1, Option.bind_some, E_lkK t (show i ≤ 100000 by omega), Option.bind_some]
    simp only [if_pos q2, E_bits q1, Option.bind_some, if_true, if_neg (show ¬ (1 : Int32) = 0 by decide), iw_succ]
    have N1 := fun (l : Int32) (e : Nat) => RK.num (l := l) (v := lnB l (FP.ddiv (FP.l2d (nl V)) (tn (i - (e + 1))))) t h (e := e)
    by_cases c : isC f n i 70 = true
    · rw [if_pos (lk70.mpr c), if_pos c]
      have := RK.num (l := 6) (v := lnB 6 (FP.ddiv (FP.l2d (nl V)) (tn (i - (e + 1))))) t h (e := i + 1)
      rw [v1012 t.1] at this
      exact this
    · rw [if_neg (fun q => c (lk70.mp q)), if_neg c]
      have := RK.num (l := 7) (v := lnB 7 (FP.ddiv (FP.l2d (nl V)) (tn (i - (e + 1))))) t h (e := i)
      rw [v1012 t.1] at this
      exact this
  | succ m ih =>
    intro N i hi hai hN
    obtain ⟨N', rfl⟩ : ∃ N', N = N' + 1 := ⟨N - 1, by omega⟩
    have R0 := ih N' (i + 1) (by omega) (by omega) (by omega)
    have T1 := (tens ⟨i + 1 - (e + 1), by omega⟩).2.1
    have et : tn (i + 1 - (e + 1)) = FP.dmul (tn (i - (e + 1))) 4621819117588971520 := by rw [show i + 1 - (e + 1) = (i - (e + 1)) + 1 by omega]; rfl
    have T2 : x_n64 (FP.dmul (tn (i - (e + 1))) 4621819117588971520) = true := by rw [← et]; exact T1
    rw [et] at R0
    show RK M f n (F_X5_readReal_b88_st (F_X5_readReal_b88 N') M _ _ _ _ _) _
    unfold F_X5_readReal_b88_st
    rw [if_pos (by rw [iw_le4 (by omega) (by omega)]; omega)]
    simp only [if_pos T2, iw_succ]
    exact R0
theorem E_readReal (t : TBk M f n) {a e : Nat} (h : cI M 1012 388 = iw (a : Int)) (ha : a ≤ e) (he : e + 1 ≤ n) (hd1 : ∀ i, a ≤ i → i < e → isD f n i = true) : RK M f n (F_X5_readReal M 1012 (iw (a : Int)) (iw (e : Int))) (tkR f n a e (sc (isD f n) n (e + 1))) := by
  have n4 := t.2.2.2.2.1
  have hxN : xN = 1099511627776 := rfl
  obtain ⟨e2, he2⟩ : ∃ e2, e2 = sc (isD f n) n (e + 1) := ⟨_, rfl⟩
  obtain ⟨s1, s2, s3, s4⟩ := sc_spec (p := isD f n) (n := n) (fun a h => isD_lt h) (n - (e + 1)) (e + 1) (by omega)
  rw [← he2] at s1 s2 s3 s4 ⊢
  have stp : ∀ (N i : Nat), i ≤ n → F_X5_readReal_b4 (N + 1) M 1012 (iw (a : Int)) (iw (e : Int)) (iw (i : Int)) = if isD f n i = true then F_X5_readReal_b4 N M 1012 (iw (a : Int)) (iw (e : Int)) (iw ((i + 1 : Nat) : Int)) else (if (15 : Int32) < ((iw (i : Int) - iw (a : Int)) - (1 : Int32)) then ((vg M 1012 6).bind fun _ => (F_X5_wrong M 1012).bind fun z => (ie z.2 z.1).bind fun _ => (some (.inr (z.1, z.2)))) else F_X5_readReal_b42 xN M 1012 (iw (e : Int)) (iw (i : Int)) (0 : Int64) (iw (a : Int))) := by
    intro N i hi
    show F_X5_readReal_b4_st (F_X5_readReal_b4 N) M 1012 _ _ _ = _
    unfold F_X5_readReal_b4_st
    simp only [v1012, t.1, E_lkK t (show i ≤ 100000 by omega), k_digit.1, Option.bind_some, iw_succ, mr0]
    cases q2 : isD f n i with
    | true => simp
    | false => simp
  have loop : ∀ (m N i : Nat), i + m = e2 → e + 1 ≤ i → m + 1 ≤ N → F_X5_readReal_b4 N M 1012 (iw (a : Int)) (iw (e : Int)) (iw (i : Int)) = F_X5_readReal_b4 (N - m) M 1012 (iw (a : Int)) (iw (e : Int)) (iw (e2 : Int)) := by
    intro m
    induction m with
    | zero => intro N i hi ha hN; rw [show i = e2 by omega, Nat.sub_zero]
    | succ m ih =>
      intro N i hi hai hN
      obtain ⟨N', rfl⟩ : ∃ N', N = N' + 1 := ⟨N - 1, by omega⟩
      rw [stp N' i (by omega), if_pos (s4 i hai (by omega)), ih N' (i + 1) (by omega) (by omega) (by omega), show N' + 1 - (m + 1) = N' - m by omega]
  unfold F_X5_readReal
  simp only [iw_succ]
  rw [loop (e2 - (e + 1)) xN (e + 1) (by omega) (Nat.le_refl _) (by omega)]
  obtain ⟨N2, hN2⟩ : ∃ N2, xN - (e2 - (e + 1)) = N2 + 1 := ⟨xN - (e2 - (e + 1)) - 1, by omega⟩
  rw [hN2, stp N2 e2 s2, if_neg (by rw [s3]; decide), iw_nsub (by omega), show (1 : Int32) = iw ((1 : Nat) : Int) from rfl, iw_nsub (by omega)]
  unfold tkR
  by_cases c : 15 < e2 - a - 1
  · rw [if_pos (by rw [show (15 : Int32) = iw ((15 : Nat) : Int) from rfl, iw_le4 (by omega) (by omega)]; exact c), if_pos c]
    exact RK.bad t h
  · rw [if_neg (by rw [show (15 : Int32) = iw ((15 : Nat) : Int) from rfl, iw_le4 (by omega) (by omega)]; exact c), if_neg c]
    have z0 : rdv f a e a = 0 := by unfold rdv; rw [if_pos ha, Nat.sub_self]; rfl
    have R1 := E_real42 t ha (by omega) s2 hd1 s4 (e2 - a) xN a (by omega) (Nat.le_refl _) (by omega)
    rw [z0] at R1
    rw [show F_X5_readReal_b42 xN M 1012 (iw (e : Int)) (iw (e2 : Int)) 0 (iw (a : Int)) = _ from R1]
    have hV := rdv_lt (f := f) ha (show e < e2 by omega) (fun i i1 i2 => (dig_lk (hd1 i i1 i2)).2.2.2) (fun i i1 i2 => (dig_lk (s4 i i1 i2)).2.2.2) (by omega)
    have R2 := E_real88 t (a := a) (e := e) (e2 := e2) (V := rdv f a e e2) h (by omega) s2 (by omega) hV (e2 - (e + 1)) xN (e + 1) (by omega) (Nat.le_refl _) (by omega)
    rw [Nat.sub_self] at R2
    have er : rdv f a e e2 = dcv f (dcv f 0 a (e - a)) (e + 1) (e2 - (e + 1)) := by unfold rdv; rw [if_neg (by omega)]
    rw [er] at R2 ⊢
    exact R2
theorem E_readNumber (t : TBk M f n) {a : Nat} (h : cI M 1012 388 = iw (a : Int)) (ha : a ≤ n) : RK M f n (F_X5_readNumber M 1012 (iw (a : Int))) (tkN f n a) := by
  have n4 := t.2.2.2.2.1
  have hxN : xN = 1099511627776 := rfl
  obtain ⟨e, he⟩ : ∃ e, e = sc (isD f n) n a := ⟨_, rfl⟩
  obtain ⟨s1, s2, s3, s4⟩ := sc_spec (p := isD f n) (n := n) (fun a h => isD_lt h) (n - a) a (by omega)
  rw [← he] at s1 s2 s3 s4
  have stp : ∀ (N i : Nat), i ≤ n → F_X5_readNumber_b2 (N + 1) M 1012 (iw (a : Int)) (iw (i : Int)) = if isD f n i = true then F_X5_readNumber_b2 N M 1012 (iw (a : Int)) (iw ((i + 1 : Nat) : Int)) else (if isC f n i 46 = true ∧ isD f n (i + 1) = true then tb (F_X5_readReal M 1012 (iw (a : Int)) (iw (i : Int))) (fun z21 => some (.inl z21)) else F_X5_readNumber_b49 M 1012 (iw (a : Int)) (iw (i : Int))) := by
    intro N i hi
    show F_X5_readNumber_b2_st (F_X5_readNumber_b2 N) M 1012 _ _ = _
    unfold F_X5_readNumber_b2_st
    simp only [v1012, t.1, iw_succ, E_lkK t (show i ≤ 100000 by omega), E_lkK t (show i + 1 ≤ 100000 by omega), k_digit.1, Option.bind_some, mr0]
    cases q2 : isD f n i with
    | true => simp
    | false =>
      simp only [if_true]
      by_cases c : isC f n i 46 = true
      · rw [if_pos (lk46.mpr c)]
        cases q3 : isD f n (i + 1) with
        | true => simp [c]
        | false => simp
      · rw [if_neg (fun q => c (lk46.mp q))]
        simp [c]
  have loop : ∀ (m N i : Nat), i + m = e → a ≤ i → m + 1 ≤ N → F_X5_readNumber_b2 N M 1012 (iw (a : Int)) (iw (i : Int)) = F_X5_readNumber_b2 (N - m) M 1012 (iw (a : Int)) (iw (e : Int)) := by
    intro m
    induction m with
    | zero => intro N i hi ha hN; rw [show i = e by omega, Nat.sub_zero]
    | succ m ih =>
      intro N i hi hai hN
      obtain ⟨N', rfl⟩ : ∃ N', N = N' + 1 := ⟨N - 1, by omega⟩
      rw [stp N' i (by omega), if_pos (s4 i hai (by omega)), ih N' (i + 1) (by omega) (by omega) (by omega), show N' + 1 - (m + 1) = N' - m by omega]
  unfold F_X5_readNumber
  rw [loop (e - a) xN a (by omega) (Nat.le_refl _) (by omega)]
  obtain ⟨N2, hN2⟩ : ∃ N2, xN - (e - a) = N2 + 1 := ⟨xN - (e - a) - 1, by omega⟩
  rw [hN2, stp N2 e s2, if_neg (by rw [s3]; decide)]
  unfold tkN tkN2
  rw [← he]
  by_cases c : isC f n e 46 = true ∧ isD f n (e + 1) = true
  · rw [if_pos c, if_pos c]
    have R := E_readReal t h s1 (by have := isD_lt c.2; omega) s4
    obtain ⟨M', r1, r2⟩ := R
    refine ⟨M', ?_, r2⟩
    rcases r1 with ⟨w1, w2, w3⟩ | ⟨w1, w2, w3⟩
    · exact Or.inl ⟨w1, by rw [w2]; rfl, w3⟩
    · exact Or.inr ⟨w1, by rw [w2]; rfl, w3⟩
  · rw [if_neg c, if_neg c]
    exact E_num49 t h s1 s2 s4
end
