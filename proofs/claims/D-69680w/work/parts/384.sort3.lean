/-! ===== ORDERS, 3: sorting, the model ===== -/
theorem J_cmp (a b : Int64) : F_J20_compare a b = some (if a < b then -1 else if a = b then 0 else 1) := by
  unfold F_J20_compare F_J20_compare_b21
  split
  · rfl
  · split <;> rfl
/-- what the model's sorting stands on -/
def OM (M : Mem) (row n : Nat) (v : Nat → Int64) (P : Nat → Nat) : Prop :=
  ST M ∧ m_tg M row = 1006 ∧ n ≤ m_ln M row ∧ m_ln M row ≤ 100000 ∧ (∀ i, i < n → cJ M row i = v i) ∧ ∀ q, q < n → cI M 1084 q = iw (P q : Nat)
theorem OM.ot {M : Mem} {row n i : Nat} {x : Int32} {v : Nat → Int64} {P : Nat → Nat} (s : OM M row n v P) : OM (wI M 1085 i x) row n v P := by
  obtain ⟨s1, s5, s6, s7, s8, s9⟩ := s
  exact ⟨s1, s5, s6, s7, s8, fun q hq => by rw [cI_wI, if_neg (fun q => absurd q.1 (by decide))]; exact s9 q hq⟩
/-- the model takes the left one -/
theorem M_left {M : Mem} {row n x y : Nat} {kd : Int32} {v : Nat → Int64} {P : Nat → Nat} (hv : ∀ i, i < n → vb kd (v i)) (s : OM M row n v P) (hx : x < n) (hy : y < n) :
    ∃ rx ry : Int64, al M row (iw (x : Int)) = some (v x) ∧ al M row (iw (y : Int)) = some (v y) ∧ F_X16_ranked (v x) kd = some rx ∧ F_X16_ranked (v y) kd = some ry ∧ ∃ c : Int32, F_J20_compare rx ry = some c ∧ (0 < c ↔ lnT kd (v y) < lnT kd (v x)) ∧ (c < 0 ↔ lnT kd (v x) < lnT kd (v y)) := by
  obtain ⟨s1, s5, s6, s7, s8, s9⟩ := s
  obtain ⟨rx, r1, r2⟩ := M_ranked (hv x hx)
  obtain ⟨ry, r3, r4⟩ := M_ranked (hv y hy)
  refine ⟨rx, ry, by rw [al_of s5 rfl (show x < m_ln M row by omega) (by omega), s8 x hx], by rw [al_of s5 rfl (show y < m_ln M row by omega) (by omega), s8 y hy], r1, r3, _, J_cmp rx ry, ?_, ?_⟩
  · rw [← r2, ← r4]
    by_cases c1 : rx < ry
    · rw [if_pos c1]
      rw [Int64.lt_iff_toInt_lt] at c1
      exact ⟨fun q => absurd q (by decide), fun q => by omega⟩
    · rw [if_neg c1]
      by_cases c2 : rx = ry
      · rw [if_pos c2, c2]
        exact ⟨fun q => absurd q (by decide), fun q => by omega⟩
      · rw [if_neg c2]
        rw [Int64.lt_iff_toInt_lt] at c1
        have : rx.toInt ≠ ry.toInt := fun q => c2 (Int64.toInt_inj.mp q)
        exact ⟨fun _ => by omega, fun _ => by decide⟩
  · rw [← r2, ← r4]
    by_cases c1 : rx < ry
    · rw [if_pos c1]
      rw [Int64.lt_iff_toInt_lt] at c1
      exact ⟨fun _ => c1, fun _ => by decide⟩
    · rw [if_neg c1]
      rw [Int64.lt_iff_toInt_lt] at c1
      by_cases c2 : rx = ry
      · rw [if_pos c2]
        exact ⟨fun q => absurd q (by decide), fun q => absurd q c1⟩
      · rw [if_neg c2]
        exact ⟨fun q => absurd q (by decide), fun q => absurd q c1⟩
theorem M_join_loop {k27 : Mem → Nat → Nat → Int32 → Int32 → Int32 → Int32 → Option Mem} {k36 : Mem → Nat → Nat → Int32 → Int32 → Int32 → Int32 → Int32 → Option Mem} {row n mid to fr by' : Nat} {kd fl : Int32} {v : Nat → Int64} {P : Nat → Nat} (hv : ∀ i, i < n → vb kd (v i)) (hP : ∀ q, q < n → P q < n) (hn : n ≤ 4096) (hm : mid ≤ to) (ht : to ≤ n) : ∀ (e N k a b : Nat) (O : Nat → Nat) (M : Mem), k + e = to → e + 1 ≤ N → k + mid = a + b → a ≤ mid → b ≤ to → OM M row n v P → (∀ q, q < k → cI M 1085 q = iw (O q : Nat)) →
    ∃ M', F_X16_order_b78 k27 k36 N M 1068 row (iw (n : Int)) kd fl (iw (by' : Int)) (iw (fr : Int)) (iw (a : Int)) (iw (mid : Int)) (iw (b : Int)) (iw (to : Int)) (iw (k : Int)) = k36 M' 1068 row (iw (n : Int)) kd fl (iw (by' : Int)) (iw ((fr + 2 * by' : Nat) : Int)) ∧ m_nx M' = m_nx M ∧ m_sl M' = m_sl M ∧ Df (at1 1085) n2 n2 M M' ∧ OM M' row n v P ∧ ∀ q, q < to → cI M' 1085 q = iw (mgl (ltB fl (fun i => lnT kd (v i))) P mid to e k a b O q : Nat) := by
  intro e
  induction e with
  | zero =>
    intro N k a b O M h1 hN h2 h3 h4 s hO
    obtain ⟨N, rfl⟩ : ∃ x, N = x + 1 := ⟨N - 1, by omega⟩
    refine ⟨M, ?_, rfl, rfl, Df.refl _ _ _ _, s, fun q hq => hO q (by omega)⟩
    show F_X16_order_b78_st k27 k36 (F_X16_order_b78 k27 k36 N) M _ _ _ _ _ _ _ _ _ _ _ _ = _
    unfold F_X16_order_b78_st
    rw [if_neg (by rw [iw_le4 (by omega) (by omega)]; omega)]
    simp only [iw_2mul, iw_nadd]
  | succ e ih =>
    intro N k a b O M h1 hN h2 h3 h4 s hO
    obtain ⟨N, rfl⟩ : ∃ x, N = x + 1 := ⟨N - 1, by omega⟩
    have s' := s
    obtain ⟨s1, s5, s6, s7, s8, s9⟩ := s'
    have n10 : ¬ (1 : Int32) = 0 := by decide
    have pa : ∀ x, x < n → ai M 1084 (iw (x : Int)) = some (iw (P x : Nat)) := fun x hx => by rw [ai_of (t1084 s1) (l1084 s1) (by omega) (by decide), s9 x hx]
    have st : ∀ x : Nat, si M 1085 (iw (k : Int)) (iw (x : Nat)) = some (wI M 1085 k (iw (x : Nat))) := fun x => si_of _ (t1085 s1) (l1085 s1) (by omega) (by decide)
    have ho : ∀ x : Nat, ∀ q, q < k + 1 → cI (wI M 1085 k (iw (x : Nat))) 1085 q = iw (upn O k x q : Nat) := fun x q hq => by
      unfold upn
      rw [cI_wI]
      by_cases c : q = k
      · rw [if_pos ⟨rfl, c⟩, if_pos c]
      · rw [if_neg (fun q => c q.2), if_neg c]; exact hO q (by omega)
    have dd : ∀ x : Nat, Df (at1 1085) n2 n2 M (wI M 1085 k (iw (x : Nat))) := fun x => Df.wI _ rfl
    have qa : iw (a : Int) < iw (mid : Int) ↔ a < mid := iw_le4 (by omega) (by omega)
    have qb : iw (b : Int) < iw (to : Int) ↔ b < to := iw_le4 (by omega) (by omega)
    have qe : iw (b : Int) = iw (to : Int) ↔ b = to := by rw [iw_eq (by omega) (by omega) (by omega) (by omega)]; omega
    -- the step
    have stp : F_X16_order_b78 k27 k36 (N + 1) M 1068 row (iw (n : Int)) kd fl (iw (by' : Int)) (iw (fr : Int)) (iw (a : Int)) (iw (mid : Int)) (iw (b : Int)) (iw (to : Int)) (iw (k : Int)) = if a = mid ∨ (b < to ∧ ltB fl (fun i => lnT kd (v i)) (P b) (P a) = true) then F_X16_order_b78 k27 k36 N (wI M 1085 k (iw (P b : Nat))) 1068 row (iw (n : Int)) kd fl (iw (by' : Int)) (iw (fr : Int)) (iw (a : Int)) (iw (mid : Int)) (iw ((b + 1 : Nat) : Int)) (iw (to : Int)) (iw ((k + 1 : Nat) : Int)) else F_X16_order_b78 k27 k36 N (wI M 1085 k (iw (P a : Nat))) 1068 row (iw (n : Int)) kd fl (iw (by' : Int)) (iw (fr : Int)) (iw ((a + 1 : Nat) : Int)) (iw (mid : Int)) (iw (b : Int)) (iw (to : Int)) (iw ((k + 1 : Nat) : Int)) := by
      show F_X16_order_b78_st k27 k36 (F_X16_order_b78 k27 k36 N) M _ _ _ _ _ _ _ _ _ _ _ _ = _
      unfold F_X16_order_b78_st F_X16_order_b97 F_X16_order_b172 F_X16_order_b174 F_X16_order_b216
      rw [if_pos (by rw [iw_le4 (by omega) (by omega)]; omega)]
      by_cases ca : a = mid
      · have hb : ¬ b = to := by omega
        have na : ¬ a < mid := by omega
        have hb' : b < n := by omega
        have hyes : a = mid ∨ (b < to ∧ ltB fl (fun i => lnT kd (v i)) (P b) (P a) = true) := Or.inl ca
        rw [if_pos hyes]
        simp only [qe, hb, qa, na, if_false, if_true, g1068_1118, g1068_1119, s1, pa b hb', st, iw_succ, Option.bind_some]
      · have ha : a < mid := by omega
        have ha' : a < n := by omega
        by_cases hb : b = to
        · have nb : ¬ b < to := by omega
          have hno : ¬ (a = mid ∨ (b < to ∧ ltB fl (fun i => lnT kd (v i)) (P b) (P a) = true)) := fun q => q.elim ca (fun q => nb q.1)
          rw [if_neg hno]
          have qe' : (iw (b : Int) = iw (to : Int)) = True := eq_true (qe.mpr hb)
          have qb' : (iw (b : Int) < iw (to : Int)) = False := eq_false (fun q => nb (qb.mp q))
          simp only [qe', qa, ha, qb', n10, if_false, if_true, g1068_1118, g1068_1119, s1, pa a ha', st, iw_succ, Option.bind_some]
        · have hb' : b < to := by omega
          have hbn : b < n := by omega
          obtain ⟨rx, ry, a1, a2, r1, r2, c, c1, c2, c3⟩ := M_left (kd := kd) hv s (hP a ha') (hP b hbn)
          simp only [qe, hb, qa, ha, qb, hb', if_false, if_true, g1068_1118, g1068_1119, s1, pa a ha', pa b hbn, a1, a2, r1, r2, c1, c2, c3, st, iw_succ, n10, Option.bind_some]
          unfold ltB
          by_cases cf : fl = 0
          · simp only [cf, if_true, decide_eq_true_eq, ca, false_or, true_and]
          · simp only [cf, if_false, decide_eq_true_eq, ca, false_or, true_and]
    show ∃ M', _ ∧ _ ∧ _ ∧ _ ∧ _ ∧ ∀ q, q < to → cI M' 1085 q = iw ((if a = mid ∨ (b < to ∧ ltB fl (fun i => lnT kd (v i)) (P b) (P a) = true) then mgl (ltB fl (fun i => lnT kd (v i))) P mid to e (k + 1) a (b + 1) (upn O k (P b)) else mgl (ltB fl (fun i => lnT kd (v i))) P mid to e (k + 1) (a + 1) b (upn O k (P a))) q : Nat)
    rw [stp]
    by_cases c : a = mid ∨ (b < to ∧ ltB fl (fun i => lnT kd (v i)) (P b) (P a) = true)
    · have hb : b < to := by rcases c with c | c <;> omega
      obtain ⟨M', f1, f2, f3, f4, f5, f6⟩ := ih N (k + 1) a (b + 1) (upn O k (P b)) (wI M 1085 k (iw (P b : Nat))) (by omega) (by omega) (by omega) h3 (by omega) s.ot (ho (P b))
      simp only [if_pos c]
      exact ⟨M', f1, f2, f3, (dd _).trans f4, f5, f6⟩
    · have ha : a < mid := by
        rcases Nat.lt_or_ge a mid with q | q
        · exact q
        · exact absurd (Or.inl (by omega)) c
      obtain ⟨M', f1, f2, f3, f4, f5, f6⟩ := ih N (k + 1) (a + 1) b (upn O k (P a)) (wI M 1085 k (iw (P a : Nat))) (by omega) (by omega) (by omega) (by omega) h4 s.ot (ho (P a))
      simp only [if_neg c]
      exact ⟨M', f1, f2, f3, (dd _).trans f4, f5, f6⟩
theorem M_pass {k27 : Mem → Nat → Nat → Int32 → Int32 → Int32 → Int32 → Option Mem} {row n by' : Nat} {kd fl : Int32} {v : Nat → Int64} {P : Nat → Nat} (hv : ∀ i, i < n → vb kd (v i)) (hP : ∀ q, q < n → P q < n) (hn : n ≤ 4096) (hb : 1 ≤ by') (hb2 : by' < n) : ∀ (f N fr : Nat) (O : Nat → Nat) (M : Mem), n < fr + 2 * by' * f + 1 → f + 1 ≤ N → fr ≤ 20000 → OM M row n v P → (∀ q, q < fr → q < n → cI M 1085 q = iw (O q : Nat)) →
    ∃ M', F_X16_order_b36 k27 N M 1068 row (iw (n : Int)) kd fl (iw (by' : Int)) (iw (fr : Int)) = F_X16_order_b237 k27 xN M' 1068 row (iw (n : Int)) kd fl (iw (by' : Int)) 0 ∧ m_nx M' = m_nx M ∧ m_sl M' = m_sl M ∧ Df (at1 1085) n2 n2 M M' ∧ OM M' row n v P ∧ ∀ q, q < n → cI M' 1085 q = iw (psl (ltB fl (fun i => lnT kd (v i))) P by' n f fr O q : Nat) := by
  have hx : xN = 1099511627776 := rfl
  intro f
  induction f with
  | zero =>
    intro N fr O M h1 hN h2 s hO
    obtain ⟨N, rfl⟩ : ∃ x, N = x + 1 := ⟨N - 1, by omega⟩
    refine ⟨M, ?_, rfl, rfl, Df.refl _ _ _ _, s, fun q hq => hO q (by omega) hq⟩
    show F_X16_order_b36_st k27 (F_X16_order_b36 k27 N) M _ _ _ _ _ _ _ = _
    unfold F_X16_order_b36_st
    rw [if_neg (by rw [iw_le4 (by omega) (by omega)]; omega)]
  | succ f ih =>
    intro N fr O M h1 hN h2 s hO
    obtain ⟨N, rfl⟩ : ∃ x, N = x + 1 := ⟨N - 1, by omega⟩
    show ∃ M', F_X16_order_b36_st k27 (F_X16_order_b36 k27 N) M _ _ _ _ _ _ _ = _ ∧ _ ∧ _ ∧ _ ∧ _ ∧ ∀ q, q < n → cI M' 1085 q = iw ((if fr < n then psl (ltB fl (fun i => lnT kd (v i))) P by' n f (fr + 2 * by') (mgl (ltB fl (fun i => lnT kd (v i))) P (min (fr + by') n) (min (fr + 2 * by') n) (min (fr + 2 * by') n - fr) fr fr (min (fr + by') n) O) else O) q : Nat)
    unfold F_X16_order_b36_st
    by_cases c : fr < n
    · rw [if_pos (by rw [iw_le4 (by omega) (by omega)]; exact c)]
      simp only [iw_2mul, iw_nadd, J_min2 (show fr + by' ≤ 2147483647 by omega) (show n ≤ 2147483647 by omega), J_min2 (show fr + 2 * by' ≤ 2147483647 by omega) (show n ≤ 2147483647 by omega), Option.bind_some, if_pos c]
      obtain ⟨M1, g1, g2, g3, g4, g5, g6⟩ := M_join_loop (k27 := k27) (k36 := F_X16_order_b36 k27 N) (fr := fr) (by' := by') (fl := fl) hv hP hn (mid := min (fr + by') n) (to := min (fr + 2 * by') n) (by omega) (by omega) (min (fr + 2 * by') n - fr) xN fr fr (min (fr + by') n) O M (by omega) (by omega) (by omega) (by omega) (by omega) s (fun q hq => hO q hq (by omega))
      rw [g1]
      obtain ⟨M', f1, f2, f3, f4, f5, f6⟩ := ih N (fr + 2 * by') (mgl (ltB fl (fun i => lnT kd (v i))) P (min (fr + by') n) (min (fr + 2 * by') n) (min (fr + 2 * by') n - fr) fr fr (min (fr + by') n) O) M1 (by rw [Nat.mul_succ] at h1; omega) (by omega) (by omega) g5 (fun q hq hq2 => g6 q (by omega))
      exact ⟨M', f1, by omega, by omega, g4.trans f4, f5, f6⟩
    · rw [if_neg (by rw [iw_le4 (by omega) (by omega)]; exact c)]
      simp only [if_neg c]
      exact ⟨M, rfl, rfl, rfl, Df.refl _ _ _ _, s, fun q hq => hO q (by omega) hq⟩
theorem M_back {k27 : Mem → Nat → Nat → Int32 → Int32 → Int32 → Int32 → Option Mem} {row n by' : Nat} {kd fl : Int32} {v : Nat → Int64} {P O : Nat → Nat} (hn : n ≤ 4096) : ∀ (e N i : Nat) (M : Mem), i + e = n → e + 1 ≤ N → OM M row n v (mix O P i) → (∀ q, q < n → cI M 1085 q = iw (O q : Nat)) →
    ∃ M', F_X16_order_b237 k27 N M 1068 row (iw (n : Int)) kd fl (iw (by' : Int)) (iw (i : Int)) = k27 M' 1068 row (iw (n : Int)) kd fl (iw ((2 * by' : Nat) : Int)) ∧ m_nx M' = m_nx M ∧ m_sl M' = m_sl M ∧ Df (at1 1084) n2 n2 M M' ∧ OM M' row n v O := by
  intro e
  induction e with
  | zero =>
    intro N i M h1 hN s hO
    obtain ⟨N, rfl⟩ : ∃ x, N = x + 1 := ⟨N - 1, by omega⟩
    refine ⟨M, ?_, rfl, rfl, Df.refl _ _ _ _, ?_⟩
    · show F_X16_order_b237_st k27 (F_X16_order_b237 k27 N) M _ _ _ _ _ _ _ = _
      unfold F_X16_order_b237_st
      rw [if_neg (by rw [iw_le4 (by omega) (by omega)]; omega), iw_2mul]
    · obtain ⟨s1, s5, s6, s7, s8, s9⟩ := s
      exact ⟨s1, s5, s6, s7, s8, fun q hq => by rw [s9 q hq, mix_l (by omega)]⟩
  | succ e ih =>
    intro N i M h1 hN s hO
    obtain ⟨N, rfl⟩ : ∃ x, N = x + 1 := ⟨N - 1, by omega⟩
    have s' := s
    obtain ⟨s1, s5, s6, s7, s8, s9⟩ := s'
    have d1 : Df (at1 1084) n2 n2 M (wI M 1084 i (iw (O i : Nat))) := Df.wI _ rfl
    obtain ⟨M', f1, f2, f3, f4, f5⟩ := ih N (i + 1) (wI M 1084 i (iw (O i : Nat))) (by omega) (by omega) ⟨s1, s5, s6, s7, s8, fun q hq => by
      rw [cI_wI]
      by_cases c : q = i
      · rw [if_pos ⟨rfl, c⟩, mix_l (by omega), c]
      · rw [if_neg (fun q => c q.2), s9 q hq]
        by_cases c' : q < i
        · rw [mix_l c', mix_l (by omega)]
        · rw [mix_r c', mix_r (by omega)]⟩ (fun q hq => by rw [cI_wI, if_neg (fun q => absurd q.1 (by decide))]; exact hO q hq)
    refine ⟨M', ?_, f2, f3, d1.trans f4, f5⟩
    rw [← f1]
    show F_X16_order_b237_st k27 (F_X16_order_b237 k27 N) M _ _ _ _ _ _ _ = _
    unfold F_X16_order_b237_st
    have a1 : ai M 1085 (iw (i : Int)) = some (iw (O i : Nat)) := by rw [ai_of (t1085 s1) (l1085 s1) (by omega) (by decide), hO i (by omega)]
    rw [if_pos (by rw [iw_le4 (by omega) (by omega)]; omega)]
    simp only [g1068_1118, g1068_1119, s1, a1, si_of (j := i) (iw (O i : Nat)) (t1084 s1) (l1084 s1) (show i < 100000 by omega) (by decide), iw_succ, Option.bind_some]
theorem M_sort_loop {row n : Nat} {kd fl : Int32} {v : Nat → Int64} (hv : ∀ i, i < n → vb kd (v i)) (hn : n ≤ 4096) : ∀ (f N by' : Nat) (P : Nat → Nat) (M : Mem), n ≤ by' * 2 ^ f → f + 1 ≤ N → 1 ≤ by' → by' ≤ 8192 → (∀ q, q < n → P q < n) → OM M row n v P →
    ∃ M', F_X16_order_b27 N M 1068 row (iw (n : Int)) kd fl (iw (by' : Int)) = some M' ∧ m_nx M' = m_nx M ∧ m_sl M' = m_sl M ∧ Df (fun a _ => a = 1084 ∨ a = 1085) n2 n2 M M' ∧ OM M' row n v (srl (ltB fl (fun i => lnT kd (v i))) n f by' P) := by
  have hx : xN = 1099511627776 := rfl
  intro f
  induction f with
  | zero =>
    intro N by' P M h1 hN h2 h3 hP s
    obtain ⟨N, rfl⟩ : ∃ x, N = x + 1 := ⟨N - 1, by omega⟩
    refine ⟨M, ?_, rfl, rfl, Df.refl _ _ _ _, s⟩
    show F_X16_order_b27_st (F_X16_order_b27 N) M _ _ _ _ _ _ = _
    unfold F_X16_order_b27_st
    rw [if_neg (by rw [iw_le4 (by omega) (by omega)]; omega)]
  | succ f ih =>
    intro N by' P M h1 hN h2 h3 hP s
    obtain ⟨N, rfl⟩ : ∃ x, N = x + 1 := ⟨N - 1, by omega⟩
    show ∃ M', F_X16_order_b27_st (F_X16_order_b27 N) M _ _ _ _ _ _ = _ ∧ _ ∧ _ ∧ _ ∧ OM M' row n v (if by' < n then srl (ltB fl (fun i => lnT kd (v i))) n f (2 * by') (psl (ltB fl (fun i => lnT kd (v i))) P by' n (n + 1) 0 P) else P)
    unfold F_X16_order_b27_st
    by_cases c : by' < n
    · rw [if_pos (by rw [iw_le4 (by omega) (by omega)]; exact c)]
      simp only [if_pos c]
      have hf : n < 0 + 2 * by' * (n + 1) + 1 := by
        have := Nat.mul_le_mul_right (n + 1) (show 2 ≤ 2 * by' by omega)
        omega
      obtain ⟨M1, g1, g2, g3, g4, g5, g6⟩ := M_pass (k27 := F_X16_order_b27 N) (fl := fl) hv hP hn h2 c (n + 1) xN 0 P M hf (by omega) (by omega) s (fun q hq => by omega)
      obtain ⟨M2, k1, k2, k3, k4, k5⟩ := M_back (k27 := F_X16_order_b27 N) (by' := by') (kd := kd) (fl := fl) (P := P) hn n xN 0 M1 (by omega) (by omega) (by
        obtain ⟨s1, s5, s6, s7, s8, s9⟩ := g5
        exact ⟨s1, s5, s6, s7, s8, fun q hq => by rw [s9 q hq, mix_r (by omega)]⟩) g6
      obtain ⟨M', f1, f2, f3, f4, f5⟩ := ih N (2 * by') (psl (ltB fl (fun i => lnT kd (v i))) P by' n (n + 1) 0 P) M2 (by rw [Nat.pow_succ] at h1; rw [Nat.mul_comm 2 by', Nat.mul_assoc]; rw [Nat.mul_comm (2 ^ f) 2] at h1; exact h1) (by omega) (by omega) (by omega) (psl_lt hP h2 (n + 1) 0 P hf (fun q hq => by omega)) k5
      refine ⟨M', ?_, by omega, by omega, ((g4.mono (fun _ _ q => Or.inr q) (fun _ _ q => q) (fun _ _ q => q)).trans (k4.mono (fun _ _ q => Or.inl q) (fun _ _ q => q) (fun _ _ q => q))).trans f4, f5⟩
      rw [show (0 : Int32) = iw ((0 : Nat) : Int) from rfl, g1, show (0 : Int32) = iw ((0 : Nat) : Int) from rfl, k1, f1]
    · rw [if_neg (by rw [iw_le4 (by omega) (by omega)]; exact c)]
      simp only [if_neg c]
      exact ⟨M, rfl, rfl, rfl, Df.refl _ _ _ _, s⟩
theorem M_ids {row n : Nat} {kd fl : Int32} {v : Nat → Int64} (hn : n ≤ 4096) : ∀ (e N i : Nat) (M : Mem), i + e = n → e + 1 ≤ N → ST M → m_tg M row = 1006 → n ≤ m_ln M row → m_ln M row ≤ 100000 → (∀ i, i < n → cJ M row i = v i) → (∀ q, q < i → cI M 1084 q = iw (q : Nat)) →
    ∃ M', F_X16_order_b3 N M 1068 row (iw (n : Int)) kd fl (iw (i : Int)) = F_X16_order_b27 xN M' 1068 row (iw (n : Int)) kd fl 1 ∧ m_nx M' = m_nx M ∧ m_sl M' = m_sl M ∧ Df (at1 1084) n2 n2 M M' ∧ OM M' row n v id := by
  intro e
  induction e with
  | zero =>
    intro N i M h1 hN s1 s5 s6 s7 s8 s9
    obtain ⟨N, rfl⟩ : ∃ x, N = x + 1 := ⟨N - 1, by omega⟩
    refine ⟨M, ?_, rfl, rfl, Df.refl _ _ _ _, s1, s5, s6, s7, s8, fun q hq => s9 q (by omega)⟩
    show F_X16_order_b3_st (F_X16_order_b3 N) M _ _ _ _ _ _ = _
    unfold F_X16_order_b3_st
    rw [if_neg (by rw [iw_le4 (by omega) (by omega)]; omega)]
  | succ e ih =>
    intro N i M h1 hN s1 s5 s6 s7 s8 s9
    obtain ⟨N, rfl⟩ : ∃ x, N = x + 1 := ⟨N - 1, by omega⟩
    have d1 : Df (at1 1084) n2 n2 M (wI M 1084 i (iw (i : Nat))) := Df.wI _ rfl
    obtain ⟨M', f1, f2, f3, f4, f5⟩ := ih N (i + 1) (wI M 1084 i (iw (i : Nat))) (by omega) (by omega) s1 s5 s6 s7 s8 (fun q hq => by
      rw [cI_wI]
      by_cases c : q = i
      · rw [if_pos ⟨rfl, c⟩, c]
      · rw [if_neg (fun q => c q.2)]; exact s9 q (by omega))
    refine ⟨M', ?_, f2, f3, d1.trans f4, f5⟩
    rw [← f1]
    show F_X16_order_b3_st (F_X16_order_b3 N) M _ _ _ _ _ _ = _
    unfold F_X16_order_b3_st
    rw [if_pos (by rw [iw_le4 (by omega) (by omega)]; omega)]
    simp only [g1068_1118, s1, si_of (j := i) (iw (i : Nat)) (t1084 s1) (l1084 s1) (show i < 100000 by omega) (by decide), iw_succ, Option.bind_some]
theorem M_sort {M : Mem} {row n : Nat} {kd fl : Int32} {v : Nat → Int64} (h : ST M) (hn : n ≤ 4096) (hr : m_tg M row = 1006 ∧ n ≤ m_ln M row ∧ m_ln M row ≤ 100000) (hv : ∀ i, i < n → cJ M row i = v i ∧ vb kd (v i)) :
    ∃ M', F_X16_order M 1068 row (iw (n : Int)) kd fl = some M' ∧ m_nx M' = m_nx M ∧ m_sl M' = m_sl M ∧ Df (fun a _ => a = 1084 ∨ a = 1085) n2 n2 M M' ∧ OM M' row n v (srt fl kd v n) := by
  have hx : xN = 1099511627776 := rfl
  obtain ⟨B, f1, f2, f3, f4, f5⟩ := M_ids (kd := kd) (fl := fl) (v := v) hn n xN 0 M (by omega) (by omega) h hr.1 hr.2.1 hr.2.2 (fun i hi => (hv i hi).1) (fun q hq => by omega)
  obtain ⟨M', g1, g2, g3, g4, g5⟩ := M_sort_loop (fl := fl) (fun i hi => (hv i hi).2) hn 13 xN 1 id B (by omega) (by omega) (by omega) (by omega) (fun q hq => hq) f5
  refine ⟨M', ?_, by omega, by omega, (f4.mono (fun _ _ q => Or.inl q) (fun _ _ q => q) (fun _ _ q => q)).trans g4, g5⟩
  unfold F_X16_order
  rw [show (0 : Int32) = iw ((0 : Nat) : Int) from rfl, f1]
  exact g1
