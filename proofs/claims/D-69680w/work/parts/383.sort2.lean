/-! ===== ORDERS, 2: sorting, the engine ===== -/
theorem J_min2 {x y : Nat} (hx : x ≤ 2147483647) (hy : y ≤ 2147483647) : F_J7_min_2 (iw (x : Int)) (iw (y : Int)) = some (iw ((min x y : Nat) : Int)) := by
  unfold F_J7_min_2 F_J7_min_2_b10
  by_cases c : y < x
  · rw [if_pos ((iw_le4 hy hx).mpr c), show min x y = y by omega]
  · rw [if_neg (fun q => c ((iw_le4 hy hx).mp q)), show min x y = x by omega]
theorem iw_2mul (x : Nat) : (2 : Int32) * iw (x : Int) = iw ((2 * x : Nat) : Int) := by rw [show (2 : Int32) = iw 2 from rfl, iw_mul]; rfl
theorem iw_mul2 (x : Nat) : iw (x : Int) * (2 : Int32) = iw ((2 * x : Nat) : Int) := by rw [show (2 : Int32) = iw 2 from rfl, iw_mul]; congr 1; omega
theorem iw_nadd (x y : Nat) : iw (x : Int) + iw (y : Int) = iw ((x + y : Nat) : Int) := by rw [iw_add]; rfl
theorem E_pass {k43 : Mem → Nat → Int32 → Int32 → Option Mem} {o pl ot row n by' : Nat} {kd fl : Int32} {v : Nat → Int64} {P : Nat → Nat} (ob : OB o pl ot) (hk : Lk kd) (hv : ∀ i, i < n → vb kd (v i)) (hP : ∀ q, q < n → P q < n) (hn : n ≤ 4096) (hb : 1 ≤ by') (hb2 : by' < n) : ∀ (f N fr : Nat) (O : Nat → Nat) (M : Mem), n < fr + 2 * by' * f + 1 → f + 1 ≤ N → fr ≤ 20000 → OS M o pl row n kd fl v P → (∀ q, q < fr → q < n → cI M ot q = iw (O q : Nat)) →
    ∃ M', F_X7_sort_b52 k43 N M o (iw (n : Int)) (iw (by' : Int)) (iw (fr : Int)) = F_X7_sort_b99 k43 xN M' o (iw (n : Int)) (iw (by' : Int)) 0 ∧ m_nx M' = m_nx M ∧ m_sl M' = m_sl M ∧ Df (at1 ot) n2 n2 M M' ∧ OS M' o pl row n kd fl v P ∧ ∀ q, q < n → cI M' ot q = iw (psl (ltB fl (fun i => lnT kd (v i))) P by' n f fr O q : Nat) := by
  have hx : xN = 1099511627776 := rfl
  intro f
  induction f with
  | zero =>
    intro N fr O M h1 hN h2 s hO
    obtain ⟨N, rfl⟩ : ∃ x, N = x + 1 := ⟨N - 1, by omega⟩
    refine ⟨M, ?_, rfl, rfl, Df.refl _ _ _ _, s, fun q hq => hO q (by omega) hq⟩
    show F_X7_sort_b52_st k43 (F_X7_sort_b52 k43 N) M _ _ _ _ = _
    unfold F_X7_sort_b52_st
    rw [if_neg (by rw [iw_le4 (by omega) (by omega)]; omega)]
  | succ f ih =>
    intro N fr O M h1 hN h2 s hO
    obtain ⟨N, rfl⟩ : ∃ x, N = x + 1 := ⟨N - 1, by omega⟩
    show ∃ M', F_X7_sort_b52_st k43 (F_X7_sort_b52 k43 N) M _ _ _ _ = _ ∧ _ ∧ _ ∧ _ ∧ _ ∧ ∀ q, q < n → cI M' ot q = iw ((if fr < n then psl (ltB fl (fun i => lnT kd (v i))) P by' n f (fr + 2 * by') (mgl (ltB fl (fun i => lnT kd (v i))) P (min (fr + by') n) (min (fr + 2 * by') n) (min (fr + 2 * by') n - fr) fr fr (min (fr + by') n) O) else O) q : Nat)
    unfold F_X7_sort_b52_st
    by_cases c : fr < n
    · rw [if_pos (by rw [iw_le4 (by omega) (by omega)]; exact c)]
      simp only [iw_2mul, iw_nadd, J_min2 (show fr + by' ≤ 2147483647 by omega) (show n ≤ 2147483647 by omega), J_min2 (show fr + 2 * by' ≤ 2147483647 by omega) (show n ≤ 2147483647 by omega), (ob.f s.1).2.2.2.2.2.1, Option.bind_some, if_pos c]
      obtain ⟨M1, g1, g2, g3, g4, g5, g6⟩ := E_join_loop ob hk hv hP hn (mid := min (fr + by') n) (to := min (fr + 2 * by') n) (by omega) (by omega) (min (fr + 2 * by') n - fr) xN fr fr (min (fr + by') n) O M (by omega) (by omega) (by omega) (by omega) (by omega) s (fun q hq => hO q hq (by omega))
      unfold F_X7_join
      rw [g1]
      simp only [Option.bind_some]
      obtain ⟨M', f1, f2, f3, f4, f5, f6⟩ := ih N (fr + 2 * by') (mgl (ltB fl (fun i => lnT kd (v i))) P (min (fr + by') n) (min (fr + 2 * by') n) (min (fr + 2 * by') n - fr) fr fr (min (fr + by') n) O) M1 (by rw [Nat.mul_succ] at h1; omega) (by omega) (by omega) g5 (fun q hq hq2 => g6 q (by omega))
      exact ⟨M', f1, by omega, by omega, g4.trans f4, f5, f6⟩
    · rw [if_neg (by rw [iw_le4 (by omega) (by omega)]; exact c)]
      simp only [if_neg c]
      exact ⟨M, rfl, rfl, rfl, Df.refl _ _ _ _, s, fun q hq => hO q (by omega) hq⟩
def mix (O P : Nat → Nat) (i q : Nat) : Nat := if q < i then O q else P q
theorem mix_l {O P : Nat → Nat} {i q : Nat} (h : q < i) : mix O P i q = O q := by unfold mix; rw [if_pos h]
theorem mix_r {O P : Nat → Nat} {i q : Nat} (h : ¬ q < i) : mix O P i q = P q := by unfold mix; rw [if_neg h]
/-- places are written anew -/
theorem E_back {k43 : Mem → Nat → Int32 → Int32 → Option Mem} {o pl ot row n by' : Nat} {kd fl : Int32} {v : Nat → Int64} {P O : Nat → Nat} (ob : OB o pl ot) (hn : n ≤ 4096) : ∀ (e N i : Nat) (M : Mem), i + e = n → e + 1 ≤ N → OS M o pl row n kd fl v (mix O P i) → (∀ q, q < n → cI M ot q = iw (O q : Nat)) →
    ∃ M', F_X7_sort_b99 k43 N M o (iw (n : Int)) (iw (by' : Int)) (iw (i : Int)) = k43 M' o (iw (n : Int)) (iw ((2 * by' : Nat) : Int)) ∧ m_nx M' = m_nx M ∧ m_sl M' = m_sl M ∧ Df (at1 pl) n2 n2 M M' ∧ OS M' o pl row n kd fl v O := by
  intro e
  induction e with
  | zero =>
    intro N i M h1 hN s hO
    obtain ⟨N, rfl⟩ : ∃ x, N = x + 1 := ⟨N - 1, by omega⟩
    refine ⟨M, ?_, rfl, rfl, Df.refl _ _ _ _, ?_⟩
    · show F_X7_sort_b99_st k43 (F_X7_sort_b99 k43 N) M _ _ _ _ = _
      unfold F_X7_sort_b99_st
      rw [if_neg (by rw [iw_le4 (by omega) (by omega)]; omega), iw_mul2]
    · obtain ⟨s1, s2, s3, s4, s5, s6, s7, s8, s9⟩ := s
      exact ⟨s1, s2, s3, s4, s5, s6, s7, s8, fun q hq => by rw [s9 q hq, mix_l (by omega)]⟩
  | succ e ih =>
    intro N i M h1 hN s hO
    obtain ⟨N, rfl⟩ : ∃ x, N = x + 1 := ⟨N - 1, by omega⟩
    have s' := s
    obtain ⟨s1, s2, s3, s4, s5, s6, s7, s8, s9⟩ := s'
    obtain ⟨b1, b2, b3, b4, b5, b6, b7, b8, b9, b10⟩ := ob.f s1
    obtain ⟨n1, n2', n3, -⟩ := ob.ne
    have d1 : Df (at1 pl) n2 n2 M (wI M pl i (iw (O i : Nat))) := Df.wI _ rfl
    obtain ⟨M', f1, f2, f3, f4, f5⟩ := ih N (i + 1) (wI M pl i (iw (O i : Nat))) (by omega) (by omega) ⟨s1, s2, by rw [cI_wI, if_neg (fun q => n1 q.1)]; exact s3, by rw [cI_wI, if_neg (fun q => n1 q.1)]; exact s4, s5, s6, s7, s8, fun q hq => by
      rw [cI_wI]
      by_cases c : q = i
      · rw [if_pos ⟨rfl, c⟩, mix_l (by omega), c]
      · rw [if_neg (fun q => c q.2), s9 q hq]
        by_cases c' : q < i
        · rw [mix_l c', mix_l (by omega)]
        · rw [mix_r c', mix_r (by omega)]⟩ (fun q hq => by rw [cI_wI, if_neg (fun q => n3 q.1.symm)]; exact hO q hq)
    refine ⟨M', ?_, f2, f3, d1.trans f4, f5⟩
    rw [← f1]
    show F_X7_sort_b99_st k43 (F_X7_sort_b99 k43 N) M _ _ _ _ = _
    unfold F_X7_sort_b99_st
    have a1 : ai M ot (iw (i : Int)) = some (iw (O i : Nat)) := by rw [ai_of b9 b10 (by omega) (by decide), hO i (by omega)]
    rw [if_pos (by rw [iw_le4 (by omega) (by omega)]; omega)]
    simp only [b1, b2, a1, si_of (j := i) (iw (O i : Nat)) b7 b8 (show i < 4096 by omega) (by decide), iw_succ, Option.bind_some]
theorem E_sort_loop {o pl ot row n : Nat} {kd fl : Int32} {v : Nat → Int64} (ob : OB o pl ot) (hk : Lk kd) (hv : ∀ i, i < n → vb kd (v i)) (hn : n ≤ 4096) : ∀ (f N by' : Nat) (P : Nat → Nat) (M : Mem), n ≤ by' * 2 ^ f → f + 1 ≤ N → 1 ≤ by' → by' ≤ 8192 → (∀ q, q < n → P q < n) → OS M o pl row n kd fl v P →
    ∃ M', F_X7_sort_b43 N M o (iw (n : Int)) (iw (by' : Int)) = some M' ∧ m_nx M' = m_nx M ∧ m_sl M' = m_sl M ∧ Df (fun a _ => a = pl ∨ a = ot) n2 n2 M M' ∧ OS M' o pl row n kd fl v (srl (ltB fl (fun i => lnT kd (v i))) n f by' P) ∧ ∀ q, q < n → srl (ltB fl (fun i => lnT kd (v i))) n f by' P q < n := by
  have hx : xN = 1099511627776 := rfl
  intro f
  induction f with
  | zero =>
    intro N by' P M h1 hN h2 h3 hP s
    obtain ⟨N, rfl⟩ : ∃ x, N = x + 1 := ⟨N - 1, by omega⟩
    refine ⟨M, ?_, rfl, rfl, Df.refl _ _ _ _, s, hP⟩
    show F_X7_sort_b43_st (F_X7_sort_b43 N) M _ _ _ = _
    unfold F_X7_sort_b43_st
    rw [if_neg (by rw [iw_le4 (by omega) (by omega)]; omega)]
  | succ f ih =>
    intro N by' P M h1 hN h2 h3 hP s
    obtain ⟨N, rfl⟩ : ∃ x, N = x + 1 := ⟨N - 1, by omega⟩
    show ∃ M', F_X7_sort_b43_st (F_X7_sort_b43 N) M _ _ _ = _ ∧ _ ∧ _ ∧ _ ∧ OS M' o pl row n kd fl v (if by' < n then srl (ltB fl (fun i => lnT kd (v i))) n f (2 * by') (psl (ltB fl (fun i => lnT kd (v i))) P by' n (n + 1) 0 P) else P) ∧ ∀ q, q < n → (if by' < n then srl (ltB fl (fun i => lnT kd (v i))) n f (2 * by') (psl (ltB fl (fun i => lnT kd (v i))) P by' n (n + 1) 0 P) else P) q < n
    unfold F_X7_sort_b43_st
    by_cases c : by' < n
    · rw [if_pos (by rw [iw_le4 (by omega) (by omega)]; exact c)]
      simp only [if_pos c]
      have hf : n < 0 + 2 * by' * (n + 1) + 1 := by
        have := Nat.mul_le_mul_right (n + 1) (show 2 ≤ 2 * by' by omega)
        omega
      obtain ⟨M1, g1, g2, g3, g4, g5, g6⟩ := E_pass (k43 := F_X7_sort_b43 N) ob hk hv hP hn h2 c (n + 1) xN 0 P M hf (by omega) (by omega) s (fun q hq => by omega)
      obtain ⟨M2, k1, k2, k3, k4, k5⟩ := E_back (k43 := F_X7_sort_b43 N) (by' := by') (P := P) ob hn n xN 0 M1 (by omega) (by omega) (by
        obtain ⟨s1, s2, s3, s4, s5, s6, s7, s8, s9⟩ := g5
        exact ⟨s1, s2, s3, s4, s5, s6, s7, s8, fun q hq => by rw [s9 q hq, mix_r (by omega)]⟩) g6
      obtain ⟨M', f1, f2, f3, f4, f5, f6⟩ := ih N (2 * by') (psl (ltB fl (fun i => lnT kd (v i))) P by' n (n + 1) 0 P) M2 (by rw [Nat.pow_succ] at h1; rw [Nat.mul_comm 2 by', Nat.mul_assoc]; rw [Nat.mul_comm (2 ^ f) 2] at h1; exact h1) (by omega) (by omega) (by omega) (psl_lt hP h2 (n + 1) 0 P hf (fun q hq => by omega)) k5
      refine ⟨M', ?_, by omega, by omega, ((g4.mono (fun _ _ q => Or.inr q) (fun _ _ q => q) (fun _ _ q => q)).trans (k4.mono (fun _ _ q => Or.inl q) (fun _ _ q => q) (fun _ _ q => q))).trans f4, f5, f6⟩
      rw [show (0 : Int32) = iw ((0 : Nat) : Int) from rfl, g1, show (0 : Int32) = iw ((0 : Nat) : Int) from rfl, k1, f1]
    · rw [if_neg (by rw [iw_le4 (by omega) (by omega)]; exact c)]
      simp only [if_neg c]
      exact ⟨M, rfl, rfl, rfl, Df.refl _ _ _ _, s, hP⟩
theorem E_ids {o pl ot row n : Nat} {kd fl : Int32} {v : Nat → Int64} (ob : OB o pl ot) (hn : n ≤ 4096) : ∀ (e N i : Nat) (M : Mem), i + e = n → e + 1 ≤ N → (∃ P, OS M o pl row n kd fl v P ∧ ∀ q, q < i → P q = q) ∨ (OS M o pl row 0 kd fl v id ∧ n ≤ m_ln M row ∧ (∀ i, i < n → cJ M row i = v i) ∧ ∀ q, q < i → cI M pl q = iw (q : Nat)) →
    ∃ M', F_X7_sort_b19 N M o (iw (n : Int)) (iw (i : Int)) = F_X7_sort_b43 xN M' o (iw (n : Int)) 1 ∧ m_nx M' = m_nx M ∧ m_sl M' = m_sl M ∧ Df (at1 pl) n2 n2 M M' ∧ OS M' o pl row n kd fl v id := by
  intro e
  induction e with
  | zero =>
    intro N i M h1 hN hh
    obtain ⟨N, rfl⟩ : ∃ x, N = x + 1 := ⟨N - 1, by omega⟩
    refine ⟨M, ?_, rfl, rfl, Df.refl _ _ _ _, ?_⟩
    · show F_X7_sort_b19_st (F_X7_sort_b19 N) M _ _ _ = _
      unfold F_X7_sort_b19_st
      rw [if_neg (by rw [iw_le4 (by omega) (by omega)]; omega)]
    · rcases hh with ⟨P, ⟨s1, s2, s3, s4, s5, s6, s7, s8, s9⟩, hP⟩ | ⟨⟨s1, s2, s3, s4, s5, s6, s7, s8, s9⟩, t1, t2, t3⟩
      · exact ⟨s1, s2, s3, s4, s5, s6, s7, s8, fun q hq => by rw [s9 q hq, hP q (by omega)]; rfl⟩
      · exact ⟨s1, s2, s3, s4, s5, t1, s7, t2, fun q hq => t3 q (by omega)⟩
  | succ e ih =>
    intro N i M h1 hN hh
    obtain ⟨N, rfl⟩ : ∃ x, N = x + 1 := ⟨N - 1, by omega⟩
    have hs : OS M o pl row 0 kd fl v id ∧ n ≤ m_ln M row ∧ (∀ i, i < n → cJ M row i = v i) ∧ ∀ q, q < i → cI M pl q = iw (q : Nat) := by
      rcases hh with ⟨P, ⟨s1, s2, s3, s4, s5, s6, s7, s8, s9⟩, hP⟩ | hh
      · exact ⟨⟨s1, s2, s3, s4, s5, Nat.zero_le _, s7, fun i hi => by omega, fun q hq => by omega⟩, s6, s8, fun q hq => by rw [s9 q (by omega), hP q hq]⟩
      · exact hh
    obtain ⟨⟨s1, s2, s3, s4, s5, s6, s7, s8, s9⟩, t1, t2, t3⟩ := hs
    obtain ⟨b1, b2, b3, b4, b5, b6, b7, b8, b9, b10⟩ := ob.f s1
    obtain ⟨n1, n2', n3, -⟩ := ob.ne
    have d1 : Df (at1 pl) n2 n2 M (wI M pl i (iw (i : Nat))) := Df.wI _ rfl
    obtain ⟨M', f1, f2, f3, f4, f5⟩ := ih N (i + 1) (wI M pl i (iw (i : Nat))) (by omega) (by omega) (Or.inr ⟨⟨s1, s2, by rw [cI_wI, if_neg (fun q => n1 q.1)]; exact s3, by rw [cI_wI, if_neg (fun q => n1 q.1)]; exact s4, s5, s6, s7, fun i hi => by omega, fun q hq => by omega⟩, t1, t2, fun q hq => by
      rw [cI_wI]
      by_cases c : q = i
      · rw [if_pos ⟨rfl, c⟩, c]
      · rw [if_neg (fun q => c q.2)]; exact t3 q (by omega)⟩)
    refine ⟨M', ?_, f2, f3, d1.trans f4, f5⟩
    rw [← f1]
    show F_X7_sort_b19_st (F_X7_sort_b19 N) M _ _ _ = _
    unfold F_X7_sort_b19_st
    rw [if_pos (by rw [iw_le4 (by omega) (by omega)]; omega)]
    simp only [b1, si_of (j := i) (iw (i : Nat)) b7 b8 (show i < 4096 by omega) (by decide), iw_succ, Option.bind_some]
/-- the places of sorted values -/
def srt (fl : Int32) (kd : Int32) (v : Nat → Int64) (n : Nat) : Nat → Nat := srl (ltB fl (fun i => lnT kd (v i))) n 13 1 id
/-- what sorting changes -/
def pOr (o pl ot : Nat) : Nat → Nat → Prop := fun a i => (a = o ∧ (i = 515 ∨ i = 516)) ∨ a = pl ∨ a = ot
def rOr (o : Nat) : Nat → Nat → Prop := fun a i => a = o ∧ i = 514
theorem rOr_st {o pl ot : Nat} (ob : OB o pl ot) : ∀ a i, rOr o a i → rsc a i := by
  have e1 : ∀ p ∈ stR, ¬ (p.1 = 1022 ∧ p.2.1 = 514) := by decide +kernel
  have e2 : ∀ p ∈ stR, ¬ (p.1 = 1044 ∧ p.2.1 = 514) := by decide +kernel
  rintro a i ⟨rfl, rfl⟩
  rcases ob with ⟨rfl, -, -⟩ | ⟨rfl, -, -⟩
  · exact ⟨by omega, e1⟩
  · exact ⟨by omega, e2⟩
theorem pOr_sc {o pl ot : Nat} (ob : OB o pl ot) : ∀ a i, pOr o pl ot a i → psc a i := fun a i q => by
  unfold pOr at q
  unfold psc
  rcases ob with ⟨rfl, rfl, rfl⟩ | ⟨rfl, rfl, rfl⟩ <;> omega
theorem E_sort {M : Mem} {o pl ot row n : Nat} {kd fl : Int32} {v : Nat → Int64} (h : ST M) (ob : OB o pl ot) (hk : Lk kd) (hfl : fl = 0 ∨ fl = 1) (hn : n ≤ 4096) (hr : m_tg M row = 1006 ∧ n ≤ m_ln M row ∧ m_ln M row ≤ 100000) (hv : ∀ i, i < n → cJ M row i = v i ∧ vb kd (v i)) :
    ∃ M', F_X7_sort M o row (iw (n : Int)) kd fl = some M' ∧ m_nx M' = m_nx M ∧ m_sl M' = m_sl M ∧ Df (pOr o pl ot) n2 (rOr o) M M' ∧ OS M' o pl row n kd fl v (srt fl kd v n) ∧ ∀ q, q < n → srt fl kd v n q < n := by
  have hx : xN = 1099511627776 := rfl
  have p4 : ∀ N : Mem, ST N → pr N o 514 row = some (wR N o 514 row) := fun N hN => by rcases ob with ⟨rfl, rfl, rfl⟩ | ⟨rfl, rfl, rfl⟩; exact p1022_514 hN _; exact p1044_514 hN _
  have p5 : ∀ N : Mem, ST N → pi N o 515 kd = some (wI N o 515 kd) := fun N hN => by rcases ob with ⟨rfl, rfl, rfl⟩ | ⟨rfl, rfl, rfl⟩; exact p1022_515 hN _; exact p1044_515 hN _
  have p6 : ∀ N : Mem, ST N → pi N o 516 fl = some (wI N o 516 fl) := fun N hN => by rcases ob with ⟨rfl, rfl, rfl⟩ | ⟨rfl, rfl, rfl⟩; exact p1022_516 hN hfl; exact p1044_516 hN hfl
  obtain ⟨A, hA⟩ : ∃ A, A = wI (wI (wR M o 514 row) o 515 kd) o 516 fl := ⟨_, rfl⟩
  have dW : Df (pOr o pl ot) n2 (rOr o) M (wR M o 514 row) := Df.wR _ ⟨rfl, rfl⟩
  have dA : Df (pOr o pl ot) n2 (rOr o) M A := by
    rw [hA]
    exact (dW.trans (Df.wI _ (Or.inl ⟨rfl, Or.inl rfl⟩))).trans (Df.wI _ (Or.inl ⟨rfl, Or.inr rfl⟩))
  have sW : ST (wR M o 514 row) := h.df dW (fun p hp q => rsc_st p hp (rOr_st ob _ _ q))
  have sA : ST A := h.df dA (fun p hp q => rsc_st p hp (rOr_st ob _ _ q))
  have rA : ∀ i, cJ A row i = cJ M row i := fun i => by rw [hA]; rfl
  have tA : m_tg A row = 1006 := by rw [hA]; exact hr.1
  have lA : m_ln A row = m_ln M row := by rw [hA]; rfl
  obtain ⟨B, f1, f2, f3, f4, f5⟩ := E_ids (row := row) (kd := kd) (fl := fl) (v := v) ob hn n xN 0 A (by omega) (by omega) (Or.inr ⟨⟨sA, by rw [hA]; simp only [cR_wI, cR_wR, and_self, if_true], by rw [hA]; simp only [cI_wI, Nat.reduceEqDiff, and_false, if_false, and_self, if_true], by rw [hA]; simp only [cI_wI, and_self, if_true], tA, Nat.zero_le _, by rw [lA]; exact hr.2.2, fun i hi => by omega, fun q hq => by omega⟩, by rw [lA]; exact hr.2.1, fun i hi => by rw [rA]; exact (hv i hi).1, fun q hq => by omega⟩)
  obtain ⟨M', g1, g2, g3, g4, g5, g6⟩ := E_sort_loop ob hk (fun i hi => (hv i hi).2) hn 13 xN 1 id B (by omega) (by omega) (by omega) (by omega) (fun q hq => hq) f5
  refine ⟨M', ?_, by rw [g2, f2, hA]; rfl, by rw [g3, f3, hA]; rfl, (dA.trans (f4.mono (fun _ _ q => Or.inr (Or.inl q)) (fun _ _ q => q) (fun _ _ q => q.elim))).trans (g4.mono (fun _ _ q => Or.inr q) (fun _ _ q => q) (fun _ _ q => q.elim)), g5, g6⟩
  unfold F_X7_sort
  rw [p4 M h]
  simp only [Option.bind_some]
  rw [p5 _ sW]
  simp only [Option.bind_some]
  rw [p6 (wI (wR M o 514 row) o 515 kd) sW]
  simp only [Option.bind_some]
  rw [← hA, show (0 : Int32) = iw ((0 : Nat) : Int) from rfl, f1]
  exact g1
