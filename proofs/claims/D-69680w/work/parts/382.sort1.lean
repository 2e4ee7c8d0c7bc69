/-! ===== ORDERS, 1: merging, both alike ===== -/
/-- one more place is written -/
def upn (O : Nat → Nat) (k x : Nat) : Nat → Nat := fun q => if q = k then x else O q
/-- two runs become one -/
def mgl (lt : Nat → Nat → Bool) (P : Nat → Nat) (mid to : Nat) : Nat → Nat → Nat → Nat → (Nat → Nat) → Nat → Nat
  | 0, _, _, _, O => O
  | e + 1, k, a, b, O => if a = mid ∨ (b < to ∧ lt (P b) (P a) = true) then mgl lt P mid to e (k + 1) a (b + 1) (upn O k (P b)) else mgl lt P mid to e (k + 1) (a + 1) b (upn O k (P a))
/-- all runs of a length -/
def psl (lt : Nat → Nat → Bool) (P : Nat → Nat) (by' n : Nat) : Nat → Nat → (Nat → Nat) → Nat → Nat
  | 0, _, O => O
  | f + 1, fr, O => if fr < n then psl lt P by' n f (fr + 2 * by') (mgl lt P (min (fr + by') n) (min (fr + 2 * by') n) (min (fr + 2 * by') n - fr) fr fr (min (fr + by') n) O) else O
/-- runs of greater and greater length -/
def srl (lt : Nat → Nat → Bool) (n : Nat) : Nat → Nat → (Nat → Nat) → Nat → Nat
  | 0, _, P => P
  | f + 1, by', P => if by' < n then srl lt n f (2 * by') (psl lt P by' n (n + 1) 0 P) else P
theorem mgl_lt {lt : Nat → Nat → Bool} {P : Nat → Nat} {mid to n : Nat} (hP : ∀ q, q < n → P q < n) (hm : mid ≤ to) (ht : to ≤ n) : ∀ (e k a b : Nat) (O : Nat → Nat), k + e = to → k + mid = a + b → a ≤ mid → b ≤ to → (∀ q, q < k → O q < n) → ∀ q, q < to → mgl lt P mid to e k a b O q < n
  | 0, k, a, b, O, h1, h2, h3, h4, h5, q, hq => h5 q (by omega)
  | e + 1, k, a, b, O, h1, h2, h3, h4, h5, q, hq => by
    show (if a = mid ∨ (b < to ∧ lt (P b) (P a) = true) then mgl lt P mid to e (k + 1) a (b + 1) (upn O k (P b)) else mgl lt P mid to e (k + 1) (a + 1) b (upn O k (P a))) q < n
    have up : ∀ x, x < n → ∀ q, q < k + 1 → upn O k x q < n := fun x hx q hq => by
      unfold upn
      by_cases c : q = k
      · rw [if_pos c]; exact hx
      · rw [if_neg c]; exact h5 q (by omega)
    by_cases c : a = mid ∨ (b < to ∧ lt (P b) (P a) = true)
    · rw [if_pos c]
      have hb : b < to := by rcases c with c | c <;> omega
      exact mgl_lt hP hm ht e (k + 1) a (b + 1) _ (by omega) (by omega) h3 (by omega) (up _ (hP b (by omega))) q hq
    · rw [if_neg c]
      have ha : a < mid := by
        rcases Nat.lt_or_ge a mid with q | q
        · exact q
        · exact absurd (Or.inl (by omega)) c
      exact mgl_lt hP hm ht e (k + 1) (a + 1) b _ (by omega) (by omega) (by omega) h4 (up _ (hP a (by omega))) q hq
theorem psl_lt {lt : Nat → Nat → Bool} {P : Nat → Nat} {by' n : Nat} (hP : ∀ q, q < n → P q < n) (hb : 1 ≤ by') : ∀ (f fr : Nat) (O : Nat → Nat), n < fr + 2 * by' * f + 1 → (∀ q, q < fr → q < n → O q < n) → ∀ q, q < n → psl lt P by' n f fr O q < n
  | 0, fr, O, h1, h2, q, hq => h2 q (by omega) hq
  | f + 1, fr, O, h1, h2, q, hq => by
    show (if fr < n then psl lt P by' n f (fr + 2 * by') (mgl lt P (min (fr + by') n) (min (fr + 2 * by') n) (min (fr + 2 * by') n - fr) fr fr (min (fr + by') n) O) else O) q < n
    by_cases c : fr < n
    · rw [if_pos c]
      refine psl_lt hP hb f (fr + 2 * by') _ ?_ (fun x hx hx2 => ?_) q hq
      · rw [Nat.mul_succ] at h1
        omega
      · exact mgl_lt hP (by omega) (by omega) (min (fr + 2 * by') n - fr) fr fr (min (fr + by') n) O (by omega) (by omega) (by omega) (by omega) (fun y hy => h2 y hy (by omega)) x (by omega)
    · rw [if_neg c]
      exact h2 q (by omega) hq
/-- order of keys, rising or falling -/
def ltB (fl : Int32) (key : Nat → Int) (x y : Nat) : Bool := if fl = 0 then decide (key x < key y) else decide (key y < key x)
/-- an Orders and its two rows -/
def OB (o pl ot : Nat) : Prop := (o = 1022 ∧ pl = 1023 ∧ ot = 1024) ∨ (o = 1044 ∧ pl = 1045 ∧ ot = 1046)
theorem OB.f {o pl ot : Nat} (b : OB o pl ot) {M : Mem} (h : ST M) : gr M o 512 = some pl ∧ gr M o 513 = some ot ∧ gr M o 514 = some (cR M o 514) ∧ gi M o 515 = some (cI M o 515) ∧ gi M o 516 = some (cI M o 516) ∧ vg M o 8 = some () ∧ m_tg M pl = 1005 ∧ m_ln M pl = 4096 ∧ m_tg M ot = 1005 ∧ m_ln M ot = 4096 := by
  rcases b with ⟨rfl, rfl, rfl⟩ | ⟨rfl, rfl, rfl⟩
  · exact ⟨g1022_512 h, g1022_513 h, g1022_514 h, g1022_515 h, g1022_516 h, v1022 h, t1023 h, l1023 h, t1024 h, l1024 h⟩
  · exact ⟨g1044_512 h, g1044_513 h, g1044_514 h, g1044_515 h, g1044_516 h, v1044 h, t1045 h, l1045 h, t1046 h, l1046 h⟩
theorem OB.ne {o pl ot : Nat} (b : OB o pl ot) : o ≠ pl ∧ o ≠ ot ∧ pl ≠ ot ∧ o < 1334 ∧ pl < 1334 ∧ ot < 1334 ∧ 1022 ≤ o ∧ 1022 ≤ pl ∧ 1022 ≤ ot := by
  rcases b with ⟨rfl, rfl, rfl⟩ | ⟨rfl, rfl, rfl⟩ <;> decide
/-- what sorting stands on -/
def OS (M : Mem) (o pl row n : Nat) (kd fl : Int32) (v : Nat → Int64) (P : Nat → Nat) : Prop :=
  ST M ∧ cR M o 514 = row ∧ cI M o 515 = kd ∧ cI M o 516 = fl ∧ m_tg M row = 1006 ∧ n ≤ m_ln M row ∧ m_ln M row ≤ 100000 ∧ (∀ i, i < n → cJ M row i = v i) ∧ ∀ q, q < n → cI M pl q = iw (P q : Nat)
theorem OS.ot {M : Mem} {o pl ot row n i : Nat} {kd fl x : Int32} {v : Nat → Int64} {P : Nat → Nat} (b : OB o pl ot) (s : OS M o pl row n kd fl v P) : OS (wI M ot i x) o pl row n kd fl v P := by
  obtain ⟨s1, s2, s3, s4, s5, s6, s7, s8, s9⟩ := s
  obtain ⟨b1, b2, b3, -⟩ := b.ne
  refine ⟨s1, s2, ?_, ?_, s5, s6, s7, s8, fun q hq => ?_⟩
  · rw [cI_wI, if_neg (fun q => b2 q.1)]; exact s3
  · rw [cI_wI, if_neg (fun q => b2 q.1)]; exact s4
  · rw [cI_wI, if_neg (fun q => b3 q.1)]; exact s9 q hq
theorem E_isBefore {M : Mem} {o pl ot row n x y : Nat} {kd fl : Int32} {v : Nat → Int64} {P : Nat → Nat} (b : OB o pl ot) (hk : Lk kd) (hv : ∀ i, i < n → vb kd (v i)) (s : OS M o pl row n kd fl v P) (hx : x < n) (hy : y < n) : F_X7_isBefore M o (iw (x : Int)) (iw (y : Int)) = some (if ltB fl (fun i => lnT kd (v i)) x y = true then 1 else 0) := by
  obtain ⟨s1, s2, s3, s4, s5, s6, s7, s8, s9⟩ := s
  obtain ⟨b1, b2, b3, b4, b5, b6, b7, b8, b9, b10⟩ := b.f s1
  have a1 : al M row (iw (x : Int)) = some (v x) := by rw [al_of s5 rfl (show x < m_ln M row by omega) (by omega), s8 x hx]
  have a2 : al M row (iw (y : Int)) = some (v y) := by rw [al_of s5 rfl (show y < m_ln M row by omega) (by omega), s8 y hy]
  simp only [F_X7_isBefore, F_X7_isBefore_b48, b3, b4, b5, s2, s3, s4, a1, a2, E_order hk (hv x hx) (hv y hy), ordi_lt, ordi_gt, Option.bind_some]
  unfold ltB
  by_cases c : fl = 0
  · simp only [c, if_true, decide_eq_true_eq]
    split <;> rfl
  · simp only [c, if_false, decide_eq_true_eq]
    split <;> rfl
theorem E_join_loop {o pl ot row n mid to : Nat} {kd fl : Int32} {v : Nat → Int64} {P : Nat → Nat} (ob : OB o pl ot) (hk : Lk kd) (hv : ∀ i, i < n → vb kd (v i)) (hP : ∀ q, q < n → P q < n) (hn : n ≤ 4096) (hm : mid ≤ to) (ht : to ≤ n) : ∀ (e N k a b : Nat) (O : Nat → Nat) (M : Mem), k + e = to → e + 1 ≤ N → k + mid = a + b → a ≤ mid → b ≤ to → OS M o pl row n kd fl v P → (∀ q, q < k → cI M ot q = iw (O q : Nat)) →
    ∃ M', F_X7_join_b9 N M o (iw (mid : Int)) (iw (to : Int)) (iw (a : Int)) (iw (b : Int)) (iw (k : Int)) = some M' ∧ m_nx M' = m_nx M ∧ m_sl M' = m_sl M ∧ Df (at1 ot) n2 n2 M M' ∧ OS M' o pl row n kd fl v P ∧ ∀ q, q < to → cI M' ot q = iw (mgl (ltB fl (fun i => lnT kd (v i))) P mid to e k a b O q : Nat) := by
  intro e
  induction e with
  | zero =>
    intro N k a b O M h1 hN h2 h3 h4 s hO
    obtain ⟨N, rfl⟩ : ∃ x, N = x + 1 := ⟨N - 1, by omega⟩
    refine ⟨M, ?_, rfl, rfl, Df.refl _ _ _ _, s, fun q hq => hO q (by omega)⟩
    show F_X7_join_b9_st (F_X7_join_b9 N) M _ _ _ _ _ _ = _
    unfold F_X7_join_b9_st
    rw [if_neg (by rw [iw_le4 (by omega) (by omega)]; omega)]
  | succ e ih =>
    intro N k a b O M h1 hN h2 h3 h4 s hO
    obtain ⟨N, rfl⟩ : ∃ x, N = x + 1 := ⟨N - 1, by omega⟩
    have s' := s
    obtain ⟨s1, s2, s3, s4, s5, s6, s7, s8, s9⟩ := s'
    obtain ⟨b1, b2, b3, b4, b5, b6, b7, b8, b9, b10⟩ := ob.f s1
    have n10 : ¬ (1 : Int32) = 0 := by decide
    have pa : ∀ x, x < n → ai M pl (iw (x : Int)) = some (iw (P x : Nat)) := fun x hx => by rw [ai_of b7 b8 (by omega) (by decide), s9 x hx]
    have st : ∀ x : Nat, si M ot (iw (k : Int)) (iw (x : Nat)) = some (wI M ot k (iw (x : Nat))) := fun x => si_of _ b9 b10 (by omega) (by decide)
    have ho : ∀ x : Nat, ∀ q, q < k + 1 → cI (wI M ot k (iw (x : Nat))) ot q = iw (upn O k x q : Nat) := fun x q hq => by
      unfold upn
      rw [cI_wI]
      by_cases c : q = k
      · rw [if_pos ⟨rfl, c⟩, if_pos c]
      · rw [if_neg (fun q => c q.2), if_neg c]; exact hO q (by omega)
    have dd : ∀ x : Nat, Df (at1 ot) n2 n2 M (wI M ot k (iw (x : Nat))) := fun x => Df.wI _ rfl
    have qk : iw (a : Int) = iw (mid : Int) ↔ a = mid := by rw [iw_eq (by omega) (by omega) (by omega) (by omega)]; omega
    have qb : iw (b : Int) < iw (to : Int) ↔ b < to := iw_le4 (by omega) (by omega)
    -- both ways
    have two : a = mid ∨ (b < to ∧ ltB fl (fun i => lnT kd (v i)) (P b) (P a) = true) → F_X7_join_b9 (N + 1) M o (iw (mid : Int)) (iw (to : Int)) (iw (a : Int)) (iw (b : Int)) (iw (k : Int)) = F_X7_join_b9 N (wI M ot k (iw (P b : Nat))) o (iw (mid : Int)) (iw (to : Int)) (iw (a : Int)) (iw ((b + 1 : Nat) : Int)) (iw ((k + 1 : Nat) : Int)) := by
      intro c
      have hb : b < to := by rcases c with c | c <;> omega
      show F_X7_join_b9_st (F_X7_join_b9 N) M _ _ _ _ _ _ = _
      unfold F_X7_join_b9_st F_X7_join_b48 F_X7_join_b52 F_X7_join_b53 F_X7_join_b83 F_X7_join_b98
      rw [if_pos (by rw [iw_le4 (by omega) (by omega)]; omega)]
      by_cases ca : a = mid
      · simp only [qk, ca, if_true, b1, b2, n10, if_false, pa b (by omega), st, iw_succ, Option.bind_some]
      · have hl : ltB fl (fun i => lnT kd (v i)) (P b) (P a) = true := by rcases c with c | c; exact absurd c ca; exact c.2
        have hbf := E_isBefore ob hk hv s (hP b (by omega)) (hP a (by omega))
        rw [if_pos hl] at hbf
        simp only [qk, ca, qb, hb, if_true, b1, b2, b6, n10, if_false, pa b (by omega), pa a (by omega), hbf, st, iw_succ, Option.bind_some]
    have one : ¬ (a = mid ∨ (b < to ∧ ltB fl (fun i => lnT kd (v i)) (P b) (P a) = true)) → F_X7_join_b9 (N + 1) M o (iw (mid : Int)) (iw (to : Int)) (iw (a : Int)) (iw (b : Int)) (iw (k : Int)) = F_X7_join_b9 N (wI M ot k (iw (P a : Nat))) o (iw (mid : Int)) (iw (to : Int)) (iw ((a + 1 : Nat) : Int)) (iw (b : Int)) (iw ((k + 1 : Nat) : Int)) := by
      intro c
      have ca : ¬ a = mid := fun q => c (Or.inl q)
      show F_X7_join_b9_st (F_X7_join_b9 N) M _ _ _ _ _ _ = _
      unfold F_X7_join_b9_st F_X7_join_b48 F_X7_join_b52 F_X7_join_b53 F_X7_join_b83 F_X7_join_b98
      rw [if_pos (by rw [iw_le4 (by omega) (by omega)]; omega)]
      by_cases hb : b < to
      · have hl : ¬ ltB fl (fun i => lnT kd (v i)) (P b) (P a) = true := fun q => c (Or.inr ⟨hb, q⟩)
        have hbf := E_isBefore ob hk hv s (hP b (by omega)) (hP a (by omega))
        rw [if_neg hl] at hbf
        simp only [qk, ca, qb, hb, if_true, b1, b2, b6, if_false, pa b (by omega), pa a (by omega), hbf, st, iw_succ, Option.bind_some]
      · simp only [qk, ca, qb, hb, if_true, b1, b2, if_false, pa a (by omega), st, iw_succ, Option.bind_some]
    show ∃ M', _ ∧ _ ∧ _ ∧ _ ∧ _ ∧ ∀ q, q < to → cI M' ot q = iw ((if a = mid ∨ (b < to ∧ ltB fl (fun i => lnT kd (v i)) (P b) (P a) = true) then mgl (ltB fl (fun i => lnT kd (v i))) P mid to e (k + 1) a (b + 1) (upn O k (P b)) else mgl (ltB fl (fun i => lnT kd (v i))) P mid to e (k + 1) (a + 1) b (upn O k (P a))) q : Nat)
    by_cases c : a = mid ∨ (b < to ∧ ltB fl (fun i => lnT kd (v i)) (P b) (P a) = true)
    · have hb : b < to := by rcases c with c | c <;> omega
      obtain ⟨M', f1, f2, f3, f4, f5, f6⟩ := ih N (k + 1) a (b + 1) (upn O k (P b)) (wI M ot k (iw (P b : Nat))) (by omega) (by omega) (by omega) h3 (by omega) (s.ot ob) (ho (P b))
      refine ⟨M', by rw [two c, f1], f2, f3, (dd _).trans f4, f5, fun q hq => ?_⟩
      rw [if_pos c]
      exact f6 q hq
    · have ha : a < mid := by
        rcases Nat.lt_or_ge a mid with q | q
        · exact q
        · exact absurd (Or.inl (by omega)) c
      obtain ⟨M', f1, f2, f3, f4, f5, f6⟩ := ih N (k + 1) (a + 1) b (upn O k (P a)) (wI M ot k (iw (P a : Nat))) (by omega) (by omega) (by omega) (by omega) h4 (s.ot ob) (ho (P a))
      refine ⟨M', by rw [one c, f1], f2, f3, (dd _).trans f4, f5, fun q hq => ?_⟩
      rw [if_neg c]
      exact f6 q hq
