/-! ===== THE LOG, 10: the engine opens it again ===== -/
theorem un_i64 {x : Nat} (h : x < 2147483648) : un (iw (x : Int)).toInt64 = x := by rw [i64_iw h, un_nl' (by omega)]
theorem Rec.rcs {f : Nat → Int32} {rs : List Nat} (hs : rs.sum ≤ 60000) (h : ∀ i, i < rs.length → Rec f (lst rs i) (rs.getD i 0)) : RcS f rs rs.length := by
  intro i hi
  have hl := lst_le rs i hi
  obtain ⟨nl, k, n, z, val, q1, q2, q3, q4, q5, q6, q7, q8, q9, q10, qn, q11, q12⟩ := h i hi
  refine ⟨?_, by omega, nl, q1, q2, by omega, q10⟩
  rw [nbs_bev _ 4 _ (by decide) q11, un_i64 (by omega)]
  exact Nat.mod_eq_of_lt (by omega)
theorem lst_mono {rs : List Nat} {i : Nat} : ∀ j, i + j ≤ rs.length → lst rs i ≤ lst rs (i + j)
  | 0, _ => Nat.le_refl _
  | j + 1, h => by
    have := lst_mono (rs := rs) (i := i) j (by omega)
    have e := lst_succ (rs := rs) (i := i + j) (by omega)
    rw [show i + (j + 1) = i + j + 1 by omega, e]
    omega
theorem lst_mono' {rs : List Nat} {i j : Nat} (h : i ≤ j) (hj : j ≤ rs.length) : lst rs i ≤ lst rs j := by
  have := lst_mono (rs := rs) (i := i) (j - i) (by omega)
  rw [show i + (j - i) = j by omega] at this
  exact this
theorem lst_sum' {rs : List Nat} {i : Nat} (h : i ≤ rs.length) : lst rs i ≤ rs.sum := by
  rw [← lst_end rs]
  exact lst_mono' h (Nat.le_refl _)
theorem RcS.congr {f g : Nat → Int32} {rs : List Nat} {m : Nat} (hm : m ≤ rs.length) (h : RcS f rs m) (e : ∀ j, j < lst rs m → g j = f j) : RcS g rs m := by
  intro i hi
  obtain ⟨r1, r2, nl, r3, r4, r5, r6⟩ := h i hi
  have hl : lst rs i + rs.getD i 0 ≤ lst rs m := by
    rw [← lst_succ (by omega)]
    exact lst_mono' (by omega) hm
  refine ⟨?_, r2, nl, r3, r4, r5, ?_⟩
  · rw [← r1]
    exact bev_congr 4 _ _ (fun x hx => e _ (by omega))
  · rw [e _ (by omega)]; exact r6
/-- a record is there whole -/
def whr (f t : Nat → Int32) (rs : List Nat) (n i : Nat) : Bool := decide (lst rs (i + 1) ≤ n) && eqn f t (rs.getD i 0) (lst rs i)
/-- how many are, from the first on -/
def gdn (p : Nat → Bool) : Nat → Nat → Nat
  | 0, i => i
  | e + 1, i => if p i = true then gdn p e (i + 1) else i
theorem gdn_ge (p : Nat → Bool) : ∀ e i, i ≤ gdn p e i ∧ gdn p e i ≤ i + e
  | 0, i => ⟨Nat.le_refl _, Nat.le_refl _⟩
  | e + 1, i => by
    show i ≤ (if p i = true then gdn p e (i + 1) else i) ∧ (if p i = true then gdn p e (i + 1) else i) ≤ i + (e + 1)
    have := gdn_ge p e (i + 1)
    split <;> omega
theorem gdn_t (p : Nat → Bool) : ∀ e i j, i ≤ j → j < gdn p e i → p j = true
  | 0, i, j, h1, h2 => by
    have h2 : j < i := h2
    omega
  | e + 1, i, j, h1, h2 => by
    have h2 : j < (if p i = true then gdn p e (i + 1) else i) := h2
    by_cases c : p i = true
    · rw [if_pos c] at h2
      by_cases cj : j = i
      · rw [cj]; exact c
      · exact gdn_t p e (i + 1) j (by omega) h2
    · rw [if_neg c] at h2
      omega
theorem bhd_loop {M : Mem} {a l : Nat} (h : ST M) (hl : a + l ≤ 60000) : ∀ (e N k : Nat), k + e = a + l → F_X14_behind_b44 (N + 1 + e) M 1051 (iw (a : Int)) (iw (l : Int)) (iw (k : Int)) = some (if eqn (cI M 1053) (cI M 1055) e k = true then iw ((a + l : Nat) : Int) else -1)
  | 0, N, k, hk => by
    show F_X14_behind_b44_st (F_X14_behind_b44 N) M _ _ _ _ = some (iw ((a + l : Nat) : Int))
    unfold F_X14_behind_b44_st
    rw [iw_nad, if_neg (by rw [iw_le4 (by omega) (by omega)]; omega)]
  | e + 1, N, k, hk => by
    show F_X14_behind_b44_st (F_X14_behind_b44 (N + 1 + e)) M _ _ _ _ = some (if (decide (cI M 1053 k = cI M 1055 k) && eqn (cI M 1053) (cI M 1055) e (k + 1)) = true then iw ((a + l : Nat) : Int) else -1)
    unfold F_X14_behind_b44_st
    rw [iw_nad, if_pos (by rw [iw_le4 (by omega) (by omega)]; omega)]
    simp only [g1051_960, g1051_961, g1052_1024, g1054_1024, h, ab_of (Or.inr (Or.inl (t1053 h))) (l1053 h) (show k < 60000 by omega) (by decide), ab_of (Or.inr (Or.inl (t1055 h))) (l1055 h) (show k < 60000 by omega) (by decide), iw_succ, Option.bind_some]
    by_cases c : cI M 1053 k = cI M 1055 k
    · rw [if_pos c, decide_eq_true c, bhd_loop h hl e N (k + 1) (by omega), Bool.true_and]
    · rw [if_neg c, decide_eq_false c, Bool.false_and, if_neg (by decide)]
theorem iw_big {v : Nat} (h1 : 2147483648 ≤ v) (h2 : v < 4294967296) : (iw (v : Int)).toInt = (v : Int) - 4294967296 := by
  have e := ui_int (iw (v : Int))
  rw [iw_ni, ui_ni h2] at e
  rw [iw_ni]
  have b1 := Int32.le_toInt (ni v)
  have b2 := Int32.toInt_lt (ni v)
  omega
theorem E_behind {M : Mem} {rs : List Nat} {n i : Nat} (h : ST M) (hs : rs.sum ≤ 60000) (hn : n ≤ rs.sum) (hc : cI M 1052 1025 = iw (n : Int)) (ht : RcS (cI M 1055) rs rs.length) (hi : i < rs.length) : F_X14_behind M 1051 (iw (lst rs i : Nat)) = some (if whr (cI M 1053) (cI M 1055) rs n i = true then iw (lst rs (i + 1) : Nat) else -1) := by
  have hxN : xN = 1099511627776 := rfl
  obtain ⟨r1, r2, nl, r3, r4, r5, r6⟩ := ht i hi
  have ls := lst_succ hi
  have ls2 : lst rs (i + 1) ≤ rs.sum := lst_sum' (by omega)
  obtain ⟨a, ha⟩ : ∃ a, a = lst rs i := ⟨_, rfl⟩
  obtain ⟨l, hl⟩ : ∃ l, l = rs.getD i 0 := ⟨_, rfl⟩
  unfold whr
  rw [ls]
  rw [← ha, ← hl] at r1 r2 ls ⊢
  rw [← ha] at r6
  rw [← hl] at r5
  unfold F_X14_behind F_X14_behind_b40
  rw [show (4 : Int32) = iw ((4 : Nat) : Int) from rfl, iw_nad]
  simp only [g1051_960, g1052_1025, h, hc, Option.bind_some]
  by_cases c1 : n < a + 4
  · rw [if_pos (by rw [iw_le4 (by omega) (by omega)]; exact c1), decide_eq_false (show ¬ a + l ≤ n by omega), Bool.false_and, if_neg (by decide)]
  · rw [if_neg (by rw [iw_le4 (by omega) (by omega)]; exact c1)]
    obtain ⟨v, hv⟩ : ∃ v, v = bev (cI M 1053) a 4 := ⟨_, rfl⟩
    have hv2 : v < 4294967296 := by rw [hv]; exact bev_lt _ 4 _
    simp only [v1051, h, E_four4 h (show a + 4 ≤ 60000 by omega), ← hv, Option.bind_some]
    rw [iw_nsub (by omega), show (13 : Int32) = iw 13 from rfl]
    -- what it says of its length is true, if the first four bytes are
    have same : eqn (cI M 1053) (cI M 1055) 4 a = true → v = l := fun q => by
      rw [eqn_iff] at q
      rw [hv, ← r1]
      exact bev_congr 4 _ _ (fun x hx => q _ (by omega) (by omega))
    by_cases cv : v = l
    · rw [cv, if_neg (by rw [iw_lt (by omega) (by omega) (by omega) (by omega)]; omega)]
      by_cases c2 : n - a < l
      · rw [if_pos (by rw [iw_le4 (by omega) (by omega)]; exact c2), decide_eq_false (show ¬ a + l ≤ n by omega), Bool.false_and, if_neg (by decide)]
      · obtain ⟨N, hN⟩ : ∃ N, N + 1 + l = xN := ⟨xN - 1 - l, by omega⟩
        rw [if_neg (by rw [iw_le4 (by omega) (by omega)]; exact c2), decide_eq_true (show a + l ≤ n by omega), Bool.true_and, ← hN]
        exact bhd_loop h (by omega) l N a (by omega)
    · have ne : ∀ m, 4 ≤ m → eqn (cI M 1053) (cI M 1055) m a = false := fun m hm => by
        cases e : eqn (cI M 1053) (cI M 1055) m a with
        | false => rfl
        | true =>
          rw [eqn_iff] at e
          exact absurd (same (by rw [eqn_iff]; exact fun j h1 h2 => e j h1 (by omega))) cv
      rw [ne l (by omega), Bool.and_false, if_neg (show ¬ (false = true) by decide)]
      by_cases c3 : iw (v : Int) < iw 13
      · rw [if_pos c3]
      · rw [if_neg c3]
        by_cases c4 : iw ((n - a : Nat) : Int) < iw (v : Int)
        · rw [if_pos c4]
        · rw [if_neg c4]
          -- then it is a number between 13 and n
          have hv3 : 13 ≤ v ∧ v ≤ n - a := by
            rw [Int32.lt_iff_toInt_lt] at c3 c4
            rw [iw_toInt (a := 13) (by decide) (by decide)] at c3
            rw [iw_toInt (a := ((n - a : Nat) : Int)) (by omega) (by omega)] at c4
            by_cases c5 : v < 2147483648
            · rw [iw_toInt (by omega) (by omega)] at c3 c4
              omega
            · have : (iw (v : Int)).toInt = (v : Int) - 4294967296 := by
                exact iw_big (by omega) hv2
              omega
          obtain ⟨N, hN⟩ : ∃ N, N + 1 + v = xN := ⟨xN - 1 - v, by omega⟩
          rw [← hN, bhd_loop h (by omega) v N a (by omega), ne v (by omega), if_neg (by decide)]
theorem E_behind0 {M : Mem} {rs : List Nat} {n : Nat} (h : ST M) (hs : rs.sum ≤ 60000) (hn : n ≤ rs.sum) (hc : cI M 1052 1025 = iw (n : Int)) : F_X14_behind M 1051 (iw (lst rs rs.length : Nat)) = some (-1) := by
  unfold F_X14_behind
  rw [lst_end, show (4 : Int32) = iw ((4 : Nat) : Int) from rfl, iw_nad]
  simp only [g1051_960, g1052_1025, h, hc, Option.bind_some]
  rw [if_pos (by rw [iw_le4 (by omega) (by omega)]; omega)]
