/-! ===== FORMULAS, 19: the model cuts a token ===== -/
/-- what cutting a token comes to -/
def ON (B0 M : Mem) (o lt lw : Nat) (f : Nat → Int32) (n dt dw : Nat) (ts : List Tok) (ws : List (List Int32)) (x : Option (Int32 × Mem)) (T : Tok) : Prop := ∃ M' dt' et' dw' ew' ws', x = some ((if T.kd = 0 ∨ T.kd = 5 then -1 else iw (T.to : Int)), M') ∧ CU B0 M' o lt lw f n dt' et' dw' ew' (ts ++ [T]) ws' ∧ ws'.length ≤ ws.length + 1 ∧ m_nx M' ≤ m_nx M + 70 ∧ m_sl M' + rcs M dt + rcs M dw ≤ m_sl M + 200 + rcs M' dt' + rcs M' dw'
section
variable {B0 M : Mem} {o lt lw n dt dw : Nat} {f : Nat → Int32} {et ew : List Nat} {ts : List Tok} {ws : List (List Int32)}
theorem ON.add (h : CU B0 M o lt lw f n dt et dw ew ts ws) {T : Tok} {s : Nat} {r : Int32} (hs : sOK M (m_nx B0) s T) (hl : ts.length ≤ 50000) (hr : r = if T.kd = 0 ∨ T.kd = 5 then -1 else iw (T.to : Int)) : ON B0 M o lt lw f n dt dw ts ws (F_X41_add M o T.kd (iw (T.pl : Int)) r s T.ln T.bt) T := by
  obtain ⟨M', dt', et', e1, e2, e3, e4⟩ := M_addT h hs hl r
  exact ⟨M', dt', et', dw, ew, ws, by rw [e1, hr], e2, by omega, by omega, by omega⟩
theorem ON.none (h : CU B0 M o lt lw f n dt et dw ew ts ws) (hl : ts.length ≤ 50000) (a : Nat) : ON B0 M o lt lw f n dt dw ts ws (F_X41_none M o (iw (a : Int))) (tkX a) := by
  have A := ON.add (T := tkX a) (s := 20) (r := -1) h ⟨fun q => ?_, fun q => absurd q (show ¬ (5 : Int32) = 4 by decide), fun _ => rfl⟩ hl (if_pos (Or.inr rfl)).symm
  · obtain ⟨M', dt', et', dw', ew', ws', e1, e2⟩ := A
    refine ⟨M', dt', et', dw', ew', ws', ?_, e2⟩
    unfold F_X41_none
    rw [h.vg, Option.bind_some, show F_X41_add M o 5 (iw (a : Int)) (-1) 20 0 0 = _ from e1]
    rfl
  · rcases q with q | q
    · exact absurd q (show ¬ (5 : Int32) = 1 by decide)
    · exact absurd q (show ¬ (5 : Int32) = 2 by decide)
theorem ON.b {x : Option (Int32 × Mem)} {T : Tok} (h : ON B0 M o lt lw f n dt dw ts ws x T) {y : Option (Int32 × Mem)} (e : y = (x.bind fun z => some (z.1, z.2))) : ON B0 M o lt lw f n dt dw ts ws y T := by
  obtain ⟨M', dt', et', dw', ew', ws', e1, e2⟩ := h
  exact ⟨M', dt', et', dw', ew', ws', by rw [e, e1]; rfl, e2⟩
theorem CU.hb (h : CU B0 M o lt lw f n dt et dw ew ts ws) : ∀ i, i < n → bt (f i) := fun i hi => (h.2.2.1.2.2.2 i hi).2
/-- names and words -/
theorem M_one132 (h : CU B0 M o lt lw f n dt et dw ew ts ws) (hl : ts.length ≤ 50000) (hl2 : ws.length ≤ 50000) {a e : Nat} (h2 : e ≤ n) (h3 : ∀ i, a ≤ i → i < e → isNm f n i = true) (ha : a ≤ e) : ON B0 M o lt lw f n dt dw ts ws (F_X41_one_b132 M o (iw (a : Int)) (iw (e : Int))) (tkW2 f a e) := by
  have n4 := h.2.2.1.2.2.1
  unfold F_X41_one_b132 tkW2
  rw [iw_nsub ha]
  by_cases c : 12 < e - a
  · rw [if_pos (by rw [show (12 : Int32) = iw ((12 : Nat) : Int) from rfl, iw_le4 (by omega) (by omega)]; exact c), if_pos c, h.vg, Option.bind_some]
    exact (ON.none h hl a).b rfl
  · rw [if_neg (by rw [show (12 : Int32) = iw ((12 : Nat) : Int) from rfl, iw_le4 (by omega) (by omega)]; exact c), if_neg c, h.vg, Option.bind_some]
    obtain ⟨s, N, dw', ew', ws', e1, e2, e3, e4, e5, e6⟩ := M_spelled h h2 h3 ha (by omega) hl2
    have nB := e2.1.2.1.1
    have b1 := e2.1.1
    have sB := e3.1.2.2.1
    obtain ⟨K, k1, k2, k3, k4, k5⟩ := M_laneOf_w e2.1.2.2.2.1 e2.1.2.2.1 e3.1.1 e3.1.2.1 e3.2.1 sB.2 (by omega) e3.1.2.2.2.2
    obtain ⟨c1, c2, c3⟩ := e2.hs e3 k2 k3
    have wK : WDm K (m_nx B0) s (sgs f a (e - a)) := e3.hs e3 k2 k3
    have eq : ∀ x, 20 ≤ x → x < 65 → F_J15_equals K s x = some (pif (sgs f a (e - a) = (cty x).1) 1 0) := fun x a1 a2 => J_eqs wK.1.1 (c1.1.2.2.2.1.sb a1 a2) (ac_txt (by omega) a1 (by omega)) (by omega)
    have fin : ∀ kd : Int32, (kd = 1 ∨ kd = 2) → (if isKy (sgs f a (e - a)) = true then (2 : Int32) else 1) = kd → ON B0 M o lt lw f n dt dw ts ws (F_X41_one_b190 K o kd (iw (a : Int)) (iw (e : Int)) s) { kd := if isKy (sgs f a (e - a)) = true then 2 else 1, pl := a, to := e, wd := sgs f a (e - a) } := fun kd hkd hk => by
      have kn0 : ¬ (kd = 0 ∨ kd = 5) := by rcases hkd with rfl | rfl <;> decide
      have hr2 : iw (e : Int) = if (if isKy (sgs f a (e - a)) = true then (2 : Int32) else 1) = 0 ∨ (if isKy (sgs f a (e - a)) = true then (2 : Int32) else 1) = 5 then -1 else iw (e : Int) := by rw [hk, if_neg kn0]
      have A := M_addT (T := { kd := if isKy (sgs f a (e - a)) = true then 2 else 1, pl := a, to := e, wd := sgs f a (e - a) }) (s := s) c1 ⟨fun _ => wK, fun q => ?_, fun q => ?_⟩ hl (iw (e : Int))
      · obtain ⟨M', dt', et', f1, f2, f3, f4⟩ := A
        refine ⟨M', dt', et', dw', ew', ws', ?_, f2, by omega, by omega, by omega⟩
        have f1' : F_X41_add K o (if isKy (sgs f a (e - a)) = true then (2 : Int32) else 1) (iw (a : Int)) (iw (e : Int)) s 0 0 = some (iw (e : Int), M') := f1
        rw [hk] at f1'
        unfold F_X41_one_b190
        rw [c1.vg, Option.bind_some, f1']
        exact congrArg (fun z => some (z, M')) hr2
      · have q' : (if isKy (sgs f a (e - a)) = true then (2 : Int32) else 1) = 4 := q
        rw [hk] at q'; rcases hkd with rfl | rfl <;> exact absurd q' (by decide)
      · have q' : (if isKy (sgs f a (e - a)) = true then (2 : Int32) else 1) = 0 ∨ (if isKy (sgs f a (e - a)) = true then (2 : Int32) else 1) = 3 ∨ (if isKy (sgs f a (e - a)) = true then (2 : Int32) else 1) = 5 := q
        rw [hk] at q'; rcases hkd with rfl | rfl <;> exact absurd q' (by decide)
    have ky : isKy (sgs f a (e - a)) = true ↔ 0 ≤ lnW (sgs f a (e - a)) ∨ sgs f a (e - a) = (cty 61).1 ∨ sgs f a (e - a) = (cty 56).1 := by
      unfold isKy
      rw [Bool.or_eq_true, Bool.or_eq_true, decide_eq_true_iff, decide_eq_true_iff, decide_eq_true_iff]
    rw [e1, Option.bind_some]
    simp only [k1, Option.bind_some, wK.1.1.vg, eq 61 (by decide) (by decide), eq 56 (by decide) (by decide), F_X41_one_b185]
    by_cases q1 : lnW (sgs f a (e - a)) < 0
    · rw [if_pos q1]
      by_cases q2 : sgs f a (e - a) = (cty 61).1
      · rw [pif_pos q2, if_neg (by decide)]
        exact fin 2 (Or.inr rfl) (if_pos (ky.mpr (Or.inr (Or.inl q2))))
      · rw [pif_neg q2, if_pos rfl]
        by_cases q3 : sgs f a (e - a) = (cty 56).1
        · rw [pif_pos q3, if_neg (by decide)]
          exact fin 2 (Or.inr rfl) (if_pos (ky.mpr (Or.inr (Or.inr q3))))
        · rw [pif_neg q3, if_pos rfl]
          exact fin 1 (Or.inl rfl) (if_neg (fun w => by rcases ky.mp w with x | x | x; exact Int32.not_lt.mpr x q1; exact q2 x; exact q3 x))
    · rw [if_neg q1]
      exact fin 2 (Or.inr rfl) (if_pos (ky.mpr (Or.inl (Int32.not_lt.mp q1))))
theorem lk_up {a : Nat} : (lk f n a < 65 ∨ (90 : Int32) < lk f n a) ↔ ¬ (a < n ∧ cU (bn (f a)) = true) := by
  have hb := bn_256 (f a)
  unfold lk cU
  by_cases c : a < n
  · rw [if_pos c, show (65 : Int32) = iw ((65 : Nat) : Int) from rfl, show (90 : Int32) = iw ((90 : Nat) : Int) from rfl, iw_le4 (by omega) (by omega), iw_le4 (by omega) (by omega), decide_eq_true_iff]
    omega
  · rw [if_neg c]
    exact ⟨fun _ q => c q.1, fun _ => Or.inl (by decide)⟩
theorem M_oneW (h : CU B0 M o lt lw f n dt et dw ew ts ws) (hl : ts.length ≤ 50000) (hl2 : ws.length ≤ 50000) {a : Nat} (ha : a ≤ n) : ON B0 M o lt lw f n dt dw ts ws (F_X41_one_b80 xN M o (iw (a : Int)) (iw (a : Int))) (tkW f n a) := by
  have hxN : xN = 1099511627776 := rfl
  have n4 := h.2.2.1.2.2.1
  obtain ⟨e, he⟩ : ∃ e, e = sc (isNm f n) n a := ⟨_, rfl⟩
  obtain ⟨s1, s2, s3, s4⟩ := sc_spec (p := isNm f n) (n := n) (fun a h => isNm_lt h) (n - a) a (by omega)
  rw [← he] at s1 s2 s3 s4
  have stp : ∀ (N i : Nat), i ≤ n → F_X41_one_b80 (N + 1) M o (iw (a : Int)) (iw (i : Int)) = if isNm f n i = true then F_X41_one_b80 N M o (iw (a : Int)) (iw ((i + 1 : Nat) : Int)) else F_X41_one_b132 M o (iw (a : Int)) (iw (i : Int)) := by
    intro N i hi
    show F_X41_one_b80_st (F_X41_one_b80 N) M o _ _ = _
    unfold F_X41_one_b80_st F_X41_one_b126
    simp only [h.vg, M_code h (show i ≤ 100000 by omega), k_letM, k_digit.2, Option.bind_some, iw_succ, mr0]
    have en : isNm f n i = (isLo f n i || isD f n i || decide (i < n ∧ cU (bn (f i)) = true)) := by
      rw [isD_eq]
      unfold isNm isLo
      by_cases c : i < n
      · simp [c]; cases cL (bn (f i)) <;> cases cU (bn (f i)) <;> cases cD (bn (f i)) <;> rfl
      · simp [c]
    rw [en]
    cases q1 : isLo f n i with
    | true => simp
    | false =>
      cases q2 : isD f n i with
      | true => simp
      | false =>
        have u := lk_up (f := f) (n := n) (a := i)
        by_cases q3 : i < n ∧ cU (bn (f i)) = true
        · have w1 : ¬ lk f n i < 65 := fun w => u.mp (Or.inl w) q3
          have w2 : ¬ (90 : Int32) < lk f n i := fun w => u.mp (Or.inr w) q3
          simp [q3, w1, w2]
        · rcases u.mpr q3 with w | w
          · simp [q3, w]
          · by_cases w1 : lk f n i < 65
            · simp [q3, w1]
            · simp [q3, w1, w]
  have loop : ∀ (m N i : Nat), i + m = e → a ≤ i → m + 1 ≤ N → F_X41_one_b80 N M o (iw (a : Int)) (iw (i : Int)) = F_X41_one_b80 (N - m) M o (iw (a : Int)) (iw (e : Int)) := by
    intro m
    induction m with
    | zero => intro N i hi ha hN; rw [show i = e by omega, Nat.sub_zero]
    | succ m ih =>
      intro N i hi hai hN
      obtain ⟨N', rfl⟩ : ∃ N', N = N' + 1 := ⟨N - 1, by omega⟩
      rw [stp N' i (by omega), if_pos (s4 i hai (by omega)), ih N' (i + 1) (by omega) (by omega) (by omega), show N' + 1 - (m + 1) = N' - m by omega]
  rw [loop (e - a) xN a (by omega) (Nat.le_refl _) (by omega)]
  obtain ⟨N2, hN2⟩ : ∃ N2, xN - (e - a) = N2 + 1 := ⟨xN - (e - a) - 1, by omega⟩
  rw [hN2, stp N2 e s2, if_neg (by rw [s3]; decide)]
  unfold tkW
  rw [← he]
  exact M_one132 h hl hl2 s2 s4 s1
end
