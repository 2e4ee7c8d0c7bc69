/-! ===== FORMULAS, 20: the model cuts numbers ===== -/
section
variable {B0 M : Mem} {o lt lw n dt dw : Nat} {f : Nat → Int32} {et ew : List Nat} {ts : List Tok} {ws : List (List Int32)}
theorem nar6 {x : UInt64} (h : okd x.toNat) : ∃ y : Int32, F_X24_narrow x.toInt64 = some y ∧ y.toInt64 &&& 4294967295 = lnB 6 x := by
  have hx : okd (un x.toInt64) := h
  refine ⟨_, X24_narrow hx, ?_⟩
  rw [lnB_6]
  rfl
theorem ON.num (h : CU B0 M o lt lw f n dt et dw ew ts ws) (hl : ts.length ≤ 50000) {a e : Nat} {l : Int32} {v : Int64} : ON B0 M o lt lw f n dt dw ts ws ((vg M o 42).bind fun _ => (F_X41_add M o 3 (iw (a : Int)) (iw (e : Int)) 20 l v).bind fun z => some (z.1, z.2)) { kd := 3, pl := a, to := e, ln := l, bt := v } := by
  have A := ON.add (T := { kd := 3, pl := a, to := e, ln := l, bt := v }) (s := 20) (r := iw (e : Int)) h ⟨fun q => ?_, fun q => absurd q (show ¬ (3 : Int32) = 4 by decide), fun _ => rfl⟩ hl (if_neg (show ¬ ((3 : Int32) = 0 ∨ (3 : Int32) = 5) by decide)).symm
  · exact A.b (by rw [h.vg, Option.bind_some])
  · rcases q with q | q
    · exact absurd q (show ¬ (3 : Int32) = 1 by decide)
    · exact absurd q (show ¬ (3 : Int32) = 2 by decide)
theorem ON.nonev (h : CU B0 M o lt lw f n dt et dw ew ts ws) (hl : ts.length ≤ 50000) (a : Nat) : ON B0 M o lt lw f n dt dw ts ws ((vg M o 42).bind fun _ => (F_X41_none M o (iw (a : Int))).bind fun z => some (z.1, z.2)) (tkX a) := (ON.none h hl a).b (by rw [h.vg, Option.bind_some])
theorem M_real219 (h : CU B0 M o lt lw f n dt et dw ew ts ws) (hl : ts.length ≤ 50000) {a e e2 : Nat} (ha : a ≤ e) (he : e < e2) (h2 : e2 ≤ n) (hd1 : ∀ i, a ≤ i → i < e → isD f n i = true) (hd2 : ∀ i, e + 1 ≤ i → i < e2 → isD f n i = true) (h3 : e2 - a - 1 ≤ 15) :
    ∀ (m N i : Nat), i + m = e2 → a ≤ i → m + 1 ≤ N → ON B0 M o lt lw f n dt dw ts ws (F_X41_number_b219 N M o (iw (a : Int)) (iw (e2 : Int)) (iw (e : Int)) (nl (rdv f a e i)) (iw (i : Int))) (if isC f n e2 70 = true then { kd := 3, pl := a, to := e2 + 1, ln := 6, bt := lnB 6 (FP.ddiv (FP.l2d (nl (rdv f a e e2))) (tn (e2 - (e + 1)))) } else { kd := 3, pl := a, to := e2, ln := 7, bt := lnB 7 (FP.ddiv (FP.l2d (nl (rdv f a e e2))) (tn (e2 - (e + 1)))) }) := by
  have n4 := h.2.2.1.2.2.1
  intro m
  induction m with
  | zero =>
    intro N i hi hai hN
    obtain ⟨N', rfl⟩ : ∃ N', N = N' + 1 := ⟨N - 1, by omega⟩
    obtain rfl : i = e2 := by omega
    have hV := rdv_lt (f := f) ha he (fun i i1 i2 => (dig_lk (hd1 i i1 i2)).2.2.2) (fun i i1 i2 => (dig_lk (hd2 i i1 i2)).2.2.2) (by omega)
    obtain ⟨q1, q2⟩ := quo_ok (V := rdv f a e i) (b := i - (e + 1)) hV (by omega)
    show ON B0 M o lt lw f n dt dw ts ws (F_X41_number_b219_st _ M o _ _ _ _ _) _
    unfold F_X41_number_b219_st
    rw [if_neg (by rw [iw_le4 (by omega) (by omega)]; omega), iw_nsub (show e ≤ i by omega), show (1 : Int32) = iw ((1 : Nat) : Int) from rfl, iw_nsub (by omega), show i - e - 1 = i - (e + 1) by omega, q2, Option.bind_some, h.vg, Option.bind_some, M_code h (show i ≤ 100000 by omega), Option.bind_some]
    by_cases c : isC f n i 70 = true
    · rw [if_pos (lk70.mpr c), if_pos c]
      obtain ⟨y, y1, y2⟩ := nar6 q1
      rw [y1, Option.bind_some, Option.bind_some, show iw (i : Int) + iw ((1 : Nat) : Int) = iw ((i + 1 : Nat) : Int) from iw_nad _ _, y2]
      have := ON.num (a := a) (e := i + 1) (l := 6) (v := lnB 6 (FP.ddiv (FP.l2d (nl (rdv f a e i))) (tn (i - (e + 1))))) h hl
      rw [h.vg] at this
      exact this
    · rw [if_neg (fun q => c (lk70.mp q)), if_neg c, Option.bind_some]
      have := ON.num (a := a) (e := i) (l := 7) (v := lnB 7 (FP.ddiv (FP.l2d (nl (rdv f a e i))) (tn (i - (e + 1))))) h hl
      rw [h.vg] at this
      exact this
  | succ m ih =>
    intro N i hi hai hN
    obtain ⟨N', rfl⟩ : ∃ N', N = N' + 1 := ⟨N - 1, by omega⟩
    have R0 := ih N' (i + 1) (by omega) (by omega) (by omega)
    show ON B0 M o lt lw f n dt dw ts ws (F_X41_number_b219_st (F_X41_number_b219 N') M o _ _ _ _ _) _
    unfold F_X41_number_b219_st F_X41_number_b252
    rw [if_pos (by rw [iw_le4 (by omega) (by omega)]; omega)]
    by_cases q : i = e
    · rw [if_pos (by rw [q])]
      simp only [iw_succ]
      have er : rdv f a e i = rdv f a e (i + 1) := by rw [q, rdv_p]
      rw [er]
      exact R0
    · rw [if_neg (by rw [iw_eq (by omega) (by omega) (by omega) (by omega)]; omega), h.vg, Option.bind_some, M_code h (show i ≤ 100000 by omega), Option.bind_some]
      obtain ⟨d1, d2, d3, d4⟩ := dig_lk (f := f) (n := n) (i := i) (by rcases Nat.lt_or_ge i e with w | w; exact hd1 i hai w; exact hd2 i (by omega) (by omega))
      simp only [d2, real_st _ _ d3 d4, iw_succ, ← rdv_s f hai q]
      exact R0
theorem M_real180 (h : CU B0 M o lt lw f n dt et dw ew ts ws) (hl : ts.length ≤ 50000) {a e : Nat} (ha : a ≤ e) (he : e + 1 ≤ n) (hd1 : ∀ i, a ≤ i → i < e → isD f n i = true) : ON B0 M o lt lw f n dt dw ts ws (F_X41_number_b180 xN M o (iw (a : Int)) (iw ((e + 1 : Nat) : Int)) (iw (e : Int))) (tkR f n a e (sc (isD f n) n (e + 1))) := by
  have n4 := h.2.2.1.2.2.1
  have hxN : xN = 1099511627776 := rfl
  obtain ⟨e2, he2⟩ : ∃ e2, e2 = sc (isD f n) n (e + 1) := ⟨_, rfl⟩
  obtain ⟨s1, s2, s3, s4⟩ := sc_spec (p := isD f n) (n := n) (fun a h => isD_lt h) (n - (e + 1)) (e + 1) (by omega)
  rw [← he2] at s1 s2 s3 s4 ⊢
  have stp : ∀ (N i : Nat), i ≤ n → F_X41_number_b180 (N + 1) M o (iw (a : Int)) (iw (i : Int)) (iw (e : Int)) = if isD f n i = true then F_X41_number_b180 N M o (iw (a : Int)) (iw ((i + 1 : Nat) : Int)) (iw (e : Int)) else (if (15 : Int32) < ((iw (i : Int) - iw (a : Int)) - (1 : Int32)) then ((vg M o 42).bind fun _ => (F_X41_none M o (iw (a : Int))).bind fun z => some (z.1, z.2)) else F_X41_number_b219 xN M o (iw (a : Int)) (iw (i : Int)) (iw (e : Int)) (0 : Int64) (iw (a : Int))) := by
    intro N i hi
    show F_X41_number_b180_st (F_X41_number_b180 N) M o _ _ _ = _
    unfold F_X41_number_b180_st
    simp only [h.vg, M_code h (show i ≤ 100000 by omega), k_digit.2, Option.bind_some, iw_succ, mr0]
    cases q2 : isD f n i with
    | true => simp
    | false => simp
  have loop : ∀ (m N i : Nat), i + m = e2 → e + 1 ≤ i → m + 1 ≤ N → F_X41_number_b180 N M o (iw (a : Int)) (iw (i : Int)) (iw (e : Int)) = F_X41_number_b180 (N - m) M o (iw (a : Int)) (iw (e2 : Int)) (iw (e : Int)) := by
    intro m
    induction m with
    | zero => intro N i hi ha hN; rw [show i = e2 by omega, Nat.sub_zero]
    | succ m ih =>
      intro N i hi hai hN
      obtain ⟨N', rfl⟩ : ∃ N', N = N' + 1 := ⟨N - 1, by omega⟩
      rw [stp N' i (by omega), if_pos (s4 i hai (by omega)), ih N' (i + 1) (by omega) (by omega) (by omega), show N' + 1 - (m + 1) = N' - m by omega]
  rw [loop (e2 - (e + 1)) xN (e + 1) (by omega) (Nat.le_refl _) (by omega)]
  obtain ⟨N2, hN2⟩ : ∃ N2, xN - (e2 - (e + 1)) = N2 + 1 := ⟨xN - (e2 - (e + 1)) - 1, by omega⟩
  rw [hN2, stp N2 e2 s2, if_neg (by rw [s3]; decide), iw_nsub (by omega), show (1 : Int32) = iw ((1 : Nat) : Int) from rfl, iw_nsub (by omega)]
  unfold tkR
  by_cases c : 15 < e2 - a - 1
  · rw [if_pos (by rw [show (15 : Int32) = iw ((15 : Nat) : Int) from rfl, iw_le4 (by omega) (by omega)]; exact c), if_pos c]
    exact ON.nonev h hl a
  · rw [if_neg (by rw [show (15 : Int32) = iw ((15 : Nat) : Int) from rfl, iw_le4 (by omega) (by omega)]; exact c), if_neg c]
    have z0 : rdv f a e a = 0 := by unfold rdv; rw [if_pos ha, Nat.sub_self]; rfl
    have R1 := M_real219 h hl ha (show e < e2 by omega) s2 hd1 s4 (by omega) (e2 - a) xN a (by omega) (Nat.le_refl _) (by omega)
    rw [z0] at R1
    have er : rdv f a e e2 = dcv f (dcv f 0 a (e - a)) (e + 1) (e2 - (e + 1)) := by unfold rdv; rw [if_neg (by omega)]
    rw [er] at R1
    exact R1
/-- whole numbers: what was read up to i -/
def gv (V : Nat) : Int64 := if 9223372036854775807 < V then 0 else nl V
def gf (V : Nat) : Int32 := if 9223372036854775807 < V then 1 else 0
theorem M_numTail (h : CU B0 M o lt lw f n dt et dw ew ts ws) (hl : ts.length ≤ 50000) {a e : Nat} (ha : a ≤ e) (he : e ≤ n) (hd : ∀ i, a ≤ i → i < e → isD f n i = true) (hn : isD f n e = false) (N : Nat) : ON B0 M o lt lw f n dt dw ts ws (F_X41_number_b7 (N + 1) M o (iw (a : Int)) (iw (e : Int)) (gv (dcv f 0 a (e - a))) (gf (dcv f 0 a (e - a)))) (tkN2 f n a e) := by
  have n4 := h.2.2.1.2.2.1
  have L1 := M_code h (show e ≤ 100000 by omega)
  have L2 := M_code h (show e + 1 ≤ 100000 by omega)
  obtain ⟨V, hV⟩ : ∃ V, V = dcv f 0 a (e - a) := ⟨_, rfl⟩
  show ON B0 M o lt lw f n dt dw ts ws (F_X41_number_b7_st (F_X41_number_b7 N) M o _ _ _ _) _
  unfold F_X41_number_b7_st
  rw [h.vg, Option.bind_some, L1, Option.bind_some, k_digit.2, Option.bind_some, hn, if_pos (by decide)]
  simp only [h.vg, L1, iw_succ, L2, k_digit.2, Option.bind_some]
  unfold tkN2
  have i141 : isC f n e 76 = false → ON B0 M o lt lw f n dt dw ts ws (F_X41_number_b141 M o (iw (a : Int)) (iw (e : Int)) (gv (dcv f 0 a (e - a))) (gf (dcv f 0 a (e - a)))) (tkI f n a e) := fun c76 => by
    unfold F_X41_number_b141 F_X41_number_b154 F_X41_number_b173 tkI
    rw [if_neg (show ¬ isC f n e 76 = true by rw [c76]; decide), ← hV]
    unfold gv gf
    by_cases g : 9223372036854775807 < V
    · rw [if_pos g, if_pos g, if_neg (by decide), if_pos (by omega)]
      exact ON.nonev h hl a
    · rw [if_neg g, if_neg g, if_pos rfl, show (2147483647 : Int64) = nl 2147483647 from rfl]
      by_cases g2 : 2147483647 < V
      · rw [if_pos ((nl_lt (by decide) (by omega)).mpr g2), if_pos g2]
        exact ON.nonev h hl a
      · rw [if_neg (fun w => g2 ((nl_lt (by decide) (by omega)).mp w)), if_neg g2]
        exact ON.num h hl
  by_cases c76 : isC f n e 76 = true
  · have n46 : ¬ (isC f n e 46 = true ∧ isD f n (e + 1) = true) := fun q => by
      have a1 := (of_decide_eq_true c76).2
      have a2 := (of_decide_eq_true q.1).2
      omega
    rw [if_pos (lk76.mpr c76), if_neg n46]
    unfold tkI F_X41_number_b117
    rw [if_pos c76, ← hV]
    unfold gv gf
    by_cases g : 9223372036854775807 < V
    · rw [if_pos g, if_pos g, if_pos g, if_neg (by decide)]
      have := ON.nonev h hl a
      rw [h.vg] at this
      exact this
    · rw [if_neg g, if_neg g, if_neg g, if_pos rfl]
      have := ON.num (a := a) (e := e + 1) (l := 5) (v := nl V) h hl
      rw [h.vg] at this
      exact this
  · rw [if_neg (fun q => c76 (lk76.mp q))]
    have c76' : isC f n e 76 = false := by cases q : isC f n e 76 with | true => exact (c76 q).elim | false => rfl
    by_cases c46 : isC f n e 46 = true
    · rw [if_pos (lk46.mpr c46)]
      cases d : isD f n (e + 1) with
      | false =>
        rw [if_pos (by decide), if_neg (fun q => by cases q.2)]
        exact i141 c76'
      | true =>
        rw [if_neg (by decide), if_pos ⟨c46, rfl⟩]
        exact M_real180 h hl ha (by have := isD_lt d; omega) hd
    · rw [if_neg (fun q => c46 (lk46.mp q)), if_neg (fun q => c46 q.1)]
      exact i141 c76'
theorem M_numberK (h : CU B0 M o lt lw f n dt et dw ew ts ws) (hl : ts.length ≤ 50000) {a : Nat} (ha : a ≤ n) : ON B0 M o lt lw f n dt dw ts ws (F_X41_number M o (iw (a : Int))) (tkN f n a) := by
  have n4 := h.2.2.1.2.2.1
  have hxN : xN = 1099511627776 := rfl
  obtain ⟨e, he⟩ : ∃ e, e = sc (isD f n) n a := ⟨_, rfl⟩
  obtain ⟨s1, s2, s3, s4⟩ := sc_spec (p := isD f n) (n := n) (fun a h => isD_lt h) (n - a) a (by omega)
  rw [← he] at s1 s2 s3 s4
  unfold tkN
  rw [← he]
  have loop : ∀ (m N i : Nat), i + m = e → a ≤ i → m + 1 ≤ N → F_X41_number_b7 N M o (iw (a : Int)) (iw (i : Int)) (gv (dcv f 0 a (i - a))) (gf (dcv f 0 a (i - a))) = F_X41_number_b7 (N - m) M o (iw (a : Int)) (iw (e : Int)) (gv (dcv f 0 a (e - a))) (gf (dcv f 0 a (e - a))) := by
    intro m
    induction m with
    | zero => intro N i hi ha hN; rw [show i = e by omega, Nat.sub_zero]
    | succ m ih =>
      intro N i hi hai hN
      obtain ⟨N', rfl⟩ : ∃ N', N = N' + 1 := ⟨N - 1, by omega⟩
      have R0 := ih N' (i + 1) (by omega) (by omega) (by omega)
      rw [show N' + 1 - (m + 1) = N' - m by omega, ← R0]
      obtain ⟨d1, d2, d3, d4⟩ := dig_lk (s4 i hai (by omega))
      have ev : dcv f 0 a (i + 1 - a) = 10 * dcv f 0 a (i - a) + (bn (f i) - 48) := by
        rw [show i + 1 - a = (i - a) + 1 by omega]
        show 10 * dcv f 0 a (i - a) + (bn (f (a + (i - a))) - 48) = _
        rw [show a + (i - a) = i by omega]
      rw [ev]
      obtain ⟨V, hV⟩ : ∃ V, V = dcv f 0 a (i - a) := ⟨_, rfl⟩
      rw [← hV]
      show F_X41_number_b7_st (F_X41_number_b7 N') M o _ _ _ _ = _
      unfold F_X41_number_b7_st F_X41_number_b49 F_X41_number_b54 F_X41_number_b74
      simp only [h.vg, M_code h (show i ≤ 100000 by omega), k_digit.2, Option.bind_some, s4 i hai (show i < e by omega), iw_succ, d1]
      rw [if_neg (by decide), iw_nl (by omega)]
      unfold gv gf
      by_cases g : 9223372036854775807 < V
      · rw [if_pos g, if_pos g, if_neg (by decide), if_pos (show 9223372036854775807 < 10 * V + (bn (f i) - 48) by omega), if_pos (show 9223372036854775807 < 10 * V + (bn (f i) - 48) by omega), if_neg (by decide)]
      · rw [if_neg g, if_neg g, if_pos rfl, if_neg (by decide)]
        have O : ((9223372036854775807 : Int64) - nl (bn (f i) - 48)) / 10 < nl V ↔ 9223372036854775807 < 10 * V + (bn (f i) - 48) := ovf (mo := 9223372036854775807) (V := V) (d := bn (f i) - 48) (by decide) (by decide) (by omega) (by omega)
        by_cases g2 : 9223372036854775807 < 10 * V + (bn (f i) - 48)
        · rw [if_pos (O.mpr g2), if_pos g2, if_pos g2, if_neg (by decide)]
        · rw [if_neg (fun w => g2 (O.mp w)), if_neg g2, if_neg g2, if_pos trivial, mul_nl]
  unfold F_X41_number
  have z0 : dcv f 0 a (a - a) = 0 := by rw [Nat.sub_self]; rfl
  have L := loop (e - a) xN a (by omega) (Nat.le_refl _) (by omega)
  rw [z0] at L
  rw [show F_X41_number_b7 xN M o (iw (a : Int)) (iw (a : Int)) 0 0 = _ from L]
  obtain ⟨N2, hN2⟩ : ∃ N2, xN - (e - a) = N2 + 1 := ⟨xN - (e - a) - 1, by omega⟩
  rw [hN2]
  exact M_numTail h hl s1 s2 s4 s3 N2
end
