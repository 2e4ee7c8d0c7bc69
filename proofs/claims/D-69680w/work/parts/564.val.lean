/-! ===== TABLES, 60: what the cells of a column with a lane are worth ===== -/
/-- 10, multiplied as the engine does -/
def tn : Nat → UInt64
  | 0 => 4607182418800017408
  | k + 1 => FP.dmul (tn k) 4621819117588971520
theorem tens : ∀ b : Fin 16, tn b.val = FP.l2d (nl (10 ^ b.val)) ∧ x_n64 (tn b.val) = true ∧ (tn b.val).toNat % 2 ^ 63 ≠ 0 ∧ (tn b.val).toNat % 2 ^ 63 ≠ 2047 * 2 ^ 52 ∧ FP.ddiv (FP.l2d 0) (tn b.val) = 0 := by decide +kernel
/-- the digits' worth from place i on, and how many stand behind the point -/
def vsn (w : List Int32) : Nat → Nat → Nat → Nat → Bool → Nat × Nat
  | 0, _, V, b, _ => (V, b)
  | m + 1, i, V, b, p => if wf w i = 46 then vsn w m (i + 1) V b true else vsn w m (i + 1) (10 * V + (bn (wf w i) - 48)) (if p = true then b + 1 else b) p
/-- signs from place a on: digits and points -/
def DPt (w : List Int32) : Prop := ∀ i, wfr w ≤ i → i < w.length → wf w i = 46 ∨ (48 ≤ bn (wf w i) ∧ bn (wf w i) ≤ 57)
theorem dig_sub {x : Int32} (h : asc x) (h1 : 48 ≤ bn x) (h2 : bn x ≤ 57) : (x - (48 : Int32)).toInt64 = Int64.ofInt ((bn x - 48 : Nat) : Int) ∧ x.toInt64 = Int64.ofInt (bn x : Nat) := by
  obtain ⟨q, q2⟩ := asc_bn h
  constructor
  · rw [show x - (48 : Int32) = iw (bn x : Nat) - iw ((48 : Nat) : Int) by rw [← q]; rfl, iw_nsub h1, iw_64 (by omega)]
  · rw [show x.toInt64 = (iw (bn x : Nat)).toInt64 by rw [← q], iw_64 (by omega)]
theorem neg_step (V k : Nat) : (10 : Int64) * Int64.ofInt (-(V : Int)) - Int64.ofInt (k : Int) = Int64.ofInt (-((10 * V + k : Nat) : Int)) := by
  rw [show (10 : Int64) = Int64.ofInt 10 from rfl, ← Int64.ofInt_mul, ← Int64.ofInt_sub]
  congr 1
  omega
/-- the engine's loop -/
theorem E_val_l {M : Mem} {s : Nat} {w : List Int32} {v3 v6 : Int32} (h : ST M) (hw : ascs w) (e : WE M s w) (dp : DPt w) : ∀ (m N i V b : Nat) (p : Bool), i + m = w.length → wfr w ≤ i → F_X11_value_b84 (N + 1 + m) M 1037 v3 (iw (s : Int)) (iw (w.length : Nat)) v6 (Int64.ofInt (-(V : Int))) (iw (b : Int)) (mr p) (iw (i : Int)) = (if v3 = (7 : Int32) then F_X11_value_b174 xN M v6 (Int64.ofInt (-((vsn w m i V b p).1 : Int))) (iw ((vsn w m i V b p).2 : Int)) (4607182418800017408 : UInt64) 0 else if v6 = 0 then F_X11_value_b167 M (-(Int64.ofInt (-((vsn w m i V b p).1 : Int)))) else F_X11_value_b167 M (Int64.ofInt (-((vsn w m i V b p).1 : Int))))
  | 0, N, i, V, b, p, hi, hf => by
    have hl := e.1
    show F_X11_value_b84_st (F_X11_value_b84 N) M 1037 v3 (iw (s : Int)) (iw (w.length : Nat)) v6 (Int64.ofInt (-(V : Int))) (iw (b : Int)) (mr p) (iw (i : Int)) = _
    unfold F_X11_value_b84_st
    rw [if_neg (show ¬ iw (i : Int) < iw (w.length : Nat) by rw [iw_le4 (by omega) (by omega)]; omega)]
    rfl
  | m + 1, N, i, V, b, p, hi, hf => by
    have hl := e.1
    show F_X11_value_b84_st (F_X11_value_b84 (N + 1 + m)) M 1037 v3 (iw (s : Int)) (iw (w.length : Nat)) v6 (Int64.ofInt (-(V : Int))) (iw (b : Int)) (mr p) (iw (i : Int)) = _
    unfold F_X11_value_b84_st F_X11_value_b142
    rw [if_pos (show iw (i : Int) < iw (w.length : Nat) by rw [iw_le4 (by omega) (by omega)]; omega)]
    simp only [g1037_769, g1038_832, h, iw_nad, e.ab h (show i < w.length by omega), iw_succ, Option.bind_some]
    by_cases c : wf w i = 46
    · have ev : vsn w (m + 1) i V b p = vsn w m (i + 1) V b true := by
        show (if wf w i = 46 then vsn w m (i + 1) V b true else _) = _
        rw [if_pos c]
      rw [if_pos c, ev]
      exact E_val_l h hw e dp m N (i + 1) V b true (by omega) (by omega)
    · have hd := (dp i hf (by omega)).resolve_left c
      have ev : vsn w (m + 1) i V b p = vsn w m (i + 1) (10 * V + (bn (wf w i) - 48)) (if p = true then b + 1 else b) p := by
        show (if wf w i = 46 then _ else vsn w m (i + 1) (10 * V + (bn (wf w i) - 48)) (if p = true then b + 1 else b) p) = _
        rw [if_neg c]
      rw [if_neg c, ev, (dig_sub (hw i (by omega)) hd.1 hd.2).1, neg_step]
      have ih := fun b' => E_val_l (v3 := v3) (v6 := v6) h hw e dp m N (i + 1) (10 * V + (bn (wf w i) - 48)) b' p (by omega) (by omega)
      cases p with
      | false =>
        rw [if_pos (show mr false = 0 from rfl)]
        exact ih b
      | true =>
        rw [if_neg (show ¬ mr true = 0 by decide)]
        exact ih (b + 1)
/-- the model's loop for whole numbers -/
theorem M_whol_l {M : Mem} {a : Nat} {w : List Int32} {v1 : Int32} (sw : SB M a w) (hw : ascs w) (hl : w.length ≤ 40) (w1 : W1 w) : ∀ (m N i V : Nat), i + m = w.length → wfr w ≤ i → F_X16_wholeWord_b29 (N + 1 + m) M a v1 (Int64.ofInt (-(V : Int))) (iw (i : Int)) = (if v1 = 0 then some (-(Int64.ofInt (-((vsn w m i V 0 false).1 : Int)))) else some (Int64.ofInt (-((vsn w m i V 0 false).1 : Int))))
  | 0, N, i, V, hi, hf => by
    show F_X16_wholeWord_b29_st (F_X16_wholeWord_b29 N) M a v1 (Int64.ofInt (-(V : Int))) (iw (i : Int)) = _
    unfold F_X16_wholeWord_b29_st F_X16_wholeWord_b71
    rw [sw.vg, Option.bind_some, J_len sw, Option.bind_some, if_neg (show ¬ iw (i : Int) < iw (w.length : Nat) by rw [iw_le4 (by omega) (by omega)]; omega)]
    rfl
  | m + 1, N, i, V, hi, hf => by
    have hd := w1.dg (j := i - wfr w) (by omega)
    rw [show wfr w + (i - wfr w) = i by omega] at hd
    have c : ¬ wf w i = 46 := fun q => by
      have := (asc_c (hw i (by omega)) (c := 46) (by decide)).mp q
      omega
    show F_X16_wholeWord_b29_st (F_X16_wholeWord_b29 (N + 1 + m)) M a v1 (Int64.ofInt (-(V : Int))) (iw (i : Int)) = _
    unfold F_X16_wholeWord_b29_st
    rw [sw.vg, Option.bind_some, J_len sw, Option.bind_some, if_pos (show iw (i : Int) < iw (w.length : Nat) by rw [iw_le4 (by omega) (by omega)]; omega), Option.bind_some, wch sw hw (show i < w.length by omega), Option.bind_some]
    simp only [iw_succ]
    rw [(dig_sub (hw i (by omega)) hd.1 hd.2).1, neg_step]
    have ev : vsn w (m + 1) i V 0 false = vsn w m (i + 1) (10 * V + (bn (wf w i) - 48)) 0 false := by
      show (if wf w i = 46 then _ else vsn w m (i + 1) (10 * V + (bn (wf w i) - 48)) (if false = true then 0 + 1 else 0) false) = _
      rw [if_neg c]
      rfl
    rw [ev]
    exact M_whol_l sw hw hl w1 m N (i + 1) _ (by omega) (by omega)
/-- the model's loop for numbers with a point -/
theorem M_real_l {M : Mem} {a : Nat} {w : List Int32} {v1 : Int32} (sw : SB M a w) (hw : ascs w) (hl : w.length ≤ 40) (dp : DPt w) : ∀ (m N i V b : Nat) (p : Bool), i + m = w.length → wfr w ≤ i → F_X16_realWord_b35 (N + 1 + m) M a v1 (Int64.ofInt (V : Int)) (iw (b : Int)) (mr p) (iw (i : Int)) = ((F_X16_decimal (Int64.ofInt ((vsn w m i V b p).1 : Int)) (iw ((vsn w m i V b p).2 : Int))).bind fun z10 => if v1 = 0 then F_X16_realWord_b115 M z10 else (F_X24_negative z10).bind fun z11 => F_X16_realWord_b115 M z11)
  | 0, N, i, V, b, p, hi, hf => by
    show F_X16_realWord_b35_st (F_X16_realWord_b35 N) M a v1 (Int64.ofInt (V : Int)) (iw (b : Int)) (mr p) (iw (i : Int)) = _
    unfold F_X16_realWord_b35_st
    rw [sw.vg, Option.bind_some, J_len sw, Option.bind_some, if_neg (show ¬ iw (i : Int) < iw (w.length : Nat) by rw [iw_le4 (by omega) (by omega)]; omega)]
    rfl
  | m + 1, N, i, V, b, p, hi, hf => by
    show F_X16_realWord_b35_st (F_X16_realWord_b35 (N + 1 + m)) M a v1 (Int64.ofInt (V : Int)) (iw (b : Int)) (mr p) (iw (i : Int)) = _
    unfold F_X16_realWord_b35_st F_X16_realWord_b87
    rw [sw.vg, Option.bind_some, J_len sw, Option.bind_some, if_pos (show iw (i : Int) < iw (w.length : Nat) by rw [iw_le4 (by omega) (by omega)]; omega), Option.bind_some, wch sw hw (show i < w.length by omega), Option.bind_some]
    simp only [iw_succ, Option.bind_some]
    by_cases c : wf w i = 46
    · have ev : vsn w (m + 1) i V b p = vsn w m (i + 1) V b true := by
        show (if wf w i = 46 then vsn w m (i + 1) V b true else _) = _
        rw [if_pos c]
      rw [if_pos c, ev]
      exact M_real_l sw hw hl dp m N (i + 1) V b true (by omega) (by omega)
    · have hd := (dp i hf (by omega)).resolve_left c
      have ev : vsn w (m + 1) i V b p = vsn w m (i + 1) (10 * V + (bn (wf w i) - 48)) (if p = true then b + 1 else b) p := by
        show (if wf w i = 46 then _ else vsn w m (i + 1) (10 * V + (bn (wf w i) - 48)) (if p = true then b + 1 else b) p) = _
        rw [if_neg c]
      have es : (10 : Int64) * Int64.ofInt (V : Int) + (wf w i).toInt64 - (48 : Int64) = Int64.ofInt ((10 * V + (bn (wf w i) - 48) : Nat) : Int) := by
        rw [(dig_sub (hw i (by omega)) hd.1 hd.2).2, show (10 : Int64) = Int64.ofInt 10 from rfl, show (48 : Int64) = Int64.ofInt 48 from rfl, ← Int64.ofInt_mul, ← Int64.ofInt_add, ← Int64.ofInt_sub]
        congr 1
        omega
      rw [if_neg c, ev, es]
      have ih := fun b' => M_real_l (v1 := v1) sw hw hl dp m N (i + 1) (10 * V + (bn (wf w i) - 48)) b' p (by omega) (by omega)
      cases p with
      | false =>
        rw [if_pos (show mr false = 0 from rfl)]
        exact ih b
      | true =>
        rw [if_neg (show ¬ mr true = 0 by decide)]
        exact ih (b + 1)
/-- how great what was read can be -/
theorem vsn_b {w : List Int32} : ∀ (m i V b : Nat) (p : Bool), (∀ j, i ≤ j → j < i + m → wf w j = 46 ∨ bn (wf w j) ≤ 57) → (vsn w m i V b p).1 < (V + 1) * 10 ^ m ∧ (vsn w m i V b p).2 ≤ b + m ∧ V ≤ (vsn w m i V b p).1
  | 0, i, V, b, p, _ => by
    show V < (V + 1) * 1 ∧ b ≤ b + 0 ∧ V ≤ V
    omega
  | m + 1, i, V, b, p, h => by
    unfold vsn
    have hp : 10 ^ (m + 1) = 10 * 10 ^ m := by rw [Nat.pow_succ]; omega
    have p0 : 0 < 10 ^ m := Nat.pow_pos (by decide)
    by_cases c : wf w i = 46
    · rw [if_pos c]
      obtain ⟨i1, i2, i3⟩ := vsn_b (w := w) m (i + 1) V b true (fun j h1 h2 => h j (by omega) (by omega))
      refine ⟨?_, by omega, i3⟩
      have : (V + 1) * 10 ^ m ≤ (V + 1) * 10 ^ (m + 1) := Nat.mul_le_mul_left _ (by omega)
      omega
    · rw [if_neg c]
      have hb := (h i (by omega) (by omega)).resolve_left c
      obtain ⟨i1, i2, i3⟩ := vsn_b (w := w) m (i + 1) (10 * V + (bn (wf w i) - 48)) (if p = true then b + 1 else b) p (fun j h1 h2 => h j (by omega) (by omega))
      refine ⟨?_, ?_, by omega⟩
      · have : (10 * V + (bn (wf w i) - 48) + 1) * 10 ^ m ≤ (10 * (V + 1)) * 10 ^ m := Nat.mul_le_mul_right _ (by omega)
        have e : (10 * (V + 1)) * 10 ^ m = (V + 1) * 10 ^ (m + 1) := by rw [hp, ← Nat.mul_assoc, Nat.mul_comm 10 (V + 1)]
        omega
      · by_cases q : p = true
        · rw [if_pos q] at i2 ⊢; omega
        · rw [if_neg q] at i2 ⊢; omega
/-- whole digits: what was read is their worth -/
theorem vsn_w {w : List Int32} {a : Nat} : ∀ (m j : Nat), (∀ i, j ≤ i → i < j + m → ¬ wf w (a + i) = 46) → vsn w m (a + j) (wvl w a j) 0 false = (wvl w a (j + m), 0)
  | 0, j, _ => rfl
  | m + 1, j, h => by
    unfold vsn
    rw [if_neg (h j (by omega) (by omega))]
    have ih := vsn_w (w := w) (a := a) m (j + 1) (fun i h1 h2 => h i (by omega) (by omega))
    rw [show j + 1 + m = j + (m + 1) by omega] at ih
    exact ih
theorem W1.dp {w : List Int32} (hw : ascs w) (h : W1 w) : DPt w ∧ ∀ i, wfr w ≤ i → i < w.length → ¬ wf w i = 46 := by
  have q : ∀ i, wfr w ≤ i → i < w.length → 48 ≤ bn (wf w i) ∧ bn (wf w i) ≤ 57 := fun i h1 h2 => by
    have := h.dg (j := i - wfr w) (by omega)
    rw [show wfr w + (i - wfr w) = i by omega] at this
    exact this
  exact ⟨fun i h1 h2 => Or.inr (q i h1 h2), fun i h1 h2 k => by
    have := (asc_c (hw i h2) (c := 46) (by decide)).mp k
    have := q i h1 h2
    omega⟩
theorem W2.dp {w : List Int32} (hw : ascs w) (h : W2 w) : DPt w := fun i h1 h2 => by
  obtain ⟨a1, a2, a3, a4⟩ := h
  obtain ⟨i1, i2, i3, i4⟩ := Dg_sp (wfr_le w).1
  obtain ⟨k1, k2, k3, k4⟩ := Dg_sp (w := w) (k := wk1 w + 1) (by omega)
  have e1 : Dg w (wfr w) = wk1 w := rfl
  rw [e1] at i1 i2 i3 i4
  rw [a3] at k3
  rcases Nat.lt_trichotomy i (wk1 w) with c | c | c
  · exact Or.inr (isD_t.mp (i3 i h1 c)).2
  · rw [c]
    exact Or.inl ((asc_c (hw _ (by omega)) (c := 46) (by decide)).mpr (isC_t.mp a2).2)
  · exact Or.inr (isD_t.mp (k3 i (by omega) h2)).2
/-- a quotient that both reckon -/
theorem E_ten {M : Mem} {v6 : Int32} {V b : Nat} (hb : b ≤ 15) : ∀ (m N k : Nat), k + m = b → F_X11_value_b174 (N + 1 + m) M v6 (Int64.ofInt (-(V : Int))) (iw (b : Int)) (tn k) (iw (k : Int)) = F_X11_value_b174_st (F_X11_value_b174 N) M v6 (Int64.ofInt (-(V : Int))) (iw (b : Int)) (tn b) (iw (b : Int))
  | 0, N, k, hk => by rw [show k = b by omega]; rfl
  | m + 1, N, k, hk => by
    show F_X11_value_b174_st (F_X11_value_b174 (N + 1 + m)) M v6 (Int64.ofInt (-(V : Int))) (iw (b : Int)) (tn k) (iw (k : Int)) = _
    have ih := E_ten (M := M) (v6 := v6) (V := V) hb m N (k + 1) (by omega)
    obtain ⟨R0, hR0⟩ : ∃ R0, R0 = F_X11_value_b174_st (F_X11_value_b174 N) M v6 (Int64.ofInt (-(V : Int))) (iw (b : Int)) (tn b) (iw (b : Int)) := ⟨_, rfl⟩
    rw [← hR0] at ih ⊢
    unfold F_X11_value_b174_st
    rw [if_pos (show iw (k : Int) < iw (b : Int) by rw [iw_le4 (by omega) (by omega)]; omega)]
    have x := (tens ⟨k + 1, by omega⟩).2.1
    simp only [iw_succ]
    rw [if_pos (show x_n64 (FP.dmul (tn k) 4621819117588971520) = true from x)]
    exact ih
theorem quo_ok {V b : Nat} (hV : V < 2 ^ 62) (hb : b ≤ 15) : okd (FP.ddiv (FP.l2d (nl V)) (tn b)).toNat ∧ F_X16_decimal (nl V) (iw (b : Int)) = some (FP.ddiv (FP.l2d (nl V)) (tn b)).toInt64 := by
  obtain ⟨t1, t2, t3, t4, t5⟩ := tens ⟨b, by omega⟩
  simp only [] at t1 t2 t3 t4 t5
  have o1 := l2d_ok (nl V)
  have o2 : okd (tn b).toNat := by rw [t1]; exact l2d_ok _
  have hn : dnn 4 (d64 (FP.l2d (nl V))) (d64 (tn b)) = false := by
    rcases d64_cases o2 with ⟨s, q1, q2, -⟩ | ⟨s, c, q, q1, q2, q3, q4⟩
    · exact absurd q2 t4
    · have c0 : c ≠ 0 := fun k => t3 (q4.mp k)
      rw [q1]
      rcases d64_cases o1 with ⟨s', r1, -⟩ | ⟨s', c', q', r1, -⟩
      · rw [r1]; rfl
      · rw [r1]
        show (if (4 : Int32) = 4 then (c' == 0 && c == 0) else if (4 : Int32) = 5 then c == 0 else false) = false
        rw [if_pos rfl]
        have : (c == 0) = false := by simp [c0]
        rw [this, Bool.and_false]
  have ok := dop_ok (w := 4) (Or.inr (Or.inr (Or.inr (Or.inl rfl)))) hn
  have ed : dop 4 (FP.l2d (nl V)) (tn b) = FP.ddiv (FP.l2d (nl V)) (tn b) := rfl
  rw [ed] at ok
  refine ⟨ok, ?_⟩
  have loop : ∀ (m N k : Nat), k + m = b → F_X16_decimal_b5 (N + 1 + m) (nl V) (iw (b : Int)) (nl (10 ^ k)) (iw (k : Int)) = F_X16_decimal_b5_st (F_X16_decimal_b5 N) (nl V) (iw (b : Int)) (nl (10 ^ b)) (iw (b : Int)) := by
    intro m
    induction m with
    | zero => intro N k hk; rw [show k = b by omega]; rfl
    | succ m ih =>
      intro N k hk
      have i1 := ih N (k + 1) (by omega)
      obtain ⟨R0, hR0⟩ : ∃ R0, R0 = F_X16_decimal_b5_st (F_X16_decimal_b5 N) (nl V) (iw (b : Int)) (nl (10 ^ b)) (iw (b : Int)) := ⟨_, rfl⟩
      rw [← hR0] at i1 ⊢
      show F_X16_decimal_b5_st (F_X16_decimal_b5 (N + 1 + m)) (nl V) (iw (b : Int)) (nl (10 ^ k)) (iw (k : Int)) = _
      unfold F_X16_decimal_b5_st
      rw [if_pos (show iw (k : Int) < iw (b : Int) by rw [iw_le4 (by omega) (by omega)]; omega)]
      simp only [iw_succ]
      rw [show (10 : Int64) * nl (10 ^ k) = nl (10 ^ (k + 1)) by rw [show (10 : Int64) = nl 10 from rfl, nl_mul, Nat.pow_succ, Nat.mul_comm]]
      exact i1
  obtain ⟨K, hK⟩ : ∃ K, K + 1 + b = xN := ⟨xN - 1 - b, by have : xN = 1099511627776 := rfl; omega⟩
  have lp := loop b K 0 (by omega)
  rw [hK] at lp
  refine Eq.trans lp ?_
  unfold F_X16_decimal_b5_st F_X16_decimal_b46
  rw [if_neg (show ¬ iw (b : Int) < iw (b : Int) by rw [iw_le4 (by omega) (by omega)]; omega)]
  by_cases c0 : V = 0
  · rw [c0, if_pos (show nl 0 = 0 from rfl), show nl 0 = 0 from rfl, t5]
    rfl
  · rw [if_neg (show ¬ nl V = 0 from fun q => by rw [show (0 : Int64) = nl 0 from rfl, nl_eq (by omega) (by decide)] at q; exact c0 q), X24_of, Option.bind_some, X24_of, Option.bind_some, ← t1]
    have d := X24_divide (a := (FP.l2d (nl V)).toInt64) (b := (tn b).toInt64) o1 o2 (fun q => t4 q.2) (fun q => t3 q.2)
    rw [d, Option.bind_some]
    rfl
