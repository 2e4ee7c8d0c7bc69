/-! ===== TABLES, 61: what a cell is worth ===== -/
def vwd (w : List Int32) : Nat × Nat := vsn w (w.length - wfr w) (wfr w) 0 0 false
def rvl (w : List Int32) : UInt64 := if wfr w = 1 then FP.dneg (FP.ddiv (FP.l2d (nl (vwd w).1)) (tn (vwd w).2)) else FP.ddiv (FP.l2d (nl (vwd w).1)) (tn (vwd w).2)
/-- a cell's bits in a column of a lane -/
noncomputable def cvl (l : Int32) (c : List Int32 × Bool) : Int64 := pif (msg c) 0 (if l = 0 then (if c.1.length = 4 then 1 else 0) else if l = 7 then (rvl c.1).toInt64 else if wfr c.1 = 1 then Int64.ofInt (-((vwd c.1).1 : Int)) else Int64.ofInt ((vwd c.1).1 : Int))
theorem dneg_ok {t : UInt64} (h : okd t.toNat) : okd (FP.dneg t).toNat := by
  obtain ⟨z, z1, z2, -⟩ := M_neg h
  have e : F_X24_negative t.toInt64 = some (FP.dneg t).toInt64 := rfl
  rw [e] at z1
  have e2 : (FP.dneg t).toInt64 = z.toInt64 := Option.some.inj z1
  have e3 : (FP.dneg t).toNat = z.toNat := congrArg un e2
  rw [e3]
  exact z2
/-- a word with at most 15 digits -/
theorem vwd_b {w : List Int32} (hw : ascs w) (h : (W1 w ∧ w.length - wfr w ≤ 15) ∨ (W2 w ∧ w.length - wfr w - 1 ≤ 15)) : (vwd w).1 < 2 ^ 62 ∧ (vwd w).2 ≤ 15 ∧ DPt w ∧ 0 < w.length := by
  have fl := wfr_le w
  have hdp : DPt w := h.elim (fun q => (q.1.dp hw).1) (fun q => q.1.dp hw)
  have hk : wfr w < wk1 w ∧ wk1 w ≤ w.length := by
    obtain ⟨i1, i2, i3, i4⟩ := Dg_sp fl.1
    exact ⟨h.elim (fun q => q.1.1) (fun q => q.1.1), i2⟩
  have hd0 : 48 ≤ bn (wf w (wfr w)) ∧ bn (wf w (wfr w)) ≤ 57 := by
    obtain ⟨i1, i2, i3, i4⟩ := Dg_sp fl.1
    exact (isD_t.mp (i3 (wfr w) (Nat.le_refl _) hk.1)).2
  have c : ¬ wf w (wfr w) = 46 := fun q => by
    have := (asc_c (hw _ (by omega)) (c := 46) (by decide)).mp q
    omega
  have hm : w.length - wfr w ≤ 16 := h.elim (fun q => by have := q.2; omega) (fun q => by have := q.2; omega)
  obtain ⟨m, hm2⟩ : ∃ m, w.length - wfr w = m + 1 := ⟨w.length - wfr w - 1, by omega⟩
  have ev : vwd w = vsn w m (wfr w + 1) (10 * 0 + (bn (wf w (wfr w)) - 48)) 0 false := by
    unfold vwd
    rw [hm2]
    show (if wf w (wfr w) = 46 then _ else vsn w m (wfr w + 1) (10 * 0 + (bn (wf w (wfr w)) - 48)) (if false = true then 0 + 1 else 0) false) = _
    rw [if_neg c]
    rfl
  obtain ⟨b1, b2, -⟩ := vsn_b (w := w) m (wfr w + 1) (10 * 0 + (bn (wf w (wfr w)) - 48)) 0 false (fun j h1 h2 => (hdp j (by omega) (by omega)).imp id (fun q => q.2))
  rw [← ev] at b1 b2
  have l2 : 10 ^ m ≤ 10 ^ 15 := Nat.pow_le_pow_right (by decide) (by omega)
  have l3 : (10 * 0 + (bn (wf w (wfr w)) - 48) + 1) * 10 ^ m ≤ 10 * 10 ^ 15 := Nat.mul_le_mul (by omega) l2
  have l4 : 10 * 10 ^ 15 < 2 ^ 62 := by decide
  exact ⟨by omega, by omega, hdp, by omega⟩
theorem vwd_w {w : List Int32} (hw : ascs w) (h : W1 w) : vwd w = (wvl w (wfr w) (w.length - wfr w), 0) := by
  have := vsn_w (w := w) (a := wfr w) (w.length - wfr w) 0 (fun i h1 h2 => (h.dp hw).2 _ (by omega) (by omega))
  rw [Nat.zero_add] at this
  exact this
/-- the lanes' words -/
theorem lane_w {l : Int32} {c : List Int32 × Bool} (hl : l = 4 ∨ l = 5) (h : okl l c) : W1 c.1 ∧ (l = 4 → isIw c.1) := by
  have q := (okl_ok (by rcases hl with e | e; exact Or.inr (Or.inl e); exact Or.inr (Or.inr (Or.inl e)))).mp h
  rcases q.2 with k | k | k
  · rcases hl with e | e <;> rw [e] at k <;> exact absurd k.1 (by decide)
  · rcases hl with e | e <;> rw [e] at k <;> exact absurd k.1 (by decide)
  · exact ⟨k.2.2.1, fun e => by have := k.2.2.2; rw [if_pos e] at this; exact this⟩
theorem lane_7 {c : List Int32 × Bool} (h : okl 7 c) : (W1 c.1 ∧ c.1.length - wfr c.1 ≤ 15) ∨ (W2 c.1 ∧ c.1.length - wfr c.1 - 1 ≤ 15) := by
  have q := (okl_ok (Or.inr (Or.inr (Or.inr rfl)))).mp h
  rcases q.2 with k | k | k
  · exact absurd k.1 (by decide)
  · exact k.2.imp id (fun q => q.2)
  · exact absurd rfl k.2.1
theorem lane_0 {c : List Int32 × Bool} (h : okl 0 c) : c.1 = (cty 61).1 ∨ c.1 = (cty 56).1 := by
  have q := (okl_ok (Or.inl rfl)).mp h
  rcases q.2 with k | k | k
  · exact k.2
  · exact absurd k.1 (by decide)
  · exact absurd rfl k.1
theorem ne7 {l : Int32} (h : l = 4 ∨ l = 5) : ¬ l = 7 ∧ ¬ l = 0 ∧ ¬ l = 8 := by rcases h with e | e <;> rw [e] <;> decide
theorem neg_of (V : Nat) : -(Int64.ofInt (-(V : Int))) = Int64.ofInt (V : Int) := by rw [← Int64.ofInt_neg, Int.neg_neg]
/-- bits that the lane has -/
theorem cvl_vb {l : Int32} {c : List Int32 × Bool} (hw : ascs c.1) (hl : Lq l) (h : ¬ msg c → okl l c) : vb l (cvl l c) := by
  unfold cvl
  by_cases cm : msg c
  · rw [tpif cm]
    exact vb_0 (by rcases hl with e | e | e | e <;> rw [e] <;> unfold Lk <;> simp)
  · rw [fpif cm]
    have ho := h cm
    rcases hl with e | e | e | e
    · rw [e, if_pos rfl, vb_lo (by decide), if_pos rfl]
      by_cases q : c.1.length = 4
      · rw [if_pos q]; exact Or.inr rfl
      · rw [if_neg q]; exact Or.inl rfl
    · rw [e] at ho
      obtain ⟨w1, w2⟩ := lane_w (Or.inl rfl) ho
      have wi := w2 rfl
      have ev := vwd_w hw w1
      have fl := wfr_le c.1
      rw [e, if_neg (by decide), if_neg (by decide), ev]
      have b := wi.2
      by_cases q : wfr c.1 = 1
      · rw [if_pos q, ← iw_64 (by omega)]
        exact vb4 _
      · rw [if_neg q, ← iw_64 (by omega)]
        exact vb4 _
    · rw [e]; exact vb5 _
    · rw [e] at ho
      rw [e, if_neg (by decide), if_pos rfl, vb_7]
      obtain ⟨b1, b2, -, -⟩ := vwd_b hw (lane_7 ho)
      have ok := (quo_ok b1 b2).1
      unfold rvl
      by_cases q : wfr c.1 = 1
      · rw [if_pos q]; exact dneg_ok ok
      · rw [if_neg q]; exact ok
/-- the engine's value -/
theorem E_value {M : Mem} {t C R k : Nat} {cs : List (List Int32 × Bool)} {l : Int32} (h : TEc M t C R cs) (hk : k < C * R) (hl : Lq l) (ho : ¬ msg (cl cs k) → okl l (cl cs k)) : F_X11_value M 1037 t (iw (k : Int)) l = some (cvl l (cl cs k)) := by
  obtain ⟨x1, x2, x3, x4, x5⟩ := h.x hk
  obtain ⟨q1, q2, q3, s, q4, q5⟩ := h.2.2.2.2.2.2.2.2.2.2.2 k hk
  have hS := h.1
  have n1 : ¬ (1 : Int32) = 0 := by decide
  unfold F_X11_value F_X11_value_b40
  simp only [x5, E_miss h hk, Option.bind_some]
  unfold cvl
  by_cases cm : msg (cl cs k)
  · rw [tpif cm, if_neg n1, tpif cm]
  · rw [fpif cm, if_pos rfl, fpif cm]
    have hok := ho cm
    simp only [x3, x4, x5, E_clen h hk, q4, Option.bind_some]
    by_cases l0 : l = 0
    · rw [if_pos l0, if_pos l0]
      by_cases c4 : (cl cs k).1.length = 4
      · rw [if_pos (show iw ((cl cs k).1.length : Nat) = 4 by rw [c4]; rfl), if_pos c4]
      · rw [if_neg (show ¬ iw ((cl cs k).1.length : Nat) = 4 by rw [show (4 : Int32) = iw ((4 : Nat) : Int) from rfl, iw_eq (by omega) (by omega) (by omega) (by omega)]; omega), if_neg c4]
    · rw [if_neg l0, if_neg l0]
      have key : 0 < (cl cs k).1.length ∧ DPt (cl cs k).1 := by
        rcases hl with e | e | e | e
        · exact absurd e l0
        · rw [e] at hok
          have w1 := (lane_w (Or.inl rfl) hok).1
          exact ⟨by have := w1.1; have := w1.2; omega, (w1.dp q2).1⟩
        · rw [e] at hok
          have w1 := (lane_w (Or.inr rfl) hok).1
          exact ⟨by have := w1.1; have := w1.2; omega, (w1.dp q2).1⟩
        · rw [e] at hok
          obtain ⟨-, -, b3, b4⟩ := vwd_b q2 (lane_7 hok)
          exact ⟨b4, b3⟩
      have fl := wfr_le (cl cs k).1
      have a0 := q5.ab hS key.1
      rw [Nat.add_zero] at a0
      simp only [g1037_769, g1038_832, hS, a0, Option.bind_some]
      obtain ⟨f1, f2⟩ := wfr_w q2 key.1
      obtain ⟨K, hK⟩ : ∃ K, K + 1 + ((cl cs k).1.length - wfr (cl cs k).1) = xN := ⟨xN - 1 - ((cl cs k).1.length - wfr (cl cs k).1), by have : xN = 1099511627776 := rfl; omega⟩
      have lp := fun v6 => E_val_l (v3 := l) (v6 := v6) hS q2 q5 key.2 ((cl cs k).1.length - wfr (cl cs k).1) K (wfr (cl cs k).1) 0 0 false (by omega) (Nat.le_refl _)
      rw [hK] at lp
      have ev : vsn (cl cs k).1 ((cl cs k).1.length - wfr (cl cs k).1) (wfr (cl cs k).1) 0 0 false = vwd (cl cs k).1 := rfl
      rw [ev] at lp
      have fin : ∀ v6 : Int32, (v6 = 0 ↔ ¬ wfr (cl cs k).1 = 1) → (if l = (7 : Int32) then F_X11_value_b174 xN M v6 (Int64.ofInt (-((vwd (cl cs k).1).1 : Int))) (iw ((vwd (cl cs k).1).2 : Int)) (4607182418800017408 : UInt64) 0 else if v6 = 0 then F_X11_value_b167 M (-(Int64.ofInt (-((vwd (cl cs k).1).1 : Int)))) else F_X11_value_b167 M (Int64.ofInt (-((vwd (cl cs k).1).1 : Int)))) = some (if l = 7 then (rvl (cl cs k).1).toInt64 else if wfr (cl cs k).1 = 1 then Int64.ofInt (-((vwd (cl cs k).1).1 : Int)) else Int64.ofInt ((vwd (cl cs k).1).1 : Int)) := fun v6 hv => by
        by_cases l7 : l = 7
        · rw [if_pos l7, if_pos l7]
          rw [l7] at hok
          obtain ⟨b1, b2, -, -⟩ := vwd_b q2 (lane_7 hok)
          have ok := (quo_ok b1 b2).1
          obtain ⟨K2, hK2⟩ : ∃ K, K + 1 + (vwd (cl cs k).1).2 = xN := ⟨xN - 1 - (vwd (cl cs k).1).2, by have : xN = 1099511627776 := rfl; omega⟩
          have et := E_ten (M := M) (v6 := v6) (V := (vwd (cl cs k).1).1) b2 (vwd (cl cs k).1).2 K2 0 (by omega)
          rw [hK2] at et
          refine Eq.trans et ?_
          unfold F_X11_value_b174_st F_X11_value_b219
          rw [if_neg (show ¬ iw ((vwd (cl cs k).1).2 : Int) < iw ((vwd (cl cs k).1).2 : Int) by rw [iw_le4 (by omega) (by omega)]; omega)]
          simp only []
          rw [neg_of, ← nl_ofInt, if_pos (xn64 ok)]
          unfold rvl
          by_cases q : wfr (cl cs k).1 = 1
          · rw [if_neg (fun k => hv.mp k q), if_pos q, E_bits (dneg_ok ok), Option.bind_some]
            unfold lnB
            rw [if_neg (by decide)]
          · rw [if_pos (hv.mpr q), if_neg q, E_bits ok, Option.bind_some]
            unfold lnB
            rw [if_neg (by decide)]
        · rw [if_neg l7, if_neg l7]
          unfold F_X11_value_b167
          by_cases q : wfr (cl cs k).1 = 1
          · rw [if_neg (fun k => hv.mp k q), if_pos q]
          · rw [if_pos (hv.mpr q), if_neg q, neg_of]
      by_cases c45 : wf (cl cs k).1 0 = 45
      · rw [if_pos c45]
        unfold F_X11_value_b61 F_X11_value_b82
        rw [if_neg n1]
        have e1 := f1.mp c45
        have lp1 := lp 1
        rw [e1] at lp1
        refine Eq.trans lp1 ?_
        exact fin 1 ⟨fun q => absurd q n1, fun q => absurd e1 q⟩
      · rw [if_neg c45]
        unfold F_X11_value_b61 F_X11_value_b82
        rw [if_pos rfl]
        have e0 := f2.mp c45
        have lp0 := lp 0
        rw [e0] at lp0
        refine Eq.trans lp0 ?_
        exact fin 0 ⟨fun _ => by omega, fun _ => rfl⟩
/-- the model's values -/
theorem M_wholeW {M : Mem} {a : Nat} {w : List Int32} (sw : SB M a w) (hw : ascs w) (hl : w.length ≤ 40) (w1 : W1 w) : F_X16_wholeWord M a = some (if wfr w = 1 then Int64.ofInt (-((vwd w).1 : Int)) else Int64.ofInt ((vwd w).1 : Int)) := by
  have n1 : ¬ (1 : Int32) = 0 := by decide
  have fl := wfr_le w
  have hlen : 0 < w.length := by have := w1.1; have := w1.2; omega
  obtain ⟨K, hK⟩ : ∃ K, K + 1 + (w.length - wfr w) = xN := ⟨xN - 1 - (w.length - wfr w), by have : xN = 1099511627776 := rfl; omega⟩
  have lp := fun v1 => M_whol_l (v1 := v1) sw hw hl w1 (w.length - wfr w) K (wfr w) 0 (by omega) (Nat.le_refl _)
  rw [hK] at lp
  have ev : vsn w (w.length - wfr w) (wfr w) 0 0 false = vwd w := rfl
  rw [ev] at lp
  unfold F_X16_wholeWord F_X16_wholeWord_b15 F_X16_wholeWord_b27
  have a0 := wch sw hw hlen
  rw [show iw ((0 : Nat) : Int) = 0 from rfl] at a0
  rw [sw.vg, Option.bind_some, a0, Option.bind_some]
  obtain ⟨f1, f2⟩ := wfr_w hw hlen
  by_cases c45 : wf w 0 = 45
  · have e1 := f1.mp c45
    have lp1 := lp 1
    rw [if_neg n1, e1] at lp1
    rw [if_pos c45, if_neg n1, if_pos e1]
    exact lp1
  · have e0 := f2.mp c45
    have lp0 := lp 0
    rw [if_pos rfl, e0, neg_of] at lp0
    rw [if_neg c45, if_pos rfl, if_neg (by omega)]
    exact lp0
theorem M_realW {M : Mem} {a : Nat} {w : List Int32} (sw : SB M a w) (hw : ascs w) (hl : w.length ≤ 40) (h : (W1 w ∧ w.length - wfr w ≤ 15) ∨ (W2 w ∧ w.length - wfr w - 1 ≤ 15)) : F_X16_realWord M a = some (rvl w).toInt64 := by
  have n1 : ¬ (1 : Int32) = 0 := by decide
  have fl := wfr_le w
  obtain ⟨b1, b2, dp, hlen⟩ := vwd_b hw h
  obtain ⟨K, hK⟩ : ∃ K, K + 1 + (w.length - wfr w) = xN := ⟨xN - 1 - (w.length - wfr w), by have : xN = 1099511627776 := rfl; omega⟩
  have lp := fun v1 => M_real_l (v1 := v1) sw hw hl dp (w.length - wfr w) K (wfr w) 0 0 false (by omega) (Nat.le_refl _)
  rw [hK] at lp
  have ev : vsn w (w.length - wfr w) (wfr w) 0 0 false = vwd w := rfl
  rw [ev] at lp
  have dc := (quo_ok b1 b2).2
  rw [nl_ofInt] at dc
  simp only [dc, Option.bind_some, F_X16_realWord_b115] at lp
  unfold F_X16_realWord F_X16_realWord_b15 F_X16_realWord_b33
  have a0 := wch sw hw hlen
  rw [show iw ((0 : Nat) : Int) = 0 from rfl] at a0
  rw [sw.vg, Option.bind_some, a0, Option.bind_some]
  obtain ⟨f1, f2⟩ := wfr_w hw hlen
  unfold rvl
  by_cases c45 : wf w 0 = 45
  · have e1 := f1.mp c45
    have lp1 := lp 1
    rw [if_neg n1, e1] at lp1
    rw [if_pos c45, if_neg n1, if_pos e1, nl_ofInt]
    exact lp1
  · have e0 := f2.mp c45
    have lp0 := lp 0
    rw [if_pos rfl, e0] at lp0
    rw [if_neg c45, if_pos rfl, if_neg (by omega), nl_ofInt]
    exact lp0
