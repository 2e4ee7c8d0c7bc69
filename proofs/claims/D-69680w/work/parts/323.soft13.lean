/-! ===== FLOATS, 15: the nearest float to a whole number ===== -/
theorem rnd24 {m : Nat} {e : Int} {more : Bool} (h0 : 0 < m) (h : m < 2 ^ 62) (hm : more = true → 2 ^ 25 ≤ m) (he : -18000 ≤ e) (he2 : e ≤ 20000) :
    F_X24_rounded (nl m) (iw e) (mr more) 24 127 = some (nl (FP.Core.encode FP.Core.b32 (FP.Core.roundRatio FP.Core.b32 false (2 * m + if more = true then 1 else 0) 1 (e - 1)))) := by
  have hr := X24_rounded (p := 24) (bias := 127) (more := more) (by decide) (by decide) h0 h he he2
  rw [show (24 : Int32) = iw ((24 : Nat) : Int) from rfl, show (127 : Int32) = iw ((127 : Nat) : Int) from rfl, hr]
  have hk := rndm_ok (f := FP.Core.b32) f32.1 f32.2.1 (by decide) (by decide) (e := e) (more := more) h0 h (fun hmo => by have := hm hmo; exact this)
  have hk : rndm 24 127 m e more = FP.Core.encode FP.Core.b32 (FP.Core.roundRatio FP.Core.b32 false (2 * m + if more = true then 1 else 0) 1 (e - 1)) := hk
  rw [hk]
theorem l2f_ui (v : Int64) : ui (FP.l2f v).toInt32 = FP.Core.encode FP.Core.b32 (FP.Core.roundRatio FP.Core.b32 (decide (v.toInt < 0)) v.toInt.natAbs 1 0) := by
  have h := (okf_enc (rr_fits (f := FP.Core.b32) (s := decide (v.toInt < 0)) f32.1 f32.2.1 (by decide) (A := v.toInt.natAbs) (B := 1) (e := 0) (by decide)).1 (rr_fits (f := FP.Core.b32) (s := decide (v.toInt < 0)) f32.1 f32.2.1 (by decide) (by decide)).2).2
  show (UInt32.ofNat (FP.Core.encode FP.Core.b32 (FP.Core.roundRatio FP.Core.b32 (decide (v.toInt < 0)) v.toInt.natAbs 1 0))).toNat = _
  rw [UInt32.toNat_ofNat', Nat.mod_eq_of_lt h]
theorem l2f_ok (v : Int64) : okf (ui (FP.l2f v).toInt32) := by
  rw [l2f_ui]
  exact (okf_enc (rr_fits (f := FP.Core.b32) (s := decide (v.toInt < 0)) f32.1 f32.2.1 (by decide) (A := v.toInt.natAbs) (B := 1) (e := 0) (by decide)).1 (rr_fits (f := FP.Core.b32) (s := decide (v.toInt < 0)) f32.1 f32.2.1 (by decide) (by decide)).2).1
theorem X24_floatOf (v : Int64) : F_X24_floatOf v 0 = some ((FP.f2d (FP.l2f v)).toInt64) := by
  have hb1 := Int64.toInt_lt v
  have hb2 := Int64.le_toInt v
  unfold F_X24_floatOf
  by_cases hz : v = 0
  · subst hz
    rw [if_pos rfl]
    rfl
  rw [if_neg hz]
  have hz' : v.toInt ≠ 0 := fun h => hz (Int64.toInt_inj.mp h)
  have eL := l2f_ui v
  have oL := l2f_ok v
  have fin : ∀ (s : Bool) (K : Nat), K < 2 ^ 31 → K + (if s = true then 2 ^ 31 else 0) = ui (FP.l2f v).toInt32 → (if mr s = 0 then F_X24_floatOf_b126 (nl K).toInt32 0 else F_X24_floatOf_b126 (nl K).toInt32 (-2147483648)) = some ((FP.f2d (FP.l2f v)).toInt64) := by
    intro s K hK hE
    have e1 : (if mr s = 0 then F_X24_floatOf_b126 (nl K).toInt32 0 else F_X24_floatOf_b126 (nl K).toInt32 (-2147483648)) = F_X24_floatOf_b126 (nl K).toInt32 (if s = true then -2147483648 else 0) := by
      cases s <;> rfl
    rw [e1]
    unfold F_X24_floatOf_b126
    rw [nl_i32 (by omega), ni_sign hK, hE, ni_ui, X24_wide oL]
    rfl
  generalize hm : v.toInt.natAbs = m at *
  have hm0 : 0 < m := by omega
  have hm1 : m ≤ 2 ^ 63 := by omega
  have tail : ∀ s : Bool, decide (v.toInt < 0) = s → F_X24_floatOf_b34 (nl m) (mr s) = some ((FP.f2d (FP.l2f v)).toInt64) := by
    intro s hs
    rw [hs, enc32] at eL
    have b104 : ∀ (M : Nat) (E : Int) (more : Bool), 0 < M → M < 2 ^ 62 → (more = true → 2 ^ 25 ≤ M) → -18000 ≤ E → E ≤ 20000 →
        FP.Core.roundRatio FP.Core.b32 false (2 * M + if more = true then 1 else 0) 1 (E - 1) = FP.Core.roundRatio FP.Core.b32 false m 1 0 → F_X24_floatOf_b104 (nl M) (iw E) (mr more) (mr s) = some ((FP.f2d (FP.l2f v)).toInt64) := by
      intro M E more k0 k1 k2 k3 k4 k5
      unfold F_X24_floatOf_b104
      rw [rnd24 k0 k1 k2 k3 k4, k5]
      exact fin s _ enc32_lt eL.symm
    have big : 2 ^ 62 ≤ m → F_X24_floatOf_b56 (mr s) (nl m) = some ((FP.f2d (FP.l2f v)).toInt64) := by
      intro hbig
      unfold F_X24_floatOf_b56 F_X24_floatOf_b57 F_X24_floatOf_b73 F_X24_floatOf_b83 F_X24_floatOf_b103
      have e1 : j_lushr (nl m) 2 = nl (m / 4) := nl_ushr (k := 2) (by omega) (by decide)
      have e2 : (nl m &&& 3 = 0) ↔ m % 4 = 0 := by
        rw [show (3 : Int64) = nl (2 ^ 2 - 1) from rfl, nl_mask (k := 2) (by omega) (by decide), show (0 : Int64) = nl 0 from rfl, nl_eq (by omega) (by decide)]
      rw [if_pos rfl, if_pos rfl, if_pos rfl, e1]
      by_cases h4 : m % 4 = 0
      · rw [if_pos (e2.mpr h4)]
        refine b104 (m / 4) 2 false (by omega) (by omega) (fun h => by cases h) (by decide) (by decide) ?_
        refine rr_congr (by decide) (by decide) ?_
        show (2 * (m / 4) + 0) * 1 * 2 ^ 1 = m * 1 * 2 ^ 0
        omega
      · rw [if_neg (fun h => h4 (e2.mp h))]
        refine b104 (m / 4) 2 true (by omega) (by omega) (fun _ => by omega) (by decide) (by decide) ?_
        symm
        refine rr_sticky (f := FP.Core.b32) (by decide) ?_ ?_ ?_
        · show 2 ^ 25 ≤ m / 4
          omega
        · show m / 4 * (1 * 2 ^ 2) < m * 2 ^ 0
          omega
        · show m * 2 ^ 0 < (m / 4 + 1) * (1 * 2 ^ 2)
          omega
    unfold F_X24_floatOf_b34
    by_cases h1 : m < 2 ^ 62
    · rw [if_pos (by rw [show (0 : Int64) = nl 0 from rfl, nl_lt (by decide) (by omega)]; omega), if_pos (by rw [show (4611686018427387904 : Int64) = nl (2 ^ 62) from rfl, nl_lt (by omega) (by decide)]; omega)]
      unfold F_X24_floatOf_b57 F_X24_floatOf_b73 F_X24_floatOf_b83 F_X24_floatOf_b103
      rw [if_neg (by decide), if_neg (by decide), if_neg (by decide)]
      refine b104 m 0 false hm0 h1 (fun h => by cases h) (by decide) (by decide) ?_
      refine rr_congr (by decide) (by decide) ?_
      show (2 * m + 0) * 1 * 2 ^ 0 = m * 1 * 2 ^ 1
      omega
    · by_cases h2 : (0 : Int64) < nl m
      · rw [if_pos h2]
        by_cases h3 : nl m < 4611686018427387904
        · exfalso
          by_cases h5 : m = 2 ^ 63
          · rw [h5] at h2
            exact absurd h2 (by decide)
          · rw [show (4611686018427387904 : Int64) = nl (2 ^ 62) from rfl, nl_lt (by omega) (by decide)] at h3
            omega
        · rw [if_neg h3]; exact big (by omega)
      · rw [if_neg h2]; exact big (by omega)
  unfold F_X24_floatOf_b22 F_X24_floatOf_b23
  by_cases hneg : v < 0
  · rw [if_pos hneg, if_pos rfl]
    have hn : v.toInt < 0 := by
      have := Int64.lt_iff_toInt_lt.mp hneg
      exact this
    rw [if_neg (by decide)]
    have e1 : -v = nl m := by
      apply Int64.toBitVec_inj.mp
      apply BitVec.eq_of_toNat_eq
      have h1 : (-v).toBitVec.toNat = (2 ^ 64 - un v) % 2 ^ 64 := BitVec.toNat_neg _
      have h2 := neg_int v
      have h6 := un_lt v
      have h7 : (nl m).toBitVec.toNat = m := un_nl' (by omega)
      have h8 : dS (un v) = true := (neg_iff v).mp hneg
      rw [h8, if_pos rfl] at h2
      have h9 : 2 ^ 63 ≤ un v := by
        unfold dS at h8
        exact of_decide_eq_true h8
      rw [h1, h7]
      omega
    rw [e1]
    exact tail true (decide_eq_true hn)
  · rw [if_neg hneg]
    have hn : ¬ v.toInt < 0 := fun h => hneg (Int64.lt_iff_toInt_lt.mpr h)
    rw [if_pos rfl]
    have e1 : v = nl m := by
      apply Int64.toInt_inj.mp
      rw [nl_int (by omega)]
      omega
    have ht := tail false (decide_eq_false hn)
    rw [← e1] at ht
    exact ht
