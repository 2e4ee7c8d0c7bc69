/-! ===== FLOATS, 5: Soft's made, of ===== -/
theorem enc_neg (f : FP.Core.Fmt) (A B : Nat) (e : Int) : FP.Core.encode f (FP.Core.roundRatio f true A B e) = FP.Core.encode f (FP.Core.roundRatio f false A B e) + f.exps * f.tails := by
  have a1 : ∀ (x t : Nat), FP.Core.assemble f true x t = FP.Core.assemble f false x t + f.exps * f.tails := fun x t => by
    unfold FP.Core.assemble
    simp only [Bool.toNat_true, Bool.toNat_false, Nat.one_mul, Nat.zero_mul, Nat.zero_add]
    rw [Nat.add_mul]
    omega
  have b1 : ∀ (c : Nat) (q : Int), FP.Core.encode f (.fin true c q) = FP.Core.encode f (.fin false c q) + f.exps * f.tails := fun c q => by
    show (if c < f.tails then FP.Core.assemble f true 0 c else FP.Core.assemble f true ((q - f.qmin).toNat + 1) (c - f.tails)) = (if c < f.tails then FP.Core.assemble f false 0 c else FP.Core.assemble f false ((q - f.qmin).toNat + 1) (c - f.tails)) + f.exps * f.tails
    split
    · exact a1 _ _
    · exact a1 _ _
  have b2 : FP.Core.encode f (.inf true) = FP.Core.encode f (.inf false) + f.exps * f.tails := a1 _ _
  have c1 : ∀ (c : Nat) (q : Int), FP.Core.encode f (FP.Core.bound f true c q) = FP.Core.encode f (FP.Core.bound f false c q) + f.exps * f.tails := fun c q => by
    unfold FP.Core.bound
    split
    · exact b1 _ _
    · exact b2
  unfold FP.Core.roundRatio
  split
  · exact b1 _ _
  · unfold FP.Core.roundAt FP.Core.settle
    split
    · exact c1 _ _
    · exact c1 _ _
theorem f64 : FP.Core.b64.exps = 2 * FP.Core.b64.emax + 2 ∧ 1 ≤ FP.Core.b64.emax ∧ FP.Core.b64.p = 53 ∧ FP.Core.b64.emax = 1023 ∧ FP.Core.b64.exps * FP.Core.b64.tails = 2 ^ 63 := by decide
theorem f32 : FP.Core.b32.exps = 2 * FP.Core.b32.emax + 2 ∧ 1 ≤ FP.Core.b32.emax ∧ FP.Core.b32.p = 24 ∧ FP.Core.b32.emax = 127 ∧ FP.Core.b32.exps * FP.Core.b32.tails = 2 ^ 31 := by decide
/-- the encoding of a number with sign, by that without -/
theorem enc64 (s : Bool) (A B : Nat) (e : Int) : FP.Core.encode FP.Core.b64 (FP.Core.roundRatio FP.Core.b64 s A B e) = FP.Core.encode FP.Core.b64 (FP.Core.roundRatio FP.Core.b64 false A B e) + if s = true then 2 ^ 63 else 0 := by
  cases s with
  | true => rw [enc_neg, f64.2.2.2.2]; rfl
  | false => rfl
theorem enc64_lt {A B : Nat} {e : Int} : FP.Core.encode FP.Core.b64 (FP.Core.roundRatio FP.Core.b64 false A B e) < 2 ^ 63 := by
  have := enc_lt (f := FP.Core.b64) f64.1 (by decide) A B e
  rw [f64.2.2.2.2] at this
  exact this
/-- m, or a little more, times a power of 2, with a sign -/
theorem X24_made {s : Bool} {m : Nat} {e : Int} {more : Bool} (h0 : 0 < m) (h : m < 2 ^ 62) (hm : more = true → 2 ^ 54 ≤ m) (he : -18000 ≤ e) (he2 : e ≤ 20000) :
    F_X24_made (mr s) (nl m) (iw e) (mr more) = some (nl (FP.Core.encode FP.Core.b64 (FP.Core.roundRatio FP.Core.b64 s (2 * m + if more = true then 1 else 0) 1 (e - 1)))) := by
  unfold F_X24_made
  have hr := X24_rounded (p := 53) (bias := 1023) (more := more) (by decide) (by decide) h0 h he he2
  rw [show (53 : Int32) = iw ((53 : Nat) : Int) from rfl, show (1023 : Int32) = iw ((1023 : Nat) : Int) from rfl, hr]
  have hk := rndm_ok (f := FP.Core.b64) f64.1 f64.2.1 (by decide) (by decide) (e := e) (more := more) h0 h (fun hmo => by have := hm hmo; exact this)
  have hk : rndm 53 1023 m e more = FP.Core.encode FP.Core.b64 (FP.Core.roundRatio FP.Core.b64 false (2 * m + if more = true then 1 else 0) 1 (e - 1)) := hk
  show (if mr s = 0 then F_X24_made_b29 (nl (rndm 53 1023 m e more)) else F_X24_made_b29 (nl (rndm 53 1023 m e more) ||| -9223372036854775808)) = _
  rw [hk, enc64 s]
  have hlt := enc64_lt (A := 2 * m + if more = true then 1 else 0) (B := 1) (e := e - 1)
  cases s with
  | false =>
    rw [if_pos (by decide)]
    rfl
  | true =>
    rw [if_neg (by decide)]
    unfold F_X24_made_b29
    refine congrArg some (un_inj ?_)
    rw [un_or, un_nl' (by omega), show un (-9223372036854775808 : Int64) = 2 ^ 63 from rfl, if_pos rfl, un_nl' (by omega), Nat.or_comm]
    have := Nat.two_pow_add_eq_or_of_lt hlt 1
    rw [Nat.mul_one] at this
    omega
/-- the nearest double to a whole number -/
theorem X24_of (v : Int64) : F_X24_of v 0 = some ((FP.l2d v).toInt64) := by
  have eL : (FP.l2d v).toInt64 = nl (FP.Core.encode FP.Core.b64 (FP.Core.roundRatio FP.Core.b64 (decide (v.toInt < 0)) v.toInt.natAbs 1 0)) := rfl
  rw [eL]
  have hb1 := Int64.toInt_lt v
  have hb2 := Int64.le_toInt v
  unfold F_X24_of
  by_cases hz : v = 0
  · subst hz
    rw [if_pos rfl]
    rfl
  rw [if_neg hz]
  have hz' : v.toInt ≠ 0 := fun h => hz (Int64.toInt_inj.mp h)
  generalize hm : v.toInt.natAbs = m
  have hm0 : 0 < m := by omega
  have hm1 : m ≤ 2 ^ 63 := by omega
  -- from the magnitude on
  have tail : ∀ s : Bool, F_X24_of_b34 (nl m) (mr s) = some (nl (FP.Core.encode FP.Core.b64 (FP.Core.roundRatio FP.Core.b64 s m 1 0))) := by
    intro s
    have big : 2 ^ 62 ≤ m → F_X24_of_b61 (mr s) (nl m) = some (nl (FP.Core.encode FP.Core.b64 (FP.Core.roundRatio FP.Core.b64 s m 1 0))) := by
      intro hbig
      unfold F_X24_of_b61 F_X24_of_b83
      have e1 : j_lushr (nl m) 2 = nl (m / 4) := nl_ushr (k := 2) (by omega) (by decide)
      have e2 : (nl m &&& 3 = 0) ↔ m % 4 = 0 := by
        rw [show (3 : Int64) = nl (2 ^ 2 - 1) from rfl, nl_mask (k := 2) (by omega) (by decide), show (0 : Int64) = nl 0 from rfl, nl_eq (by omega) (by decide)]
      have e3 : m = 4 * (m / 4) + m % 4 := by omega
      by_cases h4 : m % 4 = 0
      · rw [if_pos (e2.mpr h4), e1]
        have hk := X24_made (s := s) (m := m / 4) (e := 2) (more := false) (by omega) (by omega) (fun h => by cases h) (by decide) (by decide)
        rw [show (2 : Int32) = iw 2 from rfl, show (0 : Int32) = mr false from rfl, hk]
        show some _ = some _
        congr 3
        refine rr_congr (by decide) (by decide) ?_
        show (2 * (m / 4) + 0) * 1 * 2 ^ 1 = m * 1 * 2 ^ 0
        omega
      · rw [if_neg (fun h => h4 (e2.mp h)), e1]
        have hk := X24_made (s := s) (m := m / 4) (e := 2) (more := true) (by omega) (by omega) (fun _ => by omega) (by decide) (by decide)
        rw [show (2 : Int32) = iw 2 from rfl, show (1 : Int32) = mr true from rfl, hk]
        show some _ = some _
        congr 3
        symm
        refine rr_sticky (f := FP.Core.b64) (by decide) ?_ ?_ ?_
        · show 2 ^ 54 ≤ m / 4
          omega
        · show m / 4 * (1 * 2 ^ 2) < m * 2 ^ 0
          omega
        · show m * 2 ^ 0 < (m / 4 + 1) * (1 * 2 ^ 2)
          omega
    unfold F_X24_of_b34
    by_cases h1 : m < 2 ^ 62
    · rw [if_pos (by rw [show (0 : Int64) = nl 0 from rfl, nl_lt (by decide) (by omega)]; omega), if_pos (by rw [show (4611686018427387904 : Int64) = nl (2 ^ 62) from rfl, nl_lt (by omega) (by decide)]; omega)]
      have hk := X24_made (s := s) (m := m) (e := 0) (more := false) hm0 h1 (fun h => by cases h) (by decide) (by decide)
      rw [show (F_X24_made (mr s) (nl m) 0 0) = F_X24_made (mr s) (nl m) (iw 0) (mr false) from rfl, hk]
      show some _ = some _
      congr 3
      refine rr_congr (by decide) (by decide) ?_
      show (2 * m + 0) * 1 * 2 ^ 0 = m * 1 * 2 ^ 1
      omega
    · by_cases h2 : (0 : Int64) < nl m
      · rw [if_pos h2]
        by_cases h3 : nl m < 4611686018427387904
        · exfalso
          by_cases h5 : m = 2 ^ 63
          · subst h5
            exact absurd h2 (by decide)
          · rw [show (4611686018427387904 : Int64) = nl (2 ^ 62) from rfl, nl_lt (by omega) (by decide)] at h3
            omega
        · rw [if_neg h3]; exact big (by omega)
      · rw [if_neg h2]; exact big (by omega)
  unfold F_X24_of_b22 F_X24_of_b23
  by_cases hneg : v < 0
  · rw [if_pos hneg, if_pos rfl]
    have hn : v.toInt < 0 := by
      have := Int64.lt_iff_toInt_lt.mp hneg
      exact this
    rw [decide_eq_true hn, if_neg (by decide)]
    have e1 : -v = nl m := by
      apply un_inj
      rw [un_nl' (by omega)]
      have h1 : un (-v) = (2 ^ 64 - un v) % 2 ^ 64 := BitVec.toNat_neg _
      have h2 : v.toInt = (un v : Int) - 2 ^ 64 := by
        have h3 : v.toInt = v.toBitVec.toInt := rfl
        rw [h3, BitVec.toInt_eq_toNat_cond]
        rw [h3, BitVec.toInt_eq_toNat_cond] at hn
        have h4 : un v = v.toBitVec.toNat := rfl
        split at hn
        · omega
        · rename_i h5
          rw [if_neg h5, h4]
          rfl
      have h6 := un_lt v
      rw [h1]
      omega
    rw [e1]
    exact tail true
  · rw [if_neg hneg]
    have hn : ¬ v.toInt < 0 := fun h => hneg (Int64.lt_iff_toInt_lt.mpr h)
    rw [decide_eq_false hn, if_pos rfl]
    have e1 : v = nl m := by
      apply Int64.toInt_inj.mp
      rw [nl_int (by omega)]
      omega
    rw [e1]
    exact tail false
