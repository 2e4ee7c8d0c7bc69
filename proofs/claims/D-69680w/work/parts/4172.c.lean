/-! c -/
theorem nbs_1 (b : Int32) : nbs b.toInt64 1 = [j_i2b b] := by
  show [j_i2b (j_lshr b.toInt64 ((8 : Int32) * iw ((0 : Nat) : Int))).toInt32] = _
  have e1 : j_lshr b.toInt64 ((8 : Int32) * iw ((0 : Nat) : Int)) = b.toInt64 := by
    refine Int64.toInt_inj.mp ?_
    have := lsh_r b.toInt64 (b := 0) (by decide)
    rw [show (8 : Int32) * iw ((0 : Nat) : Int) = Int32.ofNat 0 by decide, this]
    show b.toInt64.toInt / 1 = _
    rw [Int.ediv_one]
  rw [e1, Int32.toInt32_toInt64]
