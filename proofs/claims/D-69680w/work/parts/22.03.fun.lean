/-! ===== functions: GENERATED ===== -/
noncomputable def F_X16_floating_b304  (M : Mem) (v0 : Nat) : Option ((Int64 × Mem) ⊕ (Nat × Mem)) :=
  (vg M v0 17).bind fun _ =>
  (F_X16_fails M v0 (8 : Int32)).bind fun z2 =>
  (ie z2.2 z2.1).bind fun _ => some (.inr (z2.1, z2.2))
noncomputable def F_X16_floating_b206  (M : Mem) (v2 : Int64) (v10 : Int64) : Option ((Int64 × Mem) ⊕ (Nat × Mem)) :=
  (F_X24_add v2 v10).bind fun z3 =>
  some (.inl (z3, M))
noncomputable def F_X16_floating_b180  (M : Mem) (s0 : Int64) (v0 : Nat) (v2 : Int64) (v6 : Int32) (v7 : Int32) : Option ((Int64 × Mem) ⊕ (Nat × Mem)) :=
  if v6 = 0 then
    F_X16_floating_b206  M v2 s0
  else
    if v7 = 0 then
      F_X16_floating_b206  M v2 s0
    else
      if v2 = s0 then
        F_X16_floating_b206  M v2 s0
      else
        (vg M v0 17).bind fun _ =>
        (F_X16_fails M v0 (8 : Int32)).bind fun z5 =>
        (ie z5.2 z5.1).bind fun _ => some (.inr (z5.1, z5.2))
noncomputable def F_X16_floating_b160  (M : Mem) (v0 : Nat) (v1 : Nat) (v2 : Int64) (v4 : Int64) (v6 : Int32) (v7 : Int32) : Option ((Int64 × Mem) ⊕ (Nat × Mem)) :=
  (vg M v1 76).bind fun _ =>
  (F_J15_equals M v1 34).bind fun z7 =>
  if z7 = 0 then
    F_X16_floating_b180  M v4 v0 v2 v6 v7
  else
    (F_X24_negative v4).bind fun z8 =>
    F_X16_floating_b180  M z8 v0 v2 v6 v7
noncomputable def F_X16_floating_b245  (M : Mem) (v2 : Int64) (v4 : Int64) : Option ((Int64 × Mem) ⊕ (Nat × Mem)) :=
  (F_X24_multiply v2 v4).bind fun z9 =>
  some (.inl (z9, M))
noncomputable def F_X16_floating_b238  (M : Mem) (v0 : Nat) : Option ((Int64 × Mem) ⊕ (Nat × Mem)) :=
  (vg M v0 17).bind fun _ =>
  (F_X16_fails M v0 (8 : Int32)).bind fun z11 =>
  (ie z11.2 z11.1).bind fun _ => some (.inr (z11.1, z11.2))
noncomputable def F_X16_floating_b226  (M : Mem) (v0 : Nat) (v2 : Int64) (v4 : Int64) (v7 : Int32) : Option ((Int64 × Mem) ⊕ (Nat × Mem)) :=
  if v7 = 0 then
    F_X16_floating_b245  M v2 v4
  else
    (F_X24_isZero v2).bind fun z12 =>
    if z12 = 0 then
      F_X16_floating_b245  M v2 v4
    else
      F_X16_floating_b238  M v0
noncomputable def F_X16_floating_b284  (M : Mem) (v2 : Int64) (v4 : Int64) : Option ((Int64 × Mem) ⊕ (Nat × Mem)) :=
  (F_X24_divide v2 v4).bind fun z13 =>
  some (.inl (z13, M))
noncomputable def F_X16_floating_b277  (M : Mem) (v0 : Nat) : Option ((Int64 × Mem) ⊕ (Nat × Mem)) :=
  (vg M v0 17).bind fun _ =>
  (F_X16_fails M v0 (8 : Int32)).bind fun z15 =>
  (ie z15.2 z15.1).bind fun _ => some (.inr (z15.1, z15.2))
noncomputable def F_X16_floating_b262  (M : Mem) (v0 : Nat) (v2 : Int64) (v4 : Int64) : Option ((Int64 × Mem) ⊕ (Nat × Mem)) :=
  (F_X24_isZero v2).bind fun z16 =>
  if z16 = 0 then
    F_X16_floating_b284  M v2 v4
  else
    (F_X24_isZero v4).bind fun z17 =>
    if z17 = 0 then
      F_X16_floating_b284  M v2 v4
    else
      F_X16_floating_b277  M v0
noncomputable def F_X16_floating_b129  (M : Mem) (v0 : Nat) (v1 : Nat) (v2 : Int64) (v4 : Int64) (v6 : Int32) (v7 : Int32) (v9 : Int32) : Option ((Int64 × Mem) ⊕ (Nat × Mem)) :=
  if v9 = (0 : Int32) then
    F_X16_floating_b160  M v0 v1 v2 v4 v6 v7
  else
    if v9 = (1 : Int32) then
      F_X16_floating_b160  M v0 v1 v2 v4 v6 v7
    else
      if v9 = (2 : Int32) then
        if v6 = 0 then
          F_X16_floating_b226  M v0 v2 v4 v7
        else
          (F_X24_isZero v4).bind fun z18 =>
          if z18 = 0 then
            F_X16_floating_b226  M v0 v2 v4 v7
          else
            F_X16_floating_b238  M v0
      else
        if v9 = (3 : Int32) then
          if v6 = 0 then
            F_X16_floating_b262  M v0 v2 v4
          else
            if v7 = 0 then
              F_X16_floating_b262  M v0 v2 v4
            else
              F_X16_floating_b277  M v0
        else
          if v6 = 0 then
            (F_X24_isZero v4).bind fun z19 =>
            if z19 = 0 then
              (F_X16_rest v2 v4).bind fun z20 =>
              some (.inl (z20, M))
            else
              F_X16_floating_b304  M v0
          else
            F_X16_floating_b304  M v0
noncomputable def F_X16_floating (M : Mem) (v0 : Nat) (v1 : Nat) (v2 : Int64) (v4 : Int64) : Option ((Int64 × Mem) ⊕ (Nat × Mem)) :=
  (F_X24_isInfinite v2).bind fun z21 =>
  (F_X24_isInfinite v4).bind fun z22 =>
  (vg M v1 76).bind fun _ =>
  (F_J15_hashCode M v1).bind fun z24 =>
  if z24.1 = (42 : Int32) then
    (vg z24.2 v1 76).bind fun _ =>
    (F_J15_equals z24.2 v1 31).bind fun z26 =>
    if z26 = 0 then
      F_X16_floating_b129  z24.2 v0 v1 v2 v4 z21 z22 (-1 : Int32)
    else
      F_X16_floating_b129  z24.2 v0 v1 v2 v4 z21 z22 (2 : Int32)
  else
    if z24.1 = (43 : Int32) then
      (vg z24.2 v1 76).bind fun _ =>
      (F_J15_equals z24.2 v1 32).bind fun z28 =>
      if z28 = 0 then
        F_X16_floating_b129  z24.2 v0 v1 v2 v4 z21 z22 (-1 : Int32)
      else
        F_X16_floating_b129  z24.2 v0 v1 v2 v4 z21 z22 (0 : Int32)
    else
      if z24.1 = (44 : Int32) then
        F_X16_floating_b129  z24.2 v0 v1 v2 v4 z21 z22 (-1 : Int32)
      else
        if z24.1 = (45 : Int32) then
          (vg z24.2 v1 76).bind fun _ =>
          (F_J15_equals z24.2 v1 34).bind fun z30 =>
          if z30 = 0 then
            F_X16_floating_b129  z24.2 v0 v1 v2 v4 z21 z22 (-1 : Int32)
          else
            F_X16_floating_b129  z24.2 v0 v1 v2 v4 z21 z22 (1 : Int32)
        else
          if z24.1 = (46 : Int32) then
            F_X16_floating_b129  z24.2 v0 v1 v2 v4 z21 z22 (-1 : Int32)
          else
            if z24.1 = (47 : Int32) then
              (vg z24.2 v1 76).bind fun _ =>
              (F_J15_equals z24.2 v1 35).bind fun z32 =>
              if z32 = 0 then
                F_X16_floating_b129  z24.2 v0 v1 v2 v4 z21 z22 (-1 : Int32)
              else
                F_X16_floating_b129  z24.2 v0 v1 v2 v4 z21 z22 (3 : Int32)
            else
              F_X16_floating_b129  z24.2 v0 v1 v2 v4 z21 z22 (-1 : Int32)
noncomputable def F_X16_ofReal_b19  (s0 : Int64) : Option Int64 :=
  some s0
noncomputable def F_X16_ofReal (v0 : Int64) (v2 : Int32) : Option Int64 :=
  if v2 = (6 : Int32) then
    (F_X24_narrow v0).bind fun z1 =>
    F_X16_ofReal_b19  (z1.toInt64 &&& (4294967295 : Int64))
  else
    F_X16_ofReal_b19  v0
noncomputable def F_X16_arithmetic_b308  (M : Mem) (s0 : Int64) : Option ((Int64 × Mem) ⊕ (Nat × Mem)) :=
  some (.inl (s0, M))
noncomputable def F_X16_arithmetic_b294  (M : Mem) (v2 : Int32) (v8 : Int64) : Option ((Int64 × Mem) ⊕ (Nat × Mem)) :=
  if v2 = (4 : Int32) then
    F_X16_arithmetic_b308  M ((v8.toInt32).toInt64)
  else
    F_X16_arithmetic_b308  M v8
noncomputable def F_X16_arithmetic_b221  (M : Mem) (v2 : Int32) (v3 : Int64) (v5 : Int64) (v11 : Int32) : Option ((Int64 × Mem) ⊕ (Nat × Mem)) :=
  if v11 = (0 : Int32) then
    let v8_1 : Int64 := (v3 + v5)
    F_X16_arithmetic_b294  M v2 v8_1
  else
    if v11 = (1 : Int32) then
      let v8_2 : Int64 := (v3 - v5)
      F_X16_arithmetic_b294  M v2 v8_2
    else
      if v11 = (2 : Int32) then
        let v8_3 : Int64 := (v3 * v5)
        F_X16_arithmetic_b294  M v2 v8_3
      else
        if v11 = (3 : Int32) then
          if v5 = 0 then none else
          let v8_4 : Int64 := (v3 / v5)
          F_X16_arithmetic_b294  M v2 v8_4
        else
          if v5 = 0 then none else
          let v8_5 : Int64 := (j_lrem v3 v5)
          F_X16_arithmetic_b294  M v2 v8_5
noncomputable def F_X16_arithmetic_b107  (M : Mem) (v1 : Nat) (v2 : Int32) (v3 : Int64) (v5 : Int64) : Option ((Int64 × Mem) ⊕ (Nat × Mem)) :=
  (vg M v1 76).bind fun _ =>
  (F_J15_hashCode M v1).bind fun z7 =>
  if z7.1 = (42 : Int32) then
    (vg z7.2 v1 76).bind fun _ =>
    (F_J15_equals z7.2 v1 31).bind fun z9 =>
    if z9 = 0 then
      F_X16_arithmetic_b221  z7.2 v2 v3 v5 (-1 : Int32)
    else
      F_X16_arithmetic_b221  z7.2 v2 v3 v5 (2 : Int32)
  else
    if z7.1 = (43 : Int32) then
      (vg z7.2 v1 76).bind fun _ =>
      (F_J15_equals z7.2 v1 32).bind fun z11 =>
      if z11 = 0 then
        F_X16_arithmetic_b221  z7.2 v2 v3 v5 (-1 : Int32)
      else
        F_X16_arithmetic_b221  z7.2 v2 v3 v5 (0 : Int32)
    else
      if z7.1 = (44 : Int32) then
        F_X16_arithmetic_b221  z7.2 v2 v3 v5 (-1 : Int32)
      else
        if z7.1 = (45 : Int32) then
          (vg z7.2 v1 76).bind fun _ =>
          (F_J15_equals z7.2 v1 34).bind fun z13 =>
          if z13 = 0 then
            F_X16_arithmetic_b221  z7.2 v2 v3 v5 (-1 : Int32)
          else
            F_X16_arithmetic_b221  z7.2 v2 v3 v5 (1 : Int32)
        else
          if z7.1 = (46 : Int32) then
            F_X16_arithmetic_b221  z7.2 v2 v3 v5 (-1 : Int32)
          else
            if z7.1 = (47 : Int32) then
              (vg z7.2 v1 76).bind fun _ =>
              (F_J15_equals z7.2 v1 35).bind fun z15 =>
              if z15 = 0 then
                F_X16_arithmetic_b221  z7.2 v2 v3 v5 (-1 : Int32)
              else
                F_X16_arithmetic_b221  z7.2 v2 v3 v5 (3 : Int32)
            else
              F_X16_arithmetic_b221  z7.2 v2 v3 v5 (-1 : Int32)
noncomputable def F_X16_arithmetic_b102  (M : Mem) (s0 : Int64) (v2 : Int32) : Option ((Int64 × Mem) ⊕ (Nat × Mem)) :=
  F_X16_arithmetic_b294  M v2 s0
noncomputable def F_X16_arithmetic_b72  (M : Mem) (v1 : Nat) (v2 : Int32) (v3 : Int64) (v5 : Int64) (v7 : Int32) : Option ((Int64 × Mem) ⊕ (Nat × Mem)) :=
  if v7 = 0 then
    F_X16_arithmetic_b107  M v1 v2 v3 v5
  else
    if v5 = (-1 : Int64) then
      (vg M v1 76).bind fun _ =>
      (F_J15_equals M v1 35).bind fun z17 =>
      if z17 = 0 then
        F_X16_arithmetic_b102  M (0 : Int64) v2
      else
        F_X16_arithmetic_b102  M (-v3) v2
    else
      F_X16_arithmetic_b107  M v1 v2 v3 v5
noncomputable def F_X16_arithmetic_b51  (M : Mem) (s0 : Int32) (v0 : Nat) (v1 : Nat) (v2 : Int32) (v3 : Int64) (v5 : Int64) : Option ((Int64 × Mem) ⊕ (Nat × Mem)) :=
  if s0 = 0 then
    F_X16_arithmetic_b72  M v1 v2 v3 v5 s0
  else
    if v5 = (0 : Int64) then
      (vg M v0 17).bind fun _ =>
      (F_X16_fails M v0 (8 : Int32)).bind fun z19 =>
      (ie z19.2 z19.1).bind fun _ => some (.inr (z19.1, z19.2))
    else
      F_X16_arithmetic_b72  M v1 v2 v3 v5 s0
noncomputable def F_X16_arithmetic_b46  (M : Mem) (v0 : Nat) (v1 : Nat) (v2 : Int32) (v3 : Int64) (v5 : Int64) : Option ((Int64 × Mem) ⊕ (Nat × Mem)) :=
  F_X16_arithmetic_b51  M (1 : Int32) v0 v1 v2 v3 v5
noncomputable def F_X16_arithmetic (M : Mem) (v0 : Nat) (v1 : Nat) (v2 : Int32) (v3 : Int64) (v5 : Int64) : Option ((Int64 × Mem) ⊕ (Nat × Mem)) :=
  if (5 : Int32) < v2 then
    (F_X16_real v3 v2).bind fun z20 =>
    (F_X16_real v5 v2).bind fun z21 =>
    (vg M v0 17).bind fun _ =>
    tb (F_X16_floating M v0 v1 z20 z21) fun z23 =>
    (F_X16_ofReal z23.1 v2).bind fun z24 =>
    some (.inl (z24, z23.2))
  else
    (vg M v1 76).bind fun _ =>
    (F_J15_equals M v1 35).bind fun z26 =>
    if z26 = 0 then
      (vg M v1 76).bind fun _ =>
      (F_J15_equals M v1 25).bind fun z28 =>
      if z28 = 0 then
        F_X16_arithmetic_b51  M (0 : Int32) v0 v1 v2 v3 v5
      else
        F_X16_arithmetic_b46  M v0 v1 v2 v3 v5
    else
      F_X16_arithmetic_b46  M v0 v1 v2 v3 v5
noncomputable def F_X16_shifted_b97  (M : Mem) (s0 : Int64) : Option Int64 :=
  some s0
noncomputable def F_X16_shifted_b48  (M : Mem) (s0 : Int64) : Option Int64 :=
  some s0
noncomputable def F_X16_shifted (M : Mem) (v0 : Nat) (v1 : Int32) (v2 : Int64) (v4 : Int64) : Option Int64 :=
  let v6_1 : Int32 := v4.toInt32
  if v1 = (5 : Int32) then
    (vg M v0 76).bind fun _ =>
    (F_J15_equals M v0 40).bind fun z3 =>
    if z3 = 0 then
      (vg M v0 76).bind fun _ =>
      (F_J15_equals M v0 46).bind fun z5 =>
      if z5 = 0 then
        F_X16_shifted_b48  M (j_lushr v2 v6_1)
      else
        F_X16_shifted_b48  M (j_lshr v2 v6_1)
    else
      F_X16_shifted_b48  M (j_lshl v2 v6_1)
  else
    let v7_6 : Int32 := v2.toInt32
    (vg M v0 76).bind fun _ =>
    (F_J15_equals M v0 40).bind fun z8 =>
    if z8 = 0 then
      (vg M v0 76).bind fun _ =>
      (F_J15_equals M v0 46).bind fun z10 =>
      if z10 = 0 then
        F_X16_shifted_b97  M ((j_iushr v7_6 v6_1).toInt64)
      else
        F_X16_shifted_b97  M ((j_ishr v7_6 v6_1).toInt64)
    else
      F_X16_shifted_b97  M ((j_ishl v7_6 v6_1).toInt64)
noncomputable def F_X24_compare_b75  (s0 : Int32) : Option Int32 :=
  some s0
noncomputable def F_X24_compare_b48  (s0 : Int64) (v4 : Int64) : Option Int32 :=
  if v4 < s0 then
    F_X24_compare_b75  (-1 : Int32)
  else
    if s0 < v4 then
      F_X24_compare_b75  (1 : Int32)
    else
      F_X24_compare_b75  (0 : Int32)
noncomputable def F_X24_compare_b31  (s0 : Int64) (v2 : Int64) : Option Int32 :=
  if v2 < (0 : Int64) then
    F_X24_compare_b48  (v2 ^^^ (9223372036854775807 : Int64)) s0
  else
    F_X24_compare_b48  v2 s0
noncomputable def F_X24_compare_b16  (v0 : Int64) (v2 : Int64) : Option Int32 :=
  if v0 < (0 : Int64) then
    F_X24_compare_b31  (v0 ^^^ (9223372036854775807 : Int64)) v2
  else
    F_X24_compare_b31  v0 v2
noncomputable def F_X24_compare (v0 : Int64) (v2 : Int64) : Option Int32 :=
  (F_X24_isZero v0).bind fun z1 =>
  if z1 = 0 then
    F_X24_compare_b16  v0 v2
  else
    (F_X24_isZero v2).bind fun z2 =>
    if z2 = 0 then
      F_X24_compare_b16  v0 v2
    else
      some (0 : Int32)
noncomputable def F_X16_compared_b277  (M : Mem) (s0 : Int32) : Option (Int32 × Mem) :=
  some ((s0 &&& 1), M)
noncomputable def F_X16_compared_b222  (M : Mem) (s0 : Int32) : Option (Int32 × Mem) :=
  some ((s0 &&& 1), M)
noncomputable def F_X16_compared_b233  (M : Mem) (s0 : Int32) : Option (Int32 × Mem) :=
  some ((s0 &&& 1), M)
noncomputable def F_X16_compared_b244  (M : Mem) (s0 : Int32) : Option (Int32 × Mem) :=
  some ((s0 &&& 1), M)
noncomputable def F_X16_compared_b255  (M : Mem) (s0 : Int32) : Option (Int32 × Mem) :=
  some ((s0 &&& 1), M)
noncomputable def F_X16_compared_b266  (M : Mem) (s0 : Int32) : Option (Int32 × Mem) :=
  some ((s0 &&& 1), M)
noncomputable def F_X16_compared_b174  (M : Mem) (v6 : Int32) (v8 : Int32) : Option (Int32 × Mem) :=
  if v8 = (0 : Int32) then
    if v6 = 0 then
      F_X16_compared_b222  M (1 : Int32)
    else
      F_X16_compared_b222  M (0 : Int32)
  else
    if v8 = (1 : Int32) then
      if v6 = 0 then
        F_X16_compared_b233  M (0 : Int32)
      else
        F_X16_compared_b233  M (1 : Int32)
    else
      if v8 = (2 : Int32) then
        if v6 < 0 then
          F_X16_compared_b244  M (1 : Int32)
        else
          F_X16_compared_b244  M (0 : Int32)
      else
        if v8 = (3 : Int32) then
          if 0 < v6 then
            F_X16_compared_b255  M (1 : Int32)
          else
            F_X16_compared_b255  M (0 : Int32)
        else
          if v8 = (4 : Int32) then
            if 0 < v6 then
              F_X16_compared_b266  M (0 : Int32)
            else
              F_X16_compared_b266  M (1 : Int32)
          else
            if v6 < 0 then
              F_X16_compared_b277  M (0 : Int32)
            else
              F_X16_compared_b277  M (1 : Int32)
noncomputable def F_X16_compared_b28  (M : Mem) (s0 : Int32) (v0 : Nat) : Option (Int32 × Mem) :=
  (vg M v0 76).bind fun _ =>
  (F_J15_hashCode M v0).bind fun z2 =>
  if z2.1 = (60 : Int32) then
    (vg z2.2 v0 76).bind fun _ =>
    (F_J15_equals z2.2 v0 39).bind fun z4 =>
    if z4 = 0 then
      F_X16_compared_b174  z2.2 s0 (-1 : Int32)
    else
      F_X16_compared_b174  z2.2 s0 (2 : Int32)
  else
    if z2.1 = (62 : Int32) then
      (vg z2.2 v0 76).bind fun _ =>
      (F_J15_equals z2.2 v0 44).bind fun z6 =>
      if z6 = 0 then
        F_X16_compared_b174  z2.2 s0 (-1 : Int32)
      else
        F_X16_compared_b174  z2.2 s0 (3 : Int32)
    else
      if z2.1 = (1084 : Int32) then
        (vg z2.2 v0 76).bind fun _ =>
        (F_J15_equals z2.2 v0 24).bind fun z8 =>
        if z8 = 0 then
          F_X16_compared_b174  z2.2 s0 (-1 : Int32)
        else
          F_X16_compared_b174  z2.2 s0 (1 : Int32)
      else
        if z2.1 = (1921 : Int32) then
          (vg z2.2 v0 76).bind fun _ =>
          (F_J15_equals z2.2 v0 41).bind fun z10 =>
          if z10 = 0 then
            F_X16_compared_b174  z2.2 s0 (-1 : Int32)
          else
            F_X16_compared_b174  z2.2 s0 (4 : Int32)
        else
          if z2.1 = (1952 : Int32) then
            (vg z2.2 v0 76).bind fun _ =>
            (F_J15_equals z2.2 v0 43).bind fun z12 =>
            if z12 = 0 then
              F_X16_compared_b174  z2.2 s0 (-1 : Int32)
            else
              F_X16_compared_b174  z2.2 s0 (0 : Int32)
          else
            F_X16_compared_b174  z2.2 s0 (-1 : Int32)
noncomputable def F_X16_compared (M : Mem) (v0 : Nat) (v1 : Int32) (v2 : Int64) (v4 : Int64) : Option (Int32 × Mem) :=
  if (5 : Int32) < v1 then
    (F_X16_real v2 v1).bind fun z13 =>
    (F_X16_real v4 v1).bind fun z14 =>
    (F_X24_compare z13 z14).bind fun z15 =>
    F_X16_compared_b28  M z15 v0
  else
    (F_J20_compare v2 v4).bind fun z16 =>
    F_X16_compared_b28  M z16 v0
noncomputable def F_X16_ranked_b29  (s0 : Int64) : Option Int64 :=
  some s0
noncomputable def F_X16_ranked (v0 : Int64) (v2 : Int32) : Option Int64 :=
  if v2 < (6 : Int32) then
    some v0
  else
    (F_X16_real v0 v2).bind fun z1 =>
    if z1 < (0 : Int64) then
      F_X16_ranked_b29  (z1 ^^^ (9223372036854775807 : Int64))
    else
      F_X16_ranked_b29  z1
noncomputable def F_X16_exact_b186  (M : Mem) (v0 : Nat) (v7 : Int64) (v9 : Int32) : Option ((Int64 × Mem) ⊕ (Nat × Mem)) :=
  if v9 = 0 then
    (vg M v0 17).bind fun _ =>
    (F_X16_fails M v0 (8 : Int32)).bind fun z2 =>
    (ie z2.2 z2.1).bind fun _ => some (.inr (z2.1, z2.2))
  else
    some (.inl (v7, M))
noncomputable def F_X16_exact_b184  (M : Mem) (s0 : Int32) (v0 : Nat) (v7 : Int64) : Option ((Int64 × Mem) ⊕ (Nat × Mem)) :=
  F_X16_exact_b186  M v0 v7 s0
noncomputable def F_X16_exact_b179  (M : Mem) (v0 : Nat) (v7 : Int64) : Option ((Int64 × Mem) ⊕ (Nat × Mem)) :=
  F_X16_exact_b184  M (1 : Int32) v0 v7
noncomputable def F_X16_exact_b183  (M : Mem) (v0 : Nat) (v7 : Int64) : Option ((Int64 × Mem) ⊕ (Nat × Mem)) :=
  F_X16_exact_b184  M (0 : Int32) v0 v7
noncomputable def F_X16_exact_b159  (M : Mem) (v0 : Nat) (v3 : Int64) (v5 : Int64) (v7 : Int64) : Option ((Int64 × Mem) ⊕ (Nat × Mem)) :=
  if v5 = 0 then none else
  if (v7 / v5) = v3 then
    if v5 = 0 then none else
    if (j_lrem v7 v5) = (0 : Int64) then
      F_X16_exact_b179  M v0 v7
    else
      F_X16_exact_b183  M v0 v7
  else
    F_X16_exact_b183  M v0 v7
noncomputable def F_X16_exact_b142  (M : Mem) (v0 : Nat) (v3 : Int64) (v5 : Int64) (v7 : Int64) : Option ((Int64 × Mem) ⊕ (Nat × Mem)) :=
  if v5 = (-1 : Int64) then
    if v3 = (-9223372036854775808 : Int64) then
      F_X16_exact_b183  M v0 v7
    else
      F_X16_exact_b159  M v0 v3 v5 v7
  else
    F_X16_exact_b159  M v0 v3 v5 v7
noncomputable def F_X16_exact_b107  (M : Mem) (s0 : Int32) (v0 : Nat) (v7 : Int64) : Option ((Int64 × Mem) ⊕ (Nat × Mem)) :=
  F_X16_exact_b186  M v0 v7 s0
noncomputable def F_X16_exact_b78  (M : Mem) (s0 : Int32) (v0 : Nat) (v7 : Int64) : Option ((Int64 × Mem) ⊕ (Nat × Mem)) :=
  F_X16_exact_b186  M v0 v7 s0
noncomputable def F_X16_exact_b49  (M : Mem) (s0 : Int32) (v0 : Nat) (v7 : Int64) : Option ((Int64 × Mem) ⊕ (Nat × Mem)) :=
  F_X16_exact_b186  M v0 v7 s0
noncomputable def F_X16_exact_b27  (M : Mem) (s0 : Int64) (v0 : Nat) (v1 : Int32) (v2 : Int32) (v3 : Int64) (v5 : Int64) : Option ((Int64 × Mem) ⊕ (Nat × Mem)) :=
  if v2 = (4 : Int32) then
    if s0 = (s0.toInt32).toInt64 then
      F_X16_exact_b49  M (1 : Int32) v0 s0
    else
      F_X16_exact_b49  M (0 : Int32) v0 s0
  else
    if v1 = 0 then
      if ((v3 ^^^ s0) &&& (v5 ^^^ s0)) < (0 : Int64) then
        F_X16_exact_b78  M (0 : Int32) v0 s0
      else
        F_X16_exact_b78  M (1 : Int32) v0 s0
    else
      if v1 = (1 : Int32) then
        if ((v3 ^^^ v5) &&& (v3 ^^^ s0)) < (0 : Int64) then
          F_X16_exact_b107  M (0 : Int32) v0 s0
        else
          F_X16_exact_b107  M (1 : Int32) v0 s0
      else
        if v3 = (0 : Int64) then
          F_X16_exact_b179  M v0 s0
        else
          if v5 = (0 : Int64) then
            F_X16_exact_b179  M v0 s0
          else
            if v3 = (-1 : Int64) then
              if v5 = (-9223372036854775808 : Int64) then
                F_X16_exact_b183  M v0 s0
              else
                F_X16_exact_b142  M v0 v3 v5 s0
            else
              F_X16_exact_b142  M v0 v3 v5 s0
noncomputable def F_X16_exact (M : Mem) (v0 : Nat) (v1 : Int32) (v2 : Int32) (v3 : Int64) (v5 : Int64) : Option ((Int64 × Mem) ⊕ (Nat × Mem)) :=
  if v1 = 0 then
    F_X16_exact_b27  M (v3 + v5) v0 v1 v2 v3 v5
  else
    if v1 = (1 : Int32) then
      F_X16_exact_b27  M (v3 - v5) v0 v1 v2 v3 v5
    else
      F_X16_exact_b27  M (v3 * v5) v0 v1 v2 v3 v5
noncomputable def F_X16_ones_b49  (s0 : Int32) : Option Int32 :=
  some s0
noncomputable def F_X16_ones_b33 (k8 : Int64 → Int32 → Int32 → Int32 → Int32 → Option Int32) (v0 : Int64) (v2 : Int32) (v3 : Int32) (v4 : Int32) (v5 : Int32) : Option Int32 :=
  let v5_1 : Int32 := v5 + (1 : Int32)
  k8 v0 v2 v3 v4 v5_1
noncomputable def F_X16_ones_b8_st (k8 : Int64 → Int32 → Int32 → Int32 → Int32 → Option Int32) (v0 : Int64) (v2 : Int32) (v3 : Int32) (v4 : Int32) (v5 : Int32) : Option Int32 :=
  if v5 < (64 : Int32) then
    if ((j_lushr v0 v5) &&& (1 : Int64)) = (1 : Int64) then
      let v3_2 : Int32 := v3 + (1 : Int32)
      F_X16_ones_b33 k8 v0 v2 v3_2 v5 v5
    else
      F_X16_ones_b33 k8 v0 v2 v3 v4 v5
  else
    if v2 = 0 then
      F_X16_ones_b49  v3
    else
      F_X16_ones_b49  v4
noncomputable def F_X16_ones_b8  (n : Nat) : Int64 → Int32 → Int32 → Int32 → Int32 → Option Int32 :=
  Nat.rec (motive := fun _ => Int64 → Int32 → Int32 → Int32 → Int32 → Option Int32) (fun _ _ _ _ _ => none) (fun _ ih => F_X16_ones_b8_st ih) n
noncomputable def F_X16_ones (v0 : Int64) (v2 : Int32) : Option Int32 :=
  F_X16_ones_b8  xN v0 v2 (0 : Int32) (-1 : Int32) (0 : Int32)
noncomputable def F_X24_root_b131  (s0 : Int32) (s1 : Int64) (s2 : Int32) (s3 : Int32) : Option Int64 :=
  (F_X24_made s0 s1 s2 s3).bind fun z1 =>
  some z1
noncomputable def F_X24_root_b104 (k33 : Int32 → Int64 → Int64 → Int64 → Int32 → Option Int64) (v2 : Int32) (v3 : Int64) (v5 : Int64) (v7 : Int64) (v9 : Int32) : Option Int64 :=
  let v9_2 : Int32 := v9 + (-1 : Int32)
  k33 v2 v3 v5 v7 v9_2
noncomputable def F_X24_root_b66 (k33 : Int32 → Int64 → Int64 → Int64 → Int32 → Option Int64) (s0 : Int64) (s1 : Int64) (v2 : Int32) (v3 : Int64) (v7 : Int64) (v9 : Int32) : Option Int64 :=
  let v5_3 : Int64 := (s0 ||| s1)
  let v10_4 : Int64 := ((j_lshl v7 (2 : Int32)) ||| (1 : Int64))
  let v7_5 : Int64 := (j_lshl v7 (1 : Int32))
  if v5_3 < v10_4 then
    F_X24_root_b104 k33 v2 v3 v5_3 v7_5 v9
  else
    let v5_6 : Int64 := (v5_3 - v10_4)
    let v7_7 : Int64 := (v7_5 ||| (1 : Int64))
    F_X24_root_b104 k33 v2 v3 v5_6 v7_7 v9
noncomputable def F_X24_root_b33_st (k33 : Int32 → Int64 → Int64 → Int64 → Int32 → Option Int64) (v2 : Int32) (v3 : Int64) (v5 : Int64) (v7 : Int64) (v9 : Int32) : Option Int64 :=
  if v9 < 0 then
    if (2 : Int32) = 0 then none else
    if v5 = (0 : Int64) then
      F_X24_root_b131  (0 : Int32) v7 ((v2 - (54 : Int32)) / (2 : Int32)) (0 : Int32)
    else
      F_X24_root_b131  (0 : Int32) v7 ((v2 - (54 : Int32)) / (2 : Int32)) (1 : Int32)
  else
    if v9 < (27 : Int32) then
      F_X24_root_b66 k33 (j_lshl v5 (2 : Int32)) (0 : Int64) v2 v3 v7 v9
    else
      F_X24_root_b66 k33 (j_lshl v5 (2 : Int32)) ((j_lshr v3 ((2 : Int32) * (v9 - (27 : Int32)))) &&& (3 : Int64)) v2 v3 v7 v9
noncomputable def F_X24_root_b33  (n : Nat) : Int32 → Int64 → Int64 → Int64 → Int32 → Option Int64 :=
  Nat.rec (motive := fun _ => Int32 → Int64 → Int64 → Int64 → Int32 → Option Int64) (fun _ _ _ _ _ => none) (fun _ ih => F_X24_root_b33_st ih) n
noncomputable def F_X24_root_b23  (v2 : Int32) (v3 : Int64) : Option Int64 :=
  F_X24_root_b33  xN v2 v3 (0 : Int64) (0 : Int64) (53 : Int32)
noncomputable def F_X24_root (v0 : Int64) : Option Int64 :=
  (F_X24_exponent v0).bind fun z8 =>
  (F_X24_significand v0).bind fun z9 =>
  if (z8 &&& (1 : Int32)) = 0 then
    F_X24_root_b23  z8 z9
  else
    let v3_10 : Int64 := (j_lshl z9 (1 : Int32))
    let v2_11 : Int32 := z8 + (-1 : Int32)
    F_X24_root_b23  v2_11 v3_10
noncomputable def F_X16_rounded_b14  (v0 : Int64) : Option Int64 :=
  some v0
noncomputable def F_X16_rounded_b216  (s0 : Int64) : Option Int64 :=
  some s0
noncomputable def F_X16_rounded_b195  (v7 : Int64) (v9 : Int64) : Option Int64 :=
  if v9 = (0 : Int64) then
    F_X16_rounded_b216  v7
  else
    (F_X24_of v9 (0 : Int32)).bind fun z1 =>
    F_X16_rounded_b216  (v7 ||| z1)
noncomputable def F_X16_rounded_b184  (v7 : Int64) (v9 : Int64) (v13 : Int32) : Option Int64 :=
  if v13 = 0 then
    F_X16_rounded_b195  v7 v9
  else
    let v9_2 : Int64 := (v9 + (1 : Int64))
    F_X16_rounded_b195  v7 v9_2
noncomputable def F_X16_rounded_b182  (s0 : Int32) (v7 : Int64) (v9 : Int64) : Option Int64 :=
  F_X16_rounded_b184  v7 v9 s0
noncomputable def F_X16_rounded_b181  (v7 : Int64) (v9 : Int64) : Option Int64 :=
  F_X16_rounded_b182  (0 : Int32) v7 v9
noncomputable def F_X16_rounded_b174  (s0 : Int32) (s1 : Int32) (v7 : Int64) (v9 : Int64) : Option Int64 :=
  if s0 = s1 then
    F_X16_rounded_b182  (1 : Int32) v7 v9
  else
    F_X16_rounded_b181  v7 v9
noncomputable def F_X16_rounded_b162  (s0 : Int32) (v7 : Int64) (v9 : Int64) : Option Int64 :=
  if v7 = (0 : Int64) then
    F_X16_rounded_b174  s0 (0 : Int32) v7 v9
  else
    F_X16_rounded_b174  s0 (1 : Int32) v7 v9
noncomputable def F_X16_rounded_b141  (s0 : Int32) (v7 : Int64) (v9 : Int64) : Option Int64 :=
  F_X16_rounded_b184  v7 v9 s0
noncomputable def F_X16_rounded_b136  (v7 : Int64) (v9 : Int64) : Option Int64 :=
  F_X16_rounded_b141  (1 : Int32) v7 v9
noncomputable def F_X16_rounded_b140  (v7 : Int64) (v9 : Int64) : Option Int64 :=
  F_X16_rounded_b141  (0 : Int32) v7 v9
noncomputable def F_X16_rounded_b109  (s0 : Int64) (v7 : Int64) (v9 : Int64) (v11 : Int64) : Option Int64 :=
  if s0 < v11 then
    F_X16_rounded_b136  v7 v9
  else
    if v11 = s0 then
      if (v9 &&& (1 : Int64)) = (1 : Int64) then
        F_X16_rounded_b136  v7 v9
      else
        F_X16_rounded_b140  v7 v9
    else
      F_X16_rounded_b140  v7 v9
noncomputable def F_X16_rounded_b83  (s0 : Int64) (v2 : Int32) (v6 : Int32) (v7 : Int64) (v9 : Int64) : Option Int64 :=
  if v2 = (2 : Int32) then
    if (54 : Int32) < v6 then
      F_X16_rounded_b109  (9223372036854775807 : Int64) v7 v9 s0
    else
      F_X16_rounded_b109  (j_lshl (1 : Int64) (v6 - (1 : Int32))) v7 v9 s0
  else
    if (0 : Int64) < s0 then
      if v2 = 0 then
        F_X16_rounded_b162  (1 : Int32) v7 v9
      else
        F_X16_rounded_b162  (0 : Int32) v7 v9
    else
      F_X16_rounded_b181  v7 v9
noncomputable def F_X16_rounded_b60  (s0 : Int64) (v2 : Int32) (v4 : Int64) (v6 : Int32) (v7 : Int64) : Option Int64 :=
  if (53 : Int32) < v6 then
    F_X16_rounded_b83  v4 v2 v6 v7 s0
  else
    F_X16_rounded_b83  (v4 &&& ((j_lshl (1 : Int64) v6) - (1 : Int64))) v2 v6 v7 s0
noncomputable def F_X16_rounded (v0 : Int64) (v2 : Int32) : Option Int64 :=
  (F_X24_isZero v0).bind fun z3 =>
  if z3 = 0 then
    (F_X24_isInfinite v0).bind fun z4 =>
    if z4 = 0 then
      (F_X24_exponent v0).bind fun z5 =>
      if z5 < 0 then
        (F_X24_significand v0).bind fun z6 =>
        let v6_7 : Int32 := (-z5)
        let v7_8 : Int64 := (v0 &&& (-9223372036854775808 : Int64))
        if (53 : Int32) < v6_7 then
          F_X16_rounded_b60  (0 : Int64) v2 z6 v6_7 v7_8
        else
          F_X16_rounded_b60  (j_lushr z6 v6_7) v2 z6 v6_7 v7_8
      else
        some v0
    else
      F_X16_rounded_b14  v0
  else
    F_X16_rounded_b14  v0
noncomputable def F_X16_built_b421  (M : Mem) (s0 : Int64) (s1 : Int32) : Option ((Int64 × Mem) ⊕ (Nat × Mem)) :=
  (F_X16_rounded s0 s1).bind fun z1 =>
  some (.inl (z1, M))
noncomputable def F_X16_built_b107  (M : Mem) (s0 : Int64) : Option ((Int64 × Mem) ⊕ (Nat × Mem)) :=
  some (.inl (s0, M))
noncomputable def F_X16_built_b154  (M : Mem) (s0 : Int64) : Option ((Int64 × Mem) ⊕ (Nat × Mem)) :=
  some (.inl (s0, M))
noncomputable def F_X16_built_b130  (M : Mem) (s0 : Int32) (v2 : Int32) : Option ((Int64 × Mem) ⊕ (Nat × Mem)) :=
  if (5 : Int32) < v2 then
    (F_X24_of (s0.toInt64) (0 : Int32)).bind fun z2 =>
    (F_X16_ofReal z2 v2).bind fun z3 =>
    F_X16_built_b154  M z3
  else
    F_X16_built_b154  M (s0.toInt64)
noncomputable def F_X16_built_b176  (M : Mem) (s0 : Int64) : Option ((Int64 × Mem) ⊕ (Nat × Mem)) :=
  some (.inl (s0, M))
noncomputable def F_X16_built_b198  (M : Mem) (s0 : Int64) : Option ((Int64 × Mem) ⊕ (Nat × Mem)) :=
  some (.inl (s0, M))
noncomputable def F_X16_built_b303  (M : Mem) (s0 : Int64) : Option ((Int64 × Mem) ⊕ (Nat × Mem)) :=
  some (.inl (s0, M))
noncomputable def F_X16_built_b264  (M : Mem) (s0 : Int32) (v1 : Int32) (v5 : Int64) (v8 : Int64) (v10 : Int64) : Option ((Int64 × Mem) ⊕ (Nat × Mem)) :=
  if v1 = (4 : Int32) then
    if s0 = 0 then
      F_X16_built_b303  M v8
    else
      F_X16_built_b303  M (v8 - (1 : Int64))
  else
    if s0 = 0 then
      F_X16_built_b303  M v10
    else
      F_X16_built_b303  M (v10 + v5)
noncomputable def F_X16_built_b263  (M : Mem) (v1 : Int32) (v5 : Int64) (v8 : Int64) (v10 : Int64) : Option ((Int64 × Mem) ⊕ (Nat × Mem)) :=
  F_X16_built_b264  M (0 : Int32) v1 v5 v8 v10
noncomputable def F_X16_built_b256  (M : Mem) (s0 : Int32) (s1 : Int32) (v1 : Int32) (v5 : Int64) (v8 : Int64) (v10 : Int64) : Option ((Int64 × Mem) ⊕ (Nat × Mem)) :=
  if s0 = s1 then
    F_X16_built_b263  M v1 v5 v8 v10
  else
    F_X16_built_b264  M (1 : Int32) v1 v5 v8 v10
noncomputable def F_X16_built_b244  (M : Mem) (s0 : Int32) (v1 : Int32) (v5 : Int64) (v8 : Int64) (v10 : Int64) : Option ((Int64 × Mem) ⊕ (Nat × Mem)) :=
  if v5 < (0 : Int64) then
    F_X16_built_b256  M s0 (1 : Int32) v1 v5 v8 v10
  else
    F_X16_built_b256  M s0 (0 : Int32) v1 v5 v8 v10
noncomputable def F_X16_built_b199  (M : Mem) (v0 : Nat) (v1 : Int32) (v2 : Int32) (v3 : Int64) (v5 : Int64) : Option ((Int64 × Mem) ⊕ (Nat × Mem)) :=
  (vg M v0 17).bind fun _ =>
  tb (F_X16_arithmetic M v0 35 v2 v3 v5) fun z5 =>
  (vg z5.2 v0 17).bind fun _ =>
  tb (F_X16_arithmetic z5.2 v0 25 v2 v3 v5) fun z7 =>
  if z7.1 = (0 : Int64) then
    F_X16_built_b263  z7.2 v1 v5 z5.1 z7.1
  else
    if z7.1 < (0 : Int64) then
      F_X16_built_b244  z7.2 (1 : Int32) v1 v5 z5.1 z7.1
    else
      F_X16_built_b244  z7.2 (0 : Int32) v1 v5 z5.1 z7.1
noncomputable def F_X16_built_b304  (M : Mem) (v0 : Nat) (v1 : Int32) (v2 : Int32) (v3 : Int64) (v5 : Int64) : Option ((Int64 × Mem) ⊕ (Nat × Mem)) :=
  (vg M v0 17).bind fun _ =>
  tb (F_X16_exact M v0 (v1 - (6 : Int32)) v2 v3 v5) fun z9 =>
  some (.inl (z9.1, z9.2))
noncomputable def F_X16_built_b342  (M : Mem) (s0 : Int64) (s1 : Int32) : Option ((Int64 × Mem) ⊕ (Nat × Mem)) :=
  (F_X16_ones s0 s1).bind fun z10 =>
  some (.inl (z10.toInt64, M))
noncomputable def F_X16_built_b331  (M : Mem) (s0 : Int64) (v1 : Int32) : Option ((Int64 × Mem) ⊕ (Nat × Mem)) :=
  if v1 = (10 : Int32) then
    F_X16_built_b342  M s0 (1 : Int32)
  else
    F_X16_built_b342  M s0 (0 : Int32)
noncomputable def F_X16_built_b317  (M : Mem) (v1 : Int32) (v2 : Int32) (v3 : Int64) : Option ((Int64 × Mem) ⊕ (Nat × Mem)) :=
  if v2 = (4 : Int32) then
    F_X16_built_b331  M (v3 &&& (4294967295 : Int64)) v1
  else
    F_X16_built_b331  M v3 v1
noncomputable def F_X16_built_b398  (M : Mem) (s0 : Int64) : Option ((Int64 × Mem) ⊕ (Nat × Mem)) :=
  some (.inl (s0, M))
noncomputable def F_X16_built_b388  (M : Mem) (v13 : Int64) : Option ((Int64 × Mem) ⊕ (Nat × Mem)) :=
  F_X16_built_b398  M v13
noncomputable def F_X16_built_b372  (M : Mem) (v13 : Int64) : Option ((Int64 × Mem) ⊕ (Nat × Mem)) :=
  (F_X24_isZero v13).bind fun z11 =>
  if z11 = 0 then
    (F_X24_isInfinite v13).bind fun z12 =>
    if z12 = 0 then
      (F_X24_root v13).bind fun z13 =>
      F_X16_built_b398  M z13
    else
      F_X16_built_b388  M v13
  else
    F_X16_built_b388  M v13
noncomputable def F_X16_built (M : Mem) (v0 : Nat) (v1 : Int32) (v2 : Int32) (v3 : Int64) (v5 : Int64) : Option ((Int64 × Mem) ⊕ (Nat × Mem)) :=
  if v1 = (0 : Int32) then
    if (5 : Int32) < v2 then
      (F_X16_real v3 v2).bind fun z14 =>
      (F_X16_ofReal (z14 &&& (9223372036854775807 : Int64)) v2).bind fun z15 =>
      some (.inl (z15, M))
    else
      if v3 < (0 : Int64) then
        if v2 = (4 : Int32) then
          F_X16_built_b107  M (((-v3).toInt32).toInt64)
        else
          F_X16_built_b107  M (-v3)
      else
        F_X16_built_b107  M v3
  else
    if v1 = (1 : Int32) then
      if (5 : Int32) < v2 then
        (F_X16_real v3 v2).bind fun z16 =>
        (F_X24_compare z16 (0 : Int64)).bind fun z17 =>
        F_X16_built_b130  M z17 v2
      else
        (F_J20_compare v3 (0 : Int64)).bind fun z18 =>
        F_X16_built_b130  M z18 v2
    else
      if v1 = (2 : Int32) then
        (F_X16_ranked v3 v2).bind fun z19 =>
        (F_X16_ranked v5 v2).bind fun z20 =>
        if z20 < z19 then
          F_X16_built_b176  M v5
        else
          F_X16_built_b176  M v3
      else
        if v1 = (3 : Int32) then
          (F_X16_ranked v3 v2).bind fun z21 =>
          (F_X16_ranked v5 v2).bind fun z22 =>
          if z21 < z22 then
            F_X16_built_b198  M v5
          else
            F_X16_built_b198  M v3
        else
          if v1 = (4 : Int32) then
            F_X16_built_b199  M v0 v1 v2 v3 v5
          else
            if v1 = (5 : Int32) then
              F_X16_built_b199  M v0 v1 v2 v3 v5
            else
              if v1 = (6 : Int32) then
                F_X16_built_b304  M v0 v1 v2 v3 v5
              else
                if v1 = (7 : Int32) then
                  F_X16_built_b304  M v0 v1 v2 v3 v5
                else
                  if v1 = (8 : Int32) then
                    F_X16_built_b304  M v0 v1 v2 v3 v5
                  else
                    if v1 = (9 : Int32) then
                      F_X16_built_b317  M v1 v2 v3
                    else
                      if v1 = (10 : Int32) then
                        F_X16_built_b317  M v1 v2 v3
                      else
                        if v1 = (11 : Int32) then
                          if v3 < (0 : Int64) then
                            (F_X24_isZero v3).bind fun z23 =>
                            if z23 = 0 then
                              (vg M v0 17).bind fun _ =>
                              (F_X16_fails M v0 (8 : Int32)).bind fun z25 =>
                              (ie z25.2 z25.1).bind fun _ => some (.inr (z25.1, z25.2))
                            else
                              F_X16_built_b372  M v3
                          else
                            F_X16_built_b372  M v3
                        else
                          if v1 = (12 : Int32) then
                            F_X16_built_b421  M v3 (0 : Int32)
                          else
                            if v1 = (13 : Int32) then
                              F_X16_built_b421  M v3 (1 : Int32)
                            else
                              F_X16_built_b421  M v3 (2 : Int32)
noncomputable def F_X16_done_b692_st (k692 : Mem → Nat → Nat → Nat → Int32 → Option (Mem ⊕ (Nat × Mem))) (M : Mem) (v0 : Nat) (v1 : Nat) (v2 : Nat) (v7 : Int32) : Option (Mem ⊕ (Nat × Mem)) :=
  if v7 < 0 then
    (gi M v1 3265).bind fun t1 =>
    (gi M v2 3077).bind fun t2 =>
    (pi M v1 3265 (t1 + t2)).bind fun M3 =>
    (gr M3 v2 3080).bind fun t4 =>
    (gr M3 t4 2823).bind fun t5 =>
    (vg M3 v0 17).bind fun _ =>
    (F_X16_enter M3 v0 t5).bind fun z7 =>
    some (.inl z7)
  else
    (gr M v1 3264).bind fun t8 =>
    (gr M t8 3008).bind fun t9 =>
    (gi M v1 3265).bind fun t10 =>
    (vg M t9 67).bind fun _ =>
    (F_J6_get M t9 (t10 + v7)).bind fun z12 =>
    (cc M z12 48).bind fun _ =>
    (gr M v0 1112).bind fun t13 =>
    (gi M v0 1109).bind fun t14 =>
    (vg M v0 17).bind fun _ =>
    (F_X16_pop M v0).bind fun z16 =>
    (gi z16.2 z12 3074).bind fun t17 =>
    (gi z16.2 z12 3076).bind fun t18 =>
    (F_X16_widened z16.1 t17 t18).bind fun z19 =>
    (sj z16.2 t13 (((6 : Int32) * t14) + v7) z19).bind fun M20 =>
    let v7_21 : Int32 := v7 + (-1 : Int32)
    k692 M20 v0 v1 v2 v7_21
noncomputable def F_X16_done_b692  (n : Nat) : Mem → Nat → Nat → Nat → Int32 → Option (Mem ⊕ (Nat × Mem)) :=
  Nat.rec (motive := fun _ => Mem → Nat → Nat → Nat → Int32 → Option (Mem ⊕ (Nat × Mem))) (fun _ _ _ _ _ => none) (fun _ ih => F_X16_done_b692_st ih) n
noncomputable def F_X16_done_b172  (M : Mem) (s0 : Nat) (s1 : Int64) : Option (Mem ⊕ (Nat × Mem)) :=
  (vg M s0 17).bind fun _ =>
  (F_X16_push M s0 s1).bind fun z23 =>
  some (.inl z23)
noncomputable def F_X16_done_b279  (M : Mem) (s0 : Nat) (s1 : Int64) : Option (Mem ⊕ (Nat × Mem)) :=
  (vg M s0 17).bind fun _ =>
  (F_X16_push M s0 s1).bind fun z25 =>
  some (.inl z25)
noncomputable def F_X16_done_b464  (M : Mem) (s0 : Nat) (s1 : Int64) : Option (Mem ⊕ (Nat × Mem)) :=
  (vg M s0 17).bind fun _ =>
  (F_X16_push M s0 s1).bind fun z27 =>
  some (.inl z27)
noncomputable def F_X16_done_b528  (M : Mem) (s0 : Nat) (s1 : Int64) : Option (Mem ⊕ (Nat × Mem)) :=
  (vg M s0 17).bind fun _ =>
  (F_X16_push M s0 s1).bind fun z29 =>
  some (.inl z29)
noncomputable def F_X16_done_b572  (M : Mem) : Option (Mem ⊕ (Nat × Mem)) :=
  some (.inl M)
noncomputable def F_X16_done_b594  (M : Mem) : Option (Mem ⊕ (Nat × Mem)) :=
  some (.inl M)
noncomputable def F_X16_done_b644  (M : Mem) (s0 : Int64) (v0 : Nat) (v2 : Nat) : Option (Mem ⊕ (Nat × Mem)) :=
  (gi M v2 3077).bind fun t30 =>
  (gi M v2 3076).bind fun t31 =>
  (vg M v0 17).bind fun _ =>
  (F_X16_pop M v0).bind fun z33 =>
  (gi z33.2 v2 3074).bind fun t34 =>
  (gi z33.2 v2 3076).bind fun t35 =>
  (F_X16_widened z33.1 t34 t35).bind fun z36 =>
  (vg z33.2 v0 17).bind fun _ =>
  tb (F_X16_built z33.2 v0 t30 t31 z36 s0) fun z38 =>
  (vg z38.2 v0 17).bind fun _ =>
  (F_X16_push z38.2 v0 z38.1).bind fun z40 =>
  some (.inl z40)
noncomputable def F_X16_done_b643  (M : Mem) (v0 : Nat) (v2 : Nat) : Option (Mem ⊕ (Nat × Mem)) :=
  F_X16_done_b644  M (0 : Int64) v0 v2
noncomputable def F_X16_done (M : Mem) (v0 : Nat) (v1 : Nat) (v2 : Nat) : Option (Mem ⊕ (Nat × Mem)) :=
  (gi M v2 3072).bind fun t41 =>
  if t41 = (1 : Int32) then
    (gl M v2 3079).bind fun t42 =>
    (vg M v0 17).bind fun _ =>
    (F_X16_push M v0 t42).bind fun z44 =>
    some (.inl z44)
  else
    if t41 = (2 : Int32) then
      (gr M v0 1112).bind fun t45 =>
      (gi M v1 3266).bind fun t46 =>
      (gi M v2 3077).bind fun t47 =>
      (al M t45 (t46 + t47)).bind fun t48 =>
      (vg M v0 17).bind fun _ =>
      (F_X16_push M v0 t48).bind fun z50 =>
      some (.inl z50)
    else
      if t41 = (3 : Int32) then
        (gr M v0 1092).bind fun t51 =>
        (gr M v0 1107).bind fun t52 =>
        (gi M v2 3077).bind fun t53 =>
        (ai M t52 t53).bind fun t54 =>
        (ar M t51 t54).bind fun t55 =>
        (vg M v0 17).bind fun _ =>
        (F_X16_operand M v0 t55).bind fun z57 =>
        (vg M v0 17).bind fun _ =>
        (F_X16_push M v0 z57).bind fun z59 =>
        some (.inl z59)
      else
        if t41 = (4 : Int32) then
          (gi M v2 3077).bind fun t60 =>
          (gi M v0 1115).bind fun t61 =>
          if t60 < t61 then
            (gr M v0 1114).bind fun t62 =>
            (gi M v0 1115).bind fun t63 =>
            (gi M v2 3077).bind fun t64 =>
            (ai M t62 ((t63 - (1 : Int32)) - t64)).bind fun t65 =>
            F_X16_done_b172  M v0 (t65.toInt64)
          else
            F_X16_done_b172  M v0 (0 : Int64)
        else
          if t41 = (5 : Int32) then
            (vg M v0 17).bind fun _ =>
            (F_X16_pop M v0).bind fun z67 =>
            (gi z67.2 v2 3074).bind fun t68 =>
            (gi z67.2 v2 3076).bind fun t69 =>
            (F_X16_widened z67.1 t68 t69).bind fun z70 =>
            (vg z67.2 v0 17).bind fun _ =>
            (F_X16_push z67.2 v0 z70).bind fun z72 =>
            some (.inl z72)
          else
            if t41 = (6 : Int32) then
              (vg M v0 17).bind fun _ =>
              tb (F_X16_step M v0) fun z74 =>
              (vg z74 v0 17).bind fun _ =>
              (F_X16_pop z74 v0).bind fun z76 =>
              (gi z76.2 v2 3074).bind fun t77 =>
              (gi z76.2 v2 3076).bind fun t78 =>
              (F_X16_casted z76.1 t77 t78).bind fun z79 =>
              (vg z76.2 v0 17).bind fun _ =>
              (F_X16_push z76.2 v0 z79).bind fun z81 =>
              some (.inl z81)
            else
              if t41 = (7 : Int32) then
                (vg M v0 17).bind fun _ =>
                tb (F_X16_step M v0) fun z83 =>
                (vg z83 v0 17).bind fun _ =>
                (F_X16_pop z83 v0).bind fun z85 =>
                (gi z85.2 v2 3074).bind fun t86 =>
                if t86 = (4 : Int32) then
                  F_X16_done_b279  z85.2 v0 (((-z85.1).toInt32).toInt64)
                else
                  (gi z85.2 v2 3074).bind fun t87 =>
                  if t87 = (5 : Int32) then
                    F_X16_done_b279  z85.2 v0 (-z85.1)
                  else
                    (gi z85.2 v2 3074).bind fun t88 =>
                    if t88 = (6 : Int32) then
                      F_X16_done_b279  z85.2 v0 (z85.1 ^^^ (2147483648 : Int64))
                    else
                      (F_X24_negative z85.1).bind fun z89 =>
                      F_X16_done_b279  z85.2 v0 z89
              else
                if t41 = (8 : Int32) then
                  (vg M v0 17).bind fun _ =>
                  tb (F_X16_step M v0) fun z91 =>
                  (vg z91 v0 17).bind fun _ =>
                  (F_X16_pop z91 v0).bind fun z93 =>
                  (vg z93.2 v0 17).bind fun _ =>
                  (F_X16_push z93.2 v0 ((1 : Int64) - z93.1)).bind fun z95 =>
                  some (.inl z95)
                else
                  if t41 = (9 : Int32) then
                    (vg M v0 17).bind fun _ =>
                    tb (F_X16_step M v0) fun z97 =>
                    (vg z97 v0 17).bind fun _ =>
                    (F_X16_pop z97 v0).bind fun z99 =>
                    (vg z99.2 v0 17).bind fun _ =>
                    (F_X16_push z99.2 v0 (z99.1 ^^^ (-1 : Int64))).bind fun z101 =>
                    some (.inl z101)
                  else
                    if t41 = (10 : Int32) then
                      (vg M v0 17).bind fun _ =>
                      tb (F_X16_step M v0) fun z103 =>
                      (vg z103 v0 17).bind fun _ =>
                      (F_X16_pop z103 v0).bind fun z105 =>
                      (gi z105.2 v2 3075).bind fun t106 =>
                      (gi z105.2 v2 3076).bind fun t107 =>
                      (F_X16_widened z105.1 t106 t107).bind fun z108 =>
                      (vg z105.2 v0 17).bind fun _ =>
                      (F_X16_pop z105.2 v0).bind fun z110 =>
                      (gi z110.2 v2 3074).bind fun t111 =>
                      (gi z110.2 v2 3076).bind fun t112 =>
                      (F_X16_widened z110.1 t111 t112).bind fun z113 =>
                      (gr z110.2 v2 3073).bind fun t114 =>
                      (gi z110.2 v2 3076).bind fun t115 =>
                      (vg z110.2 v0 17).bind fun _ =>
                      tb (F_X16_arithmetic z110.2 v0 t114 t115 z113 z108) fun z117 =>
                      (vg z117.2 v0 17).bind fun _ =>
                      (F_X16_push z117.2 v0 z117.1).bind fun z119 =>
                      some (.inl z119)
                    else
                      if t41 = (11 : Int32) then
                        (vg M v0 17).bind fun _ =>
                        tb (F_X16_step M v0) fun z121 =>
                        (vg z121 v0 17).bind fun _ =>
                        (F_X16_pop z121 v0).bind fun z123 =>
                        (gr z123.2 v2 3073).bind fun t124 =>
                        (gi z123.2 v2 3076).bind fun t125 =>
                        (vg z123.2 v0 17).bind fun _ =>
                        (F_X16_pop z123.2 v0).bind fun z127 =>
                        (F_X16_shifted z127.2 t124 t125 z127.1 z123.1).bind fun z128 =>
                        (vg z127.2 v0 17).bind fun _ =>
                        (F_X16_push z127.2 v0 z128).bind fun z130 =>
                        some (.inl z130)
                      else
                        if t41 = (12 : Int32) then
                          (vg M v0 17).bind fun _ =>
                          tb (F_X16_step M v0) fun z132 =>
                          (vg z132 v0 17).bind fun _ =>
                          (F_X16_pop z132 v0).bind fun z134 =>
                          (gi z134.2 v2 3075).bind fun t135 =>
                          (gi z134.2 v2 3076).bind fun t136 =>
                          (F_X16_widened z134.1 t135 t136).bind fun z137 =>
                          (vg z134.2 v0 17).bind fun _ =>
                          (F_X16_pop z134.2 v0).bind fun z139 =>
                          (gi z139.2 v2 3074).bind fun t140 =>
                          (gi z139.2 v2 3076).bind fun t141 =>
                          (F_X16_widened z139.1 t140 t141).bind fun z142 =>
                          (gr z139.2 v2 3073).bind fun t143 =>
                          (gi z139.2 v2 3076).bind fun t144 =>
                          (F_X16_compared z139.2 t143 t144 z142 z137).bind fun z145 =>
                          if z145.1 = 0 then
                            F_X16_done_b464  z145.2 v0 (0 : Int64)
                          else
                            F_X16_done_b464  z145.2 v0 (1 : Int64)
                        else
                          if t41 = (13 : Int32) then
                            (vg M v0 17).bind fun _ =>
                            tb (F_X16_step M v0) fun z147 =>
                            (vg z147 v0 17).bind fun _ =>
                            (F_X16_pop z147 v0).bind fun z149 =>
                            (vg z149.2 v0 17).bind fun _ =>
                            (F_X16_pop z149.2 v0).bind fun z151 =>
                            (gr z151.2 v2 3073).bind fun t152 =>
                            (vg z151.2 t152 76).bind fun _ =>
                            (F_J15_equals z151.2 t152 26).bind fun z154 =>
                            if z154 = 0 then
                              (gr z151.2 v2 3073).bind fun t155 =>
                              (vg z151.2 t155 76).bind fun _ =>
                              (F_J15_equals z151.2 t155 49).bind fun z157 =>
                              if z157 = 0 then
                                F_X16_done_b528  z151.2 v0 (z151.1 ||| z149.1)
                              else
                                F_X16_done_b528  z151.2 v0 (z151.1 ^^^ z149.1)
                            else
                              F_X16_done_b528  z151.2 v0 (z151.1 &&& z149.1)
                          else
                            if t41 = (14 : Int32) then
                              (vg M v0 17).bind fun _ =>
                              tb (F_X16_step M v0) fun z159 =>
                              (gr z159 v0 1110).bind fun t160 =>
                              (gi z159 v0 1111).bind fun t161 =>
                              (al z159 t160 (t161 - (1 : Int32))).bind fun t162 =>
                              (gi z159 v2 3077).bind fun t163 =>
                              if t162 = t163.toInt64 then
                                (gi z159 v2 3078).bind fun t164 =>
                                (pi z159 v1 3265 t164).bind fun M165 =>
                                F_X16_done_b572  M165
                              else
                                (vg z159 v0 17).bind fun _ =>
                                (F_X16_pop z159 v0).bind fun z167 =>
                                F_X16_done_b572  z167.2
                            else
                              if t41 = (15 : Int32) then
                                (vg M v0 17).bind fun _ =>
                                tb (F_X16_step M v0) fun z169 =>
                                (vg z169 v0 17).bind fun _ =>
                                (F_X16_pop z169 v0).bind fun z171 =>
                                if z171.1 = (0 : Int64) then
                                  (gi z171.2 v2 3078).bind fun t172 =>
                                  (pi z171.2 v1 3265 t172).bind fun M173 =>
                                  F_X16_done_b594  M173
                                else
                                  F_X16_done_b594  z171.2
                              else
                                if t41 = (16 : Int32) then
                                  (gi M v2 3078).bind fun t174 =>
                                  (pi M v1 3265 t174).bind fun M175 =>
                                  some (.inl M175)
                                else
                                  if t41 = (17 : Int32) then
                                    (vg M v0 17).bind fun _ =>
                                    tb (F_X16_step M v0) fun z177 =>
                                    (gi z177 v2 3077).bind fun t178 =>
                                    if t178 < (2 : Int32) then
                                      F_X16_done_b643  z177 v0 v2
                                    else
                                      (gi z177 v2 3077).bind fun t179 =>
                                      if (8 : Int32) < t179 then
                                        F_X16_done_b643  z177 v0 v2
                                      else
                                        (vg z177 v0 17).bind fun _ =>
                                        (F_X16_pop z177 v0).bind fun z181 =>
                                        (gi z181.2 v2 3075).bind fun t182 =>
                                        (gi z181.2 v2 3076).bind fun t183 =>
                                        (F_X16_widened z181.1 t182 t183).bind fun z184 =>
                                        F_X16_done_b644  z181.2 z184 v0 v2
                                  else
                                    (vg M v0 17).bind fun _ =>
                                    tb (F_X16_step M v0) fun z186 =>
                                    (gi z186 v2 3077).bind fun t187 =>
                                    let v7_188 : Int32 := (t187 - (1 : Int32))
                                    F_X16_done_b692  xN z186 v0 v1 v2 v7_188
noncomputable def F_X16_worth_b98 (k15 : Mem → Nat → Option ((Int64 × Mem) ⊕ (Nat × Mem))) (M : Mem) (v0 : Nat) : Option ((Int64 × Mem) ⊕ (Nat × Mem)) :=
  k15 M v0
noncomputable def F_X16_worth_b15_st (k15 : Mem → Nat → Option ((Int64 × Mem) ⊕ (Nat × Mem))) (M : Mem) (v0 : Nat) : Option ((Int64 × Mem) ⊕ (Nat × Mem)) :=
  (gi M v0 1109).bind fun t1 =>
  if 0 < t1 then
    (gr M v0 1108).bind fun t2 =>
    (gi M v0 1109).bind fun t3 =>
    (ar M t2 (t3 - (1 : Int32))).bind fun t4 =>
    (gi M t4 3265).bind fun t5 =>
    (gr M t4 3264).bind fun t6 =>
    (gr M t6 3008).bind fun t7 =>
    (vg M t7 67).bind fun _ =>
    (F_J6_size M t7).bind fun z9 =>
    if t5 = z9 then
      (gi M v0 1109).bind fun t10 =>
      (pi M v0 1109 (t10 - (1 : Int32))).bind fun M11 =>
      F_X16_worth_b98 k15 M11 v0
    else
      (gr M t4 3264).bind fun t12 =>
      (gr M t12 3008).bind fun t13 =>
      (gi M t4 3265).bind fun t14 =>
      (vg M t13 67).bind fun _ =>
      (F_J6_get M t13 t14).bind fun z16 =>
      (cc M z16 48).bind fun _ =>
      (gi M t4 3265).bind fun t17 =>
      (pi M t4 3265 (t17 + (1 : Int32))).bind fun M18 =>
      (vg M18 v0 17).bind fun _ =>
      tb (F_X16_done M18 v0 t4 z16) fun z20 =>
      F_X16_worth_b98 k15 z20 v0
  else
    (vg M v0 17).bind fun _ =>
    (F_X16_pop M v0).bind fun z22 =>
    some (.inl (z22.1, z22.2))
noncomputable def F_X16_worth_b15  (n : Nat) : Mem → Nat → Option ((Int64 × Mem) ⊕ (Nat × Mem)) :=
  Nat.rec (motive := fun _ => Mem → Nat → Option ((Int64 × Mem) ⊕ (Nat × Mem))) (fun _ _ => none) (fun _ ih => F_X16_worth_b15_st ih) n
noncomputable def F_X16_worth (M : Mem) (v0 : Nat) (v1 : Nat) : Option ((Int64 × Mem) ⊕ (Nat × Mem)) :=
  (pi M v0 1109 (0 : Int32)).bind fun M23 =>
  (pi M23 v0 1111 (0 : Int32)).bind fun M24 =>
  (vg M24 v0 17).bind fun _ =>
  (F_X16_enter M24 v0 v1).bind fun z26 =>
  F_X16_worth_b15  xN z26 v0
noncomputable def F_X16_failsAt_b10_st (k10 : Mem → Nat → Int32 → Int32 → Option (Int32 × Mem)) (M : Mem) (v0 : Nat) (v1 : Int32) (v2 : Int32) : Option (Int32 × Mem) :=
  (gi M v0 1115).bind fun t1 =>
  if v2 < t1 then
    (gr M v0 1116).bind fun t2 =>
    (gr M v0 1114).bind fun t3 =>
    (ai M t3 v2).bind fun t4 =>
    (si M t2 v2 t4).bind fun M5 =>
    let v2_6 : Int32 := v2 + (1 : Int32)
    k10 M5 v0 v1 v2_6
  else
    some ((-v1), M)
noncomputable def F_X16_failsAt_b10  (n : Nat) : Mem → Nat → Int32 → Int32 → Option (Int32 × Mem) :=
  Nat.rec (motive := fun _ => Mem → Nat → Int32 → Int32 → Option (Int32 × Mem)) (fun _ _ _ _ => none) (fun _ ih => F_X16_failsAt_b10_st ih) n
noncomputable def F_X16_failsAt (M : Mem) (v0 : Nat) (v1 : Int32) : Option (Int32 × Mem) :=
  (gi M v0 1115).bind fun t7 =>
  (pi M v0 1117 t7).bind fun M8 =>
  F_X16_failsAt_b10  xN M8 v0 v1 (0 : Int32)
noncomputable def F_X16_madeIfRoom_b26  (M : Mem) (s0 : Int32) : Option (Int32 × Mem) :=
  some (s0, M)
noncomputable def F_X16_madeIfRoom (M : Mem) (v0 : Nat) (v1 : Int32) (v2 : Nat) (v3 : Nat) : Option (Int32 × Mem) :=
  (an M v2).bind fun t1 =>
  (F_X16_count M v2 t1).bind fun z2 =>
  (vg M v0 17).bind fun _ =>
  (F_X16_isRoom M v0 z2 (1 : Int32)).bind fun z4 =>
  if z4 = 0 then
    F_X16_madeIfRoom_b26  M (-12 : Int32)
  else
    (vg M v0 17).bind fun _ =>
    (F_X16_made M v0 v1 v2 v3).bind fun z6 =>
    F_X16_madeIfRoom_b26  z6.2 z6.1
noncomputable def F_X16_formula_b155  (M : Mem) (s0 : Nat) (v0 : Nat) : Option (Int32 × Mem) :=
  (gr M v0 1103).bind fun t1 =>
  (gi M t1 1153).bind fun t2 =>
  (pi M v0 1091 t2).bind fun M3 =>
  (gr M3 v0 1103).bind fun t4 =>
  (gi M3 t4 1152).bind fun t5 =>
  some (((-20 : Int32) - t5), M3)
noncomputable def F_X16_formula_b261  (M : Mem) (s0 : Nat) (v0 : Nat) : Option (Int32 × Mem) :=
  (gr M v0 1103).bind fun t6 =>
  (gi M t6 1152).bind fun t7 =>
  (vg M v0 17).bind fun _ =>
  (F_X16_failsAt M v0 t7).bind fun z9 =>
  some (z9.1, z9.2)
noncomputable def F_X16_formula_b231_st (k231 : Mem → Nat → Nat → Int32 → Nat → Int32 → Int32 → Option (Int32 × Mem)) (M : Mem) (v0 : Nat) (v3 : Nat) (v4 : Int32) (v5 : Nat) (v6 : Int32) (v7 : Int32) : Option (Int32 × Mem) :=
  if v7 < v6 then
    (vg M v0 17).bind fun _ =>
    (F_X16_goTo M v0 v5 v7).bind fun z11 =>
    (gr z11 v0 1100).bind fun t12 =>
    (vg z11 v0 17).bind fun _ =>
    tc (F_X16_worth z11 v0 v3) (fun z14 =>
      (sj z14.2 t12 v7 z14.1).bind fun M16 =>
      let v7_17 : Int32 := v7 + (1 : Int32)
      k231 M16 v0 v3 v4 v5 v6 v7_17)
      (fun z15 =>
        F_X16_formula_b261  z15.2 z15.1 v0)
  else
    (gr M v0 1100).bind fun t18 =>
    (vg M v0 17).bind fun _ =>
    (F_X16_madeIfRoom M v0 v4 v5 t18).bind fun z20 =>
    some (z20.1, z20.2)
noncomputable def F_X16_formula_b231  (n : Nat) : Mem → Nat → Nat → Int32 → Nat → Int32 → Int32 → Option (Int32 × Mem) :=
  Nat.rec (motive := fun _ => Mem → Nat → Nat → Int32 → Nat → Int32 → Int32 → Option (Int32 × Mem)) (fun _ _ _ _ _ _ _ => none) (fun _ ih => F_X16_formula_b231_st ih) n
noncomputable def F_X16_formula_b104  (M : Mem) (s0 : Nat) (s1 : Int32) (v0 : Nat) (v2 : Nat) (v5 : Nat) : Option (Int32 × Mem) :=
  (gr M v5 2690).bind fun t21 =>
  (vg M t21 67).bind fun _ =>
  (F_J6_get M t21 (0 : Int32)).bind fun z23 =>
  (cc M z23 43).bind fun _ =>
  (gi M z23 2753).bind fun t24 =>
  (vg M s0 18).bind fun _ =>
  tc (F_X17_must M s0 s1 t24) (fun z26 =>
    let t29 : Nat := m_nx z26
    let M28 : Mem := mo z26 46
    (ng M28 t29).bind fun _ =>
    (F_X45_init M28 t29 v0 0).bind fun z31 =>
    (vg z31 t29 46).bind fun _ =>
    tc (F_X45_all z31 t29 v2) (fun z33 =>
      (gr z33 t29 2948).bind fun t35 =>
      (vg z33 t29 46).bind fun _ =>
      (F_X45_take z33 t29).bind fun z37 =>
      (pi z37.2 v0 1113 (0 : Int32)).bind fun M38 =>
      (vg M38 v0 17).bind fun _ =>
      (F_X16_shape M38 v0 v2).bind fun z40 =>
      if z40.1 = 6 then
        none
      else
        if z40.1 = 0 then
          some ((-3 : Int32), z40.2)
        else
          (an z40.2 z40.1).bind fun t41 =>
          (F_X16_count z40.2 z40.1 t41).bind fun z42 =>
          if (100000 : Int64) < z42 then
            some ((-12 : Int32), z40.2)
          else
            (an z40.2 z40.1).bind fun t43 =>
            (F_X16_count z40.2 z40.1 t43).bind fun z44 =>
            let v6_45 : Int32 := z44.toInt32
            F_X16_formula_b231  xN z40.2 v0 t35 z37.1 z40.1 v6_45 (0 : Int32))
      (fun z34 =>
        F_X16_formula_b155  z34.2 z34.1 v0))
    (fun z27 =>
      F_X16_formula_b155  z27.2 z27.1 v0)
noncomputable def F_X16_formula (M : Mem) (v0 : Nat) : Option (Int32 × Mem) :=
  (pi M v0 1091 (-1 : Int32)).bind fun M46 =>
  (pi M46 v0 1117 (-1 : Int32)).bind fun M47 =>
  (gi M47 v0 1095).bind fun t48 =>
  if t48 = 0 then
    (vg M47 v0 17).bind fun _ =>
    (F_X16_used M47 v0).bind fun z50 =>
    let t52 : Nat := m_nx z50.2
    let M51 : Mem := mo z50.2 67
    (ng M51 t52).bind fun _ =>
    (F_J6_init_2 M51 t52).bind fun z54 =>
    if (4000 : Int32) < z50.1 then
      (gr z54 v0 1103).bind fun t55 =>
      (vg z54 t55 18).bind fun _ =>
      (F_X17_at z54 t55 (1 : Int32) (4000 : Int32)).bind fun z57 =>
      (ie z57.2 z57.1).bind fun _ =>
      F_X16_formula_b155  z57.2 z57.1 v0
    else
      let t59 : Nat := m_nx z54
      let M58 : Mem := mo z54 42
      (gr M58 v0 1088).bind fun t60 =>
      (ng M58 t59).bind fun _ =>
      (F_X41_init M58 t59 t60 z50.1).bind fun z62 =>
      let t64 : Nat := m_nx z62
      let M63 : Mem := mo z62 41
      (gr M63 v0 1103).bind fun t65 =>
      (gr M63 t59 2690).bind fun t66 =>
      (ng M63 t64).bind fun _ =>
      (F_X40_init M63 t64 t65 t66).bind fun z68 =>
      (vg z68 t64 41).bind fun _ =>
      tc (F_X40_formula z68 t64 t52) (fun z70 =>
        (gr z70 v0 1103).bind fun t72 =>
        (F_X16_heightOf z70 t52).bind fun z73 =>
        if (30 : Int32) < z73.1 then
          F_X16_formula_b104  z73.2 t72 (0 : Int32) v0 t52 t59
        else
          F_X16_formula_b104  z73.2 t72 (1 : Int32) v0 t52 t59)
        (fun z71 =>
          F_X16_formula_b155  z71.2 z71.1 v0)
  else
    some ((-13 : Int32), M47)
noncomputable def F_X16_isSame_b33   : Option Int32 :=
  some (0 : Int32)
noncomputable def F_X16_isSame_b117  (s0 : Int32) : Option Int32 :=
  some (s0 &&& 1)
noncomputable def F_X16_isSame_b116   : Option Int32 :=
  F_X16_isSame_b117  (0 : Int32)
noncomputable def F_X16_isSame_b90  (s0 : Int64) (v0 : Int64) (v2 : Int64) (v4 : Int64) : Option Int32 :=
  if s0 = v2 then
    (F_X24_of v4 (0 : Int32)).bind fun z1 =>
    (F_X24_compare z1 (v0 &&& (9223372036854775807 : Int64))).bind fun z2 =>
    if z2 = 0 then
      F_X16_isSame_b117  (1 : Int32)
    else
      F_X16_isSame_b116  
  else
    F_X16_isSame_b116  
noncomputable def F_X16_isSame_b75  (s0 : Int32) : Option Int32 :=
  some (s0 &&& 1)
noncomputable def F_X16_isSame_b74   : Option Int32 :=
  F_X16_isSame_b75  (0 : Int32)
noncomputable def F_X16_isSame_b18  (s0 : Int32) : Option Int32 :=
  some (s0 &&& 1)
noncomputable def F_X16_isSame (v0 : Int64) (v2 : Int64) : Option Int32 :=
  (F_X24_isZero v0).bind fun z3 =>
  if z3 = 0 then
    (F_X24_isInfinite v0).bind fun z4 =>
    if z4 = 0 then
      (F_X24_isGreat v0).bind fun z5 =>
      if z5 = 0 then
        (F_X24_cut v0).bind fun z6 =>
        if z6 < (0 : Int64) then
          if z6 = (-9223372036854775808 : Int64) then
            if v0 < (0 : Int64) then
              if v2 = z6 then
                F_X16_isSame_b75  (1 : Int32)
              else
                F_X16_isSame_b74  
            else
              F_X16_isSame_b74  
          else
            F_X16_isSame_b74  
        else
          if v0 < (0 : Int64) then
            F_X16_isSame_b90  (-z6) v0 v2 z6
          else
            F_X16_isSame_b90  z6 v0 v2 z6
      else
        F_X16_isSame_b33  
    else
      F_X16_isSame_b33  
  else
    if v2 = (0 : Int64) then
      F_X16_isSame_b18  (1 : Int32)
    else
      F_X16_isSame_b18  (0 : Int32)
noncomputable def F_X16_least_b45  (s0 : Int64) : Option Int64 :=
  some s0
noncomputable def F_X16_least (v0 : Int32) : Option Int64 :=
  if v0 = (1 : Int32) then
    F_X16_least_b45  (-128 : Int64)
  else
    if v0 = (2 : Int32) then
      F_X16_least_b45  (-32768 : Int64)
    else
      if v0 = (3 : Int32) then
        F_X16_least_b45  (0 : Int64)
      else
        if v0 = (4 : Int32) then
          F_X16_least_b45  (-2147483648 : Int64)
        else
          F_X16_least_b45  (-9223372036854775808 : Int64)
noncomputable def F_X16_greatest_b47  (s0 : Int64) : Option Int64 :=
  some s0
noncomputable def F_X16_greatest (v0 : Int32) : Option Int64 :=
  if v0 = (1 : Int32) then
    F_X16_greatest_b47  (127 : Int64)
  else
    if v0 = (2 : Int32) then
      F_X16_greatest_b47  (32767 : Int64)
    else
      if v0 = (3 : Int32) then
        F_X16_greatest_b47  (65535 : Int64)
      else
        if v0 = (4 : Int32) then
          F_X16_greatest_b47  (2147483647 : Int64)
        else
          F_X16_greatest_b47  (9223372036854775807 : Int64)
noncomputable def F_X16_casted_2_b37  (M : Mem) (v1 : Int64) (v3 : Int32) (v4 : Int32) : Option ((Int64 × Mem) ⊕ (Nat × Mem)) :=
  (F_X16_casted v1 v3 v4).bind fun z1 =>
  some (.inl (z1, M))
noncomputable def F_X16_casted_2_b196  (M : Mem) (v4 : Int32) (v7 : Int64) : Option ((Int64 × Mem) ⊕ (Nat × Mem)) :=
  (F_X16_least v4).bind fun z2 =>
  (F_X16_greatest v4).bind fun z3 =>
  (F_J7_min v7 z3).bind fun z4 =>
  (F_J7_max_2 z2 z4).bind fun z5 =>
  some (.inl (z5, M))
noncomputable def F_X16_casted_2_b190  (M : Mem) (s0 : Int64) (v4 : Int32) : Option ((Int64 × Mem) ⊕ (Nat × Mem)) :=
  (F_X16_cut s0 (1 : Int32)).bind fun z6 =>
  F_X16_casted_2_b196  M v4 z6
noncomputable def F_X16_casted_2_b144  (M : Mem) (v0 : Nat) (v7 : Int64) (v9 : Int32) : Option ((Int64 × Mem) ⊕ (Nat × Mem)) :=
  if v9 = 0 then
    (vg M v0 17).bind fun _ =>
    (F_X16_fails M v0 (8 : Int32)).bind fun z8 =>
    (ie z8.2 z8.1).bind fun _ => some (.inr (z8.1, z8.2))
  else
    some (.inl (v7, M))
noncomputable def F_X16_casted_2_b142  (M : Mem) (s0 : Int32) (v0 : Nat) (v7 : Int64) : Option ((Int64 × Mem) ⊕ (Nat × Mem)) :=
  F_X16_casted_2_b144  M v0 v7 s0
noncomputable def F_X16_casted_2_b96  (M : Mem) (s0 : Int32) (v0 : Nat) (v7 : Int64) : Option ((Int64 × Mem) ⊕ (Nat × Mem)) :=
  F_X16_casted_2_b144  M v0 v7 s0
noncomputable def F_X16_casted_2_b45  (M : Mem) (v0 : Nat) (v1 : Int64) (v3 : Int32) (v4 : Int32) (v5 : Int32) (v6 : Int32) : Option ((Int64 × Mem) ⊕ (Nat × Mem)) :=
  if v5 = (2 : Int32) then
    (F_X16_casted v1 v3 v4).bind fun z9 =>
    if (5 : Int32) < v3 then
      if v6 = 0 then
        (F_X16_real v1 v3).bind fun z10 =>
        (F_X16_real z9 v4).bind fun z11 =>
        (F_X24_compare z10 z11).bind fun z12 =>
        if z12 = 0 then
          F_X16_casted_2_b142  M (1 : Int32) v0 z9
        else
          F_X16_casted_2_b142  M (0 : Int32) v0 z9
      else
        (F_X16_real v1 v3).bind fun z13 =>
        (F_X16_isSame z13 z9).bind fun z14 =>
        F_X16_casted_2_b142  M z14 v0 z9
    else
      if v6 = 0 then
        (F_X16_real z9 v4).bind fun z15 =>
        (F_X16_isSame z15 v1).bind fun z16 =>
        F_X16_casted_2_b96  M z16 v0 z9
      else
        if z9 = v1 then
          F_X16_casted_2_b96  M (1 : Int32) v0 z9
        else
          F_X16_casted_2_b96  M (0 : Int32) v0 z9
  else
    if (5 : Int32) < v3 then
      if v5 = (3 : Int32) then
        (F_X16_real v1 v3).bind fun z17 =>
        (F_X16_rounded z17 (2 : Int32)).bind fun z18 =>
        F_X16_casted_2_b190  M z18 v4
      else
        (F_X16_real v1 v3).bind fun z19 =>
        F_X16_casted_2_b190  M z19 v4
    else
      F_X16_casted_2_b196  M v4 v1
noncomputable def F_X16_casted_2_b19  (M : Mem) (s0 : Int32) (v0 : Nat) (v1 : Int64) (v3 : Int32) (v4 : Int32) (v5 : Int32) : Option ((Int64 × Mem) ⊕ (Nat × Mem)) :=
  if v5 = 0 then
    F_X16_casted_2_b37  M v1 v3 v4
  else
    if s0 = 0 then
      if v5 = (2 : Int32) then
        F_X16_casted_2_b45  M v0 v1 v3 v4 v5 s0
      else
        F_X16_casted_2_b37  M v1 v3 v4
    else
      F_X16_casted_2_b45  M v0 v1 v3 v4 v5 s0
noncomputable def F_X16_casted_2 (M : Mem) (v0 : Nat) (v1 : Int64) (v3 : Int32) (v4 : Int32) (v5 : Int32) : Option ((Int64 × Mem) ⊕ (Nat × Mem)) :=
  if v3 = v4 then
    some (.inl (v1, M))
  else
    if (5 : Int32) < v4 then
      F_X16_casted_2_b19  M (0 : Int32) v0 v1 v3 v4 v5
    else
      F_X16_casted_2_b19  M (1 : Int32) v0 v1 v3 v4 v5
noncomputable def F_X16_cast_b39  (M : Mem) : Option (Int32 × Mem) :=
  some ((-14 : Int32), M)
noncomputable def F_X16_cast_b122  (M : Mem) (s0 : Nat) (v0 : Nat) (v4 : Nat) (v6 : Int32) : Option (Int32 × Mem) :=
  (gr M v4 1473).bind fun t1 =>
  (vg M v0 17).bind fun _ =>
  (F_X16_goTo M v0 t1 v6).bind fun z3 =>
  (gr z3 v0 1103).bind fun t4 =>
  (gi z3 t4 1152).bind fun t5 =>
  (vg z3 v0 17).bind fun _ =>
  (F_X16_failsAt z3 v0 t5).bind fun z7 =>
  some (z7.1, z7.2)
noncomputable def F_X16_cast_b87_st (k87 : Mem → Nat → Int32 → Int32 → Nat → Int32 → Int32 → Option (Int32 × Mem)) (M : Mem) (v0 : Nat) (v2 : Int32) (v3 : Int32) (v4 : Nat) (v5 : Int32) (v6 : Int32) : Option (Int32 × Mem) :=
  if v6 < v5 then
    (gr M v0 1100).bind fun t8 =>
    (vg M v4 23).bind fun _ =>
    (F_X22_cell M v4 v6).bind fun z10 =>
    (gi M v4 1472).bind fun t11 =>
    (vg M v0 17).bind fun _ =>
    tc (F_X16_casted_2 M v0 z10 t11 v2 v3) (fun z13 =>
      (sj z13.2 t8 v6 z13.1).bind fun M15 =>
      let v6_16 : Int32 := v6 + (1 : Int32)
      k87 M15 v0 v2 v3 v4 v5 v6_16)
      (fun z14 =>
        F_X16_cast_b122  z14.2 z14.1 v0 v4 v6)
  else
    (gr M v4 1473).bind fun t17 =>
    (vg M v4 23).bind fun _ =>
    (F_X22_axes M v4).bind fun z19 =>
    (F_X16_first M t17 z19).bind fun z20 =>
    (gr z20.2 v0 1100).bind fun t21 =>
    (vg z20.2 v0 17).bind fun _ =>
    (F_X16_madeIfRoom z20.2 v0 v2 z20.1 t21).bind fun z23 =>
    some (z23.1, z23.2)
noncomputable def F_X16_cast_b87  (n : Nat) : Mem → Nat → Int32 → Int32 → Nat → Int32 → Int32 → Option (Int32 × Mem) :=
  Nat.rec (motive := fun _ => Mem → Nat → Int32 → Int32 → Nat → Int32 → Int32 → Option (Int32 × Mem)) (fun _ _ _ _ _ _ _ => none) (fun _ ih => F_X16_cast_b87_st ih) n
noncomputable def F_X16_cast_b72  (M : Mem) (s0 : Int32) (s1 : Int32) (v0 : Nat) (v2 : Int32) (v3 : Int32) (v4 : Nat) : Option (Int32 × Mem) :=
  if s0 = s1 then
    (vg M v4 23).bind fun _ =>
    (F_X22_count M v4).bind fun z25 =>
    F_X16_cast_b87  xN M v0 v2 v3 v4 z25 (0 : Int32)
  else
    some ((-1 : Int32), M)
noncomputable def F_X16_cast_b63  (M : Mem) (s0 : Int32) (v0 : Nat) (v2 : Int32) (v3 : Int32) (v4 : Nat) : Option (Int32 × Mem) :=
  if v2 = 0 then
    F_X16_cast_b72  M s0 (1 : Int32) v0 v2 v3 v4
  else
    F_X16_cast_b72  M s0 (0 : Int32) v0 v2 v3 v4
noncomputable def F_X16_cast (M : Mem) (v0 : Nat) (v1 : Int32) (v2 : Int32) (v3 : Int32) : Option (Int32 × Mem) :=
  (pi M v0 1117 (-1 : Int32)).bind fun M26 =>
  (gi M26 v0 1095).bind fun t27 =>
  if t27 = 0 then
    (vg M26 v0 17).bind fun _ =>
    (F_X16_isGrid M26 v0 v1).bind fun z29 =>
    if z29 = 0 then
      F_X16_cast_b39  M26
    else
      (F_X16_isLane v2).bind fun z30 =>
      if z30 = 0 then
        F_X16_cast_b39  M26
      else
        if v3 < 0 then
          F_X16_cast_b39  M26
        else
          if (3 : Int32) < v3 then
            F_X16_cast_b39  M26
          else
            (gr M26 v0 1092).bind fun t31 =>
            (ar M26 t31 v1).bind fun t32 =>
            (gi M26 t32 1472).bind fun t33 =>
            if t33 = 0 then
              F_X16_cast_b63  M26 (1 : Int32) v0 v2 v3 t32
            else
              F_X16_cast_b63  M26 (0 : Int32) v0 v2 v3 t32
  else
    some ((-13 : Int32), M26)
noncomputable def F_X16_areAlike_b15_st (k15 : Mem → Nat → Nat → Int32 → Option Int32) (M : Mem) (v0 : Nat) (v1 : Nat) (v2 : Int32) : Option Int32 :=
  (vg M v0 23).bind fun _ =>
  (F_X22_axes M v0).bind fun z2 =>
  if v2 < z2 then
    (gr M v0 1473).bind fun t3 =>
    (ai M t3 v2).bind fun t4 =>
    (gr M v1 1473).bind fun t5 =>
    (ai M t5 v2).bind fun t6 =>
    if t4 = t6 then
      let v2_7 : Int32 := v2 + (1 : Int32)
      k15 M v0 v1 v2_7
    else
      some (0 : Int32)
  else
    some (1 : Int32)
noncomputable def F_X16_areAlike_b15  (n : Nat) : Mem → Nat → Nat → Int32 → Option Int32 :=
  Nat.rec (motive := fun _ => Mem → Nat → Nat → Int32 → Option Int32) (fun _ _ _ _ => none) (fun _ ih => F_X16_areAlike_b15_st ih) n
noncomputable def F_X16_areAlike (M : Mem) (v0 : Nat) (v1 : Nat) : Option Int32 :=
  (vg M v0 23).bind fun _ =>
  (F_X22_axes M v0).bind fun z9 =>
  (vg M v1 23).bind fun _ =>
  (F_X22_axes M v1).bind fun z11 =>
  if z9 = z11 then
    F_X16_areAlike_b15  xN M v0 v1 (0 : Int32)
  else
    some (0 : Int32)
noncomputable def F_X16_copy_b26  (M : Mem) : Option (Int32 × Mem) :=
  some ((-14 : Int32), M)
noncomputable def F_X16_copy_b102_st (k102 : Mem → Nat → Nat → Nat → Int32 → Int32 → Option (Int32 × Mem)) (M : Mem) (v0 : Nat) (v3 : Nat) (v4 : Nat) (v5 : Int32) (v6 : Int32) : Option (Int32 × Mem) :=
  if v6 < v5 then
    (gr M v4 1476).bind fun t1 =>
    (vg M v4 23).bind fun _ =>
    (F_X22_place M v4 v6).bind fun z3 =>
    (gr M v0 1100).bind fun t4 =>
    (al M t4 v6).bind fun t5 =>
    (gi M v3 1472).bind fun t6 =>
    (gi M v4 1472).bind fun t7 =>
    (F_X16_widened t5 t6 t7).bind fun z8 =>
    (sj M t1 z3 z8).bind fun M9 =>
    let v6_10 : Int32 := v6 + (1 : Int32)
    k102 M9 v0 v3 v4 v5 v6_10
  else
    some ((0 : Int32), M)
noncomputable def F_X16_copy_b102  (n : Nat) : Mem → Nat → Nat → Nat → Int32 → Int32 → Option (Int32 × Mem) :=
  Nat.rec (motive := fun _ => Mem → Nat → Nat → Nat → Int32 → Int32 → Option (Int32 × Mem)) (fun _ _ _ _ _ _ => none) (fun _ ih => F_X16_copy_b102_st ih) n
noncomputable def F_X16_copy (M : Mem) (v0 : Nat) (v1 : Int32) (v2 : Int32) : Option (Int32 × Mem) :=
  (gi M v0 1095).bind fun t11 =>
  if t11 = 0 then
    (vg M v0 17).bind fun _ =>
    (F_X16_isGrid M v0 v1).bind fun z13 =>
    if z13 = 0 then
      F_X16_copy_b26  M
    else
      (vg M v0 17).bind fun _ =>
      (F_X16_isGrid M v0 v2).bind fun z15 =>
      if z15 = 0 then
        F_X16_copy_b26  M
      else
        (gr M v0 1092).bind fun t16 =>
        (ar M t16 v1).bind fun t17 =>
        (gr M v0 1092).bind fun t18 =>
        (ar M t18 v2).bind fun t19 =>
        (gi M t17 1472).bind fun t20 =>
        (gi M t19 1472).bind fun t21 =>
        (F_X16_isFitting t20 t21).bind fun z22 =>
        if z22 = 0 then
          some ((-1 : Int32), M)
        else
          (gi M t19 1477).bind fun t23 =>
          if t23 = 0 then
            (F_X16_areAlike M t17 t19).bind fun z24 =>
            if z24 = 0 then
              some ((-3 : Int32), M)
            else
              (gr M v0 1100).bind fun t25 =>
              (F_X16_listed M t17 t25).bind fun z26 =>
              (vg z26 t19 23).bind fun _ =>
              (F_X22_count z26 t19).bind fun z28 =>
              F_X16_copy_b102  xN z26 v0 t17 t19 z28 (0 : Int32)
          else
            some ((-5 : Int32), M)
  else
    some ((-13 : Int32), M)
noncomputable def F_X16_foldLane_b35  (s0 : Int32) : Option Int32 :=
  some s0
noncomputable def F_X16_foldLane_b17  (v0 : Int32) (v1 : Int32) : Option Int32 :=
  if v0 = 0 then
    if v1 = (5 : Int32) then
      F_X16_foldLane_b35  (4 : Int32)
    else
      F_X16_foldLane_b35  (0 : Int32)
  else
    F_X16_foldLane_b35  (-1 : Int32)
noncomputable def F_X16_foldLane_b62   : Option Int32 :=
  some (-1 : Int32)
noncomputable def F_X16_foldLane_b83  (s0 : Int32) : Option Int32 :=
  some s0
noncomputable def F_X16_foldLane_b74  (v0 : Int32) : Option Int32 :=
  F_X16_foldLane_b83  v0
noncomputable def F_X16_foldLane_b64  (v0 : Int32) (v1 : Int32) : Option Int32 :=
  if v1 = (3 : Int32) then
    F_X16_foldLane_b74  v0
  else
    if v1 = (4 : Int32) then
      F_X16_foldLane_b74  v0
    else
      (F_J7_max v0 (4 : Int32)).bind fun z1 =>
      F_X16_foldLane_b83  z1
noncomputable def F_X16_foldLane_b50  (v0 : Int32) (v1 : Int32) : Option Int32 :=
  if v1 = (8 : Int32) then
    if v0 < (6 : Int32) then
      F_X16_foldLane_b62  
    else
      F_X16_foldLane_b64  v0 v1
  else
    F_X16_foldLane_b64  v0 v1
noncomputable def F_X16_foldLane (v0 : Int32) (v1 : Int32) : Option Int32 :=
  if v1 = (5 : Int32) then
    F_X16_foldLane_b17  v0 v1
  else
    if v1 = (6 : Int32) then
      F_X16_foldLane_b17  v0 v1
    else
      if v1 = (7 : Int32) then
        F_X16_foldLane_b17  v0 v1
      else
        if v0 = 0 then
          F_X16_foldLane_b62  
        else
          if v1 = (1 : Int32) then
            if (5 : Int32) < v0 then
              F_X16_foldLane_b62  
            else
              F_X16_foldLane_b50  v0 v1
          else
            F_X16_foldLane_b50  v0 v1
noncomputable def F_X16_codeOfFold_b49  (M : Mem) : Option Int32 :=
  some (14 : Int32)
noncomputable def F_X16_codeOfFold_b88  (M : Mem) (s0 : Int32) : Option Int32 :=
  some s0
noncomputable def F_X16_codeOfFold_b44  (M : Mem) (v0 : Nat) (v1 : Int32) (v2 : Int32) (v3 : Int32) : Option Int32 :=
  if v3 < (-1 : Int32) then
    F_X16_codeOfFold_b49  M
  else
    (gr M v0 1092).bind fun t1 =>
    (ar M t1 v1).bind fun t2 =>
    (gi M t2 1472).bind fun t3 =>
    (F_X16_foldLane t3 v2).bind fun z4 =>
    if z4 < 0 then
      some (1 : Int32)
    else
      (gr M v0 1092).bind fun t5 =>
      (ar M t5 v1).bind fun t6 =>
      (vg M t6 23).bind fun _ =>
      (F_X22_axes M t6).bind fun z8 =>
      if v3 < z8 then
        F_X16_codeOfFold_b88  M (0 : Int32)
      else
        F_X16_codeOfFold_b88  M (2 : Int32)
noncomputable def F_X16_codeOfFold (M : Mem) (v0 : Nat) (v1 : Int32) (v2 : Int32) (v3 : Int32) (v4 : Int32) : Option Int32 :=
  (gi M v0 1095).bind fun t9 =>
  if t9 = 0 then
    (vg M v0 17).bind fun _ =>
    (F_X16_isGrid M v0 v1).bind fun z11 =>
    if z11 = 0 then
      F_X16_codeOfFold_b49  M
    else
      if v2 < 0 then
        F_X16_codeOfFold_b49  M
      else
        if (8 : Int32) < v2 then
          F_X16_codeOfFold_b49  M
        else
          if v4 = 0 then
            F_X16_codeOfFold_b44  M v0 v1 v2 v3
          else
            if v2 = (5 : Int32) then
              F_X16_codeOfFold_b49  M
            else
              if v2 = (8 : Int32) then
                F_X16_codeOfFold_b49  M
              else
                F_X16_codeOfFold_b44  M v0 v1 v2 v3
  else
    some (13 : Int32)
noncomputable def F_X16_foldBegin_b42  (s0 : Int64) : Option Int64 :=
  some s0
noncomputable def F_X16_foldBegin_b30  (s0 : Int64) : Option Int64 :=
  some s0
noncomputable def F_X16_foldBegin (v0 : Int32) (v1 : Int32) : Option Int64 :=
  if v1 = (2 : Int32) then
    if v0 = (6 : Int32) then
      F_X16_foldBegin_b30  (1065353216 : Int64)
    else
      if v0 = (7 : Int32) then
        F_X16_foldBegin_b30  (4607182418800017408 : Int64)
      else
        F_X16_foldBegin_b30  (1 : Int64)
  else
    if v1 = (6 : Int32) then
      F_X16_foldBegin_b42  (1 : Int64)
    else
      F_X16_foldBegin_b42  (0 : Int64)
noncomputable def F_X16_folded_b124  (M : Mem) (s0 : Int64) : Option ((Int64 × Mem) ⊕ (Nat × Mem)) :=
  some (.inl (s0, M))
noncomputable def F_X16_folded_b117  (M : Mem) (v6 : Int64) : Option ((Int64 × Mem) ⊕ (Nat × Mem)) :=
  F_X16_folded_b124  M v6
noncomputable def F_X16_folded_b153  (M : Mem) (s0 : Int64) : Option ((Int64 × Mem) ⊕ (Nat × Mem)) :=
  some (.inl (s0, M))
noncomputable def F_X16_folded_b146  (M : Mem) (v6 : Int64) : Option ((Int64 × Mem) ⊕ (Nat × Mem)) :=
  F_X16_folded_b153  M v6
noncomputable def F_X16_folded (M : Mem) (v0 : Nat) (v1 : Int32) (v2 : Int32) (v3 : Int32) (v4 : Int64) (v6 : Int64) (v8 : Int32) : Option ((Int64 × Mem) ⊕ (Nat × Mem)) :=
  if v1 = (0 : Int32) then
    (F_X16_widened v6 v2 v3).bind fun z1 =>
    (vg M v0 17).bind fun _ =>
    tb (F_X16_arithmetic M v0 32 v3 v4 z1) fun z3 =>
    some (.inl (z3.1, z3.2))
  else
    if v1 = (1 : Int32) then
      (F_X16_widened v6 v2 v3).bind fun z4 =>
      (vg M v0 17).bind fun _ =>
      tb (F_X16_exact M v0 (0 : Int32) v3 v4 z4) fun z6 =>
      some (.inl (z6.1, z6.2))
    else
      if v1 = (2 : Int32) then
        (F_X16_widened v6 v2 v3).bind fun z7 =>
        (vg M v0 17).bind fun _ =>
        tb (F_X16_arithmetic M v0 31 v3 v4 z7) fun z9 =>
        some (.inl (z9.1, z9.2))
      else
        if v1 = (3 : Int32) then
          if v8 = 0 then
            (F_X16_ranked v6 v2).bind fun z10 =>
            (F_X16_ranked v4 v2).bind fun z11 =>
            if z10 < z11 then
              F_X16_folded_b117  M v6
            else
              F_X16_folded_b124  M v4
          else
            F_X16_folded_b117  M v6
        else
          if v1 = (4 : Int32) then
            if v8 = 0 then
              (F_X16_ranked v6 v2).bind fun z12 =>
              (F_X16_ranked v4 v2).bind fun z13 =>
              if z13 < z12 then
                F_X16_folded_b146  M v6
              else
                F_X16_folded_b153  M v4
            else
              F_X16_folded_b146  M v6
          else
            if v1 = (5 : Int32) then
              some (.inl ((v4 + v6), M))
            else
              if v1 = (6 : Int32) then
                some (.inl ((v4 &&& v6), M))
              else
                some (.inl ((v4 ||| v6), M))
noncomputable def F_X16_foldRow_b138 (r_X16_foldRow : Mem → Nat → Int32 → Int32 → Int32 → Nat → Int32 → Int32 → Option ((Int64 × Mem) ⊕ (Nat × Mem))) (k107 : Mem → Nat → Int32 → Int32 → Int32 → Nat → Int32 → Int32 → Int64 → Int32 → Option ((Int64 × Mem) ⊕ (Nat × Mem))) (M : Mem) (s0 : Nat) (s1 : Int32) (s2 : Int32) (s3 : Int32) (s4 : Int64) (s5 : Int64) (s6 : Int32) (v0 : Nat) (v1 : Int32) (v2 : Int32) (v3 : Int32) (v4 : Nat) (v5 : Int32) (v6 : Int32) (v9 : Int32) : Option ((Int64 × Mem) ⊕ (Nat × Mem)) :=
  (vg M s0 17).bind fun _ =>
  tb (F_X16_folded M s0 s1 s2 s3 s4 s5 s6) fun z2 =>
  let v9_3 : Int32 := v9 + (1 : Int32)
  k107 z2.2 v0 v1 v2 v3 v4 v5 v6 z2.1 v9_3
noncomputable def F_X16_foldRow_b107_st (r_X16_foldRow : Mem → Nat → Int32 → Int32 → Int32 → Nat → Int32 → Int32 → Option ((Int64 × Mem) ⊕ (Nat × Mem))) (k107 : Mem → Nat → Int32 → Int32 → Int32 → Nat → Int32 → Int32 → Int64 → Int32 → Option ((Int64 × Mem) ⊕ (Nat × Mem))) (M : Mem) (v0 : Nat) (v1 : Int32) (v2 : Int32) (v3 : Int32) (v4 : Nat) (v5 : Int32) (v6 : Int32) (v7 : Int64) (v9 : Int32) : Option ((Int64 × Mem) ⊕ (Nat × Mem)) :=
  if v9 < v6 then
    (al M v4 (v5 + v9)).bind fun t4 =>
    if v9 = 0 then
      F_X16_foldRow_b138 r_X16_foldRow k107 M v0 v1 v2 v3 v7 t4 (1 : Int32) v0 v1 v2 v3 v4 v5 v6 v9
    else
      F_X16_foldRow_b138 r_X16_foldRow k107 M v0 v1 v2 v3 v7 t4 (0 : Int32) v0 v1 v2 v3 v4 v5 v6 v9
  else
    some (.inl (v7, M))
noncomputable def F_X16_foldRow_b107 (r_X16_foldRow : Mem → Nat → Int32 → Int32 → Int32 → Nat → Int32 → Int32 → Option ((Int64 × Mem) ⊕ (Nat × Mem)))  (n : Nat) : Mem → Nat → Int32 → Int32 → Int32 → Nat → Int32 → Int32 → Int64 → Int32 → Option ((Int64 × Mem) ⊕ (Nat × Mem)) :=
  Nat.rec (motive := fun _ => Mem → Nat → Int32 → Int32 → Int32 → Nat → Int32 → Int32 → Int64 → Int32 → Option ((Int64 × Mem) ⊕ (Nat × Mem))) (fun _ _ _ _ _ _ _ _ _ _ => none) (fun _ ih => F_X16_foldRow_b107_st r_X16_foldRow ih) n
noncomputable def F_X16_foldRow_b97 (r_X16_foldRow : Mem → Nat → Int32 → Int32 → Int32 → Nat → Int32 → Int32 → Option ((Int64 × Mem) ⊕ (Nat × Mem)))  (M : Mem) (v0 : Nat) (v1 : Int32) (v2 : Int32) (v3 : Int32) (v4 : Nat) (v5 : Int32) (v6 : Int32) : Option ((Int64 × Mem) ⊕ (Nat × Mem)) :=
  (F_X16_foldBegin v3 v1).bind fun z5 =>
  F_X16_foldRow_b107 r_X16_foldRow  xN M v0 v1 v2 v3 v4 v5 v6 z5 (0 : Int32)
noncomputable def F_X16_foldRow_b91 (r_X16_foldRow : Mem → Nat → Int32 → Int32 → Int32 → Nat → Int32 → Int32 → Option ((Int64 × Mem) ⊕ (Nat × Mem)))  (M : Mem) (v0 : Nat) : Option ((Int64 × Mem) ⊕ (Nat × Mem)) :=
  (vg M v0 17).bind fun _ =>
  (F_X16_fails M v0 (4 : Int32)).bind fun z7 =>
  (ie z7.2 z7.1).bind fun _ => some (.inr (z7.1, z7.2))
noncomputable def F_X16_foldRow_o (r_X16_foldRow : Mem → Nat → Int32 → Int32 → Int32 → Nat → Int32 → Int32 → Option ((Int64 × Mem) ⊕ (Nat × Mem))) (M : Mem) (v0 : Nat) (v1 : Int32) (v2 : Int32) (v3 : Int32) (v4 : Nat) (v5 : Int32) (v6 : Int32) : Option ((Int64 × Mem) ⊕ (Nat × Mem)) :=
  if v1 = (8 : Int32) then
    if v6 = 0 then
      some (.inl ((0 : Int64), M))
    else
      if v6 = (1 : Int32) then
        (al M v4 v5).bind fun t8 =>
        some (.inl (t8, M))
      else
        if (2 : Int32) = 0 then none else
        (vg M v0 17).bind fun _ =>
        tb (r_X16_foldRow M v0 v1 v2 v3 v4 v5 (v6 / (2 : Int32))) fun z10 =>
        if (2 : Int32) = 0 then none else
        if (2 : Int32) = 0 then none else
        (vg z10.2 v0 17).bind fun _ =>
        tb (r_X16_foldRow z10.2 v0 v1 v2 v3 v4 (v5 + (v6 / (2 : Int32))) (v6 - (v6 / (2 : Int32)))) fun z12 =>
        (vg z12.2 v0 17).bind fun _ =>
        tb (F_X16_arithmetic z12.2 v0 32 v3 z10.1 z12.1) fun z14 =>
        some (.inl (z14.1, z14.2))
  else
    if v6 = 0 then
      if v1 = (3 : Int32) then
        F_X16_foldRow_b91 r_X16_foldRow  M v0
      else
        if v1 = (4 : Int32) then
          F_X16_foldRow_b91 r_X16_foldRow  M v0
        else
          F_X16_foldRow_b97 r_X16_foldRow  M v0 v1 v2 v3 v4 v5 v6
    else
      F_X16_foldRow_b97 r_X16_foldRow  M v0 v1 v2 v3 v4 v5 v6
noncomputable def R_5 (n : Nat) : ((Mem → Nat → Int32 → Int32 → Int32 → Nat → Int32 → Int32 → Option ((Int64 × Mem) ⊕ (Nat × Mem)))) :=
  Nat.rec (motive := fun _ => ((Mem → Nat → Int32 → Int32 → Int32 → Nat → Int32 → Int32 → Option ((Int64 × Mem) ⊕ (Nat × Mem))))) ((fun _ _ _ _ _ _ _ _ => none)) (fun _ ih => ((F_X16_foldRow_o ih))) n
noncomputable def F_X16_foldRow (M : Mem) (a0 : Nat) (a1 : Int32) (a2 : Int32) (a3 : Int32) (a4 : Nat) (a5 : Int32) (a6 : Int32) : Option ((Int64 × Mem) ⊕ (Nat × Mem)) := (R_5 xR) M a0 a1 a2 a3 a4 a5 a6
noncomputable def F_X16_lineCell_b42 (k18 : Mem → Nat → Nat → Int32 → Int32 → Int32 → Option Int32) (M : Mem) (s0 : Int32) (v0 : Nat) (v1 : Nat) (v2 : Int32) (v4 : Int32) (v5 : Int32) : Option Int32 :=
  (gr M v0 1114).bind fun t1 =>
  (ai M t1 v5).bind fun t2 =>
  (gr M v1 1474).bind fun t3 =>
  (ai M t3 s0).bind fun t4 =>
  let v4_5 : Int32 := (v4 + (t2 * t4))
  let v5_6 : Int32 := v5 + (1 : Int32)
  k18 M v0 v1 v2 v4_5 v5_6
noncomputable def F_X16_lineCell_b18_st (k18 : Mem → Nat → Nat → Int32 → Int32 → Int32 → Option Int32) (M : Mem) (v0 : Nat) (v1 : Nat) (v2 : Int32) (v4 : Int32) (v5 : Int32) : Option Int32 :=
  (gi M v0 1115).bind fun t7 =>
  if v5 < t7 then
    if v5 < v2 then
      F_X16_lineCell_b42 k18 M v5 v0 v1 v2 v4 v5
    else
      F_X16_lineCell_b42 k18 M (v5 + (1 : Int32)) v0 v1 v2 v4 v5
  else
    some v4
noncomputable def F_X16_lineCell_b18  (n : Nat) : Mem → Nat → Nat → Int32 → Int32 → Int32 → Option Int32 :=
  Nat.rec (motive := fun _ => Mem → Nat → Nat → Int32 → Int32 → Int32 → Option Int32) (fun _ _ _ _ _ _ => none) (fun _ ih => F_X16_lineCell_b18_st ih) n
noncomputable def F_X16_lineCell (M : Mem) (v0 : Nat) (v1 : Nat) (v2 : Int32) (v3 : Int32) : Option Int32 :=
  (gi M v1 1475).bind fun t8 =>
  (gr M v1 1474).bind fun t9 =>
  (ai M t9 v2).bind fun t10 =>
  let v4_11 : Int32 := (t8 + (v3 * t10))
  F_X16_lineCell_b18  xN M v0 v1 v2 v4_11 (0 : Int32)
noncomputable def F_X16_fold_b327  (M : Mem) (s0 : Nat) (v0 : Nat) : Option (Int32 × Mem) :=
  (gr M v0 1103).bind fun t1 =>
  (gi M t1 1152).bind fun t2 =>
  (vg M v0 17).bind fun _ =>
  (F_X16_failsAt M v0 t2).bind fun z4 =>
  some (z4.1, z4.2)
noncomputable def F_X16_fold_b263_st (k243 : Mem → Nat → Int32 → Int32 → Nat → Int32 → Nat → Int64 → Int32 → Int32 → Option (Int32 × Mem)) (k263 : Mem → Nat → Int32 → Int32 → Nat → Int32 → Nat → Int64 → Int32 → Int32 → Int32 → Option (Int32 × Mem)) (M : Mem) (v0 : Nat) (v2 : Int32) (v3 : Int32) (v5 : Nat) (v6 : Int32) (v7 : Nat) (v8 : Int64) (v10 : Int32) (v11 : Int32) (v12 : Int32) : Option (Int32 × Mem) :=
  if v12 < v10 then
    (gr M v0 1101).bind fun t5 =>
    (gr M v5 1476).bind fun t6 =>
    (vg M v0 17).bind fun _ =>
    (F_X16_lineCell M v0 v5 v3 v12).bind fun z8 =>
    (al M t6 z8).bind fun t9 =>
    (sj M t5 v12 t9).bind fun M10 =>
    let v12_11 : Int32 := v12 + (1 : Int32)
    k263 M10 v0 v2 v3 v5 v6 v7 v8 v10 v11 v12_11
  else
    (gr M v0 1100).bind fun t12 =>
    (gi M v5 1472).bind fun t13 =>
    (gr M v0 1101).bind fun t14 =>
    (vg M v0 17).bind fun _ =>
    tc (F_X16_foldRow M v0 v2 t13 v6 t14 (0 : Int32) v10) (fun z16 =>
      (sj z16.2 t12 v11 z16.1).bind fun M18 =>
      let v11_19 : Int32 := v11 + (1 : Int32)
      k243 M18 v0 v2 v3 v5 v6 v7 v8 v10 v11_19)
      (fun z17 =>
        F_X16_fold_b327  z17.2 z17.1 v0)
noncomputable def F_X16_fold_b263 (k243 : Mem → Nat → Int32 → Int32 → Nat → Int32 → Nat → Int64 → Int32 → Int32 → Option (Int32 × Mem)) (n : Nat) : Mem → Nat → Int32 → Int32 → Nat → Int32 → Nat → Int64 → Int32 → Int32 → Int32 → Option (Int32 × Mem) :=
  Nat.rec (motive := fun _ => Mem → Nat → Int32 → Int32 → Nat → Int32 → Nat → Int64 → Int32 → Int32 → Int32 → Option (Int32 × Mem)) (fun _ _ _ _ _ _ _ _ _ _ _ => none) (fun _ ih => F_X16_fold_b263_st k243 ih) n
noncomputable def F_X16_fold_b243_st (k243 : Mem → Nat → Int32 → Int32 → Nat → Int32 → Nat → Int64 → Int32 → Int32 → Option (Int32 × Mem)) (M : Mem) (v0 : Nat) (v2 : Int32) (v3 : Int32) (v5 : Nat) (v6 : Int32) (v7 : Nat) (v8 : Int64) (v10 : Int32) (v11 : Int32) : Option (Int32 × Mem) :=
  if v11.toInt64 < v8 then
    (vg M v0 17).bind fun _ =>
    (F_X16_goTo M v0 v7 v11).bind fun z21 =>
    F_X16_fold_b263 k243 xN z21 v0 v2 v3 v5 v6 v7 v8 v10 v11 (0 : Int32)
  else
    (gr M v0 1100).bind fun t22 =>
    (vg M v0 17).bind fun _ =>
    (F_X16_madeIfRoom M v0 v6 v7 t22).bind fun z24 =>
    some (z24.1, z24.2)
noncomputable def F_X16_fold_b243  (n : Nat) : Mem → Nat → Int32 → Int32 → Nat → Int32 → Nat → Int64 → Int32 → Int32 → Option (Int32 × Mem) :=
  Nat.rec (motive := fun _ => Mem → Nat → Int32 → Int32 → Nat → Int32 → Nat → Int64 → Int32 → Int32 → Option (Int32 × Mem)) (fun _ _ _ _ _ _ _ _ _ _ => none) (fun _ ih => F_X16_fold_b243_st ih) n
noncomputable def F_X16_fold_b228  (M : Mem) (v0 : Nat) (v2 : Int32) (v3 : Int32) (v5 : Nat) (v6 : Int32) (v7 : Nat) (v8 : Int64) (v10 : Int32) : Option (Int32 × Mem) :=
  if (100000 : Int64) < v8 then
    some ((-12 : Int32), M)
  else
    F_X16_fold_b243  xN M v0 v2 v3 v5 v6 v7 v8 v10 (0 : Int32)
noncomputable def F_X16_fold_b215  (M : Mem) (v0 : Nat) (v7 : Nat) : Option (Int32 × Mem) :=
  (vg M v0 17).bind fun _ =>
  (F_X16_goTo M v0 v7 (0 : Int32)).bind fun z26 =>
  (vg z26 v0 17).bind fun _ =>
  (F_X16_failsAt z26 v0 (4 : Int32)).bind fun z28 =>
  some (z28.1, z28.2)
noncomputable def F_X16_fold_b166 (k134 : Mem → Nat → Int32 → Int32 → Nat → Int32 → Nat → Int32 → Option (Int32 × Mem)) (M : Mem) (s0 : Nat) (s1 : Int32) (s2 : Nat) (s3 : Int32) (v0 : Nat) (v2 : Int32) (v3 : Int32) (v5 : Nat) (v6 : Int32) (v7 : Nat) (v8 : Int32) : Option (Int32 × Mem) :=
  (ai M s2 s3).bind fun t29 =>
  (si M s0 s1 t29).bind fun M30 =>
  let v8_31 : Int32 := v8 + (1 : Int32)
  k134 M30 v0 v2 v3 v5 v6 v7 v8_31
noncomputable def F_X16_fold_b134_st (k134 : Mem → Nat → Int32 → Int32 → Nat → Int32 → Nat → Int32 → Option (Int32 × Mem)) (M : Mem) (v0 : Nat) (v2 : Int32) (v3 : Int32) (v5 : Nat) (v6 : Int32) (v7 : Nat) (v8 : Int32) : Option (Int32 × Mem) :=
  (an M v7).bind fun t32 =>
  if v8 < t32 then
    (gr M v5 1473).bind fun t33 =>
    if v8 < v3 then
      F_X16_fold_b166 k134 M v7 v8 t33 v8 v0 v2 v3 v5 v6 v7 v8
    else
      F_X16_fold_b166 k134 M v7 v8 t33 (v8 + (1 : Int32)) v0 v2 v3 v5 v6 v7 v8
  else
    (an M v7).bind fun t34 =>
    (F_X16_count M v7 t34).bind fun z35 =>
    (gr M v5 1473).bind fun t36 =>
    (ai M t36 v3).bind fun t37 =>
    if t37 = 0 then
      if (0 : Int64) < z35 then
        if v2 = (3 : Int32) then
          F_X16_fold_b215  M v0 v7
        else
          if v2 = (4 : Int32) then
            F_X16_fold_b215  M v0 v7
          else
            F_X16_fold_b228  M v0 v2 v3 v5 v6 v7 z35 t37
      else
        F_X16_fold_b228  M v0 v2 v3 v5 v6 v7 z35 t37
    else
      F_X16_fold_b228  M v0 v2 v3 v5 v6 v7 z35 t37
noncomputable def F_X16_fold_b134  (n : Nat) : Mem → Nat → Int32 → Int32 → Nat → Int32 → Nat → Int32 → Option (Int32 × Mem) :=
  Nat.rec (motive := fun _ => Mem → Nat → Int32 → Int32 → Nat → Int32 → Nat → Int32 → Option (Int32 × Mem)) (fun _ _ _ _ _ _ _ _ => none) (fun _ ih => F_X16_fold_b134_st ih) n
noncomputable def F_X16_fold_b87  (M : Mem) (s0 : Nat) (v0 : Nat) : Option (Int32 × Mem) :=
  (pi M v0 1115 (0 : Int32)).bind fun M38 =>
  (gr M38 v0 1103).bind fun t39 =>
  (gi M38 t39 1152).bind fun t40 =>
  (vg M38 v0 17).bind fun _ =>
  (F_X16_failsAt M38 v0 t40).bind fun z42 =>
  some (z42.1, z42.2)
noncomputable def F_X16_fold (M : Mem) (v0 : Nat) (v1 : Int32) (v2 : Int32) (v3 : Int32) : Option (Int32 × Mem) :=
  (pi M v0 1117 (-1 : Int32)).bind fun M43 =>
  (vg M43 v0 17).bind fun _ =>
  (F_X16_codeOfFold M43 v0 v1 v2 v3 (0 : Int32)).bind fun z45 =>
  if 0 < z45 then
    some ((-z45), M43)
  else
    (gr M43 v0 1092).bind fun t46 =>
    (ar M43 t46 v1).bind fun t47 =>
    (gi M43 t47 1472).bind fun t48 =>
    (F_X16_foldLane t48 v2).bind fun z49 =>
    if v3 < 0 then
      (gr M43 v0 1100).bind fun t50 =>
      (F_X16_listed M43 t47 t50).bind fun z51 =>
      (gr z51 v0 1100).bind fun t52 =>
      (gi z51 t47 1472).bind fun t53 =>
      (gr z51 v0 1100).bind fun t54 =>
      (vg z51 t47 23).bind fun _ =>
      (F_X22_count z51 t47).bind fun z56 =>
      (vg z51 v0 17).bind fun _ =>
      tc (F_X16_foldRow z51 v0 v2 t53 z49 t54 (0 : Int32) z56) (fun z58 =>
        (sj z58.2 t52 (0 : Int32) z58.1).bind fun M60 =>
        (mk M60 1005 (0 : Int32)).bind fun M61 =>
        (gr M61 v0 1100).bind fun t62 =>
        (vg M61 v0 17).bind fun _ =>
        (F_X16_madeIfRoom M61 v0 z49 (m_nx M60) t62).bind fun z64 =>
        some (z64.1, z64.2))
        (fun z59 =>
          F_X16_fold_b87  z59.2 z59.1 v0)
    else
      (vg M43 t47 23).bind fun _ =>
      (F_X22_axes M43 t47).bind fun z66 =>
      (mk M43 1005 (z66 - (1 : Int32))).bind fun M67 =>
      let v7_68 : Nat := (m_nx M43)
      F_X16_fold_b134  xN M67 v0 v2 v3 t47 z49 v7_68 (0 : Int32)
noncomputable def F_X16_running_b192  (M : Mem) (s0 : Nat) (v0 : Nat) (v5 : Nat) (v10 : Int32) : Option (Int32 × Mem) :=
  (gr M v5 1473).bind fun t1 =>
  (vg M v0 17).bind fun _ =>
  (F_X16_goTo M v0 t1 v10).bind fun z3 =>
  (gr z3 v0 1103).bind fun t4 =>
  (gi z3 t4 1152).bind fun t5 =>
  (vg z3 v0 17).bind fun _ =>
  (F_X16_failsAt z3 v0 t5).bind fun z7 =>
  some (z7.1, z7.2)
noncomputable def F_X16_running_b176 (k112 : Mem → Nat → Int32 → Nat → Int32 → Int32 → Int32 → Int32 → Int32 → Option (Int32 × Mem)) (M : Mem) (s0 : Nat) (s1 : Int32) (s2 : Nat) (s3 : Int32) (s4 : Int32) (s5 : Int32) (s6 : Int64) (v0 : Nat) (v2 : Int32) (v5 : Nat) (v6 : Int32) (v7 : Int32) (v8 : Int32) (v9 : Int32) (v10 : Int32) (v11 : Int32) : Option (Int32 × Mem) :=
  (vg M v5 23).bind fun _ =>
  (F_X22_cell M v5 v10).bind fun z9 =>
  (vg M s2 17).bind fun _ =>
  tc (F_X16_folded M s2 s3 s4 s5 s6 z9 v11) (fun z11 =>
    (sj z11.2 s0 s1 z11.1).bind fun M13 =>
    let v10_14 : Int32 := v10 + (1 : Int32)
    k112 M13 v0 v2 v5 v6 v7 v8 v9 v10_14)
    (fun z12 =>
      F_X16_running_b192  z12.2 z12.1 v0 v5 v10)
noncomputable def F_X16_running_b135 (k112 : Mem → Nat → Int32 → Nat → Int32 → Int32 → Int32 → Int32 → Int32 → Option (Int32 × Mem)) (M : Mem) (s0 : Int32) (v0 : Nat) (v2 : Int32) (v5 : Nat) (v6 : Int32) (v7 : Int32) (v8 : Int32) (v9 : Int32) (v10 : Int32) : Option (Int32 × Mem) :=
  (gr M v0 1100).bind fun t15 =>
  (gi M v5 1472).bind fun t16 =>
  if s0 = 0 then
    (gr M v0 1100).bind fun t17 =>
    (al M t17 (v10 - v8)).bind fun t18 =>
    F_X16_running_b176 k112 M t15 v10 v0 v2 t16 v6 t18 v0 v2 v5 v6 v7 v8 v9 v10 s0
  else
    (F_X16_foldBegin v6 v2).bind fun z19 =>
    F_X16_running_b176 k112 M t15 v10 v0 v2 t16 v6 z19 v0 v2 v5 v6 v7 v8 v9 v10 s0
noncomputable def F_X16_running_b112_st (k112 : Mem → Nat → Int32 → Nat → Int32 → Int32 → Int32 → Int32 → Int32 → Option (Int32 × Mem)) (M : Mem) (v0 : Nat) (v2 : Int32) (v5 : Nat) (v6 : Int32) (v7 : Int32) (v8 : Int32) (v9 : Int32) (v10 : Int32) : Option (Int32 × Mem) :=
  if v10 < v7 then
    if v8 = 0 then none else
    if v9 = 0 then none else
    if (j_irem (v10 / v8) v9) = 0 then
      F_X16_running_b135 k112 M (1 : Int32) v0 v2 v5 v6 v7 v8 v9 v10
    else
      F_X16_running_b135 k112 M (0 : Int32) v0 v2 v5 v6 v7 v8 v9 v10
  else
    (gr M v5 1473).bind fun t20 =>
    (vg M v5 23).bind fun _ =>
    (F_X22_axes M v5).bind fun z22 =>
    (F_X16_first M t20 z22).bind fun z23 =>
    (gr z23.2 v0 1100).bind fun t24 =>
    (vg z23.2 v0 17).bind fun _ =>
    (F_X16_madeIfRoom z23.2 v0 v6 z23.1 t24).bind fun z26 =>
    some (z26.1, z26.2)
noncomputable def F_X16_running_b112  (n : Nat) : Mem → Nat → Int32 → Nat → Int32 → Int32 → Int32 → Int32 → Int32 → Option (Int32 × Mem) :=
  Nat.rec (motive := fun _ => Mem → Nat → Int32 → Nat → Int32 → Int32 → Int32 → Int32 → Int32 → Option (Int32 × Mem)) (fun _ _ _ _ _ _ _ _ _ => none) (fun _ ih => F_X16_running_b112_st ih) n
noncomputable def F_X16_running_b107  (M : Mem) (s0 : Int32) (v0 : Nat) (v2 : Int32) (v5 : Nat) (v6 : Int32) (v7 : Int32) (v8 : Int32) : Option (Int32 × Mem) :=
  F_X16_running_b112  xN M v0 v2 v5 v6 v7 v8 s0 (0 : Int32)
noncomputable def F_X16_running_b91  (M : Mem) (v0 : Nat) (v2 : Int32) (v3 : Int32) (v5 : Nat) (v6 : Int32) (v7 : Int32) (v8 : Int32) : Option (Int32 × Mem) :=
  if v3 < 0 then
    F_X16_running_b107  M v7 v0 v2 v5 v6 v7 v8
  else
    (gr M v5 1473).bind fun t27 =>
    (ai M t27 v3).bind fun t28 =>
    F_X16_running_b107  M t28 v0 v2 v5 v6 v7 v8
noncomputable def F_X16_running_b58_st (k58 : Mem → Nat → Int32 → Int32 → Nat → Int32 → Int32 → Int32 → Int32 → Option (Int32 × Mem)) (M : Mem) (v0 : Nat) (v2 : Int32) (v3 : Int32) (v5 : Nat) (v6 : Int32) (v7 : Int32) (v8 : Int32) (v9 : Int32) : Option (Int32 × Mem) :=
  (vg M v5 23).bind fun _ =>
  (F_X22_axes M v5).bind fun z30 =>
  if v9 < z30 then
    if v3 < 0 then
      F_X16_running_b91  M v0 v2 v3 v5 v6 v7 v8
    else
      (gr M v5 1473).bind fun t31 =>
      (ai M t31 v9).bind fun t32 =>
      let v8_33 : Int32 := (v8 * t32)
      let v9_34 : Int32 := v9 + (1 : Int32)
      k58 M v0 v2 v3 v5 v6 v7 v8_33 v9_34
  else
    F_X16_running_b91  M v0 v2 v3 v5 v6 v7 v8
noncomputable def F_X16_running_b58  (n : Nat) : Mem → Nat → Int32 → Int32 → Nat → Int32 → Int32 → Int32 → Int32 → Option (Int32 × Mem) :=
  Nat.rec (motive := fun _ => Mem → Nat → Int32 → Int32 → Nat → Int32 → Int32 → Int32 → Int32 → Option (Int32 × Mem)) (fun _ _ _ _ _ _ _ _ _ => none) (fun _ ih => F_X16_running_b58_st ih) n
noncomputable def F_X16_running (M : Mem) (v0 : Nat) (v1 : Int32) (v2 : Int32) (v3 : Int32) : Option (Int32 × Mem) :=
  (pi M v0 1117 (-1 : Int32)).bind fun M35 =>
  (vg M35 v0 17).bind fun _ =>
  (F_X16_codeOfFold M35 v0 v1 v2 v3 (1 : Int32)).bind fun z37 =>
  if 0 < z37 then
    some ((-z37), M35)
  else
    (gr M35 v0 1092).bind fun t38 =>
    (ar M35 t38 v1).bind fun t39 =>
    (gi M35 t39 1472).bind fun t40 =>
    (F_X16_foldLane t40 v2).bind fun z41 =>
    (vg M35 t39 23).bind fun _ =>
    (F_X22_count M35 t39).bind fun z43 =>
    let v9_44 : Int32 := (v3 + (1 : Int32))
    F_X16_running_b58  xN M35 v0 v2 v3 t39 z41 z43 (1 : Int32) v9_44
noncomputable def F_X16_isRow_b13  (M : Mem) (s0 : Int32) : Option Int32 :=
  some (s0 &&& 1)
noncomputable def F_X16_isRow (M : Mem) (v0 : Nat) : Option Int32 :=
  (vg M v0 23).bind fun _ =>
  (F_X22_axes M v0).bind fun z2 =>
  if z2 = (1 : Int32) then
    F_X16_isRow_b13  M (1 : Int32)
  else
    F_X16_isRow_b13  M (0 : Int32)
noncomputable def F_X16_order_b237_st (k27 : Mem → Nat → Nat → Int32 → Int32 → Int32 → Int32 → Option Mem) (k237 : Mem → Nat → Nat → Int32 → Int32 → Int32 → Int32 → Int32 → Option Mem) (M : Mem) (v0 : Nat) (v1 : Nat) (v2 : Int32) (v3 : Int32) (v4 : Int32) (v5 : Int32) (v6 : Int32) : Option Mem :=
  if v6 < v2 then
    (gr M v0 1118).bind fun t1 =>
    (gr M v0 1119).bind fun t2 =>
    (ai M t2 v6).bind fun t3 =>
    (si M t1 v6 t3).bind fun M4 =>
    let v6_5 : Int32 := v6 + (1 : Int32)
    k237 M4 v0 v1 v2 v3 v4 v5 v6_5
  else
    let v5_6 : Int32 := ((2 : Int32) * v5)
    k27 M v0 v1 v2 v3 v4 v5_6
noncomputable def F_X16_order_b237 (k27 : Mem → Nat → Nat → Int32 → Int32 → Int32 → Int32 → Option Mem) (n : Nat) : Mem → Nat → Nat → Int32 → Int32 → Int32 → Int32 → Int32 → Option Mem :=
  Nat.rec (motive := fun _ => Mem → Nat → Nat → Int32 → Int32 → Int32 → Int32 → Int32 → Option Mem) (fun _ _ _ _ _ _ _ _ => none) (fun _ ih => F_X16_order_b237_st k27 ih) n
noncomputable def F_X16_order_b216 (k27 : Mem → Nat → Nat → Int32 → Int32 → Int32 → Int32 → Option Mem) (k36 : Mem → Nat → Nat → Int32 → Int32 → Int32 → Int32 → Int32 → Option Mem) (k78 : Mem → Nat → Nat → Int32 → Int32 → Int32 → Int32 → Int32 → Int32 → Int32 → Int32 → Int32 → Int32 → Option Mem) (M : Mem) (v0 : Nat) (v1 : Nat) (v2 : Int32) (v3 : Int32) (v4 : Int32) (v5 : Int32) (v6 : Int32) (v7 : Int32) (v8 : Int32) (v9 : Int32) (v10 : Int32) (v11 : Int32) : Option Mem :=
  let v11_7 : Int32 := v11 + (1 : Int32)
  k78 M v0 v1 v2 v3 v4 v5 v6 v7 v8 v9 v10 v11_7
noncomputable def F_X16_order_b174 (k27 : Mem → Nat → Nat → Int32 → Int32 → Int32 → Int32 → Option Mem) (k36 : Mem → Nat → Nat → Int32 → Int32 → Int32 → Int32 → Int32 → Option Mem) (k78 : Mem → Nat → Nat → Int32 → Int32 → Int32 → Int32 → Int32 → Int32 → Int32 → Int32 → Int32 → Int32 → Option Mem) (M : Mem) (v0 : Nat) (v1 : Nat) (v2 : Int32) (v3 : Int32) (v4 : Int32) (v5 : Int32) (v6 : Int32) (v7 : Int32) (v8 : Int32) (v9 : Int32) (v10 : Int32) (v11 : Int32) (v12 : Int32) : Option Mem :=
  if v12 = 0 then
    (gr M v0 1119).bind fun t8 =>
    (gr M v0 1118).bind fun t9 =>
    (ai M t9 v9).bind fun t10 =>
    (si M t8 v11 t10).bind fun M11 =>
    let v9_12 : Int32 := v9 + (1 : Int32)
    F_X16_order_b216 k27 k36 k78 M11 v0 v1 v2 v3 v4 v5 v6 v7 v8 v9_12 v10 v11
  else
    (gr M v0 1119).bind fun t13 =>
    (gr M v0 1118).bind fun t14 =>
    (ai M t14 v7).bind fun t15 =>
    (si M t13 v11 t15).bind fun M16 =>
    let v7_17 : Int32 := v7 + (1 : Int32)
    F_X16_order_b216 k27 k36 k78 M16 v0 v1 v2 v3 v4 v5 v6 v7_17 v8 v9 v10 v11
noncomputable def F_X16_order_b172 (k27 : Mem → Nat → Nat → Int32 → Int32 → Int32 → Int32 → Option Mem) (k36 : Mem → Nat → Nat → Int32 → Int32 → Int32 → Int32 → Int32 → Option Mem) (k78 : Mem → Nat → Nat → Int32 → Int32 → Int32 → Int32 → Int32 → Int32 → Int32 → Int32 → Int32 → Int32 → Option Mem) (M : Mem) (s0 : Int32) (v0 : Nat) (v1 : Nat) (v2 : Int32) (v3 : Int32) (v4 : Int32) (v5 : Int32) (v6 : Int32) (v7 : Int32) (v8 : Int32) (v9 : Int32) (v10 : Int32) (v11 : Int32) : Option Mem :=
  F_X16_order_b174 k27 k36 k78 M v0 v1 v2 v3 v4 v5 v6 v7 v8 v9 v10 v11 s0
noncomputable def F_X16_order_b97 (k27 : Mem → Nat → Nat → Int32 → Int32 → Int32 → Int32 → Option Mem) (k36 : Mem → Nat → Nat → Int32 → Int32 → Int32 → Int32 → Int32 → Option Mem) (k78 : Mem → Nat → Nat → Int32 → Int32 → Int32 → Int32 → Int32 → Int32 → Int32 → Int32 → Int32 → Int32 → Option Mem) (M : Mem) (s0 : Int32) (v0 : Nat) (v1 : Nat) (v2 : Int32) (v3 : Int32) (v4 : Int32) (v5 : Int32) (v6 : Int32) (v7 : Int32) (v8 : Int32) (v9 : Int32) (v10 : Int32) (v11 : Int32) : Option Mem :=
  if v7 < v8 then
    if v9 < v10 then
      (gr M v0 1118).bind fun t18 =>
      (ai M t18 v7).bind fun t19 =>
      (al M v1 t19).bind fun t20 =>
      (F_X16_ranked t20 v3).bind fun z21 =>
      (gr M v0 1118).bind fun t22 =>
      (ai M t22 v9).bind fun t23 =>
      (al M v1 t23).bind fun t24 =>
      (F_X16_ranked t24 v3).bind fun z25 =>
      (F_J20_compare z21 z25).bind fun z26 =>
      if v4 = 0 then
        if 0 < z26 then
          F_X16_order_b172 k27 k36 k78 M (0 : Int32) v0 v1 v2 v3 v4 v5 v6 v7 v8 v9 v10 v11
        else
          F_X16_order_b172 k27 k36 k78 M (1 : Int32) v0 v1 v2 v3 v4 v5 v6 v7 v8 v9 v10 v11
      else
        if z26 < 0 then
          F_X16_order_b172 k27 k36 k78 M (0 : Int32) v0 v1 v2 v3 v4 v5 v6 v7 v8 v9 v10 v11
        else
          F_X16_order_b172 k27 k36 k78 M (1 : Int32) v0 v1 v2 v3 v4 v5 v6 v7 v8 v9 v10 v11
    else
      F_X16_order_b174 k27 k36 k78 M v0 v1 v2 v3 v4 v5 v6 v7 v8 v9 v10 v11 s0
  else
    F_X16_order_b174 k27 k36 k78 M v0 v1 v2 v3 v4 v5 v6 v7 v8 v9 v10 v11 s0
noncomputable def F_X16_order_b78_st (k27 : Mem → Nat → Nat → Int32 → Int32 → Int32 → Int32 → Option Mem) (k36 : Mem → Nat → Nat → Int32 → Int32 → Int32 → Int32 → Int32 → Option Mem) (k78 : Mem → Nat → Nat → Int32 → Int32 → Int32 → Int32 → Int32 → Int32 → Int32 → Int32 → Int32 → Int32 → Option Mem) (M : Mem) (v0 : Nat) (v1 : Nat) (v2 : Int32) (v3 : Int32) (v4 : Int32) (v5 : Int32) (v6 : Int32) (v7 : Int32) (v8 : Int32) (v9 : Int32) (v10 : Int32) (v11 : Int32) : Option Mem :=
  if v11 < v10 then
    if v9 = v10 then
      F_X16_order_b97 k27 k36 k78 M (1 : Int32) v0 v1 v2 v3 v4 v5 v6 v7 v8 v9 v10 v11
    else
      F_X16_order_b97 k27 k36 k78 M (0 : Int32) v0 v1 v2 v3 v4 v5 v6 v7 v8 v9 v10 v11
  else
    let v6_27 : Int32 := (v6 + ((2 : Int32) * v5))
    k36 M v0 v1 v2 v3 v4 v5 v6_27
noncomputable def F_X16_order_b78 (k27 : Mem → Nat → Nat → Int32 → Int32 → Int32 → Int32 → Option Mem) (k36 : Mem → Nat → Nat → Int32 → Int32 → Int32 → Int32 → Int32 → Option Mem) (n : Nat) : Mem → Nat → Nat → Int32 → Int32 → Int32 → Int32 → Int32 → Int32 → Int32 → Int32 → Int32 → Int32 → Option Mem :=
  Nat.rec (motive := fun _ => Mem → Nat → Nat → Int32 → Int32 → Int32 → Int32 → Int32 → Int32 → Int32 → Int32 → Int32 → Int32 → Option Mem) (fun _ _ _ _ _ _ _ _ _ _ _ _ _ => none) (fun _ ih => F_X16_order_b78_st k27 k36 ih) n
noncomputable def F_X16_order_b36_st (k27 : Mem → Nat → Nat → Int32 → Int32 → Int32 → Int32 → Option Mem) (k36 : Mem → Nat → Nat → Int32 → Int32 → Int32 → Int32 → Int32 → Option Mem) (M : Mem) (v0 : Nat) (v1 : Nat) (v2 : Int32) (v3 : Int32) (v4 : Int32) (v5 : Int32) (v6 : Int32) : Option Mem :=
  if v6 < v2 then
    (F_J7_min_2 (v6 + v5) v2).bind fun z28 =>
    (F_J7_min_2 (v6 + ((2 : Int32) * v5)) v2).bind fun z29 =>
    F_X16_order_b78 k27 k36 xN M v0 v1 v2 v3 v4 v5 v6 v6 z28 z28 z29 v6
  else
    F_X16_order_b237 k27 xN M v0 v1 v2 v3 v4 v5 (0 : Int32)
noncomputable def F_X16_order_b36 (k27 : Mem → Nat → Nat → Int32 → Int32 → Int32 → Int32 → Option Mem) (n : Nat) : Mem → Nat → Nat → Int32 → Int32 → Int32 → Int32 → Int32 → Option Mem :=
  Nat.rec (motive := fun _ => Mem → Nat → Nat → Int32 → Int32 → Int32 → Int32 → Int32 → Option Mem) (fun _ _ _ _ _ _ _ _ => none) (fun _ ih => F_X16_order_b36_st k27 ih) n
noncomputable def F_X16_order_b27_st (k27 : Mem → Nat → Nat → Int32 → Int32 → Int32 → Int32 → Option Mem) (M : Mem) (v0 : Nat) (v1 : Nat) (v2 : Int32) (v3 : Int32) (v4 : Int32) (v5 : Int32) : Option Mem :=
  if v5 < v2 then
    F_X16_order_b36 k27 xN M v0 v1 v2 v3 v4 v5 (0 : Int32)
  else
    some M
noncomputable def F_X16_order_b27  (n : Nat) : Mem → Nat → Nat → Int32 → Int32 → Int32 → Int32 → Option Mem :=
  Nat.rec (motive := fun _ => Mem → Nat → Nat → Int32 → Int32 → Int32 → Int32 → Option Mem) (fun _ _ _ _ _ _ _ => none) (fun _ ih => F_X16_order_b27_st ih) n
noncomputable def F_X16_order_b3_st (k3 : Mem → Nat → Nat → Int32 → Int32 → Int32 → Int32 → Option Mem) (M : Mem) (v0 : Nat) (v1 : Nat) (v2 : Int32) (v3 : Int32) (v4 : Int32) (v5 : Int32) : Option Mem :=
  if v5 < v2 then
    (gr M v0 1118).bind fun t30 =>
    (si M t30 v5 v5).bind fun M31 =>
    let v5_32 : Int32 := v5 + (1 : Int32)
    k3 M31 v0 v1 v2 v3 v4 v5_32
  else
    F_X16_order_b27  xN M v0 v1 v2 v3 v4 (1 : Int32)
noncomputable def F_X16_order_b3  (n : Nat) : Mem → Nat → Nat → Int32 → Int32 → Int32 → Int32 → Option Mem :=
  Nat.rec (motive := fun _ => Mem → Nat → Nat → Int32 → Int32 → Int32 → Int32 → Option Mem) (fun _ _ _ _ _ _ _ => none) (fun _ ih => F_X16_order_b3_st ih) n
noncomputable def F_X16_order (M : Mem) (v0 : Nat) (v1 : Nat) (v2 : Int32) (v3 : Int32) (v4 : Int32) : Option Mem :=
  F_X16_order_b3  xN M v0 v1 v2 v3 v4 (0 : Int32)
noncomputable def F_X16_sorted_b75_st (k75 : Mem → Nat → Nat → Int32 → Option (Int32 × Mem)) (M : Mem) (v0 : Nat) (v3 : Nat) (v4 : Int32) : Option (Int32 × Mem) :=
  (vg M v3 23).bind fun _ =>
  (F_X22_count M v3).bind fun z2 =>
  if v4 < z2 then
    (gr M v0 1100).bind fun t3 =>
    (gr M v0 1118).bind fun t4 =>
    (ai M t4 v4).bind fun t5 =>
    (sj M t3 v4 (t5.toInt64)).bind fun M6 =>
    let v4_7 : Int32 := v4 + (1 : Int32)
    k75 M6 v0 v3 v4_7
  else
    (gr M v3 1473).bind fun t8 =>
    (F_X16_first M t8 (1 : Int32)).bind fun z9 =>
    (gr z9.2 v0 1100).bind fun t10 =>
    (vg z9.2 v0 17).bind fun _ =>
    (F_X16_made z9.2 v0 (4 : Int32) z9.1 t10).bind fun z12 =>
    some (z12.1, z12.2)
noncomputable def F_X16_sorted_b75  (n : Nat) : Mem → Nat → Nat → Int32 → Option (Int32 × Mem) :=
  Nat.rec (motive := fun _ => Mem → Nat → Nat → Int32 → Option (Int32 × Mem)) (fun _ _ _ _ => none) (fun _ ih => F_X16_sorted_b75_st ih) n
noncomputable def F_X16_sorted (M : Mem) (v0 : Nat) (v1 : Int32) (v2 : Int32) : Option (Int32 × Mem) :=
  (vg M v0 17).bind fun _ =>
  (F_X16_codeOf M v0 v1).bind fun z14 =>
  if 0 < z14 then
    (vg M v0 17).bind fun _ =>
    (F_X16_codeOf M v0 v1).bind fun z16 =>
    some ((-z16), M)
  else
    (gr M v0 1092).bind fun t17 =>
    (ar M t17 v1).bind fun t18 =>
    (F_X16_isRow M t18).bind fun z19 =>
    if z19 = 0 then
      some ((-1 : Int32), M)
    else
      (vg M t18 23).bind fun _ =>
      (F_X22_count M t18).bind fun z21 =>
      (vg M v0 17).bind fun _ =>
      (F_X16_isRoom M v0 (z21.toInt64) (1 : Int32)).bind fun z23 =>
      if z23 = 0 then
        some ((-12 : Int32), M)
      else
        (gr M v0 1101).bind fun t24 =>
        (F_X16_listed M t18 t24).bind fun z25 =>
        (gr z25 v0 1101).bind fun t26 =>
        (vg z25 t18 23).bind fun _ =>
        (F_X22_count z25 t18).bind fun z28 =>
        (gi z25 t18 1472).bind fun t29 =>
        (vg z25 v0 17).bind fun _ =>
        (F_X16_order z25 v0 t26 z28 t29 v2).bind fun z31 =>
        F_X16_sorted_b75  xN z31 v0 t18 (0 : Int32)
noncomputable def F_X16_search_b43  (M : Mem) : Option Int32 :=
  some (-1 : Int32)
noncomputable def F_X16_search_b92 (k51 : Mem → Int64 → Nat → Int32 → Int32 → Option Int32) (M : Mem) (v2 : Int64) (v4 : Nat) (v5 : Int32) (v6 : Int32) : Option Int32 :=
  let v6_1 : Int32 := v6 + (1 : Int32)
  k51 M v2 v4 v5 v6_1
noncomputable def F_X16_search_b51_st (k51 : Mem → Int64 → Nat → Int32 → Int32 → Option Int32) (M : Mem) (v2 : Int64) (v4 : Nat) (v5 : Int32) (v6 : Int32) : Option Int32 :=
  (vg M v4 23).bind fun _ =>
  (F_X22_count M v4).bind fun z3 =>
  if v6 < z3 then
    (vg M v4 23).bind fun _ =>
    (F_X22_cell M v4 v6).bind fun z5 =>
    (gi M v4 1472).bind fun t6 =>
    (F_X16_ranked z5 t6).bind fun z7 =>
    (gi M v4 1472).bind fun t8 =>
    (F_X16_ranked v2 t8).bind fun z9 =>
    if z7 < z9 then
      let v5_10 : Int32 := v5 + (1 : Int32)
      F_X16_search_b92 k51 M v2 v4 v5_10 v6
    else
      F_X16_search_b92 k51 M v2 v4 v5 v6
  else
    some v5
noncomputable def F_X16_search_b51  (n : Nat) : Mem → Int64 → Nat → Int32 → Int32 → Option Int32 :=
  Nat.rec (motive := fun _ => Mem → Int64 → Nat → Int32 → Int32 → Option Int32) (fun _ _ _ _ _ => none) (fun _ ih => F_X16_search_b51_st ih) n
noncomputable def F_X16_search (M : Mem) (v0 : Nat) (v1 : Int32) (v2 : Int64) : Option Int32 :=
  (vg M v0 17).bind fun _ =>
  (F_X16_codeOf M v0 v1).bind fun z12 =>
  if 0 < z12 then
    (vg M v0 17).bind fun _ =>
    (F_X16_codeOf M v0 v1).bind fun z14 =>
    some (-z14)
  else
    (gr M v0 1092).bind fun t15 =>
    (ar M t15 v1).bind fun t16 =>
    (F_X16_isRow M t16).bind fun z17 =>
    if z17 = 0 then
      F_X16_search_b43  M
    else
      (gi M t16 1472).bind fun t18 =>
      (F_X16_hasBits t18 v2).bind fun z19 =>
      if z19 = 0 then
        F_X16_search_b43  M
      else
        F_X16_search_b51  xN M v2 t16 (0 : Int32) (0 : Int32)
noncomputable def F_X16_oneSize (M : Mem) (v0 : Int32) : Option (Nat × Mem) :=
  (mk M 1005 (1 : Int32)).bind fun M1 =>
  let v1_2 : Nat := (m_nx M)
  (si M1 v1_2 (0 : Int32) v0).bind fun M3 =>
  some (v1_2, M3)
noncomputable def F_X16_groups_b36  (M : Mem) : Option (Int32 × Mem) :=
  some ((-14 : Int32), M)
noncomputable def F_X16_groups_b87  (M : Mem) : Option (Int32 × Mem) :=
  some ((-1 : Int32), M)
noncomputable def F_X16_groups_b268  (M : Mem) (s0 : Nat) (v0 : Nat) : Option (Int32 × Mem) :=
  (gr M v0 1103).bind fun t1 =>
  (gi M t1 1152).bind fun t2 =>
  some ((-t2), M)
noncomputable def F_X16_groups_b221 (k146 : Mem → Nat → Int32 → Nat → Nat → Int32 → Int32 → Int32 → Int64 → Int32 → Option (Int32 × Mem)) (M : Mem) (v0 : Nat) (v3 : Int32) (v4 : Nat) (v5 : Nat) (v6 : Int32) (v7 : Int32) (v8 : Int32) (v9 : Int64) (v11 : Int32) (v14 : Int32) : Option (Int32 × Mem) :=
  (gr M v0 1101).bind fun t3 =>
  (gi M v5 1472).bind fun t4 =>
  (gr M v0 1101).bind fun t5 =>
  (al M t5 (v8 - (1 : Int32))).bind fun t6 =>
  (gr M v0 1118).bind fun t7 =>
  (ai M t7 v11).bind fun t8 =>
  (vg M v5 23).bind fun _ =>
  (F_X22_cell M v5 t8).bind fun z10 =>
  (vg M v0 17).bind fun _ =>
  tc (F_X16_folded M v0 v3 t4 v6 t6 z10 v14) (fun z12 =>
    (sj z12.2 t3 (v8 - (1 : Int32)) z12.1).bind fun M14 =>
    let v11_15 : Int32 := v11 + (1 : Int32)
    k146 M14 v0 v3 v4 v5 v6 v7 v8 v9 v11_15)
    (fun z13 =>
      F_X16_groups_b268  z13.2 z13.1 v0)
noncomputable def F_X16_groups_b185 (k146 : Mem → Nat → Int32 → Nat → Nat → Int32 → Int32 → Int32 → Int64 → Int32 → Option (Int32 × Mem)) (M : Mem) (s0 : Int32) (v0 : Nat) (v3 : Int32) (v4 : Nat) (v5 : Nat) (v6 : Int32) (v7 : Int32) (v8 : Int32) (v9 : Int64) (v11 : Int32) (v12 : Int64) : Option (Int32 × Mem) :=
  if s0 = 0 then
    F_X16_groups_b221 k146 M v0 v3 v4 v5 v6 v7 v8 v9 v11 s0
  else
    (gr M v0 1100).bind fun t16 =>
    (sj M t16 v8 v12).bind fun M17 =>
    (gr M17 v0 1101).bind fun t18 =>
    (F_X16_foldBegin v6 v3).bind fun z19 =>
    (sj M17 t18 v8 z19).bind fun M20 =>
    let v8_21 : Int32 := v8 + (1 : Int32)
    F_X16_groups_b221 k146 M20 v0 v3 v4 v5 v6 v7 v8_21 v12 v11 s0
noncomputable def F_X16_groups_b180 (k146 : Mem → Nat → Int32 → Nat → Nat → Int32 → Int32 → Int32 → Int64 → Int32 → Option (Int32 × Mem)) (M : Mem) (v0 : Nat) (v3 : Int32) (v4 : Nat) (v5 : Nat) (v6 : Int32) (v7 : Int32) (v8 : Int32) (v9 : Int64) (v11 : Int32) (v12 : Int64) : Option (Int32 × Mem) :=
  F_X16_groups_b185 k146 M (1 : Int32) v0 v3 v4 v5 v6 v7 v8 v9 v11 v12
noncomputable def F_X16_groups_b146_st (k146 : Mem → Nat → Int32 → Nat → Nat → Int32 → Int32 → Int32 → Int64 → Int32 → Option (Int32 × Mem)) (M : Mem) (v0 : Nat) (v3 : Int32) (v4 : Nat) (v5 : Nat) (v6 : Int32) (v7 : Int32) (v8 : Int32) (v9 : Int64) (v11 : Int32) : Option (Int32 × Mem) :=
  if v11 < v7 then
    (gr M v0 1118).bind fun t22 =>
    (ai M t22 v11).bind fun t23 =>
    (vg M v4 23).bind fun _ =>
    (F_X22_cell M v4 t23).bind fun z25 =>
    if v11 = 0 then
      F_X16_groups_b180 k146 M v0 v3 v4 v5 v6 v7 v8 v9 v11 z25
    else
      if z25 = v9 then
        F_X16_groups_b185 k146 M (0 : Int32) v0 v3 v4 v5 v6 v7 v8 v9 v11 z25
      else
        F_X16_groups_b180 k146 M v0 v3 v4 v5 v6 v7 v8 v9 v11 z25
  else
    (vg M v0 17).bind fun _ =>
    (F_X16_isRoom M v0 ((2 : Int64) * v8.toInt64) (2 : Int32)).bind fun z27 =>
    if z27 = 0 then
      some ((-12 : Int32), M)
    else
      (gi M v4 1472).bind fun t28 =>
      (F_X16_oneSize M v8).bind fun z29 =>
      (gr z29.2 v0 1100).bind fun t30 =>
      (vg z29.2 v0 17).bind fun _ =>
      (F_X16_made z29.2 v0 t28 z29.1 t30).bind fun z32 =>
      (F_X16_oneSize z32.2 v8).bind fun z33 =>
      (gr z33.2 v0 1101).bind fun t34 =>
      (vg z33.2 v0 17).bind fun _ =>
      (F_X16_made z33.2 v0 v6 z33.1 t34).bind fun z36 =>
      some (z32.1, z36.2)
noncomputable def F_X16_groups_b146  (n : Nat) : Mem → Nat → Int32 → Nat → Nat → Int32 → Int32 → Int32 → Int64 → Int32 → Option (Int32 × Mem) :=
  Nat.rec (motive := fun _ => Mem → Nat → Int32 → Nat → Nat → Int32 → Int32 → Int32 → Int64 → Int32 → Option (Int32 × Mem)) (fun _ _ _ _ _ _ _ _ _ _ => none) (fun _ ih => F_X16_groups_b146_st ih) n
noncomputable def F_X16_groups (M : Mem) (v0 : Nat) (v1 : Int32) (v2 : Int32) (v3 : Int32) : Option (Int32 × Mem) :=
  (gi M v0 1095).bind fun t37 =>
  if t37 = 0 then
    (vg M v0 17).bind fun _ =>
    (F_X16_isGrid M v0 v1).bind fun z39 =>
    if z39 = 0 then
      F_X16_groups_b36  M
    else
      (vg M v0 17).bind fun _ =>
      (F_X16_isGrid M v0 v2).bind fun z41 =>
      if z41 = 0 then
        F_X16_groups_b36  M
      else
        if v3 < 0 then
          F_X16_groups_b36  M
        else
          if (7 : Int32) < v3 then
            F_X16_groups_b36  M
          else
            (gr M v0 1092).bind fun t42 =>
            (ar M t42 v1).bind fun t43 =>
            (gr M v0 1092).bind fun t44 =>
            (ar M t44 v2).bind fun t45 =>
            (gi M t45 1472).bind fun t46 =>
            (F_X16_foldLane t46 v3).bind fun z47 =>
            (F_X16_isRow M t43).bind fun z48 =>
            if z48 = 0 then
              F_X16_groups_b87  M
            else
              (F_X16_isRow M t45).bind fun z49 =>
              if z49 = 0 then
                F_X16_groups_b87  M
              else
                if z47 < 0 then
                  F_X16_groups_b87  M
                else
                  (vg M t43 23).bind fun _ =>
                  (F_X22_count M t43).bind fun z51 =>
                  (vg M t45 23).bind fun _ =>
                  (F_X22_count M t45).bind fun z53 =>
                  if z51 = z53 then
                    (vg M t43 23).bind fun _ =>
                    (F_X22_count M t43).bind fun z55 =>
                    (gr M v0 1101).bind fun t56 =>
                    (F_X16_listed M t43 t56).bind fun z57 =>
                    (gr z57 v0 1101).bind fun t58 =>
                    (gi z57 t43 1472).bind fun t59 =>
                    (vg z57 v0 17).bind fun _ =>
                    (F_X16_order z57 v0 t58 z55 t59 (0 : Int32)).bind fun z61 =>
                    F_X16_groups_b146  xN z61 v0 v3 t43 t45 z47 z55 (0 : Int32) (0 : Int64) (0 : Int32)
                  else
                    some ((-3 : Int32), M)
  else
    some ((-13 : Int32), M)
noncomputable def F_X16_sizes (M : Mem) (v0 : Int32) (v1 : Int32) : Option (Nat × Mem) :=
  (mk M 1005 (2 : Int32)).bind fun M1 =>
  let v2_2 : Nat := (m_nx M)
  (si M1 v2_2 (0 : Int32) v0).bind fun M3 =>
  (si M3 v2_2 (1 : Int32) v1).bind fun M4 =>
  some (v2_2, M4)
noncomputable def F_X16_join_b26  (M : Mem) : Option (Int32 × Mem) :=
  some ((-14 : Int32), M)
noncomputable def F_X16_join_b71  (M : Mem) : Option (Int32 × Mem) :=
  some ((-1 : Int32), M)
noncomputable def F_X16_join_b158 (k79 : Mem → Nat → Nat → Nat → Int32 → Int32 → Option (Int32 × Mem)) (k91 : Mem → Nat → Nat → Nat → Int32 → Int32 → Int32 → Option (Int32 × Mem)) (M : Mem) (v0 : Nat) (v3 : Nat) (v4 : Nat) (v5 : Int32) (v6 : Int32) (v7 : Int32) : Option (Int32 × Mem) :=
  let v7_1 : Int32 := v7 + (1 : Int32)
  k91 M v0 v3 v4 v5 v6 v7_1
noncomputable def F_X16_join_b91_st (k79 : Mem → Nat → Nat → Nat → Int32 → Int32 → Option (Int32 × Mem)) (k91 : Mem → Nat → Nat → Nat → Int32 → Int32 → Int32 → Option (Int32 × Mem)) (M : Mem) (v0 : Nat) (v3 : Nat) (v4 : Nat) (v5 : Int32) (v6 : Int32) (v7 : Int32) : Option (Int32 × Mem) :=
  (vg M v4 23).bind fun _ =>
  (F_X22_count M v4).bind fun z3 =>
  if v7 < z3 then
    (vg M v3 23).bind fun _ =>
    (F_X22_cell M v3 v6).bind fun z5 =>
    (vg M v4 23).bind fun _ =>
    (F_X22_cell M v4 v7).bind fun z7 =>
    if z5 = z7 then
      if v5 = (4096 : Int32) then
        some ((-12 : Int32), M)
      else
        (gr M v0 1100).bind fun t8 =>
        (sj M t8 ((2 : Int32) * v5) (v6.toInt64)).bind fun M9 =>
        (gr M9 v0 1100).bind fun t10 =>
        (sj M9 t10 (((2 : Int32) * v5) + (1 : Int32)) (v7.toInt64)).bind fun M11 =>
        let v5_12 : Int32 := v5 + (1 : Int32)
        F_X16_join_b158 k79 k91 M11 v0 v3 v4 v5_12 v6 v7
    else
      F_X16_join_b158 k79 k91 M v0 v3 v4 v5 v6 v7
  else
    let v6_13 : Int32 := v6 + (1 : Int32)
    k79 M v0 v3 v4 v5 v6_13
noncomputable def F_X16_join_b91 (k79 : Mem → Nat → Nat → Nat → Int32 → Int32 → Option (Int32 × Mem)) (n : Nat) : Mem → Nat → Nat → Nat → Int32 → Int32 → Int32 → Option (Int32 × Mem) :=
  Nat.rec (motive := fun _ => Mem → Nat → Nat → Nat → Int32 → Int32 → Int32 → Option (Int32 × Mem)) (fun _ _ _ _ _ _ _ => none) (fun _ ih => F_X16_join_b91_st k79 ih) n
noncomputable def F_X16_join_b79_st (k79 : Mem → Nat → Nat → Nat → Int32 → Int32 → Option (Int32 × Mem)) (M : Mem) (v0 : Nat) (v3 : Nat) (v4 : Nat) (v5 : Int32) (v6 : Int32) : Option (Int32 × Mem) :=
  (vg M v3 23).bind fun _ =>
  (F_X22_count M v3).bind fun z15 =>
  if v6 < z15 then
    F_X16_join_b91 k79 xN M v0 v3 v4 v5 v6 (0 : Int32)
  else
    (F_X16_sizes M v5 (2 : Int32)).bind fun z16 =>
    (gr z16.2 v0 1100).bind fun t17 =>
    (vg z16.2 v0 17).bind fun _ =>
    (F_X16_madeIfRoom z16.2 v0 (4 : Int32) z16.1 t17).bind fun z19 =>
    some (z19.1, z19.2)
noncomputable def F_X16_join_b79  (n : Nat) : Mem → Nat → Nat → Nat → Int32 → Int32 → Option (Int32 × Mem) :=
  Nat.rec (motive := fun _ => Mem → Nat → Nat → Nat → Int32 → Int32 → Option (Int32 × Mem)) (fun _ _ _ _ _ _ => none) (fun _ ih => F_X16_join_b79_st ih) n
noncomputable def F_X16_join (M : Mem) (v0 : Nat) (v1 : Int32) (v2 : Int32) : Option (Int32 × Mem) :=
  (gi M v0 1095).bind fun t20 =>
  if t20 = 0 then
    (vg M v0 17).bind fun _ =>
    (F_X16_isGrid M v0 v1).bind fun z22 =>
    if z22 = 0 then
      F_X16_join_b26  M
    else
      (vg M v0 17).bind fun _ =>
      (F_X16_isGrid M v0 v2).bind fun z24 =>
      if z24 = 0 then
        F_X16_join_b26  M
      else
        (gr M v0 1092).bind fun t25 =>
        (ar M t25 v1).bind fun t26 =>
        (gr M v0 1092).bind fun t27 =>
        (ar M t27 v2).bind fun t28 =>
        (F_X16_isRow M t26).bind fun z29 =>
        if z29 = 0 then
          F_X16_join_b71  M
        else
          (F_X16_isRow M t28).bind fun z30 =>
          if z30 = 0 then
            F_X16_join_b71  M
          else
            (gi M t26 1472).bind fun t31 =>
            (gi M t28 1472).bind fun t32 =>
            if t31 = t32 then
              F_X16_join_b79  xN M v0 t26 t28 (0 : Int32) (0 : Int32)
            else
              F_X16_join_b71  M
  else
    some ((-13 : Int32), M)
noncomputable def F_X16_product_b31  (M : Mem) : Option (Int32 × Mem) :=
  some ((-14 : Int32), M)
noncomputable def F_X16_product_b81  (M : Mem) : Option (Int32 × Mem) :=
  some ((-1 : Int32), M)
noncomputable def F_X16_product_b159  (M : Mem) : Option (Int32 × Mem) :=
  some ((-12 : Int32), M)
noncomputable def F_X16_product_b347  (M : Mem) (s0 : Nat) (v0 : Nat) : Option (Int32 × Mem) :=
  (gr M v0 1103).bind fun t1 =>
  (gi M t1 1152).bind fun t2 =>
  (vg M v0 17).bind fun _ =>
  (F_X16_failsAt M v0 t2).bind fun z4 =>
  some (z4.1, z4.2)
noncomputable def F_X16_product_b212_st (k188 : Mem → Nat → Nat → Nat → Int32 → Int32 → Int32 → Int32 → Nat → Int32 → Option (Int32 × Mem)) (k212 : Mem → Nat → Nat → Nat → Int32 → Int32 → Int32 → Int32 → Nat → Int32 → Int64 → Int32 → Option (Int32 × Mem)) (M : Mem) (v0 : Nat) (v3 : Nat) (v4 : Nat) (v5 : Int32) (v6 : Int32) (v7 : Int32) (v8 : Int32) (v9 : Nat) (v10 : Int32) (v11 : Int64) (v13 : Int32) : Option (Int32 × Mem) :=
  if v13 < v6 then
    (gr M v3 1476).bind fun t5 =>
    (gi M v3 1475).bind fun t6 =>
    (gr M v0 1114).bind fun t7 =>
    (ai M t7 (0 : Int32)).bind fun t8 =>
    (gr M v3 1474).bind fun t9 =>
    (ai M t9 (0 : Int32)).bind fun t10 =>
    (gr M v3 1474).bind fun t11 =>
    (ai M t11 (1 : Int32)).bind fun t12 =>
    (al M t5 ((t6 + (t8 * t10)) + (v13 * t12))).bind fun t13 =>
    (gr M v4 1476).bind fun t14 =>
    (gi M v4 1475).bind fun t15 =>
    (gr M v4 1474).bind fun t16 =>
    (ai M t16 (0 : Int32)).bind fun t17 =>
    (gr M v0 1114).bind fun t18 =>
    (ai M t18 (1 : Int32)).bind fun t19 =>
    (gr M v4 1474).bind fun t20 =>
    (ai M t20 (1 : Int32)).bind fun t21 =>
    (al M t14 ((t15 + (v13 * t17)) + (t19 * t21))).bind fun t22 =>
    (gi M v3 1472).bind fun t23 =>
    (F_X16_widened t13 t23 v8).bind fun z24 =>
    (gi M v4 1472).bind fun t25 =>
    (F_X16_widened t22 t25 v8).bind fun z26 =>
    (vg M v0 17).bind fun _ =>
    tc (F_X16_arithmetic M v0 31 v8 z24 z26) (fun z28 =>
      (vg z28.2 v0 17).bind fun _ =>
      tc (F_X16_arithmetic z28.2 v0 32 v8 v11 z28.1) (fun z31 =>
        let v13_33 : Int32 := v13 + (1 : Int32)
        k212 z31.2 v0 v3 v4 v5 v6 v7 v8 v9 v10 z31.1 v13_33)
        (fun z32 =>
          F_X16_product_b347  z32.2 z32.1 v0))
      (fun z29 =>
        F_X16_product_b347  z29.2 z29.1 v0)
  else
    (gr M v0 1100).bind fun t34 =>
    (sj M t34 v10 v11).bind fun M35 =>
    let v10_36 : Int32 := v10 + (1 : Int32)
    k188 M35 v0 v3 v4 v5 v6 v7 v8 v9 v10_36
noncomputable def F_X16_product_b212 (k188 : Mem → Nat → Nat → Nat → Int32 → Int32 → Int32 → Int32 → Nat → Int32 → Option (Int32 × Mem)) (n : Nat) : Mem → Nat → Nat → Nat → Int32 → Int32 → Int32 → Int32 → Nat → Int32 → Int64 → Int32 → Option (Int32 × Mem) :=
  Nat.rec (motive := fun _ => Mem → Nat → Nat → Nat → Int32 → Int32 → Int32 → Int32 → Nat → Int32 → Int64 → Int32 → Option (Int32 × Mem)) (fun _ _ _ _ _ _ _ _ _ _ _ _ => none) (fun _ ih => F_X16_product_b212_st k188 ih) n
noncomputable def F_X16_product_b188_st (k188 : Mem → Nat → Nat → Nat → Int32 → Int32 → Int32 → Int32 → Nat → Int32 → Option (Int32 × Mem)) (M : Mem) (v0 : Nat) (v3 : Nat) (v4 : Nat) (v5 : Int32) (v6 : Int32) (v7 : Int32) (v8 : Int32) (v9 : Nat) (v10 : Int32) : Option (Int32 × Mem) :=
  if v10 < (v5 * v7) then
    (vg M v0 17).bind fun _ =>
    (F_X16_goTo M v0 v9 v10).bind fun z38 =>
    F_X16_product_b212 k188 xN z38 v0 v3 v4 v5 v6 v7 v8 v9 v10 (0 : Int64) (0 : Int32)
  else
    (gr M v0 1100).bind fun t39 =>
    (vg M v0 17).bind fun _ =>
    (F_X16_madeIfRoom M v0 v8 v9 t39).bind fun z41 =>
    some (z41.1, z41.2)
noncomputable def F_X16_product_b188  (n : Nat) : Mem → Nat → Nat → Nat → Int32 → Int32 → Int32 → Int32 → Nat → Int32 → Option (Int32 × Mem) :=
  Nat.rec (motive := fun _ => Mem → Nat → Nat → Nat → Int32 → Int32 → Int32 → Int32 → Nat → Int32 → Option (Int32 × Mem)) (fun _ _ _ _ _ _ _ _ _ _ => none) (fun _ ih => F_X16_product_b188_st ih) n
noncomputable def F_X16_product (M : Mem) (v0 : Nat) (v1 : Int32) (v2 : Int32) : Option (Int32 × Mem) :=
  (pi M v0 1117 (-1 : Int32)).bind fun M42 =>
  (gi M42 v0 1095).bind fun t43 =>
  if t43 = 0 then
    (vg M42 v0 17).bind fun _ =>
    (F_X16_isGrid M42 v0 v1).bind fun z45 =>
    if z45 = 0 then
      F_X16_product_b31  M42
    else
      (vg M42 v0 17).bind fun _ =>
      (F_X16_isGrid M42 v0 v2).bind fun z47 =>
      if z47 = 0 then
        F_X16_product_b31  M42
      else
        (gr M42 v0 1092).bind fun t48 =>
        (ar M42 t48 v1).bind fun t49 =>
        (gr M42 v0 1092).bind fun t50 =>
        (ar M42 t50 v2).bind fun t51 =>
        (vg M42 t49 23).bind fun _ =>
        (F_X22_axes M42 t49).bind fun z53 =>
        if z53 = (2 : Int32) then
          (vg M42 t51 23).bind fun _ =>
          (F_X22_axes M42 t51).bind fun z55 =>
          if z55 = (2 : Int32) then
            (gi M42 t49 1472).bind fun t56 =>
            if t56 = 0 then
              F_X16_product_b81  M42
            else
              (gi M42 t51 1472).bind fun t57 =>
              if t57 = 0 then
                F_X16_product_b81  M42
              else
                (gr M42 t49 1473).bind fun t58 =>
                (ai M42 t58 (1 : Int32)).bind fun t59 =>
                (gr M42 t51 1473).bind fun t60 =>
                (ai M42 t60 (0 : Int32)).bind fun t61 =>
                if t59 = t61 then
                  (gr M42 t49 1473).bind fun t62 =>
                  (ai M42 t62 (0 : Int32)).bind fun t63 =>
                  (gr M42 t49 1473).bind fun t64 =>
                  (ai M42 t64 (1 : Int32)).bind fun t65 =>
                  (gr M42 t51 1473).bind fun t66 =>
                  (ai M42 t66 (1 : Int32)).bind fun t67 =>
                  if (1000000 : Int64) < ((t63.toInt64 * t65.toInt64) * t67.toInt64) then
                    F_X16_product_b159  M42
                  else
                    if (100000 : Int64) < (t63.toInt64 * t67.toInt64) then
                      F_X16_product_b159  M42
                    else
                      (gi M42 t49 1472).bind fun t68 =>
                      (gi M42 t51 1472).bind fun t69 =>
                      (F_X16_wider t68 t69).bind fun z70 =>
                      (F_X16_sizes M42 t63 t67).bind fun z71 =>
                      F_X16_product_b188  xN z71.2 v0 t49 t51 t63 t65 t67 z70 z71.1 (0 : Int32)
                else
                  some ((-3 : Int32), M42)
          else
            F_X16_product_b81  M42
        else
          F_X16_product_b81  M42
  else
    some ((-13 : Int32), M42)
noncomputable def F_X18_set_b58 (k22 : Mem → Nat → Int64 → Option Mem) (M : Mem) (s0 : Nat) (s1 : Int32) (s2 : Int64) (v0 : Nat) (v3 : Int64) : Option Mem :=
  (si M s0 s1 (s2.toInt32)).bind fun M1 =>
  if (268435456 : Int64) = 0 then none else
  let v3_2 : Int64 := (v3 / (268435456 : Int64))
  (gi M1 v0 1217).bind fun t3 =>
  (pi M1 v0 1217 (t3 + (1 : Int32))).bind fun M4 =>
  k22 M4 v0 v3_2
noncomputable def F_X18_set_b22_st (k22 : Mem → Nat → Int64 → Option Mem) (M : Mem) (v0 : Nat) (v3 : Int64) : Option Mem :=
  if v3 = (0 : Int64) then
    some M
  else
    if (268435456 : Int64) = 0 then none else
    let v5_5 : Int64 := (j_lrem v3 (268435456 : Int64))
    (gr M v0 1216).bind fun t6 =>
    (gi M v0 1217).bind fun t7 =>
    if v5_5 < (0 : Int64) then
      F_X18_set_b58 k22 M t6 t7 (-v5_5) v0 v3
    else
      F_X18_set_b58 k22 M t6 t7 v5_5 v0 v3
noncomputable def F_X18_set_b22  (n : Nat) : Mem → Nat → Int64 → Option Mem :=
  Nat.rec (motive := fun _ => Mem → Nat → Int64 → Option Mem) (fun _ _ _ => none) (fun _ ih => F_X18_set_b22_st ih) n
noncomputable def F_X18_set_b12  (M : Mem) (s0 : Nat) (s1 : Int32) (v0 : Nat) (v1 : Int64) : Option Mem :=
  (pi M s0 1218 s1).bind fun M8 =>
  (pi M8 v0 1217 (0 : Int32)).bind fun M9 =>
  F_X18_set_b22  xN M9 v0 v1
noncomputable def F_X18_set (M : Mem) (v0 : Nat) (v1 : Int64) : Option Mem :=
  if v1 < (0 : Int64) then
    F_X18_set_b12  M v0 (1 : Int32) v0 v1
  else
    F_X18_set_b12  M v0 (0 : Int32) v0 v1
noncomputable def F_X18_isZero_b12  (M : Mem) (s0 : Int32) : Option Int32 :=
  some (s0 &&& 1)
noncomputable def F_X18_isZero (M : Mem) (v0 : Nat) : Option Int32 :=
  (gi M v0 1217).bind fun t1 =>
  if t1 = 0 then
    F_X18_isZero_b12  M (1 : Int32)
  else
    F_X18_isZero_b12  M (0 : Int32)
noncomputable def F_X18_set_2_b18_st (k18 : Mem → Nat → Nat → Int32 → Option Mem) (M : Mem) (v0 : Nat) (v1 : Nat) (v2 : Int32) : Option Mem :=
  (gi M v0 1217).bind fun t1 =>
  if v2 < t1 then
    (gr M v0 1216).bind fun t2 =>
    (gr M v1 1216).bind fun t3 =>
    (ai M t3 v2).bind fun t4 =>
    (si M t2 v2 t4).bind fun M5 =>
    let v2_6 : Int32 := v2 + (1 : Int32)
    k18 M5 v0 v1 v2_6
  else
    some M
noncomputable def F_X18_set_2_b18  (n : Nat) : Mem → Nat → Nat → Int32 → Option Mem :=
  Nat.rec (motive := fun _ => Mem → Nat → Nat → Int32 → Option Mem) (fun _ _ _ _ => none) (fun _ ih => F_X18_set_2_b18_st ih) n
noncomputable def F_X18_set_2 (M : Mem) (v0 : Nat) (v1 : Nat) : Option Mem :=
  (gi M v1 1218).bind fun t7 =>
  (pi M v0 1218 t7).bind fun M8 =>
  (gi M8 v1 1217).bind fun t9 =>
  (pi M8 v0 1217 t9).bind fun M10 =>
  F_X18_set_2_b18  xN M10 v0 v1 (0 : Int32)
noncomputable def F_X18_trim_b51  (M : Mem) : Option Mem :=
  some M
noncomputable def F_X18_trim_b39  (M : Mem) (v0 : Nat) : Option Mem :=
  (gi M v0 1217).bind fun t1 =>
  if t1 = 0 then
    (pi M v0 1218 (0 : Int32)).bind fun M2 =>
    F_X18_trim_b51  M2
  else
    F_X18_trim_b51  M
noncomputable def F_X18_trim_b5_st (k5 : Mem → Nat → Option Mem) (M : Mem) (v0 : Nat) : Option Mem :=
  (gi M v0 1217).bind fun t3 =>
  if 0 < t3 then
    (gr M v0 1216).bind fun t4 =>
    (gi M v0 1217).bind fun t5 =>
    (ai M t4 (t5 - (1 : Int32))).bind fun t6 =>
    if t6 = 0 then
      (gi M v0 1217).bind fun t7 =>
      (pi M v0 1217 (t7 - (1 : Int32))).bind fun M8 =>
      k5 M8 v0
    else
      F_X18_trim_b39  M v0
  else
    F_X18_trim_b39  M v0
noncomputable def F_X18_trim_b5  (n : Nat) : Mem → Nat → Option Mem :=
  Nat.rec (motive := fun _ => Mem → Nat → Option Mem) (fun _ _ => none) (fun _ ih => F_X18_trim_b5_st ih) n
noncomputable def F_X18_trim (M : Mem) (v0 : Nat) (v1 : Int32) : Option Mem :=
  (pi M v0 1217 v1).bind fun M9 =>
  F_X18_trim_b5  xN M9 v0
noncomputable def F_X18_product_b150  (M : Mem) (s0 : Nat) (s1 : Int32) (v0 : Nat) (v1 : Nat) (v2 : Nat) : Option Mem :=
  (pi M s0 1218 s1).bind fun M1 =>
  (gi M1 v1 1217).bind fun t2 =>
  (gi M1 v2 1217).bind fun t3 =>
  (F_J7_min_2 (40 : Int32) ((t2 + t3) + (1 : Int32))).bind fun z4 =>
  (vg M1 v0 19).bind fun _ =>
  (F_X18_trim M1 v0 z4).bind fun z6 =>
  some z6
noncomputable def F_X18_product_b95 (k23 : Mem → Nat → Nat → Nat → Int32 → Option Mem) (k37 : Mem → Nat → Nat → Nat → Int32 → Int64 → Int32 → Option Mem) (M : Mem) (s0 : Int64) (s1 : Int64) (v0 : Nat) (v1 : Nat) (v2 : Nat) (v3 : Int32) (v6 : Int32) : Option Mem :=
  let v7_7 : Int64 := (s0 + s1)
  (gr M v0 1216).bind fun t8 =>
  (si M t8 (v3 + v6) ((v7_7 &&& (268435455 : Int64)).toInt32)).bind fun M9 =>
  let v4_10 : Int64 := (j_lshr v7_7 (28 : Int32))
  let v6_11 : Int32 := v6 + (1 : Int32)
  k37 M9 v0 v1 v2 v3 v4_10 v6_11
noncomputable def F_X18_product_b53 (k23 : Mem → Nat → Nat → Nat → Int32 → Option Mem) (k37 : Mem → Nat → Nat → Nat → Int32 → Int64 → Int32 → Option Mem) (M : Mem) (v0 : Nat) (v1 : Nat) (v2 : Nat) (v3 : Int32) (v4 : Int64) (v6 : Int32) : Option Mem :=
  (gr M v0 1216).bind fun t12 =>
  (ai M t12 (v3 + v6)).bind fun t13 =>
  (gi M v2 1217).bind fun t14 =>
  if v6 < t14 then
    (gr M v1 1216).bind fun t15 =>
    (ai M t15 v3).bind fun t16 =>
    (gr M v2 1216).bind fun t17 =>
    (ai M t17 v6).bind fun t18 =>
    F_X18_product_b95 k23 k37 M (t13.toInt64 + v4) (t16.toInt64 * t18.toInt64) v0 v1 v2 v3 v6
  else
    F_X18_product_b95 k23 k37 M (t13.toInt64 + v4) (0 : Int64) v0 v1 v2 v3 v6
noncomputable def F_X18_product_b37_st (k23 : Mem → Nat → Nat → Nat → Int32 → Option Mem) (k37 : Mem → Nat → Nat → Nat → Int32 → Int64 → Int32 → Option Mem) (M : Mem) (v0 : Nat) (v1 : Nat) (v2 : Nat) (v3 : Int32) (v4 : Int64) (v6 : Int32) : Option Mem :=
  (gi M v2 1217).bind fun t19 =>
  if v6 < t19 then
    F_X18_product_b53 k23 k37 M v0 v1 v2 v3 v4 v6
  else
    if (0 : Int64) < v4 then
      F_X18_product_b53 k23 k37 M v0 v1 v2 v3 v4 v6
    else
      let v3_20 : Int32 := v3 + (1 : Int32)
      k23 M v0 v1 v2 v3_20
noncomputable def F_X18_product_b37 (k23 : Mem → Nat → Nat → Nat → Int32 → Option Mem) (n : Nat) : Mem → Nat → Nat → Nat → Int32 → Int64 → Int32 → Option Mem :=
  Nat.rec (motive := fun _ => Mem → Nat → Nat → Nat → Int32 → Int64 → Int32 → Option Mem) (fun _ _ _ _ _ _ _ => none) (fun _ ih => F_X18_product_b37_st k23 ih) n
noncomputable def F_X18_product_b23_st (k23 : Mem → Nat → Nat → Nat → Int32 → Option Mem) (M : Mem) (v0 : Nat) (v1 : Nat) (v2 : Nat) (v3 : Int32) : Option Mem :=
  (gi M v1 1217).bind fun t21 =>
  if v3 < t21 then
    F_X18_product_b37 k23 xN M v0 v1 v2 v3 (0 : Int64) (0 : Int32)
  else
    (gi M v1 1218).bind fun t22 =>
    (gi M v2 1218).bind fun t23 =>
    if t22 = t23 then
      F_X18_product_b150  M v0 (0 : Int32) v0 v1 v2
    else
      F_X18_product_b150  M v0 (1 : Int32) v0 v1 v2
noncomputable def F_X18_product_b23  (n : Nat) : Mem → Nat → Nat → Nat → Int32 → Option Mem :=
  Nat.rec (motive := fun _ => Mem → Nat → Nat → Nat → Int32 → Option Mem) (fun _ _ _ _ _ => none) (fun _ ih => F_X18_product_b23_st ih) n
noncomputable def F_X18_product_b2_st (k2 : Mem → Nat → Nat → Nat → Int32 → Option Mem) (M : Mem) (v0 : Nat) (v1 : Nat) (v2 : Nat) (v3 : Int32) : Option Mem :=
  if v3 < (40 : Int32) then
    (gr M v0 1216).bind fun t24 =>
    (si M t24 v3 (0 : Int32)).bind fun M25 =>
    let v3_26 : Int32 := v3 + (1 : Int32)
    k2 M25 v0 v1 v2 v3_26
  else
    F_X18_product_b23  xN M v0 v1 v2 (0 : Int32)
noncomputable def F_X18_product_b2  (n : Nat) : Mem → Nat → Nat → Nat → Int32 → Option Mem :=
  Nat.rec (motive := fun _ => Mem → Nat → Nat → Nat → Int32 → Option Mem) (fun _ _ _ _ _ => none) (fun _ ih => F_X18_product_b2_st ih) n
noncomputable def F_X18_product (M : Mem) (v0 : Nat) (v1 : Nat) (v2 : Nat) : Option Mem :=
  F_X18_product_b2  xN M v0 v1 v2 (0 : Int32)
noncomputable def F_X18_addAmount_b86 (k40 : Mem → Nat → Nat → Int32 → Int32 → Int32 → Option Mem) (M : Mem) (s0 : Int32) (s1 : Int32) (v0 : Nat) (v1 : Nat) (v2 : Int32) (v3 : Int32) (v4 : Int32) : Option Mem :=
  let v5_1 : Int32 := ((s0 + s1) + v3)
  (gr M v0 1216).bind fun t2 =>
  (si M t2 v4 (v5_1 &&& (268435455 : Int32))).bind fun M3 =>
  let v3_4 : Int32 := (j_ishr v5_1 (28 : Int32))
  let v4_5 : Int32 := v4 + (1 : Int32)
  k40 M3 v0 v1 v2 v3_4 v4_5
noncomputable def F_X18_addAmount_b66 (k40 : Mem → Nat → Nat → Int32 → Int32 → Int32 → Option Mem) (M : Mem) (s0 : Int32) (v0 : Nat) (v1 : Nat) (v2 : Int32) (v3 : Int32) (v4 : Int32) : Option Mem :=
  (gi M v1 1217).bind fun t6 =>
  if v4 < t6 then
    (gr M v1 1216).bind fun t7 =>
    (ai M t7 v4).bind fun t8 =>
    F_X18_addAmount_b86 k40 M s0 t8 v0 v1 v2 v3 v4
  else
    F_X18_addAmount_b86 k40 M s0 (0 : Int32) v0 v1 v2 v3 v4
noncomputable def F_X18_addAmount_b40_st (k40 : Mem → Nat → Nat → Int32 → Int32 → Int32 → Option Mem) (M : Mem) (v0 : Nat) (v1 : Nat) (v2 : Int32) (v3 : Int32) (v4 : Int32) : Option Mem :=
  if v2 < v4 then
    (vg M v0 19).bind fun _ =>
    (F_X18_trim M v0 (v2 + (1 : Int32))).bind fun z10 =>
    some z10
  else
    (gi M v0 1217).bind fun t11 =>
    if v4 < t11 then
      (gr M v0 1216).bind fun t12 =>
      (ai M t12 v4).bind fun t13 =>
      F_X18_addAmount_b66 k40 M t13 v0 v1 v2 v3 v4
    else
      F_X18_addAmount_b66 k40 M (0 : Int32) v0 v1 v2 v3 v4
noncomputable def F_X18_addAmount_b40  (n : Nat) : Mem → Nat → Nat → Int32 → Int32 → Int32 → Option Mem :=
  Nat.rec (motive := fun _ => Mem → Nat → Nat → Int32 → Int32 → Int32 → Option Mem) (fun _ _ _ _ _ _ => none) (fun _ ih => F_X18_addAmount_b40_st ih) n
noncomputable def F_X18_addAmount_b23  (M : Mem) (v0 : Nat) (v1 : Nat) : Option Mem :=
  (gi M v0 1217).bind fun t14 =>
  (gi M v1 1217).bind fun t15 =>
  (F_J7_max t14 t15).bind fun z16 =>
  F_X18_addAmount_b40  xN M v0 v1 z16 (0 : Int32) (0 : Int32)
noncomputable def F_X18_addAmount_b20  (M : Mem) (s0 : Nat) (s1 : Int32) (v0 : Nat) (v1 : Nat) : Option Mem :=
  (pi M s0 1218 s1).bind fun M17 =>
  F_X18_addAmount_b23  M17 v0 v1
noncomputable def F_X18_addAmount (M : Mem) (v0 : Nat) (v1 : Nat) : Option Mem :=
  (gi M v0 1217).bind fun t18 =>
  if t18 = 0 then
    (gi M v1 1218).bind fun t19 =>
    if t19 = 0 then
      F_X18_addAmount_b20  M v0 (1 : Int32) v0 v1
    else
      F_X18_addAmount_b20  M v0 (0 : Int32) v0 v1
  else
    F_X18_addAmount_b23  M v0 v1
noncomputable def F_X18_compare_b74  (M : Mem) (s0 : Int32) : Option Int32 :=
  some s0
noncomputable def F_X18_compare_b35_st (k35 : Mem → Nat → Nat → Int32 → Option Int32) (M : Mem) (v0 : Nat) (v1 : Nat) (v2 : Int32) : Option Int32 :=
  if v2 < 0 then
    some (0 : Int32)
  else
    (gr M v0 1216).bind fun t1 =>
    (ai M t1 v2).bind fun t2 =>
    (gr M v1 1216).bind fun t3 =>
    (ai M t3 v2).bind fun t4 =>
    if t2 = t4 then
      let v2_5 : Int32 := v2 + (-1 : Int32)
      k35 M v0 v1 v2_5
    else
      (gr M v0 1216).bind fun t6 =>
      (ai M t6 v2).bind fun t7 =>
      (gr M v1 1216).bind fun t8 =>
      (ai M t8 v2).bind fun t9 =>
      if t7 < t9 then
        F_X18_compare_b74  M (-1 : Int32)
      else
        F_X18_compare_b74  M (1 : Int32)
noncomputable def F_X18_compare_b35  (n : Nat) : Mem → Nat → Nat → Int32 → Option Int32 :=
  Nat.rec (motive := fun _ => Mem → Nat → Nat → Int32 → Option Int32) (fun _ _ _ _ => none) (fun _ ih => F_X18_compare_b35_st ih) n
noncomputable def F_X18_compare_b27  (M : Mem) (s0 : Int32) : Option Int32 :=
  some s0
noncomputable def F_X18_compare (M : Mem) (v0 : Nat) (v1 : Nat) : Option Int32 :=
  (gi M v0 1217).bind fun t10 =>
  (gi M v1 1217).bind fun t11 =>
  if t10 = t11 then
    (gi M v0 1217).bind fun t12 =>
    let v2_13 : Int32 := (t12 - (1 : Int32))
    F_X18_compare_b35  xN M v0 v1 v2_13
  else
    (gi M v0 1217).bind fun t14 =>
    (gi M v1 1217).bind fun t15 =>
    if t14 < t15 then
      F_X18_compare_b27  M (-1 : Int32)
    else
      F_X18_compare_b27  M (1 : Int32)
noncomputable def F_X18_takeAmount_b60 (k11 : Mem → Nat → Nat → Nat → Int32 → Int32 → Int32 → Option Mem) (M : Mem) (s0 : Int32) (v0 : Nat) (v1 : Nat) (v2 : Nat) (v3 : Int32) (v5 : Int32) (v6 : Int32) : Option Mem :=
  (gr M v0 1216).bind fun t1 =>
  (si M t1 v5 (v6 &&& (268435455 : Int32))).bind fun M2 =>
  let v5_3 : Int32 := v5 + (1 : Int32)
  k11 M2 v0 v1 v2 v3 s0 v5_3
noncomputable def F_X18_takeAmount_b44 (k11 : Mem → Nat → Nat → Nat → Int32 → Int32 → Int32 → Option Mem) (M : Mem) (s0 : Int32) (s1 : Int32) (v0 : Nat) (v1 : Nat) (v2 : Nat) (v3 : Int32) (v4 : Int32) (v5 : Int32) : Option Mem :=
  let v6_4 : Int32 := ((s0 - s1) - v4)
  if v6_4 < 0 then
    F_X18_takeAmount_b60 k11 M (1 : Int32) v0 v1 v2 v3 v5 v6_4
  else
    F_X18_takeAmount_b60 k11 M (0 : Int32) v0 v1 v2 v3 v5 v6_4
noncomputable def F_X18_takeAmount_b11_st (k11 : Mem → Nat → Nat → Nat → Int32 → Int32 → Int32 → Option Mem) (M : Mem) (v0 : Nat) (v1 : Nat) (v2 : Nat) (v3 : Int32) (v4 : Int32) (v5 : Int32) : Option Mem :=
  if v5 < v3 then
    (gr M v1 1216).bind fun t5 =>
    (ai M t5 v5).bind fun t6 =>
    (gi M v2 1217).bind fun t7 =>
    if v5 < t7 then
      (gr M v2 1216).bind fun t8 =>
      (ai M t8 v5).bind fun t9 =>
      F_X18_takeAmount_b44 k11 M t6 t9 v0 v1 v2 v3 v4 v5
    else
      F_X18_takeAmount_b44 k11 M t6 (0 : Int32) v0 v1 v2 v3 v4 v5
  else
    (vg M v0 19).bind fun _ =>
    (F_X18_trim M v0 v3).bind fun z11 =>
    some z11
noncomputable def F_X18_takeAmount_b11  (n : Nat) : Mem → Nat → Nat → Nat → Int32 → Int32 → Int32 → Option Mem :=
  Nat.rec (motive := fun _ => Mem → Nat → Nat → Nat → Int32 → Int32 → Int32 → Option Mem) (fun _ _ _ _ _ _ _ => none) (fun _ ih => F_X18_takeAmount_b11_st ih) n
noncomputable def F_X18_takeAmount (M : Mem) (v0 : Nat) (v1 : Nat) (v2 : Nat) : Option Mem :=
  (gi M v1 1217).bind fun t12 =>
  F_X18_takeAmount_b11  xN M v0 v1 v2 t12 (0 : Int32) (0 : Int32)
noncomputable def F_X18_take_b66  (M : Mem) : Option Mem :=
  some M
noncomputable def F_X18_take_b51  (M : Mem) (s0 : Nat) (s1 : Int32) (v0 : Nat) : Option Mem :=
  (pi M s0 1218 s1).bind fun M1 =>
  (gi M1 v0 1217).bind fun t2 =>
  if t2 = 0 then
    (pi M1 v0 1218 (0 : Int32)).bind fun M3 =>
    F_X18_take_b66  M3
  else
    F_X18_take_b66  M1
noncomputable def F_X18_take (M : Mem) (v0 : Nat) (v1 : Nat) : Option Mem :=
  (gi M v0 1218).bind fun t4 =>
  (gi M v1 1218).bind fun t5 =>
  if t4 = t5 then
    (vg M v0 19).bind fun _ =>
    (F_X18_compare M v0 v1).bind fun z7 =>
    if z7 < 0 then
      (vg M v0 19).bind fun _ =>
      (F_X18_takeAmount M v0 v1 v0).bind fun z9 =>
      (gi z9 v0 1218).bind fun t10 =>
      if t10 = 0 then
        F_X18_take_b51  z9 v0 (1 : Int32) v0
      else
        F_X18_take_b51  z9 v0 (0 : Int32) v0
    else
      (vg M v0 19).bind fun _ =>
      (F_X18_takeAmount M v0 v0 v1).bind fun z12 =>
      some z12
  else
    (vg M v0 19).bind fun _ =>
    (F_X18_addAmount M v0 v1).bind fun z14 =>
    some z14
noncomputable def F_X18_isSet_b36  (M : Mem) (s0 : Int32) : Option Int32 :=
  some (s0 &&& 1)
noncomputable def F_X18_isSet_b35  (M : Mem) : Option Int32 :=
  F_X18_isSet_b36  M (0 : Int32)
noncomputable def F_X18_isSet (M : Mem) (v0 : Nat) (v1 : Int32) : Option Int32 :=
  if (28 : Int32) = 0 then none else
  (gi M v0 1217).bind fun t1 =>
  if (v1 / (28 : Int32)) < t1 then
    (gr M v0 1216).bind fun t2 =>
    if (28 : Int32) = 0 then none else
    (ai M t2 (v1 / (28 : Int32))).bind fun t3 =>
    if (28 : Int32) = 0 then none else
    if ((j_ishr t3 (j_irem v1 (28 : Int32))) &&& (1 : Int32)) = (1 : Int32) then
      F_X18_isSet_b36  M (1 : Int32)
    else
      F_X18_isSet_b35  M
  else
    F_X18_isSet_b35  M
noncomputable def F_X18_twice_b79  (M : Mem) : Option Mem :=
  some M
noncomputable def F_X18_twice_b12_st (k12 : Mem → Nat → Int32 → Int32 → Option Mem) (M : Mem) (v0 : Nat) (v2 : Int32) (v3 : Int32) : Option Mem :=
  (gi M v0 1217).bind fun t1 =>
  if v3 < t1 then
    (gr M v0 1216).bind fun t2 =>
    (ai M t2 v3).bind fun t3 =>
    let v4_4 : Int32 := ((j_ishl t3 (1 : Int32)) ||| v2)
    (gr M v0 1216).bind fun t5 =>
    (si M t5 v3 (v4_4 &&& (268435455 : Int32))).bind fun M6 =>
    let v2_7 : Int32 := (j_ishr v4_4 (28 : Int32))
    let v3_8 : Int32 := v3 + (1 : Int32)
    k12 M6 v0 v2_7 v3_8
  else
    if 0 < v2 then
      (gr M v0 1216).bind fun t9 =>
      (gi M v0 1217).bind fun t10 =>
      (si M t9 t10 v2).bind fun M11 =>
      (gi M11 v0 1217).bind fun t12 =>
      (pi M11 v0 1217 (t12 + (1 : Int32))).bind fun M13 =>
      F_X18_twice_b79  M13
    else
      F_X18_twice_b79  M
noncomputable def F_X18_twice_b12  (n : Nat) : Mem → Nat → Int32 → Int32 → Option Mem :=
  Nat.rec (motive := fun _ => Mem → Nat → Int32 → Int32 → Option Mem) (fun _ _ _ _ => none) (fun _ ih => F_X18_twice_b12_st ih) n
noncomputable def F_X18_twice_b9  (M : Mem) (s0 : Int32) (v0 : Nat) : Option Mem :=
  F_X18_twice_b12  xN M v0 s0 (0 : Int32)
noncomputable def F_X18_twice (M : Mem) (v0 : Nat) (v1 : Int32) : Option Mem :=
  if v1 = 0 then
    F_X18_twice_b9  M (0 : Int32) v0
  else
    F_X18_twice_b9  M (1 : Int32) v0
noncomputable def F_X18_quotient_b117  (M : Mem) (s0 : Nat) (s1 : Int32) (v0 : Nat) (v1 : Nat) : Option Mem :=
  (pi M s0 1218 s1).bind fun M1 =>
  (gi M1 v1 1217).bind fun t2 =>
  (vg M1 v0 19).bind fun _ =>
  (F_X18_trim M1 v0 t2).bind fun z4 =>
  some z4
noncomputable def F_X18_quotient_b94 (k45 : Mem → Nat → Nat → Nat → Nat → Int32 → Option Mem) (M : Mem) (v0 : Nat) (v1 : Nat) (v2 : Nat) (v3 : Nat) (v4 : Int32) : Option Mem :=
  let v4_5 : Int32 := v4 + (-1 : Int32)
  k45 M v0 v1 v2 v3 v4_5
noncomputable def F_X18_quotient_b45_st (k45 : Mem → Nat → Nat → Nat → Nat → Int32 → Option Mem) (M : Mem) (v0 : Nat) (v1 : Nat) (v2 : Nat) (v3 : Nat) (v4 : Int32) : Option Mem :=
  if v4 < 0 then
    (gi M v1 1218).bind fun t6 =>
    (gi M v2 1218).bind fun t7 =>
    if t6 = t7 then
      F_X18_quotient_b117  M v0 (0 : Int32) v0 v1
    else
      F_X18_quotient_b117  M v0 (1 : Int32) v0 v1
  else
    (vg M v1 19).bind fun _ =>
    (F_X18_isSet M v1 v4).bind fun z9 =>
    (vg M v3 19).bind fun _ =>
    (F_X18_twice M v3 z9).bind fun z11 =>
    (vg z11 v3 19).bind fun _ =>
    (F_X18_compare z11 v3 v2).bind fun z13 =>
    if z13 < 0 then
      F_X18_quotient_b94 k45 z11 v0 v1 v2 v3 v4
    else
      (vg z11 v3 19).bind fun _ =>
      (F_X18_takeAmount z11 v3 v3 v2).bind fun z15 =>
      (gr z15 v0 1216).bind fun t16 =>
      if (28 : Int32) = 0 then none else
      (ai z15 t16 (v4 / (28 : Int32))).bind fun t17 =>
      if (28 : Int32) = 0 then none else
      (si z15 t16 (v4 / (28 : Int32)) (t17 ||| (j_ishl (1 : Int32) (j_irem v4 (28 : Int32))))).bind fun M18 =>
      F_X18_quotient_b94 k45 M18 v0 v1 v2 v3 v4
noncomputable def F_X18_quotient_b45  (n : Nat) : Mem → Nat → Nat → Nat → Nat → Int32 → Option Mem :=
  Nat.rec (motive := fun _ => Mem → Nat → Nat → Nat → Nat → Int32 → Option Mem) (fun _ _ _ _ _ _ => none) (fun _ ih => F_X18_quotient_b45_st ih) n
noncomputable def F_X18_quotient_b3_st (k3 : Mem → Nat → Nat → Nat → Nat → Int32 → Option Mem) (M : Mem) (v0 : Nat) (v1 : Nat) (v2 : Nat) (v3 : Nat) (v4 : Int32) : Option Mem :=
  if v4 < (40 : Int32) then
    (gr M v0 1216).bind fun t19 =>
    (si M t19 v4 (0 : Int32)).bind fun M20 =>
    let v4_21 : Int32 := v4 + (1 : Int32)
    k3 M20 v0 v1 v2 v3 v4_21
  else
    (pi M v3 1217 (0 : Int32)).bind fun M22 =>
    (pi M22 v3 1218 (0 : Int32)).bind fun M23 =>
    (gi M23 v1 1217).bind fun t24 =>
    let v4_25 : Int32 := (((28 : Int32) * t24) - (1 : Int32))
    F_X18_quotient_b45  xN M23 v0 v1 v2 v3 v4_25
noncomputable def F_X18_quotient_b3  (n : Nat) : Mem → Nat → Nat → Nat → Nat → Int32 → Option Mem :=
  Nat.rec (motive := fun _ => Mem → Nat → Nat → Nat → Nat → Int32 → Option Mem) (fun _ _ _ _ _ _ => none) (fun _ ih => F_X18_quotient_b3_st ih) n
noncomputable def F_X18_quotient (M : Mem) (v0 : Nat) (v1 : Nat) (v2 : Nat) (v3 : Nat) : Option Mem :=
  F_X18_quotient_b3  xN M v0 v1 v2 v3 (0 : Int32)
noncomputable def F_X16_eliminate_b26_st (k26 : Mem → Nat → Int32 → Int32 → Int32 → Nat → Nat → Int32 → Option Mem) (M : Mem) (v0 : Nat) (v1 : Int32) (v2 : Int32) (v3 : Int32) (v4 : Nat) (v5 : Nat) (v6 : Int32) : Option Mem :=
  if v6 < v3 then
    (gr M v0 1121).bind fun t1 =>
    (ar M t1 (2 : Int32)).bind fun t2 =>
    (gr M v0 1120).bind fun t3 =>
    (ar M t3 ((v3 * v2) + v2)).bind fun t4 =>
    (gr M v0 1120).bind fun t5 =>
    (ar M t5 ((v3 * v1) + v6)).bind fun t6 =>
    (vg M t2 19).bind fun _ =>
    (F_X18_product M t2 t4 t6).bind fun z8 =>
    (gr z8 v0 1121).bind fun t9 =>
    (ar z8 t9 (3 : Int32)).bind fun t10 =>
    (gr z8 v0 1120).bind fun t11 =>
    (ar z8 t11 ((v3 * v2) + v6)).bind fun t12 =>
    (vg z8 t10 19).bind fun _ =>
    (F_X18_product z8 t10 v5 t12).bind fun z14 =>
    (gr z14 v0 1121).bind fun t15 =>
    (ar z14 t15 (2 : Int32)).bind fun t16 =>
    (gr z14 v0 1121).bind fun t17 =>
    (ar z14 t17 (3 : Int32)).bind fun t18 =>
    (vg z14 t16 19).bind fun _ =>
    (F_X18_take z14 t16 t18).bind fun z20 =>
    (gr z20 v0 1121).bind fun t21 =>
    (ar z20 t21 (4 : Int32)).bind fun t22 =>
    (gr z20 v0 1121).bind fun t23 =>
    (ar z20 t23 (2 : Int32)).bind fun t24 =>
    (gr z20 v0 1121).bind fun t25 =>
    (ar z20 t25 (5 : Int32)).bind fun t26 =>
    (vg z20 t22 19).bind fun _ =>
    (F_X18_quotient z20 t22 t24 v4 t26).bind fun z28 =>
    (gr z28 v0 1120).bind fun t29 =>
    (ar z28 t29 ((v3 * v1) + v6)).bind fun t30 =>
    (gr z28 v0 1121).bind fun t31 =>
    (ar z28 t31 (4 : Int32)).bind fun t32 =>
    (vg z28 t30 19).bind fun _ =>
    (F_X18_set_2 z28 t30 t32).bind fun z34 =>
    let v6_35 : Int32 := v6 + (1 : Int32)
    k26 z34 v0 v1 v2 v3 v4 v5 v6_35
  else
    some M
noncomputable def F_X16_eliminate_b26  (n : Nat) : Mem → Nat → Int32 → Int32 → Int32 → Nat → Nat → Int32 → Option Mem :=
  Nat.rec (motive := fun _ => Mem → Nat → Int32 → Int32 → Int32 → Nat → Nat → Int32 → Option Mem) (fun _ _ _ _ _ _ _ _ => none) (fun _ ih => F_X16_eliminate_b26_st ih) n
noncomputable def F_X16_eliminate (M : Mem) (v0 : Nat) (v1 : Int32) (v2 : Int32) (v3 : Int32) (v4 : Nat) : Option Mem :=
  (gr M v0 1121).bind fun t36 =>
  (ar M t36 (1 : Int32)).bind fun t37 =>
  (gr M v0 1120).bind fun t38 =>
  (ar M t38 ((v3 * v1) + v2)).bind fun t39 =>
  (vg M t37 19).bind fun _ =>
  (F_X18_set_2 M t37 t39).bind fun z41 =>
  F_X16_eliminate_b26  xN z41 v0 v1 v2 v3 v4 t37 (0 : Int32)
noncomputable def F_X16_isReduced_b167 (k19 : Mem → Nat → Int32 → Int32 → Nat → Int32 → Option (Int32 × Mem)) (k144 : Mem → Nat → Int32 → Int32 → Nat → Int32 → Int32 → Option (Int32 × Mem)) (M : Mem) (v0 : Nat) (v1 : Int32) (v2 : Int32) (v3 : Nat) (v4 : Int32) (v6 : Int32) : Option (Int32 × Mem) :=
  let v6_1 : Int32 := v6 + (1 : Int32)
  k144 M v0 v1 v2 v3 v4 v6_1
noncomputable def F_X16_isReduced_b144_st (k19 : Mem → Nat → Int32 → Int32 → Nat → Int32 → Option (Int32 × Mem)) (k144 : Mem → Nat → Int32 → Int32 → Nat → Int32 → Int32 → Option (Int32 × Mem)) (M : Mem) (v0 : Nat) (v1 : Int32) (v2 : Int32) (v3 : Nat) (v4 : Int32) (v6 : Int32) : Option (Int32 × Mem) :=
  if v6 < v1 then
    if v6 = v4 then
      F_X16_isReduced_b167 k19 k144 M v0 v1 v2 v3 v4 v6
    else
      (vg M v0 17).bind fun _ =>
      (F_X16_eliminate M v0 v6 v4 v2 v3).bind fun z3 =>
      F_X16_isReduced_b167 k19 k144 z3 v0 v1 v2 v3 v4 v6
  else
    (gr M v0 1120).bind fun t4 =>
    (ar M t4 ((v2 * v4) + v4)).bind fun t5 =>
    (vg M v3 19).bind fun _ =>
    (F_X18_set_2 M v3 t5).bind fun z7 =>
    let v4_8 : Int32 := v4 + (1 : Int32)
    k19 z7 v0 v1 v2 v3 v4_8
noncomputable def F_X16_isReduced_b144 (k19 : Mem → Nat → Int32 → Int32 → Nat → Int32 → Option (Int32 × Mem)) (n : Nat) : Mem → Nat → Int32 → Int32 → Nat → Int32 → Int32 → Option (Int32 × Mem) :=
  Nat.rec (motive := fun _ => Mem → Nat → Int32 → Int32 → Nat → Int32 → Int32 → Option (Int32 × Mem)) (fun _ _ _ _ _ _ _ => none) (fun _ ih => F_X16_isReduced_b144_st k19 ih) n
noncomputable def F_X16_isReduced_b141 (k19 : Mem → Nat → Int32 → Int32 → Nat → Int32 → Option (Int32 × Mem)) (M : Mem) (v0 : Nat) (v1 : Int32) (v2 : Int32) (v3 : Nat) (v4 : Int32) : Option (Int32 × Mem) :=
  F_X16_isReduced_b144 k19 xN M v0 v1 v2 v3 v4 (0 : Int32)
noncomputable def F_X16_isReduced_b70_st (k19 : Mem → Nat → Int32 → Int32 → Nat → Int32 → Option (Int32 × Mem)) (k70 : Mem → Nat → Int32 → Int32 → Nat → Int32 → Int32 → Int32 → Option (Int32 × Mem)) (M : Mem) (v0 : Nat) (v1 : Int32) (v2 : Int32) (v3 : Nat) (v4 : Int32) (v5 : Int32) (v6 : Int32) : Option (Int32 × Mem) :=
  if v6 < v2 then
    if v5 = v4 then
      F_X16_isReduced_b141 k19 M v0 v1 v2 v3 v4
    else
      (gr M v0 1120).bind fun t9 =>
      (ar M t9 ((v2 * v5) + v6)).bind fun t10 =>
      (gr M v0 1120).bind fun t11 =>
      (gr M v0 1120).bind fun t12 =>
      (ar M t12 ((v2 * v4) + v6)).bind fun t13 =>
      (sr M t11 ((v2 * v5) + v6) t13).bind fun M14 =>
      (gr M14 v0 1120).bind fun t15 =>
      (sr M14 t15 ((v2 * v4) + v6) t10).bind fun M16 =>
      let v6_17 : Int32 := v6 + (1 : Int32)
      k70 M16 v0 v1 v2 v3 v4 v5 v6_17
  else
    F_X16_isReduced_b141 k19 M v0 v1 v2 v3 v4
noncomputable def F_X16_isReduced_b70 (k19 : Mem → Nat → Int32 → Int32 → Nat → Int32 → Option (Int32 × Mem)) (n : Nat) : Mem → Nat → Int32 → Int32 → Nat → Int32 → Int32 → Int32 → Option (Int32 × Mem) :=
  Nat.rec (motive := fun _ => Mem → Nat → Int32 → Int32 → Nat → Int32 → Int32 → Int32 → Option (Int32 × Mem)) (fun _ _ _ _ _ _ _ _ => none) (fun _ ih => F_X16_isReduced_b70_st k19 ih) n
noncomputable def F_X16_isReduced_b59 (k19 : Mem → Nat → Int32 → Int32 → Nat → Int32 → Option (Int32 × Mem)) (M : Mem) (v0 : Nat) (v1 : Int32) (v2 : Int32) (v3 : Nat) (v4 : Int32) (v5 : Int32) : Option (Int32 × Mem) :=
  if v5 = v1 then
    some ((0 : Int32), M)
  else
    F_X16_isReduced_b70 k19 xN M v0 v1 v2 v3 v4 v5 (0 : Int32)
noncomputable def F_X16_isReduced_b29_st (k19 : Mem → Nat → Int32 → Int32 → Nat → Int32 → Option (Int32 × Mem)) (k29 : Mem → Nat → Int32 → Int32 → Nat → Int32 → Int32 → Option (Int32 × Mem)) (M : Mem) (v0 : Nat) (v1 : Int32) (v2 : Int32) (v3 : Nat) (v4 : Int32) (v5 : Int32) : Option (Int32 × Mem) :=
  if v5 < v1 then
    (gr M v0 1120).bind fun t18 =>
    (ar M t18 ((v2 * v5) + v4)).bind fun t19 =>
    (vg M t19 19).bind fun _ =>
    (F_X18_isZero M t19).bind fun z21 =>
    if z21 = 0 then
      F_X16_isReduced_b59 k19 M v0 v1 v2 v3 v4 v5
    else
      let v5_22 : Int32 := v5 + (1 : Int32)
      k29 M v0 v1 v2 v3 v4 v5_22
  else
    F_X16_isReduced_b59 k19 M v0 v1 v2 v3 v4 v5
noncomputable def F_X16_isReduced_b29 (k19 : Mem → Nat → Int32 → Int32 → Nat → Int32 → Option (Int32 × Mem)) (n : Nat) : Mem → Nat → Int32 → Int32 → Nat → Int32 → Int32 → Option (Int32 × Mem) :=
  Nat.rec (motive := fun _ => Mem → Nat → Int32 → Int32 → Nat → Int32 → Int32 → Option (Int32 × Mem)) (fun _ _ _ _ _ _ _ => none) (fun _ ih => F_X16_isReduced_b29_st k19 ih) n
noncomputable def F_X16_isReduced_b19_st (k19 : Mem → Nat → Int32 → Int32 → Nat → Int32 → Option (Int32 × Mem)) (M : Mem) (v0 : Nat) (v1 : Int32) (v2 : Int32) (v3 : Nat) (v4 : Int32) : Option (Int32 × Mem) :=
  if v4 < v1 then
    F_X16_isReduced_b29 k19 xN M v0 v1 v2 v3 v4 v4
  else
    some ((1 : Int32), M)
noncomputable def F_X16_isReduced_b19  (n : Nat) : Mem → Nat → Int32 → Int32 → Nat → Int32 → Option (Int32 × Mem) :=
  Nat.rec (motive := fun _ => Mem → Nat → Int32 → Int32 → Nat → Int32 → Option (Int32 × Mem)) (fun _ _ _ _ _ _ => none) (fun _ ih => F_X16_isReduced_b19_st ih) n
noncomputable def F_X16_isReduced (M : Mem) (v0 : Nat) (v1 : Int32) : Option (Int32 × Mem) :=
  let v2_23 : Int32 := (v1 + (1 : Int32))
  (gr M v0 1121).bind fun t24 =>
  (ar M t24 (0 : Int32)).bind fun t25 =>
  (vg M t25 19).bind fun _ =>
  (F_X18_set M t25 (1 : Int64)).bind fun z27 =>
  F_X16_isReduced_b19  xN z27 v0 v1 v2_23 t25 (0 : Int32)
noncomputable def F_X18_isLong_b28  (M : Mem) : Option (Int32 × Mem) :=
  some ((0 : Int32), M)
noncomputable def F_X18_isLong_b99  (M : Mem) (s0 : Nat) (s1 : Int64) : Option (Int32 × Mem) :=
  (pj M s0 1219 s1).bind fun M1 =>
  some ((1 : Int32), M1)
noncomputable def F_X18_isLong_b85  (M : Mem) (v0 : Nat) (v1 : Int64) : Option (Int32 × Mem) :=
  (gi M v0 1218).bind fun t2 =>
  if t2 = 0 then
    F_X18_isLong_b99  M v0 v1
  else
    F_X18_isLong_b99  M v0 (-v1)
noncomputable def F_X18_isLong_b83  (M : Mem) : Option (Int32 × Mem) :=
  some ((0 : Int32), M)
noncomputable def F_X18_isLong_b39_st (k39 : Mem → Nat → Int64 → Int32 → Option (Int32 × Mem)) (M : Mem) (v0 : Nat) (v1 : Int64) (v3 : Int32) : Option (Int32 × Mem) :=
  if v3 < 0 then
    if v1 < (0 : Int64) then
      (gi M v0 1218).bind fun t3 =>
      if t3 = 0 then
        F_X18_isLong_b83  M
      else
        if v1 = (-9223372036854775808 : Int64) then
          F_X18_isLong_b85  M v0 v1
        else
          F_X18_isLong_b83  M
    else
      F_X18_isLong_b85  M v0 v1
  else
    (gr M v0 1216).bind fun t4 =>
    (ai M t4 v3).bind fun t5 =>
    let v1_6 : Int64 := ((j_lshl v1 (28 : Int32)) ||| t5.toInt64)
    let v3_7 : Int32 := v3 + (-1 : Int32)
    k39 M v0 v1_6 v3_7
noncomputable def F_X18_isLong_b39  (n : Nat) : Mem → Nat → Int64 → Int32 → Option (Int32 × Mem) :=
  Nat.rec (motive := fun _ => Mem → Nat → Int64 → Int32 → Option (Int32 × Mem)) (fun _ _ _ _ => none) (fun _ ih => F_X18_isLong_b39_st ih) n
noncomputable def F_X18_isLong_b30  (M : Mem) (v0 : Nat) : Option (Int32 × Mem) :=
  (gi M v0 1217).bind fun t8 =>
  let v3_9 : Int32 := (t8 - (1 : Int32))
  F_X18_isLong_b39  xN M v0 (0 : Int64) v3_9
noncomputable def F_X18_isLong (M : Mem) (v0 : Nat) : Option (Int32 × Mem) :=
  (gi M v0 1217).bind fun t10 =>
  if (3 : Int32) < t10 then
    F_X18_isLong_b28  M
  else
    (gi M v0 1217).bind fun t11 =>
    if t11 = (3 : Int32) then
      (gr M v0 1216).bind fun t12 =>
      (ai M t12 (2 : Int32)).bind fun t13 =>
      if (255 : Int32) < t13 then
        F_X18_isLong_b28  M
      else
        F_X18_isLong_b30  M v0
    else
      F_X18_isLong_b30  M v0
noncomputable def F_X16_fraction_b186  (M : Mem) : Option (Int32 × Mem) :=
  some ((0 : Int32), M)
noncomputable def F_X16_fraction_b147  (M : Mem) (s0 : Nat) (s1 : Int32) (v0 : Nat) (v3 : Int32) : Option (Int32 × Mem) :=
  (pi M s0 1218 s1).bind fun M1 =>
  (gr M1 v0 1121).bind fun t2 =>
  (ar M1 t2 (6 : Int32)).bind fun t3 =>
  (pi M1 t3 1218 (0 : Int32)).bind fun M4 =>
  (gr M4 v0 1121).bind fun t5 =>
  (ar M4 t5 (3 : Int32)).bind fun t6 =>
  (vg M4 t6 19).bind fun _ =>
  (F_X18_isLong M4 t6).bind fun z8 =>
  if z8.1 = 0 then
    F_X16_fraction_b186  z8.2
  else
    (gr z8.2 v0 1121).bind fun t9 =>
    (ar z8.2 t9 (6 : Int32)).bind fun t10 =>
    (vg z8.2 t10 19).bind fun _ =>
    (F_X18_isLong z8.2 t10).bind fun z12 =>
    if z12.1 = 0 then
      F_X16_fraction_b186  z12.2
    else
      (gr z12.2 v0 1100).bind fun t13 =>
      (gr z12.2 v0 1121).bind fun t14 =>
      (ar z12.2 t14 (3 : Int32)).bind fun t15 =>
      (gl z12.2 t15 1219).bind fun t16 =>
      (sj z12.2 t13 v3 t16).bind fun M17 =>
      (gr M17 v0 1101).bind fun t18 =>
      (gr M17 v0 1121).bind fun t19 =>
      (ar M17 t19 (6 : Int32)).bind fun t20 =>
      (gl M17 t20 1219).bind fun t21 =>
      (sj M17 t18 v3 t21).bind fun M22 =>
      some ((1 : Int32), M22)
noncomputable def F_X16_fraction_b146  (M : Mem) (s0 : Nat) (v0 : Nat) (v3 : Int32) : Option (Int32 × Mem) :=
  F_X16_fraction_b147  M s0 (0 : Int32) v0 v3
noncomputable def F_X16_fraction_b28_st (k28 : Mem → Nat → Nat → Nat → Int32 → Nat → Nat → Option (Int32 × Mem)) (M : Mem) (v0 : Nat) (v1 : Nat) (v2 : Nat) (v3 : Int32) (v4 : Nat) (v5 : Nat) : Option (Int32 × Mem) :=
  (vg M v5 19).bind fun _ =>
  (F_X18_isZero M v5).bind fun z24 =>
  if z24 = 0 then
    (gr M v0 1121).bind fun t25 =>
    (ar M t25 (3 : Int32)).bind fun t26 =>
    (gr M v0 1121).bind fun t27 =>
    (ar M t27 (4 : Int32)).bind fun t28 =>
    (vg M t26 19).bind fun _ =>
    (F_X18_quotient M t26 v4 v5 t28).bind fun z30 =>
    (vg z30 v4 19).bind fun _ =>
    (F_X18_set_2 z30 v4 v5).bind fun z32 =>
    (gr z32 v0 1121).bind fun t33 =>
    (ar z32 t33 (4 : Int32)).bind fun t34 =>
    (vg z32 v5 19).bind fun _ =>
    (F_X18_set_2 z32 v5 t34).bind fun z36 =>
    k28 z36 v0 v1 v2 v3 v4 v5
  else
    (gr M v0 1121).bind fun t37 =>
    (ar M t37 (3 : Int32)).bind fun t38 =>
    (gr M v0 1121).bind fun t39 =>
    (ar M t39 (5 : Int32)).bind fun t40 =>
    (vg M t38 19).bind fun _ =>
    (F_X18_quotient M t38 v1 v4 t40).bind fun z42 =>
    (gr z42 v0 1121).bind fun t43 =>
    (ar z42 t43 (6 : Int32)).bind fun t44 =>
    (gr z42 v0 1121).bind fun t45 =>
    (ar z42 t45 (5 : Int32)).bind fun t46 =>
    (vg z42 t44 19).bind fun _ =>
    (F_X18_quotient z42 t44 v2 v4 t46).bind fun z48 =>
    (gr z48 v0 1121).bind fun t49 =>
    (ar z48 t49 (3 : Int32)).bind fun t50 =>
    (gr z48 v0 1121).bind fun t51 =>
    (ar z48 t51 (3 : Int32)).bind fun t52 =>
    (vg z48 t52 19).bind fun _ =>
    (F_X18_isZero z48 t52).bind fun z54 =>
    if z54 = 0 then
      (gi z48 v1 1218).bind fun t55 =>
      (gi z48 v2 1218).bind fun t56 =>
      if t55 = t56 then
        F_X16_fraction_b146  z48 t50 v0 v3
      else
        F_X16_fraction_b147  z48 t50 (1 : Int32) v0 v3
    else
      F_X16_fraction_b146  z48 t50 v0 v3
noncomputable def F_X16_fraction_b28  (n : Nat) : Mem → Nat → Nat → Nat → Int32 → Nat → Nat → Option (Int32 × Mem) :=
  Nat.rec (motive := fun _ => Mem → Nat → Nat → Nat → Int32 → Nat → Nat → Option (Int32 × Mem)) (fun _ _ _ _ _ _ _ => none) (fun _ ih => F_X16_fraction_b28_st ih) n
noncomputable def F_X16_fraction (M : Mem) (v0 : Nat) (v1 : Nat) (v2 : Nat) (v3 : Int32) : Option (Int32 × Mem) :=
  (gr M v0 1121).bind fun t57 =>
  (ar M t57 (1 : Int32)).bind fun t58 =>
  (gr M v0 1121).bind fun t59 =>
  (ar M t59 (2 : Int32)).bind fun t60 =>
  (vg M t58 19).bind fun _ =>
  (F_X18_set_2 M t58 v1).bind fun z62 =>
  (vg z62 t60 19).bind fun _ =>
  (F_X18_set_2 z62 t60 v2).bind fun z64 =>
  F_X16_fraction_b28  xN z64 v0 v1 v2 v3 t58 t60
noncomputable def F_X16_solve_b31  (M : Mem) : Option (Int32 × Mem) :=
  some ((-14 : Int32), M)
noncomputable def F_X16_solve_b133  (M : Mem) : Option (Int32 × Mem) :=
  some ((-1 : Int32), M)
noncomputable def F_X16_solve_b166  (M : Mem) : Option (Int32 × Mem) :=
  some ((-3 : Int32), M)
noncomputable def F_X16_solve_b290_st (k290 : Mem → Nat → Int32 → Int32 → Int32 → Option (Int32 × Mem)) (M : Mem) (v0 : Nat) (v6 : Int32) (v7 : Int32) (v8 : Int32) : Option (Int32 × Mem) :=
  if v8 < v6 then
    (gr M v0 1120).bind fun t1 =>
    (ar M t1 ((v7 * v8) + v6)).bind fun t2 =>
    (gr M v0 1120).bind fun t3 =>
    (ar M t3 ((v7 * v8) + v8)).bind fun t4 =>
    (vg M v0 17).bind fun _ =>
    (F_X16_fraction M v0 t2 t4 v8).bind fun z6 =>
    if z6.1 = 0 then
      (pi z6.2 v0 1115 (1 : Int32)).bind fun M7 =>
      (gr M7 v0 1114).bind fun t8 =>
      (si M7 t8 (0 : Int32) v8).bind fun M9 =>
      (vg M9 v0 17).bind fun _ =>
      (F_X16_failsAt M9 v0 (8 : Int32)).bind fun z11 =>
      some (z11.1, z11.2)
    else
      let v8_12 : Int32 := v8 + (1 : Int32)
      k290 z6.2 v0 v6 v7 v8_12
  else
    (vg M v0 17).bind fun _ =>
    (F_X16_isRoom M v0 ((2 : Int64) * v6.toInt64) (2 : Int32)).bind fun z14 =>
    if z14 = 0 then
      some ((-12 : Int32), M)
    else
      (F_X16_oneSize M v6).bind fun z15 =>
      (gr z15.2 v0 1100).bind fun t16 =>
      (vg z15.2 v0 17).bind fun _ =>
      (F_X16_made z15.2 v0 (5 : Int32) z15.1 t16).bind fun z18 =>
      (F_X16_oneSize z18.2 v6).bind fun z19 =>
      (gr z19.2 v0 1101).bind fun t20 =>
      (vg z19.2 v0 17).bind fun _ =>
      (F_X16_made z19.2 v0 (5 : Int32) z19.1 t20).bind fun z22 =>
      some (z18.1, z22.2)
noncomputable def F_X16_solve_b290  (n : Nat) : Mem → Nat → Int32 → Int32 → Int32 → Option (Int32 × Mem) :=
  Nat.rec (motive := fun _ => Mem → Nat → Int32 → Int32 → Int32 → Option (Int32 × Mem)) (fun _ _ _ _ _ => none) (fun _ ih => F_X16_solve_b290_st ih) n
noncomputable def F_X16_solve_b188_st (k178 : Mem → Nat → Nat → Nat → Int32 → Int32 → Int32 → Option (Int32 × Mem)) (k188 : Mem → Nat → Nat → Nat → Int32 → Int32 → Int32 → Int32 → Option (Int32 × Mem)) (M : Mem) (v0 : Nat) (v3 : Nat) (v4 : Nat) (v6 : Int32) (v7 : Int32) (v8 : Int32) (v9 : Int32) : Option (Int32 × Mem) :=
  if v9 < v6 then
    (gr M v0 1120).bind fun t23 =>
    (ar M t23 ((v7 * v8) + v9)).bind fun t24 =>
    (gr M v3 1476).bind fun t25 =>
    (gi M v3 1475).bind fun t26 =>
    (gr M v3 1474).bind fun t27 =>
    (ai M t27 (0 : Int32)).bind fun t28 =>
    (gr M v3 1474).bind fun t29 =>
    (ai M t29 (1 : Int32)).bind fun t30 =>
    (al M t25 ((t26 + (v8 * t28)) + (v9 * t30))).bind fun t31 =>
    (vg M t24 19).bind fun _ =>
    (F_X18_set M t24 t31).bind fun z33 =>
    let v9_34 : Int32 := v9 + (1 : Int32)
    k188 z33 v0 v3 v4 v6 v7 v8 v9_34
  else
    (gr M v0 1120).bind fun t35 =>
    (ar M t35 ((v7 * v8) + v6)).bind fun t36 =>
    (vg M v4 23).bind fun _ =>
    (F_X22_cell M v4 v8).bind fun z38 =>
    (vg M t36 19).bind fun _ =>
    (F_X18_set M t36 z38).bind fun z40 =>
    let v8_41 : Int32 := v8 + (1 : Int32)
    k178 z40 v0 v3 v4 v6 v7 v8_41
noncomputable def F_X16_solve_b188 (k178 : Mem → Nat → Nat → Nat → Int32 → Int32 → Int32 → Option (Int32 × Mem)) (n : Nat) : Mem → Nat → Nat → Nat → Int32 → Int32 → Int32 → Int32 → Option (Int32 × Mem) :=
  Nat.rec (motive := fun _ => Mem → Nat → Nat → Nat → Int32 → Int32 → Int32 → Int32 → Option (Int32 × Mem)) (fun _ _ _ _ _ _ _ _ => none) (fun _ ih => F_X16_solve_b188_st k178 ih) n
noncomputable def F_X16_solve_b178_st (k178 : Mem → Nat → Nat → Nat → Int32 → Int32 → Int32 → Option (Int32 × Mem)) (M : Mem) (v0 : Nat) (v3 : Nat) (v4 : Nat) (v6 : Int32) (v7 : Int32) (v8 : Int32) : Option (Int32 × Mem) :=
  if v8 < v6 then
    F_X16_solve_b188 k178 xN M v0 v3 v4 v6 v7 v8 (0 : Int32)
  else
    (vg M v0 17).bind fun _ =>
    (F_X16_isReduced M v0 v6).bind fun z43 =>
    if z43.1 = 0 then
      some ((-6 : Int32), z43.2)
    else
      F_X16_solve_b290  xN z43.2 v0 v6 v7 (0 : Int32)
noncomputable def F_X16_solve_b178  (n : Nat) : Mem → Nat → Nat → Nat → Int32 → Int32 → Int32 → Option (Int32 × Mem) :=
  Nat.rec (motive := fun _ => Mem → Nat → Nat → Nat → Int32 → Int32 → Int32 → Option (Int32 × Mem)) (fun _ _ _ _ _ _ _ => none) (fun _ ih => F_X16_solve_b178_st ih) n
noncomputable def F_X16_solve_b88  (M : Mem) (s0 : Int32) (v0 : Nat) (v3 : Nat) (v4 : Nat) : Option (Int32 × Mem) :=
  (vg M v3 23).bind fun _ =>
  (F_X22_axes M v3).bind fun z45 =>
  if z45 = (2 : Int32) then
    (vg M v4 23).bind fun _ =>
    (F_X22_axes M v4).bind fun z47 =>
    if z47 = (1 : Int32) then
      if s0 = 0 then
        F_X16_solve_b133  M
      else
        (gr M v3 1473).bind fun t48 =>
        (ai M t48 (0 : Int32)).bind fun t49 =>
        if t49 < (1 : Int32) then
          F_X16_solve_b133  M
        else
          (gr M v3 1473).bind fun t50 =>
          (ai M t50 (0 : Int32)).bind fun t51 =>
          if (10 : Int32) < t51 then
            F_X16_solve_b133  M
          else
            (gr M v3 1473).bind fun t52 =>
            (ai M t52 (0 : Int32)).bind fun t53 =>
            (gr M v3 1473).bind fun t54 =>
            (ai M t54 (1 : Int32)).bind fun t55 =>
            if t55 = t53 then
              (gr M v4 1473).bind fun t56 =>
              (ai M t56 (0 : Int32)).bind fun t57 =>
              if t57 = t53 then
                let v7_58 : Int32 := (t53 + (1 : Int32))
                F_X16_solve_b178  xN M v0 v3 v4 t53 v7_58 (0 : Int32)
              else
                F_X16_solve_b166  M
            else
              F_X16_solve_b166  M
    else
      F_X16_solve_b133  M
  else
    F_X16_solve_b133  M
noncomputable def F_X16_solve_b87  (M : Mem) (v0 : Nat) (v3 : Nat) (v4 : Nat) : Option (Int32 × Mem) :=
  F_X16_solve_b88  M (0 : Int32) v0 v3 v4
noncomputable def F_X16_solve (M : Mem) (v0 : Nat) (v1 : Int32) (v2 : Int32) : Option (Int32 × Mem) :=
  (pi M v0 1117 (-1 : Int32)).bind fun M59 =>
  (gi M59 v0 1095).bind fun t60 =>
  if t60 = 0 then
    (vg M59 v0 17).bind fun _ =>
    (F_X16_isGrid M59 v0 v1).bind fun z62 =>
    if z62 = 0 then
      F_X16_solve_b31  M59
    else
      (vg M59 v0 17).bind fun _ =>
      (F_X16_isGrid M59 v0 v2).bind fun z64 =>
      if z64 = 0 then
        F_X16_solve_b31  M59
      else
        (gr M59 v0 1092).bind fun t65 =>
        (ar M59 t65 v1).bind fun t66 =>
        (gr M59 v0 1092).bind fun t67 =>
        (ar M59 t67 v2).bind fun t68 =>
        (gi M59 t66 1472).bind fun t69 =>
        if t69 < (1 : Int32) then
          F_X16_solve_b87  M59 v0 t66 t68
        else
          (gi M59 t66 1472).bind fun t70 =>
          if (4 : Int32) < t70 then
            F_X16_solve_b87  M59 v0 t66 t68
          else
            (gi M59 t68 1472).bind fun t71 =>
            if t71 < (1 : Int32) then
              F_X16_solve_b87  M59 v0 t66 t68
            else
              (gi M59 t68 1472).bind fun t72 =>
              if (4 : Int32) < t72 then
                F_X16_solve_b87  M59 v0 t66 t68
              else
                F_X16_solve_b88  M59 (1 : Int32) v0 t66 t68
  else
    some ((-13 : Int32), M59)
noncomputable def F_X16_isPrime_b2_st (k2 : Int32 → Int32 → Option Int32) (v0 : Int32) (v1 : Int32) : Option Int32 :=
  if v0.toInt64 < (v1.toInt64 * v1.toInt64) then
    some (1 : Int32)
  else
    if v1 = 0 then none else
    if (j_irem v0 v1) = 0 then
      some (0 : Int32)
    else
      let v1_1 : Int32 := v1 + (1 : Int32)
      k2 v0 v1_1
noncomputable def F_X16_isPrime_b2  (n : Nat) : Int32 → Int32 → Option Int32 :=
  Nat.rec (motive := fun _ => Int32 → Int32 → Option Int32) (fun _ _ => none) (fun _ ih => F_X16_isPrime_b2_st ih) n
noncomputable def F_X16_isPrime (v0 : Int32) : Option Int32 :=
  F_X16_isPrime_b2  xN v0 (2 : Int32)
noncomputable def F_X16_power_b42 (k13 : Int32 → Int64 → Int64 → Int64 → Option Int64) (v4 : Int32) (v5 : Int64) (v7 : Int64) (v9 : Int64) : Option Int64 :=
  if v4.toInt64 = 0 then none else
  let v7_1 : Int64 := (j_lrem (v7 * v7) (v4.toInt64))
  if (2 : Int64) = 0 then none else
  let v9_2 : Int64 := (v9 / (2 : Int64))
  k13 v4 v5 v7_1 v9_2
noncomputable def F_X16_power_b13_st (k13 : Int32 → Int64 → Int64 → Int64 → Option Int64) (v4 : Int32) (v5 : Int64) (v7 : Int64) (v9 : Int64) : Option Int64 :=
  if (0 : Int64) < v9 then
    if (2 : Int64) = 0 then none else
    if (j_lrem v9 (2 : Int64)) = (1 : Int64) then
      if v4.toInt64 = 0 then none else
      let v5_3 : Int64 := (j_lrem (v5 * v7) (v4.toInt64))
      F_X16_power_b42 k13 v4 v5_3 v7 v9
    else
      F_X16_power_b42 k13 v4 v5 v7 v9
  else
    some v5
noncomputable def F_X16_power_b13  (n : Nat) : Int32 → Int64 → Int64 → Int64 → Option Int64 :=
  Nat.rec (motive := fun _ => Int32 → Int64 → Int64 → Int64 → Option Int64) (fun _ _ _ _ => none) (fun _ ih => F_X16_power_b13_st ih) n
noncomputable def F_X16_power (v0 : Int64) (v2 : Int64) (v4 : Int32) : Option Int64 :=
  if v4.toInt64 = 0 then none else
  let v7_4 : Int64 := (j_lrem v0 (v4.toInt64))
  F_X16_power_b13  xN v4 (1 : Int64) v7_4 v2
noncomputable def F_X16_rootOf_b14_st (k14 : Int32 → Int32 → Int64 → Int64 → Option Int64) (v0 : Int32) (v1 : Int32) (v2 : Int64) (v4 : Int64) : Option Int64 :=
  if (2 : Int32) = 0 then none else
  (F_X16_power v2 ((v0 / (2 : Int32)).toInt64) v1).bind fun z1 =>
  if z1 = (v1 - (1 : Int32)).toInt64 then
    some v2
  else
    if v0 = 0 then none else
    (F_X16_power v4 (((v1 - (1 : Int32)) / v0).toInt64) v1).bind fun z2 =>
    let v4_3 : Int64 := (v4 + (1 : Int64))
    k14 v0 v1 z2 v4_3
noncomputable def F_X16_rootOf_b14  (n : Nat) : Int32 → Int32 → Int64 → Int64 → Option Int64 :=
  Nat.rec (motive := fun _ => Int32 → Int32 → Int64 → Int64 → Option Int64) (fun _ _ _ _ => none) (fun _ ih => F_X16_rootOf_b14_st ih) n
noncomputable def F_X16_rootOf (v0 : Int32) (v1 : Int32) : Option Int64 :=
  if v0 = (1 : Int32) then
    some (1 : Int64)
  else
    F_X16_rootOf_b14  xN v0 v1 (1 : Int64) (2 : Int64)
noncomputable def F_X16_residues_b42  (M : Mem) : Option (Int32 × Mem) :=
  some ((-1 : Int32), M)
noncomputable def F_X16_residues_b105  (M : Mem) : Option (Int32 × Mem) :=
  some ((-1 : Int32), M)
noncomputable def F_X16_residues_b296_st (k296 : Mem → Nat → Int32 → Int32 → Int64 → Int32 → Option (Int32 × Mem)) (M : Mem) (v0 : Nat) (v2 : Int32) (v5 : Int32) (v10 : Int64) (v12 : Int32) : Option (Int32 × Mem) :=
  if v12 < v5 then
    (gr M v0 1100).bind fun t1 =>
    (gr M v0 1100).bind fun t2 =>
    (al M t2 v12).bind fun t3 =>
    if v2.toInt64 = 0 then none else
    (sj M t1 v12 (j_lrem (t3 * v10) (v2.toInt64))).bind fun M4 =>
    let v12_5 : Int32 := v12 + (1 : Int32)
    k296 M4 v0 v2 v5 v10 v12_5
  else
    (F_X16_oneSize M v5).bind fun z6 =>
    (gr z6.2 v0 1100).bind fun t7 =>
    (vg z6.2 v0 17).bind fun _ =>
    (F_X16_made z6.2 v0 (5 : Int32) z6.1 t7).bind fun z9 =>
    some (z9.1, z9.2)
noncomputable def F_X16_residues_b296  (n : Nat) : Mem → Nat → Int32 → Int32 → Int64 → Int32 → Option (Int32 × Mem) :=
  Nat.rec (motive := fun _ => Mem → Nat → Int32 → Int32 → Int64 → Int32 → Option (Int32 × Mem)) (fun _ _ _ _ _ _ => none) (fun _ ih => F_X16_residues_b296_st ih) n
noncomputable def F_X16_residues_b291  (M : Mem) (s0 : Int64) (v0 : Nat) (v2 : Int32) (v5 : Int32) : Option (Int32 × Mem) :=
  F_X16_residues_b296  xN M v0 v2 v5 s0 (0 : Int32)
noncomputable def F_X16_residues_b206_st (k190 : Mem → Nat → Int32 → Int32 → Int32 → Int64 → Int64 → Int32 → Option (Int32 × Mem)) (k206 : Mem → Nat → Int32 → Int32 → Int32 → Int64 → Int64 → Int32 → Int64 → Int64 → Int32 → Option (Int32 × Mem)) (M : Mem) (v0 : Nat) (v2 : Int32) (v3 : Int32) (v5 : Int32) (v6 : Int64) (v8 : Int64) (v10 : Int32) (v11 : Int64) (v13 : Int64) (v15 : Int32) : Option (Int32 × Mem) :=
  if v15 < v5 then
    (gr M v0 1101).bind fun t10 =>
    (al M t10 v15).bind fun t11 =>
    if v2.toInt64 = 0 then none else
    let v11_12 : Int64 := (j_lrem (v11 + (t11 * v13)) (v2.toInt64))
    if v2.toInt64 = 0 then none else
    let v13_13 : Int64 := (j_lrem (v13 * v8) (v2.toInt64))
    let v15_14 : Int32 := v15 + (1 : Int32)
    k206 M v0 v2 v3 v5 v6 v8 v10 v11_12 v13_13 v15_14
  else
    (gr M v0 1100).bind fun t15 =>
    (sj M t15 v10 v11).bind fun M16 =>
    if v2.toInt64 = 0 then none else
    let v8_17 : Int64 := (j_lrem (v8 * v6) (v2.toInt64))
    let v10_18 : Int32 := v10 + (1 : Int32)
    k190 M16 v0 v2 v3 v5 v6 v8_17 v10_18
noncomputable def F_X16_residues_b206 (k190 : Mem → Nat → Int32 → Int32 → Int32 → Int64 → Int64 → Int32 → Option (Int32 × Mem)) (n : Nat) : Mem → Nat → Int32 → Int32 → Int32 → Int64 → Int64 → Int32 → Int64 → Int64 → Int32 → Option (Int32 × Mem) :=
  Nat.rec (motive := fun _ => Mem → Nat → Int32 → Int32 → Int32 → Int64 → Int64 → Int32 → Int64 → Int64 → Int32 → Option (Int32 × Mem)) (fun _ _ _ _ _ _ _ _ _ _ _ => none) (fun _ ih => F_X16_residues_b206_st k190 ih) n
noncomputable def F_X16_residues_b190_st (k190 : Mem → Nat → Int32 → Int32 → Int32 → Int64 → Int64 → Int32 → Option (Int32 × Mem)) (M : Mem) (v0 : Nat) (v2 : Int32) (v3 : Int32) (v5 : Int32) (v6 : Int64) (v8 : Int64) (v10 : Int32) : Option (Int32 × Mem) :=
  if v10 < v5 then
    F_X16_residues_b206 k190 xN M v0 v2 v3 v5 v6 v8 v10 (0 : Int64) (1 : Int64) (0 : Int32)
  else
    if v3 = 0 then
      F_X16_residues_b291  M (1 : Int64) v0 v2 v5
    else
      (F_X16_power (v5.toInt64) ((v2 - (2 : Int32)).toInt64) v2).bind fun z19 =>
      F_X16_residues_b291  M z19 v0 v2 v5
noncomputable def F_X16_residues_b190  (n : Nat) : Mem → Nat → Int32 → Int32 → Int32 → Int64 → Int64 → Int32 → Option (Int32 × Mem) :=
  Nat.rec (motive := fun _ => Mem → Nat → Int32 → Int32 → Int32 → Int64 → Int64 → Int32 → Option (Int32 × Mem)) (fun _ _ _ _ _ _ _ _ => none) (fun _ ih => F_X16_residues_b190_st ih) n
noncomputable def F_X16_residues_b148_st (k148 : Mem → Nat → Int32 → Int32 → Nat → Int32 → Int64 → Int32 → Option (Int32 × Mem)) (M : Mem) (v0 : Nat) (v2 : Int32) (v3 : Int32) (v4 : Nat) (v5 : Int32) (v6 : Int64) (v8 : Int32) : Option (Int32 × Mem) :=
  if v8 < v5 then
    (gr M v0 1101).bind fun t20 =>
    (vg M v4 23).bind fun _ =>
    (F_X22_cell M v4 v8).bind fun z22 =>
    if v2.toInt64 = 0 then none else
    if v2.toInt64 = 0 then none else
    (sj M t20 v8 (j_lrem ((j_lrem z22 (v2.toInt64)) + v2.toInt64) (v2.toInt64))).bind fun M23 =>
    let v8_24 : Int32 := v8 + (1 : Int32)
    k148 M23 v0 v2 v3 v4 v5 v6 v8_24
  else
    F_X16_residues_b190  xN M v0 v2 v3 v5 v6 (1 : Int64) (0 : Int32)
noncomputable def F_X16_residues_b148  (n : Nat) : Mem → Nat → Int32 → Int32 → Nat → Int32 → Int64 → Int32 → Option (Int32 × Mem) :=
  Nat.rec (motive := fun _ => Mem → Nat → Int32 → Int32 → Nat → Int32 → Int64 → Int32 → Option (Int32 × Mem)) (fun _ _ _ _ _ _ _ _ => none) (fun _ ih => F_X16_residues_b148_st ih) n
noncomputable def F_X16_residues_b145  (M : Mem) (v0 : Nat) (v2 : Int32) (v3 : Int32) (v4 : Nat) (v5 : Int32) (v6 : Int64) : Option (Int32 × Mem) :=
  F_X16_residues_b148  xN M v0 v2 v3 v4 v5 v6 (0 : Int32)
noncomputable def F_X16_residues (M : Mem) (v0 : Nat) (v1 : Int32) (v2 : Int32) (v3 : Int32) : Option (Int32 × Mem) :=
  (vg M v0 17).bind fun _ =>
  (F_X16_codeOf M v0 v1).bind fun z26 =>
  if 0 < z26 then
    (vg M v0 17).bind fun _ =>
    (F_X16_codeOf M v0 v1).bind fun z28 =>
    some ((-z28), M)
  else
    (gr M v0 1092).bind fun t29 =>
    (ar M t29 v1).bind fun t30 =>
    (F_X16_isRow M t30).bind fun z31 =>
    if z31 = 0 then
      F_X16_residues_b42  M
    else
      (gi M t30 1472).bind fun t32 =>
      (F_X16_isWhole t32).bind fun z33 =>
      if z33 = 0 then
        F_X16_residues_b42  M
      else
        (gr M t30 1473).bind fun t34 =>
        (ai M t34 (0 : Int32)).bind fun t35 =>
        if t35 < (1 : Int32) then
          F_X16_residues_b105  M
        else
          if (1024 : Int32) < t35 then
            F_X16_residues_b105  M
          else
            if (t35 &&& (t35 - (1 : Int32))) = 0 then
              if v2 < (3 : Int32) then
                F_X16_residues_b105  M
              else
                if (1000000007 : Int32) < v2 then
                  F_X16_residues_b105  M
                else
                  if t35 = 0 then none else
                  if (j_irem (v2 - (1 : Int32)) t35) = 0 then
                    (F_X16_isPrime v2).bind fun z36 =>
                    if z36 = 0 then
                      F_X16_residues_b105  M
                    else
                      (vg M v0 17).bind fun _ =>
                      (F_X16_isRoom M v0 (t35.toInt64) (1 : Int32)).bind fun z38 =>
                      if z38 = 0 then
                        some ((-12 : Int32), M)
                      else
                        (F_X16_rootOf t35 v2).bind fun z39 =>
                        if v3 = 0 then
                          F_X16_residues_b145  M v0 v2 v3 t30 t35 z39
                        else
                          (F_X16_power z39 ((v2 - (2 : Int32)).toInt64) v2).bind fun z40 =>
                          F_X16_residues_b145  M v0 v2 v3 t30 t35 z40
                  else
                    F_X16_residues_b105  M
            else
              F_X16_residues_b105  M
noncomputable def F_X54_init (M : Mem) (v0 : Nat) : Option Mem :=
  (ng M v0).bind fun _ =>
  let t4 : Nat := m_nx M
  let M3 : Mem := mo M 67
  (ng M3 t4).bind fun _ =>
  (F_J6_init_2 M3 t4).bind fun z6 =>
  (pr z6 v0 3520 t4).bind fun M7 =>
  let t9 : Nat := m_nx M7
  let M8 : Mem := mo M7 67
  (ng M8 t9).bind fun _ =>
  (F_J6_init_2 M8 t9).bind fun z11 =>
  (pr z11 v0 3521 t9).bind fun M12 =>
  some M12
noncomputable def F_X53_wrong (M : Mem) (v0 : Nat) (v1 : Int32) : Option (Nat × Mem) :=
  (gr M v0 3456).bind fun t1 =>
  (vg M t1 18).bind fun _ =>
  (F_X17_at M t1 (1 : Int32) v1).bind fun z3 =>
  some (z3.1, z3.2)
noncomputable def F_X53_is_b29  (M : Mem) (s0 : Int32) : Option Int32 :=
  some (s0 &&& 1)
noncomputable def F_X53_is_b28  (M : Mem) : Option Int32 :=
  F_X53_is_b29  M (0 : Int32)
noncomputable def F_X53_is (M : Mem) (v0 : Nat) (v1 : Int32) : Option Int32 :=
  (gi M v0 3459).bind fun t1 =>
  (gi M v0 3458).bind fun t2 =>
  if t1 < t2 then
    (gr M v0 3457).bind fun t3 =>
    (gi M v0 3459).bind fun t4 =>
    (ab M t3 t4).bind fun t5 =>
    if t5 = v1 then
      F_X53_is_b29  M (1 : Int32)
    else
      F_X53_is_b28  M
  else
    F_X53_is_b28  M
noncomputable def F_X53_word_b180  (M : Mem) (v0 : Nat) : Option ((Nat × Mem) ⊕ (Nat × Mem)) :=
  (gi M v0 3459).bind fun t1 =>
  (vg M v0 54).bind fun _ =>
  (F_X53_wrong M v0 t1).bind fun z3 =>
  (ie z3.2 z3.1).bind fun _ => some (.inr (z3.1, z3.2))
noncomputable def F_X53_word_b256 (k137 : Mem → Nat → Nat → Int32 → Option ((Nat × Mem) ⊕ (Nat × Mem))) (M : Mem) (v0 : Nat) (v1 : Nat) (v2 : Int32) : Option ((Nat × Mem) ⊕ (Nat × Mem)) :=
  k137 M v0 v1 v2
noncomputable def F_X53_word_b137_st (k137 : Mem → Nat → Nat → Int32 → Option ((Nat × Mem) ⊕ (Nat × Mem))) (M : Mem) (v0 : Nat) (v1 : Nat) (v2 : Int32) : Option ((Nat × Mem) ⊕ (Nat × Mem)) :=
  if v2 = 0 then
    (vg M v1 75).bind fun _ =>
    (F_J14_toString M v1).bind fun z5 =>
    some (.inl (z5.1, z5.2))
  else
    (gi M v0 3459).bind fun t6 =>
    (gi M v0 3458).bind fun t7 =>
    if t6 = t7 then
      F_X53_word_b180  M v0
    else
      (gr M v0 3457).bind fun t8 =>
      (gi M v0 3459).bind fun t9 =>
      (ab M t8 t9).bind fun t10 =>
      if t10 < (32 : Int32) then
        F_X53_word_b180  M v0
      else
        (gr M v0 3457).bind fun t11 =>
        (gi M v0 3459).bind fun t12 =>
        (ab M t11 t12).bind fun t13 =>
        if (126 : Int32) < t13 then
          F_X53_word_b180  M v0
        else
          (gr M v0 3457).bind fun t14 =>
          (gi M v0 3459).bind fun t15 =>
          (ab M t14 t15).bind fun t16 =>
          (gi M v0 3459).bind fun t17 =>
          (pi M v0 3459 (t17 + (1 : Int32))).bind fun M18 =>
          if t16 = (34 : Int32) then
            (vg M18 v0 54).bind fun _ =>
            (F_X53_is M18 v0 (34 : Int32)).bind fun z20 =>
            if z20 = 0 then
              F_X53_word_b256 k137 M18 v0 v1 (0 : Int32)
            else
              (vg M18 v1 75).bind fun _ =>
              (F_J14_append M18 v1 (34 : Int32)).bind fun z22 =>
              (gi z22.2 v0 3459).bind fun t23 =>
              (pi z22.2 v0 3459 (t23 + (1 : Int32))).bind fun M24 =>
              F_X53_word_b256 k137 M24 v0 v1 v2
          else
            (vg M18 v1 75).bind fun _ =>
            (F_J14_append M18 v1 (j_i2c t16)).bind fun z26 =>
            F_X53_word_b256 k137 z26.2 v0 v1 v2
noncomputable def F_X53_word_b137  (n : Nat) : Mem → Nat → Nat → Int32 → Option ((Nat × Mem) ⊕ (Nat × Mem)) :=
  Nat.rec (motive := fun _ => Mem → Nat → Nat → Int32 → Option ((Nat × Mem) ⊕ (Nat × Mem))) (fun _ _ _ _ => none) (fun _ ih => F_X53_word_b137_st ih) n
noncomputable def F_X53_word_b120  (M : Mem) (v1 : Nat) : Option ((Nat × Mem) ⊕ (Nat × Mem)) :=
  (vg M v1 75).bind fun _ =>
  (F_J14_toString M v1).bind fun z28 =>
  some (.inl (z28.1, z28.2))
noncomputable def F_X53_word_b25_st (k25 : Mem → Nat → Nat → Option ((Nat × Mem) ⊕ (Nat × Mem))) (M : Mem) (v0 : Nat) (v1 : Nat) : Option ((Nat × Mem) ⊕ (Nat × Mem)) :=
  (gi M v0 3459).bind fun t29 =>
  (gi M v0 3458).bind fun t30 =>
  if t29 < t30 then
    (gr M v0 3457).bind fun t31 =>
    (gi M v0 3459).bind fun t32 =>
    (ab M t31 t32).bind fun t33 =>
    if t33 < (32 : Int32) then
      F_X53_word_b120  M v1
    else
      (gr M v0 3457).bind fun t34 =>
      (gi M v0 3459).bind fun t35 =>
      (ab M t34 t35).bind fun t36 =>
      if (126 : Int32) < t36 then
        F_X53_word_b120  M v1
      else
        (gr M v0 3457).bind fun t37 =>
        (gi M v0 3459).bind fun t38 =>
        (ab M t37 t38).bind fun t39 =>
        if t39 = (34 : Int32) then
          F_X53_word_b120  M v1
        else
          (gr M v0 3457).bind fun t40 =>
          (gi M v0 3459).bind fun t41 =>
          (ab M t40 t41).bind fun t42 =>
          if t42 = (44 : Int32) then
            F_X53_word_b120  M v1
          else
            (gr M v0 3457).bind fun t43 =>
            (gi M v0 3459).bind fun t44 =>
            (ab M t43 t44).bind fun t45 =>
            (vg M v1 75).bind fun _ =>
            (F_J14_append M v1 (j_i2c t45)).bind fun z47 =>
            (gi z47.2 v0 3459).bind fun t48 =>
            (pi z47.2 v0 3459 (t48 + (1 : Int32))).bind fun M49 =>
            k25 M49 v0 v1
  else
    F_X53_word_b120  M v1
noncomputable def F_X53_word_b25  (n : Nat) : Mem → Nat → Nat → Option ((Nat × Mem) ⊕ (Nat × Mem)) :=
  Nat.rec (motive := fun _ => Mem → Nat → Nat → Option ((Nat × Mem) ⊕ (Nat × Mem))) (fun _ _ _ => none) (fun _ ih => F_X53_word_b25_st ih) n
noncomputable def F_X53_word (M : Mem) (v0 : Nat) : Option ((Nat × Mem) ⊕ (Nat × Mem)) :=
  let t51 : Nat := m_nx M
  let M50 : Mem := mo M 75
  (ng M50 t51).bind fun _ =>
  (F_J14_init_2 M50 t51).bind fun z53 =>
  (vg z53 v0 54).bind fun _ =>
  (F_X53_is z53 v0 (34 : Int32)).bind fun z55 =>
  (pi z53 v0 3460 z55).bind fun M56 =>
  (gi M56 v0 3460).bind fun t57 =>
  if t57 = 0 then
    F_X53_word_b25  xN M56 v0 t51
  else
    (gi M56 v0 3459).bind fun t58 =>
    (pi M56 v0 3459 (t58 + (1 : Int32))).bind fun M59 =>
    F_X53_word_b137  xN M59 v0 t51 (1 : Int32)
noncomputable def F_X53_mustEnd_b27  (M : Mem) : Option (Mem ⊕ (Nat × Mem)) :=
  some (.inl M)
noncomputable def F_X53_mustEnd (M : Mem) (v0 : Nat) : Option (Mem ⊕ (Nat × Mem)) :=
  (vg M v0 54).bind fun _ =>
  (F_X53_is M v0 (44 : Int32)).bind fun z2 =>
  if z2 = 0 then
    (vg M v0 54).bind fun _ =>
    (F_X53_is M v0 (10 : Int32)).bind fun z4 =>
    if z4 = 0 then
      (gi M v0 3459).bind fun t5 =>
      (vg M v0 54).bind fun _ =>
      (F_X53_wrong M v0 t5).bind fun z7 =>
      (ie z7.2 z7.1).bind fun _ => some (.inr (z7.1, z7.2))
    else
      F_X53_mustEnd_b27  M
  else
    F_X53_mustEnd_b27  M
noncomputable def F_X53_names_b114 (k2 : Mem → Nat → Int32 → Option (Mem ⊕ (Nat × Mem))) (M : Mem) (v0 : Nat) (v2 : Int32) (v3 : Nat) (v4 : Int32) : Option (Mem ⊕ (Nat × Mem)) :=
  if v4 = 0 then
    (gr M v0 3461).bind fun t1 =>
    (gr M t1 3520).bind fun t2 =>
    (vg M t2 67).bind fun _ =>
    (F_J6_add M t2 v3).bind fun z4 =>
    (gi z4.2 v0 3462).bind fun t5 =>
    (vg z4.2 v3 76).bind fun _ =>
    (F_J15_length z4.2 v3).bind fun z7 =>
    (pi z4.2 v0 3462 (t5 + z7)).bind fun M8 =>
    (vg M8 v0 54).bind fun _ =>
    (F_X53_is M8 v0 (44 : Int32)).bind fun z10 =>
    (gi M8 v0 3459).bind fun t11 =>
    (pi M8 v0 3459 (t11 + (1 : Int32))).bind fun M12 =>
    k2 M12 v0 z10
  else
    (vg M v0 54).bind fun _ =>
    (F_X53_wrong M v0 v2).bind fun z14 =>
    (ie z14.2 z14.1).bind fun _ => some (.inr (z14.1, z14.2))
noncomputable def F_X53_names_b67_st (k2 : Mem → Nat → Int32 → Option (Mem ⊕ (Nat × Mem))) (k67 : Mem → Nat → Int32 → Nat → Int32 → Int32 → Option (Mem ⊕ (Nat × Mem))) (M : Mem) (v0 : Nat) (v2 : Int32) (v3 : Nat) (v4 : Int32) (v5 : Int32) : Option (Mem ⊕ (Nat × Mem)) :=
  (gr M v0 3461).bind fun t15 =>
  (gr M t15 3520).bind fun t16 =>
  (vg M t16 67).bind fun _ =>
  (F_J6_size M t16).bind fun z18 =>
  if v5 < z18 then
    if v4 = 0 then
      (gr M v0 3461).bind fun t19 =>
      (gr M t19 3520).bind fun t20 =>
      (vg M t20 67).bind fun _ =>
      (F_J6_get M t20 v5).bind fun z22 =>
      (cc M z22 76).bind fun _ =>
      (vg M z22 76).bind fun _ =>
      (F_J15_equals M z22 v3).bind fun z24 =>
      let v5_25 : Int32 := v5 + (1 : Int32)
      k67 M v0 v2 v3 z24 v5_25
    else
      F_X53_names_b114 k2 M v0 v2 v3 v4
  else
    F_X53_names_b114 k2 M v0 v2 v3 v4
noncomputable def F_X53_names_b67 (k2 : Mem → Nat → Int32 → Option (Mem ⊕ (Nat × Mem))) (n : Nat) : Mem → Nat → Int32 → Nat → Int32 → Int32 → Option (Mem ⊕ (Nat × Mem)) :=
  Nat.rec (motive := fun _ => Mem → Nat → Int32 → Nat → Int32 → Int32 → Option (Mem ⊕ (Nat × Mem))) (fun _ _ _ _ _ _ => none) (fun _ ih => F_X53_names_b67_st k2 ih) n
noncomputable def F_X53_names_b62 (k2 : Mem → Nat → Int32 → Option (Mem ⊕ (Nat × Mem))) (M : Mem) (s0 : Int32) (v0 : Nat) (v2 : Int32) (v3 : Nat) : Option (Mem ⊕ (Nat × Mem)) :=
  F_X53_names_b67 k2 xN M v0 v2 v3 s0 (0 : Int32)
noncomputable def F_X53_names_b57 (k2 : Mem → Nat → Int32 → Option (Mem ⊕ (Nat × Mem))) (M : Mem) (v0 : Nat) (v2 : Int32) (v3 : Nat) : Option (Mem ⊕ (Nat × Mem)) :=
  F_X53_names_b62 k2 M (1 : Int32) v0 v2 v3
noncomputable def F_X53_names_b2_st (k2 : Mem → Nat → Int32 → Option (Mem ⊕ (Nat × Mem))) (M : Mem) (v0 : Nat) (v1 : Int32) : Option (Mem ⊕ (Nat × Mem)) :=
  if v1 = 0 then
    some (.inl M)
  else
    (gi M v0 3459).bind fun t26 =>
    (gr M v0 3461).bind fun t27 =>
    (gr M t27 3520).bind fun t28 =>
    (vg M t28 67).bind fun _ =>
    (F_J6_size M t28).bind fun z30 =>
    if z30 = (16 : Int32) then
      (vg M v0 54).bind fun _ =>
      (F_X53_wrong M v0 t26).bind fun z32 =>
      (ie z32.2 z32.1).bind fun _ => some (.inr (z32.1, z32.2))
    else
      (vg M v0 54).bind fun _ =>
      tb (F_X53_word M v0) fun z34 =>
      (vg z34.2 v0 54).bind fun _ =>
      tb (F_X53_mustEnd z34.2 v0) fun z36 =>
      (vg z36 z34.1 76).bind fun _ =>
      (F_J15_isEmpty z36 z34.1).bind fun z38 =>
      if z38 = 0 then
        (vg z36 z34.1 76).bind fun _ =>
        (F_J15_length z36 z34.1).bind fun z40 =>
        if (20 : Int32) < z40 then
          F_X53_names_b57 k2 z36 v0 t26 z34.1
        else
          F_X53_names_b62 k2 z36 (0 : Int32) v0 t26 z34.1
      else
        F_X53_names_b57 k2 z36 v0 t26 z34.1
noncomputable def F_X53_names_b2  (n : Nat) : Mem → Nat → Int32 → Option (Mem ⊕ (Nat × Mem)) :=
  Nat.rec (motive := fun _ => Mem → Nat → Int32 → Option (Mem ⊕ (Nat × Mem))) (fun _ _ _ => none) (fun _ ih => F_X53_names_b2_st ih) n
noncomputable def F_X53_names (M : Mem) (v0 : Nat) : Option (Mem ⊕ (Nat × Mem)) :=
  F_X53_names_b2  xN M v0 (1 : Int32)
noncomputable def F_X55_init (M : Mem) (v0 : Nat) (v1 : Nat) (v2 : Int32) : Option Mem :=
  (ng M v0).bind fun _ =>
  (pr M v0 3584 v1).bind fun M3 =>
  (pi M3 v0 3585 v2).bind fun M4 =>
  some M4
noncomputable def F_X53_line_b143 (k4 : Mem → Nat → Int32 → Int32 → Option (Mem ⊕ (Nat × Mem))) (M : Mem) (v0 : Nat) (v1 : Int32) (v2 : Int32) : Option (Mem ⊕ (Nat × Mem)) :=
  (gi M v0 3459).bind fun t1 =>
  (pi M v0 3459 (t1 + (1 : Int32))).bind fun M2 =>
  k4 M2 v0 v1 v2
noncomputable def F_X53_line_b4_st (k4 : Mem → Nat → Int32 → Int32 → Option (Mem ⊕ (Nat × Mem))) (M : Mem) (v0 : Nat) (v1 : Int32) (v2 : Int32) : Option (Mem ⊕ (Nat × Mem)) :=
  if v1 = 0 then
    some (.inl M)
  else
    (gi M v0 3459).bind fun t3 =>
    (gr M v0 3461).bind fun t4 =>
    (gr M t4 3520).bind fun t5 =>
    (vg M t5 67).bind fun _ =>
    (F_J6_size M t5).bind fun z7 =>
    if v2 = z7 then
      (vg M v0 54).bind fun _ =>
      (F_X53_wrong M v0 t3).bind fun z9 =>
      (ie z9.2 z9.1).bind fun _ => some (.inr (z9.1, z9.2))
    else
      (vg M v0 54).bind fun _ =>
      tb (F_X53_word M v0) fun z11 =>
      (vg z11.2 v0 54).bind fun _ =>
      tb (F_X53_mustEnd z11.2 v0) fun z13 =>
      (vg z13 z11.1 76).bind fun _ =>
      (F_J15_length z13 z11.1).bind fun z15 =>
      if (40 : Int32) < z15 then
        (vg z13 v0 54).bind fun _ =>
        (F_X53_wrong z13 v0 t3).bind fun z17 =>
        (ie z17.2 z17.1).bind fun _ => some (.inr (z17.1, z17.2))
      else
        (gr z13 v0 3461).bind fun t18 =>
        (gr z13 t18 3521).bind fun t19 =>
        let t21 : Nat := m_nx z13
        let M20 : Mem := mo z13 56
        (gi M20 v0 3460).bind fun t22 =>
        (ng M20 t21).bind fun _ =>
        (F_X55_init M20 t21 z11.1 t22).bind fun z24 =>
        (vg z24 t19 67).bind fun _ =>
        (F_J6_add z24 t19 t21).bind fun z26 =>
        (gi z26.2 v0 3462).bind fun t27 =>
        (vg z26.2 z11.1 76).bind fun _ =>
        (F_J15_length z26.2 z11.1).bind fun z29 =>
        (pi z26.2 v0 3462 (t27 + z29)).bind fun M30 =>
        let v2_31 : Int32 := v2 + (1 : Int32)
        (vg M30 v0 54).bind fun _ =>
        (F_X53_is M30 v0 (44 : Int32)).bind fun z33 =>
        if z33 = 0 then
          (vg M30 v0 54).bind fun _ =>
          (F_X53_is M30 v0 (10 : Int32)).bind fun z35 =>
          if z35 = 0 then
            F_X53_line_b143 k4 M30 v0 z33 v2_31
          else
            (gr M30 v0 3461).bind fun t36 =>
            (gr M30 t36 3520).bind fun t37 =>
            (vg M30 t37 67).bind fun _ =>
            (F_J6_size M30 t37).bind fun z39 =>
            if v2_31 < z39 then
              (gi M30 v0 3459).bind fun t40 =>
              (vg M30 v0 54).bind fun _ =>
              (F_X53_wrong M30 v0 t40).bind fun z42 =>
              (ie z42.2 z42.1).bind fun _ => some (.inr (z42.1, z42.2))
            else
              F_X53_line_b143 k4 M30 v0 z33 v2_31
        else
          F_X53_line_b143 k4 M30 v0 z33 v2_31
noncomputable def F_X53_line_b4  (n : Nat) : Mem → Nat → Int32 → Int32 → Option (Mem ⊕ (Nat × Mem)) :=
  Nat.rec (motive := fun _ => Mem → Nat → Int32 → Int32 → Option (Mem ⊕ (Nat × Mem))) (fun _ _ _ _ => none) (fun _ ih => F_X53_line_b4_st ih) n
noncomputable def F_X53_line (M : Mem) (v0 : Nat) : Option (Mem ⊕ (Nat × Mem)) :=
  F_X53_line_b4  xN M v0 (1 : Int32) (0 : Int32)
noncomputable def F_X53_init_b37_st (k37 : Mem → Nat → Int32 → Int32 → Option (Mem ⊕ (Nat × Mem))) (M : Mem) (v0 : Nat) (v3 : Int32) (v4 : Int32) : Option (Mem ⊕ (Nat × Mem)) :=
  (gi M v0 3459).bind fun t1 =>
  if t1 < v3 then
    if v4 = (500 : Int32) then
      (gi M v0 3459).bind fun t2 =>
      (vg M v0 54).bind fun _ =>
      (F_X53_wrong M v0 t2).bind fun z4 =>
      (ie z4.2 z4.1).bind fun _ => some (.inr (z4.1, z4.2))
    else
      let v4_5 : Int32 := v4 + (1 : Int32)
      (vg M v0 54).bind fun _ =>
      tb (F_X53_line M v0) fun z7 =>
      k37 z7 v0 v3 v4_5
  else
    some (.inl M)
noncomputable def F_X53_init_b37  (n : Nat) : Mem → Nat → Int32 → Int32 → Option (Mem ⊕ (Nat × Mem)) :=
  Nat.rec (motive := fun _ => Mem → Nat → Int32 → Int32 → Option (Mem ⊕ (Nat × Mem))) (fun _ _ _ _ => none) (fun _ ih => F_X53_init_b37_st ih) n
noncomputable def F_X53_init (M : Mem) (v0 : Nat) (v1 : Nat) (v2 : Nat) (v3 : Int32) : Option (Mem ⊕ (Nat × Mem)) :=
  (ng M v0).bind fun _ =>
  let t11 : Nat := m_nx M
  let M10 : Mem := mo M 55
  (ng M10 t11).bind fun _ =>
  (F_X54_init M10 t11).bind fun z13 =>
  (pr z13 v0 3461 t11).bind fun M14 =>
  (pr M14 v0 3456 v1).bind fun M15 =>
  (pr M15 v0 3457 v2).bind fun M16 =>
  (pi M16 v0 3458 v3).bind fun M17 =>
  (vg M17 v0 54).bind fun _ =>
  tb (F_X53_names M17 v0) fun z19 =>
  F_X53_init_b37  xN z19 v0 v3 (1 : Int32)
noncomputable def F_X54_rows (M : Mem) (v0 : Nat) : Option Int32 :=
  (gr M v0 3521).bind fun t1 =>
  (vg M t1 67).bind fun _ =>
  (F_J6_size M t1).bind fun z3 =>
  (gr M v0 3520).bind fun t4 =>
  (vg M t4 67).bind fun _ =>
  (F_J6_size M t4).bind fun z6 =>
  if z6 = 0 then none else
  some (z3 / z6)
noncomputable def F_X54_at (M : Mem) (v0 : Nat) (v1 : Int32) (v2 : Int32) : Option Nat :=
  (gr M v0 3521).bind fun t1 =>
  (gr M v0 3520).bind fun t2 =>
  (vg M t2 67).bind fun _ =>
  (F_J6_size M t2).bind fun z4 =>
  (vg M t1 67).bind fun _ =>
  (F_J6_get M t1 ((v1 * z4) + v2)).bind fun z6 =>
  (cc M z6 56).bind fun _ =>
  some z6
noncomputable def F_X55_isMissing_b22  (M : Mem) (s0 : Int32) : Option Int32 :=
  some (s0 &&& 1)
noncomputable def F_X55_isMissing_b21  (M : Mem) : Option Int32 :=
  F_X55_isMissing_b22  M (0 : Int32)
noncomputable def F_X55_isMissing (M : Mem) (v0 : Nat) : Option Int32 :=
  (gi M v0 3585).bind fun t1 =>
  if t1 = 0 then
    (gr M v0 3584).bind fun t2 =>
    (vg M t2 76).bind fun _ =>
    (F_J15_isEmpty M t2).bind fun z4 =>
    if z4 = 0 then
      F_X55_isMissing_b21  M
    else
      F_X55_isMissing_b22  M (1 : Int32)
  else
    F_X55_isMissing_b21  M
noncomputable def F_X16_isTruth_b25  (M : Mem) (s0 : Int32) : Option Int32 :=
  some (s0 &&& 1)
noncomputable def F_X16_isTruth_b20  (M : Mem) : Option Int32 :=
  F_X16_isTruth_b25  M (1 : Int32)
noncomputable def F_X16_isTruth (M : Mem) (v0 : Nat) : Option Int32 :=
  (vg M v0 76).bind fun _ =>
  (F_J15_equals M v0 61).bind fun z2 =>
  if z2 = 0 then
    (vg M v0 76).bind fun _ =>
    (F_J15_equals M v0 56).bind fun z4 =>
    if z4 = 0 then
      F_X16_isTruth_b25  M (0 : Int32)
    else
      F_X16_isTruth_b20  M
  else
    F_X16_isTruth_b20  M
noncomputable def F_X16_digits_b106  (M : Mem) (s0 : Int32) : Option Int32 :=
  some s0
noncomputable def F_X16_digits_b101  (M : Mem) : Option Int32 :=
  F_X16_digits_b106  M (-1 : Int32)
noncomputable def F_X16_digits_b85 (k28 : Mem → Nat → Int32 → Int32 → Int32 → Int32 → Option Int32) (M : Mem) (v0 : Nat) (v1 : Int32) (v2 : Int32) (v3 : Int32) (v4 : Int32) : Option Int32 :=
  let v2_1 : Int32 := v2 + (1 : Int32)
  k28 M v0 v1 v2_1 v3 v4
noncomputable def F_X16_digits_b69 (k28 : Mem → Nat → Int32 → Int32 → Int32 → Int32 → Option Int32) (M : Mem) (v0 : Nat) (v1 : Int32) (v2 : Int32) (v3 : Int32) (v4 : Int32) (v5 : Int32) : Option Int32 :=
  (F_X16_isDigit v5).bind fun z2 =>
  if z2 = 0 then
    some (-1 : Int32)
  else
    let v3_3 : Int32 := v3 + (1 : Int32)
    F_X16_digits_b85 k28 M v0 v1 v2 v3_3 v4
noncomputable def F_X16_digits_b28_st (k28 : Mem → Nat → Int32 → Int32 → Int32 → Int32 → Option Int32) (M : Mem) (v0 : Nat) (v1 : Int32) (v2 : Int32) (v3 : Int32) (v4 : Int32) : Option Int32 :=
  (vg M v0 76).bind fun _ =>
  (F_J15_length M v0).bind fun z5 =>
  if v2 < z5 then
    (vg M v0 76).bind fun _ =>
    (F_J15_charAt M v0 v2).bind fun z7 =>
    if z7 = (46 : Int32) then
      if v1 = 0 then
        F_X16_digits_b69 k28 M v0 v1 v2 v3 v4 z7
      else
        if v4 < 0 then
          if 0 < v3 then
            F_X16_digits_b85 k28 M v0 v1 v2 v3 v3
          else
            F_X16_digits_b69 k28 M v0 v1 v2 v3 v4 z7
        else
          F_X16_digits_b69 k28 M v0 v1 v2 v3 v4 z7
    else
      F_X16_digits_b69 k28 M v0 v1 v2 v3 v4 z7
  else
    if v3 = 0 then
      F_X16_digits_b101  M
    else
      if v3 = v4 then
        F_X16_digits_b101  M
      else
        F_X16_digits_b106  M v3
noncomputable def F_X16_digits_b28  (n : Nat) : Mem → Nat → Int32 → Int32 → Int32 → Int32 → Option Int32 :=
  Nat.rec (motive := fun _ => Mem → Nat → Int32 → Int32 → Int32 → Int32 → Option Int32) (fun _ _ _ _ _ _ => none) (fun _ ih => F_X16_digits_b28_st ih) n
noncomputable def F_X16_digits_b22  (M : Mem) (s0 : Int32) (v0 : Nat) (v1 : Int32) : Option Int32 :=
  F_X16_digits_b28  xN M v0 v1 s0 (0 : Int32) (-1 : Int32)
noncomputable def F_X16_digits_b21  (M : Mem) (v0 : Nat) (v1 : Int32) : Option Int32 :=
  F_X16_digits_b22  M (0 : Int32) v0 v1
noncomputable def F_X16_digits (M : Mem) (v0 : Nat) (v1 : Int32) : Option Int32 :=
  (vg M v0 76).bind fun _ =>
  (F_J15_length M v0).bind fun z9 =>
  if 0 < z9 then
    (vg M v0 76).bind fun _ =>
    (F_J15_charAt M v0 (0 : Int32)).bind fun z11 =>
    if z11 = (45 : Int32) then
      F_X16_digits_b22  M (1 : Int32) v0 v1
    else
      F_X16_digits_b21  M v0 v1
  else
    F_X16_digits_b21  M v0 v1
noncomputable def F_X16_isRealWord_b21  (M : Mem) (s0 : Int32) : Option Int32 :=
  some (s0 &&& 1)
noncomputable def F_X16_isRealWord_b20  (M : Mem) : Option Int32 :=
  F_X16_isRealWord_b21  M (0 : Int32)
noncomputable def F_X16_isRealWord (M : Mem) (v0 : Nat) : Option Int32 :=
  (F_X16_digits M v0 (1 : Int32)).bind fun z1 =>
  if 0 < z1 then
    if (15 : Int32) < z1 then
      F_X16_isRealWord_b20  M
    else
      F_X16_isRealWord_b21  M (1 : Int32)
  else
    F_X16_isRealWord_b20  M
noncomputable def F_X16_isWholeWord_b26  (M : Mem) : Option Int32 :=
  some (0 : Int32)
noncomputable def F_X16_isWholeWord_b164  (M : Mem) (s0 : Int32) : Option Int32 :=
  some (s0 &&& 1)
noncomputable def F_X16_isWholeWord_b159  (M : Mem) : Option Int32 :=
  F_X16_isWholeWord_b164  M (1 : Int32)
noncomputable def F_X16_isWholeWord_b142  (M : Mem) (s0 : Int64) (v1 : Int32) : Option Int32 :=
  if v1 = (5 : Int32) then
    F_X16_isWholeWord_b159  M
  else
    if s0 = (s0.toInt32).toInt64 then
      F_X16_isWholeWord_b159  M
    else
      F_X16_isWholeWord_b164  M (0 : Int32)
noncomputable def F_X16_isWholeWord_b130  (M : Mem) (v1 : Int32) (v3 : Int32) (v4 : Int64) : Option Int32 :=
  if v3 = 0 then
    F_X16_isWholeWord_b142  M (-v4) v1
  else
    F_X16_isWholeWord_b142  M v4 v1
noncomputable def F_X16_isWholeWord_b58_st (k58 : Mem → Nat → Int32 → Int32 → Int64 → Int32 → Option Int32) (M : Mem) (v0 : Nat) (v1 : Int32) (v3 : Int32) (v4 : Int64) (v6 : Int32) : Option Int32 :=
  (vg M v0 76).bind fun _ =>
  (F_J15_length M v0).bind fun z2 =>
  if v6 < z2 then
    (vg M v0 76).bind fun _ =>
    (F_J15_charAt M v0 v6).bind fun z4 =>
    let v7_5 : Int32 := (z4 - (48 : Int32))
    if (10 : Int64) = 0 then none else
    if v4 < (((-9223372036854775808 : Int64) + v7_5.toInt64) / (10 : Int64)) then
      some (0 : Int32)
    else
      let v4_6 : Int64 := (((10 : Int64) * v4) - v7_5.toInt64)
      let v6_7 : Int32 := v6 + (1 : Int32)
      k58 M v0 v1 v3 v4_6 v6_7
  else
    if v3 = 0 then
      if v4 = (-9223372036854775808 : Int64) then
        some (0 : Int32)
      else
        F_X16_isWholeWord_b130  M v1 v3 v4
    else
      F_X16_isWholeWord_b130  M v1 v3 v4
noncomputable def F_X16_isWholeWord_b58  (n : Nat) : Mem → Nat → Int32 → Int32 → Int64 → Int32 → Option Int32 :=
  Nat.rec (motive := fun _ => Mem → Nat → Int32 → Int32 → Int64 → Int32 → Option Int32) (fun _ _ _ _ _ _ => none) (fun _ ih => F_X16_isWholeWord_b58_st ih) n
noncomputable def F_X16_isWholeWord_b56  (M : Mem) (s0 : Int32) (v0 : Nat) (v1 : Int32) (v3 : Int32) (v4 : Int64) : Option Int32 :=
  F_X16_isWholeWord_b58  xN M v0 v1 v3 v4 s0
noncomputable def F_X16_isWholeWord_b43  (M : Mem) (s0 : Int32) (v0 : Nat) (v1 : Int32) : Option Int32 :=
  if s0 = 0 then
    F_X16_isWholeWord_b56  M (0 : Int32) v0 v1 s0 (0 : Int64)
  else
    F_X16_isWholeWord_b56  M (1 : Int32) v0 v1 s0 (0 : Int64)
noncomputable def F_X16_isWholeWord_b23  (M : Mem) (s0 : Int32) (s1 : Int32) (v0 : Nat) (v1 : Int32) : Option Int32 :=
  if s1 < s0 then
    F_X16_isWholeWord_b26  M
  else
    (vg M v0 76).bind fun _ =>
    (F_J15_charAt M v0 (0 : Int32)).bind fun z9 =>
    if z9 = (45 : Int32) then
      F_X16_isWholeWord_b43  M (1 : Int32) v0 v1
    else
      F_X16_isWholeWord_b43  M (0 : Int32) v0 v1
noncomputable def F_X16_isWholeWord (M : Mem) (v0 : Nat) (v1 : Int32) : Option Int32 :=
  (F_X16_digits M v0 (0 : Int32)).bind fun z10 =>
  if z10 < 0 then
    F_X16_isWholeWord_b26  M
  else
    if v1 = (4 : Int32) then
      F_X16_isWholeWord_b23  M z10 (10 : Int32) v0 v1
    else
      F_X16_isWholeWord_b23  M z10 (19 : Int32) v0 v1
noncomputable def F_X16_isOfLane_b54  (M : Mem) (s0 : Int32) : Option Int32 :=
  some (s0 &&& 1)
noncomputable def F_X16_isOfLane (M : Mem) (v0 : Nat) (v1 : Int32) : Option Int32 :=
  (vg M v0 56).bind fun _ =>
  (F_X55_isMissing M v0).bind fun z2 =>
  if z2 = 0 then
    (gi M v0 3585).bind fun t3 =>
    if t3 = 0 then
      if v1 = 0 then
        (gr M v0 3584).bind fun t4 =>
        (F_X16_isTruth M t4).bind fun z5 =>
        some (z5 &&& 1)
      else
        if v1 = (7 : Int32) then
          (gr M v0 3584).bind fun t6 =>
          (F_X16_isRealWord M t6).bind fun z7 =>
          F_X16_isOfLane_b54  M z7
        else
          (gr M v0 3584).bind fun t8 =>
          (F_X16_isWholeWord M t8 v1).bind fun z9 =>
          F_X16_isOfLane_b54  M z9
    else
      some (0 : Int32)
  else
    some (1 : Int32)
noncomputable def F_X16_laneOfColumn_b135  (M : Mem) : Option Int32 :=
  some (8 : Int32)
noncomputable def F_X16_laneOfColumn_b121 (k42 : Mem → Nat → Int32 → Int32 → Int32 → Option Int32) (M : Mem) (v0 : Nat) (v1 : Int32) (v2 : Int32) (v3 : Int32) (v4 : Int32) (v5 : Int32) : Option Int32 :=
  if v5 = 0 then
    let v3_1 : Int32 := v3 + (1 : Int32)
    k42 M v0 v1 v2 v3_1
  else
    some v4
noncomputable def F_X16_laneOfColumn_b87_st (k42 : Mem → Nat → Int32 → Int32 → Int32 → Option Int32) (k87 : Mem → Nat → Int32 → Int32 → Int32 → Int32 → Int32 → Int32 → Option Int32) (M : Mem) (v0 : Nat) (v1 : Int32) (v2 : Int32) (v3 : Int32) (v4 : Int32) (v5 : Int32) (v6 : Int32) : Option Int32 :=
  (vg M v0 55).bind fun _ =>
  (F_X54_rows M v0).bind fun z3 =>
  if v6 < z3 then
    if v5 = 0 then
      F_X16_laneOfColumn_b121 k42 M v0 v1 v2 v3 v4 v5
    else
      (vg M v0 55).bind fun _ =>
      (F_X54_at M v0 v6 v1).bind fun z5 =>
      (F_X16_isOfLane M z5 v4).bind fun z6 =>
      let v6_7 : Int32 := v6 + (1 : Int32)
      k87 M v0 v1 v2 v3 v4 z6 v6_7
  else
    F_X16_laneOfColumn_b121 k42 M v0 v1 v2 v3 v4 v5
noncomputable def F_X16_laneOfColumn_b87 (k42 : Mem → Nat → Int32 → Int32 → Int32 → Option Int32) (n : Nat) : Mem → Nat → Int32 → Int32 → Int32 → Int32 → Int32 → Int32 → Option Int32 :=
  Nat.rec (motive := fun _ => Mem → Nat → Int32 → Int32 → Int32 → Int32 → Int32 → Int32 → Option Int32) (fun _ _ _ _ _ _ _ _ => none) (fun _ ih => F_X16_laneOfColumn_b87_st k42 ih) n
noncomputable def F_X16_laneOfColumn_b79 (k42 : Mem → Nat → Int32 → Int32 → Int32 → Option Int32) (M : Mem) (s0 : Int32) (v0 : Nat) (v1 : Int32) (v2 : Int32) (v3 : Int32) : Option Int32 :=
  F_X16_laneOfColumn_b87 k42 xN M v0 v1 v2 v3 s0 (1 : Int32) (0 : Int32)
noncomputable def F_X16_laneOfColumn_b42_st (k42 : Mem → Nat → Int32 → Int32 → Int32 → Option Int32) (M : Mem) (v0 : Nat) (v1 : Int32) (v2 : Int32) (v3 : Int32) : Option Int32 :=
  if v3 < (4 : Int32) then
    if v2 = 0 then
      F_X16_laneOfColumn_b135  M
    else
      if v3 = 0 then
        F_X16_laneOfColumn_b79 k42 M (0 : Int32) v0 v1 v2 v3
      else
        if v3 = (1 : Int32) then
          F_X16_laneOfColumn_b79 k42 M (4 : Int32) v0 v1 v2 v3
        else
          if v3 = (2 : Int32) then
            F_X16_laneOfColumn_b79 k42 M (5 : Int32) v0 v1 v2 v3
          else
            F_X16_laneOfColumn_b79 k42 M (7 : Int32) v0 v1 v2 v3
  else
    F_X16_laneOfColumn_b135  M
noncomputable def F_X16_laneOfColumn_b42  (n : Nat) : Mem → Nat → Int32 → Int32 → Int32 → Option Int32 :=
  Nat.rec (motive := fun _ => Mem → Nat → Int32 → Int32 → Int32 → Option Int32) (fun _ _ _ _ _ => none) (fun _ ih => F_X16_laneOfColumn_b42_st ih) n
noncomputable def F_X16_laneOfColumn_b40  (M : Mem) (v0 : Nat) (v1 : Int32) (v2 : Int32) : Option Int32 :=
  F_X16_laneOfColumn_b42  xN M v0 v1 v2 (0 : Int32)
noncomputable def F_X16_laneOfColumn_b33 (k4 : Mem → Nat → Int32 → Int32 → Int32 → Option Int32) (M : Mem) (s0 : Int32) (v0 : Nat) (v1 : Int32) (v3 : Int32) : Option Int32 :=
  let v3_8 : Int32 := v3 + (1 : Int32)
  k4 M v0 v1 s0 v3_8
noncomputable def F_X16_laneOfColumn_b4_st (k4 : Mem → Nat → Int32 → Int32 → Int32 → Option Int32) (M : Mem) (v0 : Nat) (v1 : Int32) (v2 : Int32) (v3 : Int32) : Option Int32 :=
  (vg M v0 55).bind fun _ =>
  (F_X54_rows M v0).bind fun z10 =>
  if v3 < z10 then
    if v2 = 0 then
      (vg M v0 55).bind fun _ =>
      (F_X54_at M v0 v3 v1).bind fun z12 =>
      (vg M z12 56).bind fun _ =>
      (F_X55_isMissing M z12).bind fun z14 =>
      if z14 = 0 then
        F_X16_laneOfColumn_b33 k4 M (1 : Int32) v0 v1 v3
      else
        F_X16_laneOfColumn_b33 k4 M (0 : Int32) v0 v1 v3
    else
      F_X16_laneOfColumn_b40  M v0 v1 v2
  else
    F_X16_laneOfColumn_b40  M v0 v1 v2
noncomputable def F_X16_laneOfColumn_b4  (n : Nat) : Mem → Nat → Int32 → Int32 → Int32 → Option Int32 :=
  Nat.rec (motive := fun _ => Mem → Nat → Int32 → Int32 → Int32 → Option Int32) (fun _ _ _ _ _ => none) (fun _ ih => F_X16_laneOfColumn_b4_st ih) n
noncomputable def F_X16_laneOfColumn (M : Mem) (v0 : Nat) (v1 : Int32) : Option Int32 :=
  F_X16_laneOfColumn_b4  xN M v0 v1 (0 : Int32) (0 : Int32)
noncomputable def F_X16_tabled_b20  (M : Mem) : Option (Int32 × Mem) :=
  some ((-12 : Int32), M)
noncomputable def F_X16_tabled_b38_st (k38 : Mem → Nat → Nat → Int32 → Int32 → Option (Int32 × Mem)) (M : Mem) (v0 : Nat) (v1 : Nat) (v2 : Int32) (v3 : Int32) : Option (Int32 × Mem) :=
  (gr M v1 3522).bind fun t1 =>
  (an M t1).bind fun t2 =>
  if v3 < t2 then
    (gr M v1 3522).bind fun t3 =>
    (F_X16_laneOfColumn M v1 v3).bind fun z4 =>
    (si M t3 v3 z4).bind fun M5 =>
    let v3_6 : Int32 := v3 + (1 : Int32)
    k38 M5 v0 v1 v2 v3_6
  else
    (gi M v0 1124).bind fun t7 =>
    (pi M v0 1124 (t7 + v2)).bind fun M8 =>
    (gi M8 v0 1123).bind fun t9 =>
    (pi M8 v0 1123 (t9 + (1 : Int32))).bind fun M10 =>
    (gr M10 v0 1122).bind fun t11 =>
    (gi M10 v0 1123).bind fun t12 =>
    (sr M10 t11 t12 v1).bind fun M13 =>
    (gi M13 v0 1123).bind fun t14 =>
    some (t14, M13)
noncomputable def F_X16_tabled_b38  (n : Nat) : Mem → Nat → Nat → Int32 → Int32 → Option (Int32 × Mem) :=
  Nat.rec (motive := fun _ => Mem → Nat → Nat → Int32 → Int32 → Option (Int32 × Mem)) (fun _ _ _ _ _ => none) (fun _ ih => F_X16_tabled_b38_st ih) n
noncomputable def F_X16_tabled (M : Mem) (v0 : Nat) (v1 : Nat) (v2 : Int32) : Option (Int32 × Mem) :=
  (gi M v0 1123).bind fun t15 =>
  if t15 = (40 : Int32) then
    F_X16_tabled_b20  M
  else
    (gi M v0 1124).bind fun t16 =>
    if (65536 : Int32) < (t16 + v2) then
      F_X16_tabled_b20  M
    else
      (gr M v1 3520).bind fun t17 =>
      (vg M t17 67).bind fun _ =>
      (F_J6_size M t17).bind fun z19 =>
      (mk M 1005 z19).bind fun M20 =>
      (pr M20 v1 3522 (m_nx M)).bind fun M21 =>
      F_X16_tabled_b38  xN M21 v0 v1 v2 (0 : Int32)
noncomputable def F_X16_table_b40  (M : Mem) (s0 : Nat) (v0 : Nat) : Option (Int32 × Mem) :=
  (gr M v0 1103).bind fun t1 =>
  (gi M t1 1153).bind fun t2 =>
  (pi M v0 1091 t2).bind fun M3 =>
  some ((-20 : Int32), M3)
noncomputable def F_X16_table (M : Mem) (v0 : Nat) : Option (Int32 × Mem) :=
  (pi M v0 1091 (-1 : Int32)).bind fun M4 =>
  (gi M4 v0 1095).bind fun t5 =>
  if t5 = 0 then
    (vg M4 v0 17).bind fun _ =>
    (F_X16_used M4 v0).bind fun z7 =>
    let t9 : Nat := m_nx z7.2
    let M8 : Mem := mo z7.2 54
    (gr M8 v0 1103).bind fun t10 =>
    (gr M8 v0 1088).bind fun t11 =>
    (ng M8 t9).bind fun _ =>
    tc (F_X53_init M8 t9 t10 t11 z7.1) (fun z13 =>
      (gr z13 t9 3461).bind fun t15 =>
      (gi z13 t9 3462).bind fun t16 =>
      (vg z13 v0 17).bind fun _ =>
      (F_X16_tabled z13 v0 t15 t16).bind fun z18 =>
      some (z18.1, z18.2))
      (fun z14 =>
        F_X16_table_b40  z14.2 z14.1 v0)
  else
    some ((-13 : Int32), M4)
noncomputable def F_X16_isTable_b27  (M : Mem) (s0 : Int32) : Option Int32 :=
  some (s0 &&& 1)
noncomputable def F_X16_isTable_b26  (M : Mem) : Option Int32 :=
  F_X16_isTable_b27  M (0 : Int32)
noncomputable def F_X16_isTable (M : Mem) (v0 : Nat) (v1 : Int32) : Option Int32 :=
  if v1 < (1 : Int32) then
    F_X16_isTable_b26  M
  else
    (gi M v0 1123).bind fun t1 =>
    if t1 < v1 then
      F_X16_isTable_b26  M
    else
      (gr M v0 1122).bind fun t2 =>
      (ar M t2 v1).bind fun t3 =>
      if t3 = 6 then
        none
      else
        if t3 = 0 then
          F_X16_isTable_b26  M
        else
          F_X16_isTable_b27  M (1 : Int32)
noncomputable def F_X16_codeOfTable_b26  (M : Mem) (s0 : Int32) : Option Int32 :=
  some s0
noncomputable def F_X16_codeOfTable (M : Mem) (v0 : Nat) (v1 : Int32) : Option Int32 :=
  (gi M v0 1095).bind fun t1 =>
  if t1 = 0 then
    (vg M v0 17).bind fun _ =>
    (F_X16_isTable M v0 v1).bind fun z3 =>
    if z3 = 0 then
      F_X16_codeOfTable_b26  M (14 : Int32)
    else
      F_X16_codeOfTable_b26  M (0 : Int32)
  else
    F_X16_codeOfTable_b26  M (13 : Int32)
noncomputable def F_X16_rows_b26  (M : Mem) (s0 : Int32) : Option Int32 :=
  some s0
noncomputable def F_X16_rows (M : Mem) (v0 : Nat) (v1 : Int32) : Option Int32 :=
  (vg M v0 17).bind fun _ =>
  (F_X16_codeOfTable M v0 v1).bind fun z2 =>
  if 0 < z2 then
    (vg M v0 17).bind fun _ =>
    (F_X16_codeOfTable M v0 v1).bind fun z4 =>
    F_X16_rows_b26  M (-z4)
  else
    (gr M v0 1122).bind fun t5 =>
    (ar M t5 v1).bind fun t6 =>
    (vg M t6 55).bind fun _ =>
    (F_X54_rows M t6).bind fun z8 =>
    F_X16_rows_b26  M z8
noncomputable def F_X16_named_b126 (k28 : Mem → Nat → Int32 → Int32 → Int32 → Option (Int32 × Mem)) (M : Mem) (v0 : Nat) (v1 : Int32) (v2 : Int32) (v3 : Int32) (v5 : Int32) : Option (Int32 × Mem) :=
  if v5 = 0 then
    let v3_1 : Int32 := v3 + (1 : Int32)
    k28 M v0 v1 v2 v3_1
  else
    some (v3, M)
noncomputable def F_X16_named_b118 (k28 : Mem → Nat → Int32 → Int32 → Int32 → Option (Int32 × Mem)) (k81 : Mem → Nat → Int32 → Int32 → Int32 → Nat → Int32 → Int32 → Option (Int32 × Mem)) (M : Mem) (s0 : Int32) (v0 : Nat) (v1 : Int32) (v2 : Int32) (v3 : Int32) (v4 : Nat) (v6 : Int32) : Option (Int32 × Mem) :=
  let v6_2 : Int32 := v6 + (1 : Int32)
  k81 M v0 v1 v2 v3 v4 s0 v6_2
noncomputable def F_X16_named_b81_st (k28 : Mem → Nat → Int32 → Int32 → Int32 → Option (Int32 × Mem)) (k81 : Mem → Nat → Int32 → Int32 → Int32 → Nat → Int32 → Int32 → Option (Int32 × Mem)) (M : Mem) (v0 : Nat) (v1 : Int32) (v2 : Int32) (v3 : Int32) (v4 : Nat) (v5 : Int32) (v6 : Int32) : Option (Int32 × Mem) :=
  if v6 < v2 then
    if v5 = 0 then
      F_X16_named_b126 k28 M v0 v1 v2 v3 v5
    else
      (vg M v4 76).bind fun _ =>
      (F_J15_charAt M v4 v6).bind fun z4 =>
      (gr M v0 1088).bind fun t5 =>
      (ab M t5 v6).bind fun t6 =>
      if z4 = (t6 &&& (255 : Int32)) then
        F_X16_named_b118 k28 k81 M (1 : Int32) v0 v1 v2 v3 v4 v6
      else
        F_X16_named_b118 k28 k81 M (0 : Int32) v0 v1 v2 v3 v4 v6
  else
    F_X16_named_b126 k28 M v0 v1 v2 v3 v5
noncomputable def F_X16_named_b81 (k28 : Mem → Nat → Int32 → Int32 → Int32 → Option (Int32 × Mem)) (n : Nat) : Mem → Nat → Int32 → Int32 → Int32 → Nat → Int32 → Int32 → Option (Int32 × Mem) :=
  Nat.rec (motive := fun _ => Mem → Nat → Int32 → Int32 → Int32 → Nat → Int32 → Int32 → Option (Int32 × Mem)) (fun _ _ _ _ _ _ _ _ => none) (fun _ ih => F_X16_named_b81_st k28 ih) n
noncomputable def F_X16_named_b76 (k28 : Mem → Nat → Int32 → Int32 → Int32 → Option (Int32 × Mem)) (M : Mem) (s0 : Int32) (v0 : Nat) (v1 : Int32) (v2 : Int32) (v3 : Int32) (v4 : Nat) : Option (Int32 × Mem) :=
  F_X16_named_b81 k28 xN M v0 v1 v2 v3 v4 s0 (0 : Int32)
noncomputable def F_X16_named_b28_st (k28 : Mem → Nat → Int32 → Int32 → Int32 → Option (Int32 × Mem)) (M : Mem) (v0 : Nat) (v1 : Int32) (v2 : Int32) (v3 : Int32) : Option (Int32 × Mem) :=
  (gr M v0 1122).bind fun t7 =>
  (ar M t7 v1).bind fun t8 =>
  (gr M t8 3520).bind fun t9 =>
  (vg M t9 67).bind fun _ =>
  (F_J6_size M t9).bind fun z11 =>
  if v3 < z11 then
    (gr M v0 1122).bind fun t12 =>
    (ar M t12 v1).bind fun t13 =>
    (gr M t13 3520).bind fun t14 =>
    (vg M t14 67).bind fun _ =>
    (F_J6_get M t14 v3).bind fun z16 =>
    (cc M z16 76).bind fun _ =>
    (vg M z16 76).bind fun _ =>
    (F_J15_length M z16).bind fun z18 =>
    if z18 = v2 then
      F_X16_named_b76 k28 M (1 : Int32) v0 v1 v2 v3 z16
    else
      F_X16_named_b76 k28 M (0 : Int32) v0 v1 v2 v3 z16
  else
    some ((-14 : Int32), M)
noncomputable def F_X16_named_b28  (n : Nat) : Mem → Nat → Int32 → Int32 → Int32 → Option (Int32 × Mem) :=
  Nat.rec (motive := fun _ => Mem → Nat → Int32 → Int32 → Int32 → Option (Int32 × Mem)) (fun _ _ _ _ _ => none) (fun _ ih => F_X16_named_b28_st ih) n
noncomputable def F_X16_named (M : Mem) (v0 : Nat) (v1 : Int32) : Option (Int32 × Mem) :=
  (gi M v0 1095).bind fun t19 =>
  if t19 = 0 then
    (vg M v0 17).bind fun _ =>
    (F_X16_used M v0).bind fun z21 =>
    (vg z21.2 v0 17).bind fun _ =>
    (F_X16_isTable z21.2 v0 v1).bind fun z23 =>
    if z23 = 0 then
      some ((-14 : Int32), z21.2)
    else
      F_X16_named_b28  xN z21.2 v0 v1 z21.1 (0 : Int32)
  else
    some ((-13 : Int32), M)
noncomputable def F_X16_codeOfColumn_b39  (M : Mem) (s0 : Int32) : Option Int32 :=
  some s0
noncomputable def F_X16_codeOfColumn_b34  (M : Mem) : Option Int32 :=
  F_X16_codeOfColumn_b39  M (2 : Int32)
noncomputable def F_X16_codeOfColumn (M : Mem) (v0 : Nat) (v1 : Int32) (v2 : Int32) : Option Int32 :=
  (vg M v0 17).bind fun _ =>
  (F_X16_codeOfTable M v0 v1).bind fun z2 =>
  if 0 < z2 then
    F_X16_codeOfColumn_b39  M z2
  else
    if v2 < 0 then
      F_X16_codeOfColumn_b34  M
    else
      (gr M v0 1122).bind fun t3 =>
      (ar M t3 v1).bind fun t4 =>
      (gr M t4 3520).bind fun t5 =>
      (vg M t5 67).bind fun _ =>
      (F_J6_size M t5).bind fun z7 =>
      if v2 < z7 then
        F_X16_codeOfColumn_b39  M (0 : Int32)
      else
        F_X16_codeOfColumn_b34  M
noncomputable def F_X16_columnLane_b30  (M : Mem) (s0 : Int32) : Option Int32 :=
  some s0
noncomputable def F_X16_columnLane (M : Mem) (v0 : Nat) (v1 : Int32) (v2 : Int32) : Option Int32 :=
  (vg M v0 17).bind fun _ =>
  (F_X16_codeOfColumn M v0 v1 v2).bind fun z2 =>
  if 0 < z2 then
    (vg M v0 17).bind fun _ =>
    (F_X16_codeOfColumn M v0 v1 v2).bind fun z4 =>
    F_X16_columnLane_b30  M (-z4)
  else
    (gr M v0 1122).bind fun t5 =>
    (ar M t5 v1).bind fun t6 =>
    (gr M t6 3522).bind fun t7 =>
    (ai M t7 v2).bind fun t8 =>
    F_X16_columnLane_b30  M t8
noncomputable def F_X16_realWord_b115  (M : Mem) (s0 : Int64) : Option Int64 :=
  some s0
noncomputable def F_X16_realWord_b87 (k35 : Mem → Nat → Int32 → Int64 → Int32 → Int32 → Int32 → Option Int64) (M : Mem) (v0 : Nat) (v1 : Int32) (v2 : Int64) (v4 : Int32) (v5 : Int32) (v6 : Int32) : Option Int64 :=
  let v6_1 : Int32 := v6 + (1 : Int32)
  k35 M v0 v1 v2 v4 v5 v6_1
noncomputable def F_X16_realWord_b35_st (k35 : Mem → Nat → Int32 → Int64 → Int32 → Int32 → Int32 → Option Int64) (M : Mem) (v0 : Nat) (v1 : Int32) (v2 : Int64) (v4 : Int32) (v5 : Int32) (v6 : Int32) : Option Int64 :=
  (vg M v0 76).bind fun _ =>
  (F_J15_length M v0).bind fun z3 =>
  if v6 < z3 then
    (vg M v0 76).bind fun _ =>
    (F_J15_charAt M v0 v6).bind fun z5 =>
    if z5 = (46 : Int32) then
      F_X16_realWord_b87 k35 M v0 v1 v2 v4 (1 : Int32) v6
    else
      (vg M v0 76).bind fun _ =>
      (F_J15_charAt M v0 v6).bind fun z7 =>
      let v2_8 : Int64 := ((((10 : Int64) * v2) + z7.toInt64) - (48 : Int64))
      if v5 = 0 then
        F_X16_realWord_b87 k35 M v0 v1 v2_8 v4 v5 v6
      else
        let v4_9 : Int32 := v4 + (1 : Int32)
        F_X16_realWord_b87 k35 M v0 v1 v2_8 v4_9 v5 v6
  else
    (F_X16_decimal v2 v4).bind fun z10 =>
    if v1 = 0 then
      F_X16_realWord_b115  M z10
    else
      (F_X24_negative z10).bind fun z11 =>
      F_X16_realWord_b115  M z11
noncomputable def F_X16_realWord_b35  (n : Nat) : Mem → Nat → Int32 → Int64 → Int32 → Int32 → Int32 → Option Int64 :=
  Nat.rec (motive := fun _ => Mem → Nat → Int32 → Int64 → Int32 → Int32 → Int32 → Option Int64) (fun _ _ _ _ _ _ _ => none) (fun _ ih => F_X16_realWord_b35_st ih) n
noncomputable def F_X16_realWord_b33  (M : Mem) (s0 : Int32) (v0 : Nat) (v1 : Int32) (v2 : Int64) (v4 : Int32) (v5 : Int32) : Option Int64 :=
  F_X16_realWord_b35  xN M v0 v1 v2 v4 v5 s0
noncomputable def F_X16_realWord_b15  (M : Mem) (s0 : Int32) (v0 : Nat) : Option Int64 :=
  if s0 = 0 then
    F_X16_realWord_b33  M (0 : Int32) v0 s0 (0 : Int64) (0 : Int32) (0 : Int32)
  else
    F_X16_realWord_b33  M (1 : Int32) v0 s0 (0 : Int64) (0 : Int32) (0 : Int32)
noncomputable def F_X16_realWord (M : Mem) (v0 : Nat) : Option Int64 :=
  (vg M v0 76).bind fun _ =>
  (F_J15_charAt M v0 (0 : Int32)).bind fun z13 =>
  if z13 = (45 : Int32) then
    F_X16_realWord_b15  M (1 : Int32) v0
  else
    F_X16_realWord_b15  M (0 : Int32) v0
noncomputable def F_X16_compare_b87  (M : Mem) (s0 : Int32) : Option Int32 :=
  some s0
noncomputable def F_X16_compare_b56  (M : Mem) (v0 : Nat) (v1 : Nat) : Option Int32 :=
  (vg M v0 76).bind fun _ =>
  (F_J15_length M v0).bind fun z2 =>
  (vg M v1 76).bind fun _ =>
  (F_J15_length M v1).bind fun z4 =>
  if z2 < z4 then
    F_X16_compare_b87  M (-1 : Int32)
  else
    (vg M v0 76).bind fun _ =>
    (F_J15_length M v0).bind fun z6 =>
    (vg M v1 76).bind fun _ =>
    (F_J15_length M v1).bind fun z8 =>
    if z8 < z6 then
      F_X16_compare_b87  M (1 : Int32)
    else
      F_X16_compare_b87  M (0 : Int32)
noncomputable def F_X16_compare_b49  (M : Mem) (s0 : Int32) : Option Int32 :=
  some s0
noncomputable def F_X16_compare_b2_st (k2 : Mem → Nat → Nat → Int32 → Option Int32) (M : Mem) (v0 : Nat) (v1 : Nat) (v2 : Int32) : Option Int32 :=
  (vg M v0 76).bind fun _ =>
  (F_J15_length M v0).bind fun z10 =>
  if v2 < z10 then
    (vg M v1 76).bind fun _ =>
    (F_J15_length M v1).bind fun z12 =>
    if v2 < z12 then
      (vg M v0 76).bind fun _ =>
      (F_J15_charAt M v0 v2).bind fun z14 =>
      (vg M v1 76).bind fun _ =>
      (F_J15_charAt M v1 v2).bind fun z16 =>
      if z14 = z16 then
        let v2_17 : Int32 := v2 + (1 : Int32)
        k2 M v0 v1 v2_17
      else
        (vg M v0 76).bind fun _ =>
        (F_J15_charAt M v0 v2).bind fun z19 =>
        (vg M v1 76).bind fun _ =>
        (F_J15_charAt M v1 v2).bind fun z21 =>
        if z19 < z21 then
          F_X16_compare_b49  M (-1 : Int32)
        else
          F_X16_compare_b49  M (1 : Int32)
    else
      F_X16_compare_b56  M v0 v1
  else
    F_X16_compare_b56  M v0 v1
noncomputable def F_X16_compare_b2  (n : Nat) : Mem → Nat → Nat → Int32 → Option Int32 :=
  Nat.rec (motive := fun _ => Mem → Nat → Nat → Int32 → Option Int32) (fun _ _ _ _ => none) (fun _ ih => F_X16_compare_b2_st ih) n
noncomputable def F_X16_compare (M : Mem) (v0 : Nat) (v1 : Nat) : Option Int32 :=
  F_X16_compare_b2  xN M v0 v1 (0 : Int32)
noncomputable def F_X16_before_b120 (k5 : Mem → Nat → Int32 → Nat → Int32 → Int32 → Option Int32) (M : Mem) (v0 : Nat) (v1 : Int32) (v2 : Nat) (v3 : Int32) (v4 : Int32) : Option Int32 :=
  let v4_1 : Int32 := v4 + (1 : Int32)
  k5 M v0 v1 v2 v3 v4_1
noncomputable def F_X16_before_b112 (k5 : Mem → Nat → Int32 → Nat → Int32 → Int32 → Option Int32) (M : Mem) (v0 : Nat) (v1 : Int32) (v2 : Nat) (v3 : Int32) (v4 : Int32) (v6 : Int32) : Option Int32 :=
  if v6 = 0 then
    F_X16_before_b120 k5 M v0 v1 v2 v3 v4
  else
    let v3_2 : Int32 := v3 + (1 : Int32)
    F_X16_before_b120 k5 M v0 v1 v2 v3_2 v4
noncomputable def F_X16_before_b104 (k5 : Mem → Nat → Int32 → Nat → Int32 → Int32 → Option Int32) (k53 : Mem → Nat → Int32 → Nat → Int32 → Int32 → Nat → Int32 → Int32 → Option Int32) (M : Mem) (s0 : Int32) (v0 : Nat) (v1 : Int32) (v2 : Nat) (v3 : Int32) (v4 : Int32) (v5 : Nat) (v7 : Int32) : Option Int32 :=
  let v7_3 : Int32 := v7 + (1 : Int32)
  k53 M v0 v1 v2 v3 v4 v5 s0 v7_3
noncomputable def F_X16_before_b99 (k5 : Mem → Nat → Int32 → Nat → Int32 → Int32 → Option Int32) (k53 : Mem → Nat → Int32 → Nat → Int32 → Int32 → Nat → Int32 → Int32 → Option Int32) (M : Mem) (v0 : Nat) (v1 : Int32) (v2 : Nat) (v3 : Int32) (v4 : Int32) (v5 : Nat) (v7 : Int32) : Option Int32 :=
  F_X16_before_b104 k5 k53 M (1 : Int32) v0 v1 v2 v3 v4 v5 v7
noncomputable def F_X16_before_b53_st (k5 : Mem → Nat → Int32 → Nat → Int32 → Int32 → Option Int32) (k53 : Mem → Nat → Int32 → Nat → Int32 → Int32 → Nat → Int32 → Int32 → Option Int32) (M : Mem) (v0 : Nat) (v1 : Int32) (v2 : Nat) (v3 : Int32) (v4 : Int32) (v5 : Nat) (v6 : Int32) (v7 : Int32) : Option Int32 :=
  if v7 < v4 then
    if v6 = 0 then
      F_X16_before_b112 k5 M v0 v1 v2 v3 v4 v6
    else
      (vg M v0 55).bind fun _ =>
      (F_X54_at M v0 v7 v1).bind fun z5 =>
      (vg M z5 56).bind fun _ =>
      (F_X55_isMissing M z5).bind fun z7 =>
      if z7 = 0 then
        (vg M v0 55).bind fun _ =>
        (F_X54_at M v0 v7 v1).bind fun z9 =>
        (gr M z9 3584).bind fun t10 =>
        (gr M v5 3584).bind fun t11 =>
        (F_X16_compare M t10 t11).bind fun z12 =>
        if z12 = 0 then
          F_X16_before_b104 k5 k53 M (0 : Int32) v0 v1 v2 v3 v4 v5 v7
        else
          F_X16_before_b99 k5 k53 M v0 v1 v2 v3 v4 v5 v7
      else
        F_X16_before_b99 k5 k53 M v0 v1 v2 v3 v4 v5 v7
  else
    F_X16_before_b112 k5 M v0 v1 v2 v3 v4 v6
noncomputable def F_X16_before_b53 (k5 : Mem → Nat → Int32 → Nat → Int32 → Int32 → Option Int32) (n : Nat) : Mem → Nat → Int32 → Nat → Int32 → Int32 → Nat → Int32 → Int32 → Option Int32 :=
  Nat.rec (motive := fun _ => Mem → Nat → Int32 → Nat → Int32 → Int32 → Nat → Int32 → Int32 → Option Int32) (fun _ _ _ _ _ _ _ _ _ => none) (fun _ ih => F_X16_before_b53_st k5 ih) n
noncomputable def F_X16_before_b48 (k5 : Mem → Nat → Int32 → Nat → Int32 → Int32 → Option Int32) (M : Mem) (s0 : Int32) (v0 : Nat) (v1 : Int32) (v2 : Nat) (v3 : Int32) (v4 : Int32) (v5 : Nat) : Option Int32 :=
  F_X16_before_b53 k5 xN M v0 v1 v2 v3 v4 v5 s0 (0 : Int32)
noncomputable def F_X16_before_b47 (k5 : Mem → Nat → Int32 → Nat → Int32 → Int32 → Option Int32) (M : Mem) (v0 : Nat) (v1 : Int32) (v2 : Nat) (v3 : Int32) (v4 : Int32) (v5 : Nat) : Option Int32 :=
  F_X16_before_b48 k5 M (0 : Int32) v0 v1 v2 v3 v4 v5
noncomputable def F_X16_before_b5_st (k5 : Mem → Nat → Int32 → Nat → Int32 → Int32 → Option Int32) (M : Mem) (v0 : Nat) (v1 : Int32) (v2 : Nat) (v3 : Int32) (v4 : Int32) : Option Int32 :=
  (vg M v0 55).bind fun _ =>
  (F_X54_rows M v0).bind fun z14 =>
  if v4 < z14 then
    (vg M v0 55).bind fun _ =>
    (F_X54_at M v0 v4 v1).bind fun z16 =>
    (vg M z16 56).bind fun _ =>
    (F_X55_isMissing M z16).bind fun z18 =>
    if z18 = 0 then
      (gr M z16 3584).bind fun t19 =>
      (F_X16_compare M t19 v2).bind fun z20 =>
      if z20 < 0 then
        F_X16_before_b48 k5 M (1 : Int32) v0 v1 v2 v3 v4 z16
      else
        F_X16_before_b47 k5 M v0 v1 v2 v3 v4 z16
    else
      F_X16_before_b47 k5 M v0 v1 v2 v3 v4 z16
  else
    some v3
noncomputable def F_X16_before_b5  (n : Nat) : Mem → Nat → Int32 → Nat → Int32 → Int32 → Option Int32 :=
  Nat.rec (motive := fun _ => Mem → Nat → Int32 → Nat → Int32 → Int32 → Option Int32) (fun _ _ _ _ _ _ => none) (fun _ ih => F_X16_before_b5_st ih) n
noncomputable def F_X16_before (M : Mem) (v0 : Nat) (v1 : Int32) (v2 : Nat) : Option Int32 :=
  F_X16_before_b5  xN M v0 v1 v2 (0 : Int32) (0 : Int32)
noncomputable def F_X16_wholeWord_b71  (M : Mem) (s0 : Int64) : Option Int64 :=
  some s0
noncomputable def F_X16_wholeWord_b29_st (k29 : Mem → Nat → Int32 → Int64 → Int32 → Option Int64) (M : Mem) (v0 : Nat) (v1 : Int32) (v2 : Int64) (v4 : Int32) : Option Int64 :=
  (vg M v0 76).bind fun _ =>
  (F_J15_length M v0).bind fun z2 =>
  if v4 < z2 then
    (vg M v0 76).bind fun _ =>
    (F_J15_charAt M v0 v4).bind fun z4 =>
    let v2_5 : Int64 := (((10 : Int64) * v2) - (z4 - (48 : Int32)).toInt64)
    let v4_6 : Int32 := v4 + (1 : Int32)
    k29 M v0 v1 v2_5 v4_6
  else
    if v1 = 0 then
      F_X16_wholeWord_b71  M (-v2)
    else
      F_X16_wholeWord_b71  M v2
noncomputable def F_X16_wholeWord_b29  (n : Nat) : Mem → Nat → Int32 → Int64 → Int32 → Option Int64 :=
  Nat.rec (motive := fun _ => Mem → Nat → Int32 → Int64 → Int32 → Option Int64) (fun _ _ _ _ _ => none) (fun _ ih => F_X16_wholeWord_b29_st ih) n
noncomputable def F_X16_wholeWord_b27  (M : Mem) (s0 : Int32) (v0 : Nat) (v1 : Int32) (v2 : Int64) : Option Int64 :=
  F_X16_wholeWord_b29  xN M v0 v1 v2 s0
noncomputable def F_X16_wholeWord_b15  (M : Mem) (s0 : Int32) (v0 : Nat) : Option Int64 :=
  if s0 = 0 then
    F_X16_wholeWord_b27  M (0 : Int32) v0 s0 (0 : Int64)
  else
    F_X16_wholeWord_b27  M (1 : Int32) v0 s0 (0 : Int64)
noncomputable def F_X16_wholeWord (M : Mem) (v0 : Nat) : Option Int64 :=
  (vg M v0 76).bind fun _ =>
  (F_J15_charAt M v0 (0 : Int32)).bind fun z8 =>
  if z8 = (45 : Int32) then
    F_X16_wholeWord_b15  M (1 : Int32) v0
  else
    F_X16_wholeWord_b15  M (0 : Int32) v0
noncomputable def F_X16_column_b213  (M : Mem) (s0 : Nat) (s1 : Int32) (v0 : Nat) (v4 : Int32) : Option (Int32 × Mem) :=
  (F_X16_oneSize M v4).bind fun z1 =>
  (gr z1.2 v0 1100).bind fun t2 =>
  (vg z1.2 s0 17).bind fun _ =>
  (F_X16_made z1.2 s0 s1 z1.1 t2).bind fun z4 =>
  some (z4.1, z4.2)
noncomputable def F_X16_column_b193 (k55 : Mem → Nat → Int32 → Nat → Int32 → Int32 → Int32 → Option (Int32 × Mem)) (M : Mem) (v0 : Nat) (v2 : Int32) (v3 : Nat) (v4 : Int32) (v5 : Int32) (v6 : Int32) : Option (Int32 × Mem) :=
  let v6_5 : Int32 := v6 + (1 : Int32)
  k55 M v0 v2 v3 v4 v5 v6_5
noncomputable def F_X16_column_b192 (k55 : Mem → Nat → Int32 → Nat → Int32 → Int32 → Int32 → Option (Int32 × Mem)) (M : Mem) (s0 : Nat) (s1 : Int32) (s2 : Int64) (v0 : Nat) (v2 : Int32) (v3 : Nat) (v4 : Int32) (v5 : Int32) (v6 : Int32) : Option (Int32 × Mem) :=
  (sj M s0 s1 s2).bind fun M6 =>
  F_X16_column_b193 k55 M6 v0 v2 v3 v4 v5 v6
noncomputable def F_X16_column_b137 (k55 : Mem → Nat → Int32 → Nat → Int32 → Int32 → Int32 → Option (Int32 × Mem)) (M : Mem) (s0 : Nat) (s1 : Int32) (s2 : Int64) (v0 : Nat) (v2 : Int32) (v3 : Nat) (v4 : Int32) (v5 : Int32) (v6 : Int32) : Option (Int32 × Mem) :=
  (sj M s0 s1 s2).bind fun M7 =>
  F_X16_column_b193 k55 M7 v0 v2 v3 v4 v5 v6
noncomputable def F_X16_column_b106 (k55 : Mem → Nat → Int32 → Nat → Int32 → Int32 → Int32 → Option (Int32 × Mem)) (M : Mem) (s0 : Nat) (s1 : Int32) (s2 : Int64) (v0 : Nat) (v2 : Int32) (v3 : Nat) (v4 : Int32) (v5 : Int32) (v6 : Int32) : Option (Int32 × Mem) :=
  (sj M s0 s1 s2).bind fun M8 =>
  F_X16_column_b193 k55 M8 v0 v2 v3 v4 v5 v6
noncomputable def F_X16_column_b55_st (k55 : Mem → Nat → Int32 → Nat → Int32 → Int32 → Int32 → Option (Int32 × Mem)) (M : Mem) (v0 : Nat) (v2 : Int32) (v3 : Nat) (v4 : Int32) (v5 : Int32) (v6 : Int32) : Option (Int32 × Mem) :=
  if v6 < v4 then
    (vg M v3 55).bind fun _ =>
    (F_X54_at M v3 v6 v2).bind fun z10 =>
    (gr M z10 3584).bind fun t11 =>
    (vg M z10 56).bind fun _ =>
    (F_X55_isMissing M z10).bind fun z13 =>
    if z13 = 0 then
      if v5 = 0 then
        (gr M v0 1100).bind fun t14 =>
        (vg M t11 76).bind fun _ =>
        (F_J15_equals M t11 61).bind fun z16 =>
        if z16 = 0 then
          F_X16_column_b137 k55 M t14 v6 (0 : Int64) v0 v2 v3 v4 v5 v6
        else
          F_X16_column_b137 k55 M t14 v6 (1 : Int64) v0 v2 v3 v4 v5 v6
      else
        if v5 = (7 : Int32) then
          (gr M v0 1100).bind fun t17 =>
          (F_X16_realWord M t11).bind fun z18 =>
          (sj M t17 v6 z18).bind fun M19 =>
          F_X16_column_b193 k55 M19 v0 v2 v3 v4 v5 v6
        else
          (gr M v0 1100).bind fun t20 =>
          if v5 = (8 : Int32) then
            (F_X16_before M v3 v2 t11).bind fun z21 =>
            F_X16_column_b192 k55 M t20 v6 (z21.toInt64) v0 v2 v3 v4 v5 v6
          else
            (F_X16_wholeWord M t11).bind fun z22 =>
            F_X16_column_b192 k55 M t20 v6 z22 v0 v2 v3 v4 v5 v6
    else
      (gr M v0 1100).bind fun t23 =>
      if v5 = (8 : Int32) then
        F_X16_column_b106 k55 M t23 v6 (-1 : Int64) v0 v2 v3 v4 v5 v6
      else
        F_X16_column_b106 k55 M t23 v6 (0 : Int64) v0 v2 v3 v4 v5 v6
  else
    if v5 = (8 : Int32) then
      F_X16_column_b213  M v0 (4 : Int32) v0 v4
    else
      F_X16_column_b213  M v0 v5 v0 v4
noncomputable def F_X16_column_b55  (n : Nat) : Mem → Nat → Int32 → Nat → Int32 → Int32 → Int32 → Option (Int32 × Mem) :=
  Nat.rec (motive := fun _ => Mem → Nat → Int32 → Nat → Int32 → Int32 → Int32 → Option (Int32 × Mem)) (fun _ _ _ _ _ _ _ => none) (fun _ ih => F_X16_column_b55_st ih) n
noncomputable def F_X16_column (M : Mem) (v0 : Nat) (v1 : Int32) (v2 : Int32) : Option (Int32 × Mem) :=
  (vg M v0 17).bind fun _ =>
  (F_X16_codeOfColumn M v0 v1 v2).bind fun z25 =>
  if 0 < z25 then
    (vg M v0 17).bind fun _ =>
    (F_X16_codeOfColumn M v0 v1 v2).bind fun z27 =>
    some ((-z27), M)
  else
    (gr M v0 1122).bind fun t28 =>
    (ar M t28 v1).bind fun t29 =>
    (vg M t29 55).bind fun _ =>
    (F_X54_rows M t29).bind fun z31 =>
    (vg M v0 17).bind fun _ =>
    (F_X16_isRoom M v0 (z31.toInt64) (1 : Int32)).bind fun z33 =>
    if z33 = 0 then
      some ((-12 : Int32), M)
    else
      (gr M t29 3522).bind fun t34 =>
      (ai M t34 v2).bind fun t35 =>
      F_X16_column_b55  xN M v0 v2 t29 z31 t35 (0 : Int32)
noncomputable def F_X16_missing_b78 (k47 : Mem → Nat → Int32 → Nat → Int32 → Int32 → Option (Int32 × Mem)) (M : Mem) (s0 : Nat) (s1 : Int32) (s2 : Int64) (v0 : Nat) (v2 : Int32) (v3 : Nat) (v4 : Int32) (v5 : Int32) : Option (Int32 × Mem) :=
  (sj M s0 s1 s2).bind fun M1 =>
  let v5_2 : Int32 := v5 + (1 : Int32)
  k47 M1 v0 v2 v3 v4 v5_2
noncomputable def F_X16_missing_b47_st (k47 : Mem → Nat → Int32 → Nat → Int32 → Int32 → Option (Int32 × Mem)) (M : Mem) (v0 : Nat) (v2 : Int32) (v3 : Nat) (v4 : Int32) (v5 : Int32) : Option (Int32 × Mem) :=
  if v5 < v4 then
    (gr M v0 1100).bind fun t3 =>
    (vg M v3 55).bind fun _ =>
    (F_X54_at M v3 v5 v2).bind fun z5 =>
    (vg M z5 56).bind fun _ =>
    (F_X55_isMissing M z5).bind fun z7 =>
    if z7 = 0 then
      F_X16_missing_b78 k47 M t3 v5 (0 : Int64) v0 v2 v3 v4 v5
    else
      F_X16_missing_b78 k47 M t3 v5 (1 : Int64) v0 v2 v3 v4 v5
  else
    (F_X16_oneSize M v4).bind fun z8 =>
    (gr z8.2 v0 1100).bind fun t9 =>
    (vg z8.2 v0 17).bind fun _ =>
    (F_X16_made z8.2 v0 (0 : Int32) z8.1 t9).bind fun z11 =>
    some (z11.1, z11.2)
noncomputable def F_X16_missing_b47  (n : Nat) : Mem → Nat → Int32 → Nat → Int32 → Int32 → Option (Int32 × Mem) :=
  Nat.rec (motive := fun _ => Mem → Nat → Int32 → Nat → Int32 → Int32 → Option (Int32 × Mem)) (fun _ _ _ _ _ _ => none) (fun _ ih => F_X16_missing_b47_st ih) n
noncomputable def F_X16_missing (M : Mem) (v0 : Nat) (v1 : Int32) (v2 : Int32) : Option (Int32 × Mem) :=
  (vg M v0 17).bind fun _ =>
  (F_X16_codeOfColumn M v0 v1 v2).bind fun z13 =>
  if 0 < z13 then
    (vg M v0 17).bind fun _ =>
    (F_X16_codeOfColumn M v0 v1 v2).bind fun z15 =>
    some ((-z15), M)
  else
    (gr M v0 1122).bind fun t16 =>
    (ar M t16 v1).bind fun t17 =>
    (vg M t17 55).bind fun _ =>
    (F_X54_rows M t17).bind fun z19 =>
    (vg M v0 17).bind fun _ =>
    (F_X16_isRoom M v0 (z19.toInt64) (1 : Int32)).bind fun z21 =>
    if z21 = 0 then
      some ((-12 : Int32), M)
    else
      F_X16_missing_b47  xN M v0 v2 t17 z19 (0 : Int32)
noncomputable def F_X16_pick_b26  (M : Mem) : Option (Int32 × Mem) :=
  some ((-14 : Int32), M)
noncomputable def F_X16_pick_b51  (M : Mem) : Option (Int32 × Mem) :=
  some ((-1 : Int32), M)
noncomputable def F_X16_pick_b231  (M : Mem) : Option (Int32 × Mem) :=
  some ((-12 : Int32), M)
noncomputable def F_X16_pick_b300_st (k290 : Mem → Nat → Nat → Nat → Int32 → Int32 → Nat → Int32 → Option (Int32 × Mem)) (k300 : Mem → Nat → Nat → Nat → Int32 → Int32 → Nat → Int32 → Int32 → Option (Int32 × Mem)) (M : Mem) (v0 : Nat) (v3 : Nat) (v4 : Nat) (v5 : Int32) (v6 : Int32) (v7 : Nat) (v8 : Int32) (v9 : Int32) : Option (Int32 × Mem) :=
  (gr M v4 3520).bind fun t1 =>
  (vg M t1 67).bind fun _ =>
  (F_J6_size M t1).bind fun z3 =>
  if v9 < z3 then
    (gr M v7 3521).bind fun t4 =>
    (vg M v3 23).bind fun _ =>
    (F_X22_cell M v3 v8).bind fun z6 =>
    (vg M v4 55).bind fun _ =>
    (F_X54_at M v4 (z6.toInt32) v9).bind fun z8 =>
    (vg M t4 67).bind fun _ =>
    (F_J6_add M t4 z8).bind fun z10 =>
    let v9_11 : Int32 := v9 + (1 : Int32)
    k300 z10.2 v0 v3 v4 v5 v6 v7 v8 v9_11
  else
    let v8_12 : Int32 := v8 + (1 : Int32)
    k290 M v0 v3 v4 v5 v6 v7 v8_12
noncomputable def F_X16_pick_b300 (k290 : Mem → Nat → Nat → Nat → Int32 → Int32 → Nat → Int32 → Option (Int32 × Mem)) (n : Nat) : Mem → Nat → Nat → Nat → Int32 → Int32 → Nat → Int32 → Int32 → Option (Int32 × Mem) :=
  Nat.rec (motive := fun _ => Mem → Nat → Nat → Nat → Int32 → Int32 → Nat → Int32 → Int32 → Option (Int32 × Mem)) (fun _ _ _ _ _ _ _ _ _ => none) (fun _ ih => F_X16_pick_b300_st k290 ih) n
noncomputable def F_X16_pick_b290_st (k290 : Mem → Nat → Nat → Nat → Int32 → Int32 → Nat → Int32 → Option (Int32 × Mem)) (M : Mem) (v0 : Nat) (v3 : Nat) (v4 : Nat) (v5 : Int32) (v6 : Int32) (v7 : Nat) (v8 : Int32) : Option (Int32 × Mem) :=
  if v8 < v5 then
    F_X16_pick_b300 k290 xN M v0 v3 v4 v5 v6 v7 v8 (0 : Int32)
  else
    (vg M v0 17).bind fun _ =>
    (F_X16_tabled M v0 v7 v6).bind fun z14 =>
    some (z14.1, z14.2)
noncomputable def F_X16_pick_b290  (n : Nat) : Mem → Nat → Nat → Nat → Int32 → Int32 → Nat → Int32 → Option (Int32 × Mem) :=
  Nat.rec (motive := fun _ => Mem → Nat → Nat → Nat → Int32 → Int32 → Nat → Int32 → Option (Int32 × Mem)) (fun _ _ _ _ _ _ _ _ => none) (fun _ ih => F_X16_pick_b290_st ih) n
noncomputable def F_X16_pick_b246_st (k246 : Mem → Nat → Nat → Nat → Int32 → Int32 → Nat → Int32 → Option (Int32 × Mem)) (M : Mem) (v0 : Nat) (v3 : Nat) (v4 : Nat) (v5 : Int32) (v6 : Int32) (v7 : Nat) (v8 : Int32) : Option (Int32 × Mem) :=
  (gr M v4 3520).bind fun t15 =>
  (vg M t15 67).bind fun _ =>
  (F_J6_size M t15).bind fun z17 =>
  if v8 < z17 then
    (gr M v7 3520).bind fun t18 =>
    (gr M v4 3520).bind fun t19 =>
    (vg M t19 67).bind fun _ =>
    (F_J6_get M t19 v8).bind fun z21 =>
    (cc M z21 76).bind fun _ =>
    (vg M t18 67).bind fun _ =>
    (F_J6_add M t18 z21).bind fun z23 =>
    let v8_24 : Int32 := v8 + (1 : Int32)
    k246 z23.2 v0 v3 v4 v5 v6 v7 v8_24
  else
    F_X16_pick_b290  xN M v0 v3 v4 v5 v6 v7 (0 : Int32)
noncomputable def F_X16_pick_b246  (n : Nat) : Mem → Nat → Nat → Nat → Int32 → Int32 → Nat → Int32 → Option (Int32 × Mem) :=
  Nat.rec (motive := fun _ => Mem → Nat → Nat → Nat → Int32 → Int32 → Nat → Int32 → Option (Int32 × Mem)) (fun _ _ _ _ _ _ _ _ => none) (fun _ ih => F_X16_pick_b246_st ih) n
noncomputable def F_X16_pick_b150  (M : Mem) : Option (Int32 × Mem) :=
  some ((-2 : Int32), M)
noncomputable def F_X16_pick_b156_st (k116 : Mem → Nat → Nat → Nat → Int32 → Int32 → Int32 → Option (Int32 × Mem)) (k156 : Mem → Nat → Nat → Nat → Int32 → Int32 → Int32 → Int64 → Int32 → Option (Int32 × Mem)) (M : Mem) (v0 : Nat) (v3 : Nat) (v4 : Nat) (v5 : Int32) (v6 : Int32) (v7 : Int32) (v8 : Int64) (v10 : Int32) : Option (Int32 × Mem) :=
  (gr M v4 3520).bind fun t25 =>
  (vg M t25 67).bind fun _ =>
  (F_J6_size M t25).bind fun z27 =>
  if v10 < z27 then
    (vg M v4 55).bind fun _ =>
    (F_X54_at M v4 (v8.toInt32) v10).bind fun z29 =>
    (gr M z29 3584).bind fun t30 =>
    (vg M t30 76).bind fun _ =>
    (F_J15_length M t30).bind fun z32 =>
    let v6_33 : Int32 := (v6 + z32)
    let v10_34 : Int32 := v10 + (1 : Int32)
    k156 M v0 v3 v4 v5 v6_33 v7 v8 v10_34
  else
    let v7_35 : Int32 := v7 + (1 : Int32)
    k116 M v0 v3 v4 v5 v6 v7_35
noncomputable def F_X16_pick_b156 (k116 : Mem → Nat → Nat → Nat → Int32 → Int32 → Int32 → Option (Int32 × Mem)) (n : Nat) : Mem → Nat → Nat → Nat → Int32 → Int32 → Int32 → Int64 → Int32 → Option (Int32 × Mem) :=
  Nat.rec (motive := fun _ => Mem → Nat → Nat → Nat → Int32 → Int32 → Int32 → Int64 → Int32 → Option (Int32 × Mem)) (fun _ _ _ _ _ _ _ _ _ => none) (fun _ ih => F_X16_pick_b156_st k116 ih) n
noncomputable def F_X16_pick_b116_st (k116 : Mem → Nat → Nat → Nat → Int32 → Int32 → Int32 → Option (Int32 × Mem)) (M : Mem) (v0 : Nat) (v3 : Nat) (v4 : Nat) (v5 : Int32) (v6 : Int32) (v7 : Int32) : Option (Int32 × Mem) :=
  if v7 < v5 then
    (vg M v3 23).bind fun _ =>
    (F_X22_cell M v3 v7).bind fun z37 =>
    if z37 < (0 : Int64) then
      F_X16_pick_b150  M
    else
      (vg M v4 55).bind fun _ =>
      (F_X54_rows M v4).bind fun z39 =>
      if z37 < z39.toInt64 then
        F_X16_pick_b156 k116 xN M v0 v3 v4 v5 v6 v7 z37 (0 : Int32)
      else
        F_X16_pick_b150  M
  else
    if (499 : Int32) < v5 then
      F_X16_pick_b231  M
    else
      (gi M v0 1123).bind fun t40 =>
      if t40 = (40 : Int32) then
        F_X16_pick_b231  M
      else
        (gi M v0 1124).bind fun t41 =>
        if (65536 : Int32) < (t41 + v6) then
          F_X16_pick_b231  M
        else
          let t43 : Nat := m_nx M
          let M42 : Mem := mo M 55
          (ng M42 t43).bind fun _ =>
          (F_X54_init M42 t43).bind fun z45 =>
          F_X16_pick_b246  xN z45 v0 v3 v4 v5 v6 t43 (0 : Int32)
noncomputable def F_X16_pick_b116  (n : Nat) : Mem → Nat → Nat → Nat → Int32 → Int32 → Int32 → Option (Int32 × Mem) :=
  Nat.rec (motive := fun _ => Mem → Nat → Nat → Nat → Int32 → Int32 → Int32 → Option (Int32 × Mem)) (fun _ _ _ _ _ _ _ => none) (fun _ ih => F_X16_pick_b116_st ih) n
noncomputable def F_X16_pick_b73_st (k73 : Mem → Nat → Nat → Nat → Int32 → Int32 → Int32 → Option (Int32 × Mem)) (M : Mem) (v0 : Nat) (v3 : Nat) (v4 : Nat) (v5 : Int32) (v6 : Int32) (v7 : Int32) : Option (Int32 × Mem) :=
  (gr M v4 3520).bind fun t46 =>
  (vg M t46 67).bind fun _ =>
  (F_J6_size M t46).bind fun z48 =>
  if v7 < z48 then
    (gr M v4 3520).bind fun t49 =>
    (vg M t49 67).bind fun _ =>
    (F_J6_get M t49 v7).bind fun z51 =>
    (cc M z51 76).bind fun _ =>
    (vg M z51 76).bind fun _ =>
    (F_J15_length M z51).bind fun z53 =>
    let v6_54 : Int32 := (v6 + z53)
    let v7_55 : Int32 := v7 + (1 : Int32)
    k73 M v0 v3 v4 v5 v6_54 v7_55
  else
    F_X16_pick_b116  xN M v0 v3 v4 v5 v6 (0 : Int32)
noncomputable def F_X16_pick_b73  (n : Nat) : Mem → Nat → Nat → Nat → Int32 → Int32 → Int32 → Option (Int32 × Mem) :=
  Nat.rec (motive := fun _ => Mem → Nat → Nat → Nat → Int32 → Int32 → Int32 → Option (Int32 × Mem)) (fun _ _ _ _ _ _ _ => none) (fun _ ih => F_X16_pick_b73_st ih) n
noncomputable def F_X16_pick (M : Mem) (v0 : Nat) (v1 : Int32) (v2 : Int32) : Option (Int32 × Mem) :=
  (gi M v0 1095).bind fun t56 =>
  if t56 = 0 then
    (vg M v0 17).bind fun _ =>
    (F_X16_isTable M v0 v1).bind fun z58 =>
    if z58 = 0 then
      F_X16_pick_b26  M
    else
      (vg M v0 17).bind fun _ =>
      (F_X16_isGrid M v0 v2).bind fun z60 =>
      if z60 = 0 then
        F_X16_pick_b26  M
      else
        (gr M v0 1092).bind fun t61 =>
        (ar M t61 v2).bind fun t62 =>
        (F_X16_isRow M t62).bind fun z63 =>
        if z63 = 0 then
          F_X16_pick_b51  M
        else
          (gi M t62 1472).bind fun t64 =>
          if t64 = (4 : Int32) then
            (gr M v0 1122).bind fun t65 =>
            (ar M t65 v1).bind fun t66 =>
            (vg M t62 23).bind fun _ =>
            (F_X22_count M t62).bind fun z68 =>
            F_X16_pick_b73  xN M v0 t62 t66 z68 (0 : Int32) (0 : Int32)
          else
            F_X16_pick_b51  M
  else
    some ((-13 : Int32), M)
noncomputable def F_X16_out_b32  (M : Mem) (s0 : Int32) : Option Int32 :=
  some s0
noncomputable def F_X16_out_b31  (M : Mem) : Option Int32 :=
  F_X16_out_b32  M (-1 : Int32)
noncomputable def F_X16_out (M : Mem) (v0 : Nat) (v1 : Int32) : Option Int32 :=
  if v1 < 0 then
    F_X16_out_b31  M
  else
    (gr M v0 1125).bind fun t1 =>
    (gi M t1 1281).bind fun t2 =>
    if v1 < t2 then
      (gr M v0 1125).bind fun t3 =>
      (gr M t3 1280).bind fun t4 =>
      (ab M t4 v1).bind fun t5 =>
      F_X16_out_b32  M (t5 &&& (255 : Int32))
    else
      F_X16_out_b31  M
noncomputable def F_X16_isBlankAtEnds_b37  (M : Mem) (s0 : Int32) : Option Int32 :=
  some (s0 &&& 1)
noncomputable def F_X16_isBlankAtEnds_b36  (M : Mem) : Option Int32 :=
  F_X16_isBlankAtEnds_b37  M (0 : Int32)
noncomputable def F_X16_isBlankAtEnds_b32  (M : Mem) : Option Int32 :=
  F_X16_isBlankAtEnds_b37  M (1 : Int32)
noncomputable def F_X16_isBlankAtEnds (M : Mem) (v0 : Nat) : Option Int32 :=
  (vg M v0 76).bind fun _ =>
  (F_J15_length M v0).bind fun z2 =>
  if 0 < z2 then
    (vg M v0 76).bind fun _ =>
    (F_J15_charAt M v0 (0 : Int32)).bind fun z4 =>
    if z4 = (32 : Int32) then
      F_X16_isBlankAtEnds_b32  M
    else
      (vg M v0 76).bind fun _ =>
      (F_J15_length M v0).bind fun z6 =>
      (vg M v0 76).bind fun _ =>
      (F_J15_charAt M v0 (z6 - (1 : Int32))).bind fun z8 =>
      if z8 = (32 : Int32) then
        F_X16_isBlankAtEnds_b32  M
      else
        F_X16_isBlankAtEnds_b36  M
  else
    F_X16_isBlankAtEnds_b36  M
noncomputable def F_X16_hasSigns_b30  (M : Mem) : Option Int32 :=
  some (1 : Int32)
noncomputable def F_X16_hasSigns_b2_st (k2 : Mem → Nat → Int32 → Option Int32) (M : Mem) (v0 : Nat) (v1 : Int32) : Option Int32 :=
  (vg M v0 76).bind fun _ =>
  (F_J15_length M v0).bind fun z2 =>
  if v1 < z2 then
    (vg M v0 76).bind fun _ =>
    (F_J15_charAt M v0 v1).bind fun z4 =>
    if z4 = (34 : Int32) then
      F_X16_hasSigns_b30  M
    else
      (vg M v0 76).bind fun _ =>
      (F_J15_charAt M v0 v1).bind fun z6 =>
      if z6 = (44 : Int32) then
        F_X16_hasSigns_b30  M
      else
        let v1_7 : Int32 := v1 + (1 : Int32)
        k2 M v0 v1_7
  else
    (F_X16_isBlankAtEnds M v0).bind fun z8 =>
    some (z8 &&& 1)
noncomputable def F_X16_hasSigns_b2  (n : Nat) : Mem → Nat → Int32 → Option Int32 :=
  Nat.rec (motive := fun _ => Mem → Nat → Int32 → Option Int32) (fun _ _ _ => none) (fun _ ih => F_X16_hasSigns_b2_st ih) n
noncomputable def F_X16_hasSigns (M : Mem) (v0 : Nat) : Option Int32 :=
  F_X16_hasSigns_b2  xN M v0 (0 : Int32)
noncomputable def F_X19_add_b21  (M : Mem) (v0 : Nat) : Option Mem :=
  (gi M v0 1281).bind fun t1 =>
  (pi M v0 1281 (t1 + (1 : Int32))).bind fun M2 =>
  some M2
noncomputable def F_X19_add (M : Mem) (v0 : Nat) (v1 : Int32) : Option Mem :=
  (gi M v0 1281).bind fun t3 =>
  if t3 < (30000 : Int32) then
    (gr M v0 1280).bind fun t4 =>
    (gi M v0 1281).bind fun t5 =>
    (sb M t4 t5 (j_i2b v1)).bind fun M6 =>
    F_X19_add_b21  M6 v0
  else
    F_X19_add_b21  M v0
noncomputable def F_X16_writeWord_b73  (M : Mem) : Option Mem :=
  some M
noncomputable def F_X16_writeWord_b42 (k15 : Mem → Nat → Nat → Int32 → Int32 → Option Mem) (M : Mem) (v0 : Nat) (v1 : Nat) (v2 : Int32) (v3 : Int32) : Option Mem :=
  (gr M v0 1126).bind fun t1 =>
  (vg M v1 76).bind fun _ =>
  (F_J15_charAt M v1 v3).bind fun z3 =>
  (vg M t1 20).bind fun _ =>
  (F_X19_add M t1 z3).bind fun z5 =>
  let v3_6 : Int32 := v3 + (1 : Int32)
  k15 z5 v0 v1 v2 v3_6
noncomputable def F_X16_writeWord_b15_st (k15 : Mem → Nat → Nat → Int32 → Int32 → Option Mem) (M : Mem) (v0 : Nat) (v1 : Nat) (v2 : Int32) (v3 : Int32) : Option Mem :=
  (vg M v1 76).bind fun _ =>
  (F_J15_length M v1).bind fun z8 =>
  if v3 < z8 then
    (vg M v1 76).bind fun _ =>
    (F_J15_charAt M v1 v3).bind fun z10 =>
    if z10 = (34 : Int32) then
      (gr M v0 1126).bind fun t11 =>
      (vg M t11 20).bind fun _ =>
      (F_X19_add M t11 (34 : Int32)).bind fun z13 =>
      F_X16_writeWord_b42 k15 z13 v0 v1 v2 v3
    else
      F_X16_writeWord_b42 k15 M v0 v1 v2 v3
  else
    if v2 = 0 then
      F_X16_writeWord_b73  M
    else
      (gr M v0 1126).bind fun t14 =>
      (vg M t14 20).bind fun _ =>
      (F_X19_add M t14 (34 : Int32)).bind fun z16 =>
      F_X16_writeWord_b73  z16
noncomputable def F_X16_writeWord_b15  (n : Nat) : Mem → Nat → Nat → Int32 → Int32 → Option Mem :=
  Nat.rec (motive := fun _ => Mem → Nat → Nat → Int32 → Int32 → Option Mem) (fun _ _ _ _ _ => none) (fun _ ih => F_X16_writeWord_b15_st ih) n
noncomputable def F_X16_writeWord_b13  (M : Mem) (v0 : Nat) (v1 : Nat) (v2 : Int32) : Option Mem :=
  F_X16_writeWord_b15  xN M v0 v1 v2 (0 : Int32)
noncomputable def F_X16_writeWord (M : Mem) (v0 : Nat) (v1 : Nat) (v2 : Int32) : Option Mem :=
  if v2 = 0 then
    F_X16_writeWord_b13  M v0 v1 v2
  else
    (gr M v0 1126).bind fun t17 =>
    (vg M t17 20).bind fun _ =>
    (F_X19_add M t17 (34 : Int32)).bind fun z19 =>
    F_X16_writeWord_b13  z19 v0 v1 v2
noncomputable def F_X16_told (M : Mem) (v0 : Nat) : Option (Int32 × Mem) :=
  (gr M v0 1126).bind fun t1 =>
  (gi M t1 1281).bind fun t2 =>
  if (30000 : Int32) < t2 then
    some ((-12 : Int32), M)
  else
    (gr M v0 1125).bind fun t3 =>
    (gr M v0 1126).bind fun t4 =>
    (pr M v0 1125 t4).bind fun M5 =>
    (pr M5 v0 1126 t3).bind fun M6 =>
    (gr M6 v0 1125).bind fun t7 =>
    (gi M6 t7 1281).bind fun t8 =>
    some (t8, M6)
noncomputable def F_X16_write_b217  (M : Mem) (v0 : Nat) : Option (Int32 × Mem) :=
  (vg M v0 17).bind fun _ =>
  (F_X16_told M v0).bind fun z2 =>
  some (z2.1, z2.2)
noncomputable def F_X16_write_b202 (k109 : Mem → Nat → Nat → Int32 → Int32 → Option (Int32 × Mem)) (k134 : Mem → Nat → Nat → Int32 → Int32 → Int32 → Option (Int32 × Mem)) (M : Mem) (s0 : Nat) (s1 : Int32) (v0 : Nat) (v2 : Nat) (v3 : Int32) (v4 : Int32) (v5 : Int32) : Option (Int32 × Mem) :=
  (vg M s0 20).bind fun _ =>
  (F_X19_add M s0 s1).bind fun z4 =>
  let v5_5 : Int32 := v5 + (1 : Int32)
  k134 z4 v0 v2 v3 v4 v5_5
noncomputable def F_X16_write_b180 (k109 : Mem → Nat → Nat → Int32 → Int32 → Option (Int32 × Mem)) (k134 : Mem → Nat → Nat → Int32 → Int32 → Int32 → Option (Int32 × Mem)) (M : Mem) (s0 : Nat) (s1 : Nat) (s2 : Int32) (v0 : Nat) (v2 : Nat) (v3 : Int32) (v4 : Int32) (v5 : Int32) : Option (Int32 × Mem) :=
  (vg M s0 17).bind fun _ =>
  (F_X16_writeWord M s0 s1 s2).bind fun z7 =>
  (gr z7 v0 1126).bind fun t8 =>
  if v5 < (v3 - (1 : Int32)) then
    F_X16_write_b202 k109 k134 z7 t8 (44 : Int32) v0 v2 v3 v4 v5
  else
    F_X16_write_b202 k109 k134 z7 t8 (10 : Int32) v0 v2 v3 v4 v5
noncomputable def F_X16_write_b175 (k109 : Mem → Nat → Nat → Int32 → Int32 → Option (Int32 × Mem)) (k134 : Mem → Nat → Nat → Int32 → Int32 → Int32 → Option (Int32 × Mem)) (M : Mem) (s0 : Nat) (s1 : Nat) (v0 : Nat) (v2 : Nat) (v3 : Int32) (v4 : Int32) (v5 : Int32) : Option (Int32 × Mem) :=
  F_X16_write_b180 k109 k134 M s0 s1 (1 : Int32) v0 v2 v3 v4 v5
noncomputable def F_X16_write_b134_st (k109 : Mem → Nat → Nat → Int32 → Int32 → Option (Int32 × Mem)) (k134 : Mem → Nat → Nat → Int32 → Int32 → Int32 → Option (Int32 × Mem)) (M : Mem) (v0 : Nat) (v2 : Nat) (v3 : Int32) (v4 : Int32) (v5 : Int32) : Option (Int32 × Mem) :=
  if v5 < v3 then
    (vg M v2 55).bind fun _ =>
    (F_X54_at M v2 v4 v5).bind fun z10 =>
    (gr M z10 3584).bind fun t11 =>
    (gi M z10 3585).bind fun t12 =>
    if t12 = 0 then
      (gr M z10 3584).bind fun t13 =>
      (F_X16_isBlankAtEnds M t13).bind fun z14 =>
      if z14 = 0 then
        F_X16_write_b180 k109 k134 M v0 t11 (0 : Int32) v0 v2 v3 v4 v5
      else
        F_X16_write_b175 k109 k134 M v0 t11 v0 v2 v3 v4 v5
    else
      F_X16_write_b175 k109 k134 M v0 t11 v0 v2 v3 v4 v5
  else
    let v4_15 : Int32 := v4 + (1 : Int32)
    k109 M v0 v2 v3 v4_15
noncomputable def F_X16_write_b134 (k109 : Mem → Nat → Nat → Int32 → Int32 → Option (Int32 × Mem)) (n : Nat) : Mem → Nat → Nat → Int32 → Int32 → Int32 → Option (Int32 × Mem) :=
  Nat.rec (motive := fun _ => Mem → Nat → Nat → Int32 → Int32 → Int32 → Option (Int32 × Mem)) (fun _ _ _ _ _ _ => none) (fun _ ih => F_X16_write_b134_st k109 ih) n
noncomputable def F_X16_write_b109_st (k109 : Mem → Nat → Nat → Int32 → Int32 → Option (Int32 × Mem)) (M : Mem) (v0 : Nat) (v2 : Nat) (v3 : Int32) (v4 : Int32) : Option (Int32 × Mem) :=
  (vg M v2 55).bind fun _ =>
  (F_X54_rows M v2).bind fun z17 =>
  if v4 < z17 then
    (gr M v0 1126).bind fun t18 =>
    (gi M t18 1281).bind fun t19 =>
    if (30000 : Int32) < t19 then
      F_X16_write_b217  M v0
    else
      F_X16_write_b134 k109 xN M v0 v2 v3 v4 (0 : Int32)
  else
    F_X16_write_b217  M v0
noncomputable def F_X16_write_b109  (n : Nat) : Mem → Nat → Nat → Int32 → Int32 → Option (Int32 × Mem) :=
  Nat.rec (motive := fun _ => Mem → Nat → Nat → Int32 → Int32 → Option (Int32 × Mem)) (fun _ _ _ _ _ => none) (fun _ ih => F_X16_write_b109_st ih) n
noncomputable def F_X16_write_b97 (k41 : Mem → Nat → Nat → Int32 → Int32 → Option (Int32 × Mem)) (M : Mem) (s0 : Nat) (s1 : Int32) (v0 : Nat) (v2 : Nat) (v3 : Int32) (v4 : Int32) : Option (Int32 × Mem) :=
  (vg M s0 20).bind fun _ =>
  (F_X19_add M s0 s1).bind fun z21 =>
  let v4_22 : Int32 := v4 + (1 : Int32)
  k41 z21 v0 v2 v3 v4_22
noncomputable def F_X16_write_b41_st (k41 : Mem → Nat → Nat → Int32 → Int32 → Option (Int32 × Mem)) (M : Mem) (v0 : Nat) (v2 : Nat) (v3 : Int32) (v4 : Int32) : Option (Int32 × Mem) :=
  if v4 < v3 then
    (gr M v2 3520).bind fun t23 =>
    (vg M t23 67).bind fun _ =>
    (F_J6_get M t23 v4).bind fun z25 =>
    (cc M z25 76).bind fun _ =>
    (gr M v2 3520).bind fun t26 =>
    (vg M t26 67).bind fun _ =>
    (F_J6_get M t26 v4).bind fun z28 =>
    (cc M z28 76).bind fun _ =>
    (F_X16_hasSigns M z28).bind fun z29 =>
    (vg M v0 17).bind fun _ =>
    (F_X16_writeWord M v0 z25 z29).bind fun z31 =>
    (gr z31 v0 1126).bind fun t32 =>
    if v4 < (v3 - (1 : Int32)) then
      F_X16_write_b97 k41 z31 t32 (44 : Int32) v0 v2 v3 v4
    else
      F_X16_write_b97 k41 z31 t32 (10 : Int32) v0 v2 v3 v4
  else
    F_X16_write_b109  xN M v0 v2 v3 (0 : Int32)
noncomputable def F_X16_write_b41  (n : Nat) : Mem → Nat → Nat → Int32 → Int32 → Option (Int32 × Mem) :=
  Nat.rec (motive := fun _ => Mem → Nat → Nat → Int32 → Int32 → Option (Int32 × Mem)) (fun _ _ _ _ _ => none) (fun _ ih => F_X16_write_b41_st ih) n
noncomputable def F_X16_write (M : Mem) (v0 : Nat) (v1 : Int32) : Option (Int32 × Mem) :=
  (vg M v0 17).bind fun _ =>
  (F_X16_codeOfTable M v0 v1).bind fun z34 =>
  if 0 < z34 then
    (vg M v0 17).bind fun _ =>
    (F_X16_codeOfTable M v0 v1).bind fun z36 =>
    some ((-z36), M)
  else
    (gr M v0 1122).bind fun t37 =>
    (ar M t37 v1).bind fun t38 =>
    (gr M v0 1126).bind fun t39 =>
    (pi M t39 1281 (0 : Int32)).bind fun M40 =>
    (gr M40 t38 3520).bind fun t41 =>
    (vg M40 t41 67).bind fun _ =>
    (F_J6_size M40 t41).bind fun z43 =>
    F_X16_write_b41  xN M40 v0 t38 z43 (0 : Int32)
noncomputable def F_X16_bytesOf_2_b35  (s0 : Int32) : Option Int32 :=
  some s0
noncomputable def F_X16_bytesOf_2_b29   : Option Int32 :=
  F_X16_bytesOf_2_b35  (4 : Int32)
noncomputable def F_X16_bytesOf_2 (v0 : Int32) : Option Int32 :=
  if (1 : Int32) < v0 then
    if (3 : Int32) < v0 then
      if v0 = (4 : Int32) then
        F_X16_bytesOf_2_b29  
      else
        if v0 = (6 : Int32) then
          F_X16_bytesOf_2_b29  
        else
          F_X16_bytesOf_2_b35  (8 : Int32)
    else
      F_X16_bytesOf_2_b35  (2 : Int32)
  else
    F_X16_bytesOf_2_b35  (1 : Int32)
noncomputable def F_X16_bytesOf (M : Mem) (v0 : Nat) : Option Int64 :=
  (vg M v0 23).bind fun _ =>
  (F_X22_axes M v0).bind fun z2 =>
  (vg M v0 23).bind fun _ =>
  (F_X22_count M v0).bind fun z4 =>
  (gi M v0 1472).bind fun t5 =>
  (F_X16_bytesOf_2 t5).bind fun z6 =>
  some (((8 : Int64) + ((2 : Int64) * z2.toInt64)) + (z4.toInt64 * z6.toInt64))
noncomputable def F_X19_number_b5_st (k5 : Mem → Nat → Int64 → Int32 → Option Mem) (M : Mem) (v0 : Nat) (v1 : Int64) (v4 : Int32) : Option Mem :=
  if v4 < 0 then
    some M
  else
    (vg M v0 20).bind fun _ =>
    (F_X19_add M v0 ((j_lshr v1 ((8 : Int32) * v4)).toInt32 &&& (255 : Int32))).bind fun z2 =>
    let v4_3 : Int32 := v4 + (-1 : Int32)
    k5 z2 v0 v1 v4_3
noncomputable def F_X19_number_b5  (n : Nat) : Mem → Nat → Int64 → Int32 → Option Mem :=
  Nat.rec (motive := fun _ => Mem → Nat → Int64 → Int32 → Option Mem) (fun _ _ _ _ => none) (fun _ ih => F_X19_number_b5_st ih) n
noncomputable def F_X19_number (M : Mem) (v0 : Nat) (v1 : Int64) (v3 : Int32) : Option Mem :=
  let v4_4 : Int32 := (v3 - (1 : Int32))
  F_X19_number_b5  xN M v0 v1 v4_4
noncomputable def F_X16_writeGrid_b78_st (k78 : Mem → Nat → Nat → Int32 → Int32 → Option Mem) (M : Mem) (v0 : Nat) (v1 : Nat) (v2 : Int32) (v3 : Int32) : Option Mem :=
  if v3 < v2 then
    (gr M v0 1126).bind fun t1 =>
    (vg M v1 23).bind fun _ =>
    (F_X22_cell M v1 v3).bind fun z3 =>
    (gi M v1 1472).bind fun t4 =>
    (F_X16_bytesOf_2 t4).bind fun z5 =>
    (vg M t1 20).bind fun _ =>
    (F_X19_number M t1 z3 z5).bind fun z7 =>
    let v3_8 : Int32 := v3 + (1 : Int32)
    k78 z7 v0 v1 v2 v3_8
  else
    some M
noncomputable def F_X16_writeGrid_b78  (n : Nat) : Mem → Nat → Nat → Int32 → Int32 → Option Mem :=
  Nat.rec (motive := fun _ => Mem → Nat → Nat → Int32 → Int32 → Option Mem) (fun _ _ _ _ _ => none) (fun _ ih => F_X16_writeGrid_b78_st ih) n
noncomputable def F_X16_writeGrid_b42_st (k42 : Mem → Nat → Nat → Int32 → Option Mem) (M : Mem) (v0 : Nat) (v1 : Nat) (v2 : Int32) : Option Mem :=
  (vg M v1 23).bind fun _ =>
  (F_X22_axes M v1).bind fun z10 =>
  if v2 < z10 then
    (gr M v0 1126).bind fun t11 =>
    (gr M v1 1473).bind fun t12 =>
    (ai M t12 v2).bind fun t13 =>
    (vg M t11 20).bind fun _ =>
    (F_X19_number M t11 (t13.toInt64) (2 : Int32)).bind fun z15 =>
    let v2_16 : Int32 := v2 + (1 : Int32)
    k42 z15 v0 v1 v2_16
  else
    (vg M v1 23).bind fun _ =>
    (F_X22_count M v1).bind fun z18 =>
    F_X16_writeGrid_b78  xN M v0 v1 z18 (0 : Int32)
noncomputable def F_X16_writeGrid_b42  (n : Nat) : Mem → Nat → Nat → Int32 → Option Mem :=
  Nat.rec (motive := fun _ => Mem → Nat → Nat → Int32 → Option Mem) (fun _ _ _ _ => none) (fun _ ih => F_X16_writeGrid_b42_st ih) n
noncomputable def F_X16_writeGrid (M : Mem) (v0 : Nat) (v1 : Nat) : Option Mem :=
  (gr M v0 1126).bind fun t19 =>
  (vg M t19 20).bind fun _ =>
  (F_X19_add M t19 (71 : Int32)).bind fun z21 =>
  (gr z21 v0 1126).bind fun t22 =>
  (vg z21 t22 20).bind fun _ =>
  (F_X19_add z21 t22 (82 : Int32)).bind fun z24 =>
  (gr z24 v0 1126).bind fun t25 =>
  (gi z24 v1 1472).bind fun t26 =>
  (vg z24 t25 20).bind fun _ =>
  (F_X19_add z24 t25 t26).bind fun z28 =>
  (gr z28 v0 1126).bind fun t29 =>
  (vg z28 v1 23).bind fun _ =>
  (F_X22_axes z28 v1).bind fun z31 =>
  (vg z28 t29 20).bind fun _ =>
  (F_X19_add z28 t29 z31).bind fun z33 =>
  F_X16_writeGrid_b42  xN z33 v0 v1 (0 : Int32)
noncomputable def F_X16_crc_b49 (k4 : Mem → Nat → Int32 → Int32 → Int32 → Option Int32) (k22 : Mem → Nat → Int32 → Int32 → Int32 → Int32 → Option Int32) (M : Mem) (s0 : Int32) (v0 : Nat) (v1 : Int32) (v3 : Int32) (v4 : Int32) : Option Int32 :=
  let v4_1 : Int32 := v4 + (1 : Int32)
  k22 M v0 v1 s0 v3 v4_1
noncomputable def F_X16_crc_b22_st (k4 : Mem → Nat → Int32 → Int32 → Int32 → Option Int32) (k22 : Mem → Nat → Int32 → Int32 → Int32 → Int32 → Option Int32) (M : Mem) (v0 : Nat) (v1 : Int32) (v2 : Int32) (v3 : Int32) (v4 : Int32) : Option Int32 :=
  if v4 < (8 : Int32) then
    if (v2 &&& (1 : Int32)) = (1 : Int32) then
      F_X16_crc_b49 k4 k22 M ((j_iushr v2 (1 : Int32)) ^^^ (-306674912 : Int32)) v0 v1 v3 v4
    else
      F_X16_crc_b49 k4 k22 M (j_iushr v2 (1 : Int32)) v0 v1 v3 v4
  else
    let v3_2 : Int32 := v3 + (1 : Int32)
    k4 M v0 v1 v2 v3_2
noncomputable def F_X16_crc_b22 (k4 : Mem → Nat → Int32 → Int32 → Int32 → Option Int32) (n : Nat) : Mem → Nat → Int32 → Int32 → Int32 → Int32 → Option Int32 :=
  Nat.rec (motive := fun _ => Mem → Nat → Int32 → Int32 → Int32 → Int32 → Option Int32) (fun _ _ _ _ _ _ => none) (fun _ ih => F_X16_crc_b22_st k4 ih) n
noncomputable def F_X16_crc_b4_st (k4 : Mem → Nat → Int32 → Int32 → Int32 → Option Int32) (M : Mem) (v0 : Nat) (v1 : Int32) (v2 : Int32) (v3 : Int32) : Option Int32 :=
  if v3 < v1 then
    (ab M v0 v3).bind fun t3 =>
    let v2_4 : Int32 := (v2 ^^^ (t3 &&& (255 : Int32)))
    F_X16_crc_b22 k4 xN M v0 v1 v2_4 v3 (0 : Int32)
  else
    some (v2 ^^^ (-1 : Int32))
noncomputable def F_X16_crc_b4  (n : Nat) : Mem → Nat → Int32 → Int32 → Int32 → Option Int32 :=
  Nat.rec (motive := fun _ => Mem → Nat → Int32 → Int32 → Int32 → Option Int32) (fun _ _ _ _ _ => none) (fun _ ih => F_X16_crc_b4_st ih) n
noncomputable def F_X16_crc (M : Mem) (v0 : Nat) (v1 : Int32) : Option Int32 :=
  F_X16_crc_b4  xN M v0 v1 (-1 : Int32) (0 : Int32)
noncomputable def F_X16_bytes (M : Mem) (v0 : Nat) (v1 : Int32) : Option (Int32 × Mem) :=
  (vg M v0 17).bind fun _ =>
  (F_X16_codeOf M v0 v1).bind fun z2 =>
  if 0 < z2 then
    (vg M v0 17).bind fun _ =>
    (F_X16_codeOf M v0 v1).bind fun z4 =>
    some ((-z4), M)
  else
    (gr M v0 1092).bind fun t5 =>
    (ar M t5 v1).bind fun t6 =>
    (F_X16_bytesOf M t6).bind fun z7 =>
    if (30000 : Int64) < z7 then
      some ((-12 : Int32), M)
    else
      (gr M v0 1126).bind fun t8 =>
      (pi M t8 1281 (0 : Int32)).bind fun M9 =>
      (gr M9 v0 1092).bind fun t10 =>
      (ar M9 t10 v1).bind fun t11 =>
      (vg M9 v0 17).bind fun _ =>
      (F_X16_writeGrid M9 v0 t11).bind fun z13 =>
      (gr z13 v0 1126).bind fun t14 =>
      (gr z13 v0 1126).bind fun t15 =>
      (gr z13 t15 1280).bind fun t16 =>
      (gr z13 v0 1126).bind fun t17 =>
      (gi z13 t17 1281).bind fun t18 =>
      (F_X16_crc z13 t16 t18).bind fun z19 =>
      (vg z13 t14 20).bind fun _ =>
      (F_X19_number z13 t14 (z19.toInt64) (4 : Int32)).bind fun z21 =>
      (vg z21 v0 17).bind fun _ =>
      (F_X16_told z21 v0).bind fun z23 =>
      some (z23.1, z23.2)
noncomputable def F_X16_bad (M : Mem) (v0 : Nat) (v1 : Int32) : Option (Nat × Mem) :=
  (gr M v0 1103).bind fun t1 =>
  (vg M t1 18).bind fun _ =>
  (F_X17_at M t1 (20 : Int32) v1).bind fun z3 =>
  some (z3.1, z3.2)
noncomputable def F_X16_headOf_b116  (M : Mem) (v0 : Nat) : Option ((Int32 × Mem) ⊕ (Nat × Mem)) :=
  (vg M v0 17).bind fun _ =>
  (F_X16_bad M v0 (2 : Int32)).bind fun z2 =>
  (ie z2.2 z2.1).bind fun _ => some (.inr (z2.1, z2.2))
noncomputable def F_X16_headOf_b135  (M : Mem) (v0 : Nat) : Option ((Int32 × Mem) ⊕ (Nat × Mem)) :=
  (vg M v0 17).bind fun _ =>
  (F_X16_bad M v0 (3 : Int32)).bind fun z4 =>
  (ie z4.2 z4.1).bind fun _ => some (.inr (z4.1, z4.2))
noncomputable def F_X16_headOf_b163_st (k163 : Mem → Nat → Nat → Int32 → Int32 → Int32 → Option ((Int32 × Mem) ⊕ (Nat × Mem))) (M : Mem) (v0 : Nat) (v1 : Nat) (v3 : Int32) (v6 : Int32) (v7 : Int32) : Option ((Int32 × Mem) ⊕ (Nat × Mem)) :=
  (gr M v0 1128).bind fun t5 =>
  (an M t5).bind fun t6 =>
  if v7 < t6 then
    if (v3 - v6) < (2 : Int32) then
      (vg M v0 17).bind fun _ =>
      (F_X16_bad M v0 v6).bind fun z8 =>
      (ie z8.2 z8.1).bind fun _ => some (.inr (z8.1, z8.2))
    else
      (gr M v0 1128).bind fun t9 =>
      (ab M v1 v6).bind fun t10 =>
      (ab M v1 (v6 + (1 : Int32))).bind fun t11 =>
      (si M t9 v7 ((j_ishl (t10 &&& (255 : Int32)) (8 : Int32)) ||| (t11 &&& (255 : Int32)))).bind fun M12 =>
      (gr M12 v0 1128).bind fun t13 =>
      (ai M12 t13 v7).bind fun t14 =>
      if (4096 : Int32) < t14 then
        (vg M12 v0 17).bind fun _ =>
        (F_X16_bad M12 v0 v6).bind fun z16 =>
        (ie z16.2 z16.1).bind fun _ => some (.inr (z16.1, z16.2))
      else
        let v6_17 : Int32 := v6 + (2 : Int32)
        let v7_18 : Int32 := v7 + (1 : Int32)
        k163 M12 v0 v1 v3 v6_17 v7_18
  else
    some (.inl (v6, M))
noncomputable def F_X16_headOf_b163  (n : Nat) : Mem → Nat → Nat → Int32 → Int32 → Int32 → Option ((Int32 × Mem) ⊕ (Nat × Mem)) :=
  Nat.rec (motive := fun _ => Mem → Nat → Nat → Int32 → Int32 → Int32 → Option ((Int32 × Mem) ⊕ (Nat × Mem))) (fun _ _ _ _ _ _ => none) (fun _ ih => F_X16_headOf_b163_st ih) n
noncomputable def F_X16_headOf_b26_st (k26 : Mem → Nat → Nat → Int32 → Int64 → Int32 → Option ((Int32 × Mem) ⊕ (Nat × Mem))) (M : Mem) (v0 : Nat) (v1 : Nat) (v3 : Int32) (v4 : Int64) (v6 : Int32) : Option ((Int32 × Mem) ⊕ (Nat × Mem)) :=
  if v6 < (4 : Int32) then
    (ab M v1 (v3 + v6)).bind fun t19 =>
    let v4_20 : Int64 := ((j_lshl v4 (8 : Int32)) ||| (t19 &&& (255 : Int32)).toInt64)
    let v6_21 : Int32 := v6 + (1 : Int32)
    k26 M v0 v1 v3 v4_20 v6_21
  else
    (F_X16_crc M v1 v3).bind fun z22 =>
    if v4.toInt32 = z22 then
      (ab M v1 (0 : Int32)).bind fun t23 =>
      if t23 = (71 : Int32) then
        (ab M v1 (1 : Int32)).bind fun t24 =>
        if t24 = (82 : Int32) then
          (ab M v1 (2 : Int32)).bind fun t25 =>
          if t25 < 0 then
            F_X16_headOf_b116  M v0
          else
            (ab M v1 (2 : Int32)).bind fun t26 =>
            if (7 : Int32) < t26 then
              F_X16_headOf_b116  M v0
            else
              (ab M v1 (3 : Int32)).bind fun t27 =>
              if t27 < 0 then
                F_X16_headOf_b135  M v0
              else
                (ab M v1 (3 : Int32)).bind fun t28 =>
                if (4 : Int32) < t28 then
                  F_X16_headOf_b135  M v0
                else
                  (ab M v1 (2 : Int32)).bind fun t29 =>
                  (pi M v0 1127 t29).bind fun M30 =>
                  (ab M30 v1 (3 : Int32)).bind fun t31 =>
                  (mk M30 1005 t31).bind fun M32 =>
                  (pr M32 v0 1128 (m_nx M30)).bind fun M33 =>
                  F_X16_headOf_b163  xN M33 v0 v1 v3 (4 : Int32) (0 : Int32)
        else
          (vg M v0 17).bind fun _ =>
          (F_X16_bad M v0 (1 : Int32)).bind fun z35 =>
          (ie z35.2 z35.1).bind fun _ => some (.inr (z35.1, z35.2))
      else
        (vg M v0 17).bind fun _ =>
        (F_X16_bad M v0 (0 : Int32)).bind fun z37 =>
        (ie z37.2 z37.1).bind fun _ => some (.inr (z37.1, z37.2))
    else
      (vg M v0 17).bind fun _ =>
      (F_X16_bad M v0 v3).bind fun z39 =>
      (ie z39.2 z39.1).bind fun _ => some (.inr (z39.1, z39.2))
noncomputable def F_X16_headOf_b26  (n : Nat) : Mem → Nat → Nat → Int32 → Int64 → Int32 → Option ((Int32 × Mem) ⊕ (Nat × Mem)) :=
  Nat.rec (motive := fun _ => Mem → Nat → Nat → Int32 → Int64 → Int32 → Option ((Int32 × Mem) ⊕ (Nat × Mem))) (fun _ _ _ _ _ _ => none) (fun _ ih => F_X16_headOf_b26_st ih) n
noncomputable def F_X16_headOf (M : Mem) (v0 : Nat) (v1 : Nat) (v2 : Int32) : Option ((Int32 × Mem) ⊕ (Nat × Mem)) :=
  let v3_40 : Int32 := (v2 - (4 : Int32))
  if v2 < (8 : Int32) then
    (F_J7_max (0 : Int32) v3_40).bind fun z41 =>
    (vg M v0 17).bind fun _ =>
    (F_X16_bad M v0 z41).bind fun z43 =>
    (ie z43.2 z43.1).bind fun _ => some (.inr (z43.1, z43.2))
  else
    F_X16_headOf_b26  xN M v0 v1 v3_40 (0 : Int64) (0 : Int32)
noncomputable def F_X16_cellsOf_b136 (k29 : Mem → Nat → Nat → Int32 → Int32 → Int64 → Int32 → Int64 → Option (Mem ⊕ (Nat × Mem))) (M : Mem) (v0 : Nat) (v1 : Nat) (v3 : Int32) (v4 : Int32) (v5 : Int64) (v7 : Int32) (v8 : Int64) (v10 : Int64) : Option (Mem ⊕ (Nat × Mem)) :=
  (gi M v0 1127).bind fun t1 =>
  (F_X16_hasBits t1 v10).bind fun z2 =>
  if z2 = 0 then
    (vg M v0 17).bind fun _ =>
    (F_X16_bad M v0 v7).bind fun z4 =>
    (ie z4.2 z4.1).bind fun _ => some (.inr (z4.1, z4.2))
  else
    (gr M v0 1100).bind fun t5 =>
    (sj M t5 (v8.toInt32) v10).bind fun M6 =>
    let v7_7 : Int32 := (v7 + v4)
    let v8_8 : Int64 := (v8 + (1 : Int64))
    k29 M6 v0 v1 v3 v4 v5 v7_7 v8_8
noncomputable def F_X16_cellsOf_b122 (k29 : Mem → Nat → Nat → Int32 → Int32 → Int64 → Int32 → Int64 → Option (Mem ⊕ (Nat × Mem))) (M : Mem) (v0 : Nat) (v1 : Nat) (v3 : Int32) (v4 : Int32) (v5 : Int64) (v7 : Int32) (v8 : Int64) (v10 : Int64) : Option (Mem ⊕ (Nat × Mem)) :=
  (gi M v0 1127).bind fun t9 =>
  if t9 = (4 : Int32) then
    let v10_10 : Int64 := (v10.toInt32).toInt64
    F_X16_cellsOf_b136 k29 M v0 v1 v3 v4 v5 v7 v8 v10_10
  else
    F_X16_cellsOf_b136 k29 M v0 v1 v3 v4 v5 v7 v8 v10
noncomputable def F_X16_cellsOf_b107 (k29 : Mem → Nat → Nat → Int32 → Int32 → Int64 → Int32 → Int64 → Option (Mem ⊕ (Nat × Mem))) (M : Mem) (v0 : Nat) (v1 : Nat) (v3 : Int32) (v4 : Int32) (v5 : Int64) (v7 : Int32) (v8 : Int64) (v10 : Int64) : Option (Mem ⊕ (Nat × Mem)) :=
  (gi M v0 1127).bind fun t11 =>
  if t11 = (2 : Int32) then
    let v10_12 : Int64 := (j_i2s (v10.toInt32)).toInt64
    F_X16_cellsOf_b122 k29 M v0 v1 v3 v4 v5 v7 v8 v10_12
  else
    F_X16_cellsOf_b122 k29 M v0 v1 v3 v4 v5 v7 v8 v10
noncomputable def F_X16_cellsOf_b59_st (k29 : Mem → Nat → Nat → Int32 → Int32 → Int64 → Int32 → Int64 → Option (Mem ⊕ (Nat × Mem))) (k59 : Mem → Nat → Nat → Int32 → Int32 → Int64 → Int32 → Int64 → Int64 → Int32 → Option (Mem ⊕ (Nat × Mem))) (M : Mem) (v0 : Nat) (v1 : Nat) (v3 : Int32) (v4 : Int32) (v5 : Int64) (v7 : Int32) (v8 : Int64) (v10 : Int64) (v12 : Int32) : Option (Mem ⊕ (Nat × Mem)) :=
  if v12 < v4 then
    (ab M v1 (v7 + v12)).bind fun t13 =>
    let v10_14 : Int64 := ((j_lshl v10 (8 : Int32)) ||| (t13 &&& (255 : Int32)).toInt64)
    let v12_15 : Int32 := v12 + (1 : Int32)
    k59 M v0 v1 v3 v4 v5 v7 v8 v10_14 v12_15
  else
    (gi M v0 1127).bind fun t16 =>
    if t16 = (1 : Int32) then
      let v10_17 : Int64 := (j_i2b (v10.toInt32)).toInt64
      F_X16_cellsOf_b107 k29 M v0 v1 v3 v4 v5 v7 v8 v10_17
    else
      F_X16_cellsOf_b107 k29 M v0 v1 v3 v4 v5 v7 v8 v10
noncomputable def F_X16_cellsOf_b59 (k29 : Mem → Nat → Nat → Int32 → Int32 → Int64 → Int32 → Int64 → Option (Mem ⊕ (Nat × Mem))) (n : Nat) : Mem → Nat → Nat → Int32 → Int32 → Int64 → Int32 → Int64 → Int64 → Int32 → Option (Mem ⊕ (Nat × Mem)) :=
  Nat.rec (motive := fun _ => Mem → Nat → Nat → Int32 → Int32 → Int64 → Int32 → Int64 → Int64 → Int32 → Option (Mem ⊕ (Nat × Mem))) (fun _ _ _ _ _ _ _ _ _ _ => none) (fun _ ih => F_X16_cellsOf_b59_st k29 ih) n
noncomputable def F_X16_cellsOf_b29_st (k29 : Mem → Nat → Nat → Int32 → Int32 → Int64 → Int32 → Int64 → Option (Mem ⊕ (Nat × Mem))) (M : Mem) (v0 : Nat) (v1 : Nat) (v3 : Int32) (v4 : Int32) (v5 : Int64) (v7 : Int32) (v8 : Int64) : Option (Mem ⊕ (Nat × Mem)) :=
  if v8 < v5 then
    if (v3 - v7) < v4 then
      (vg M v0 17).bind fun _ =>
      (F_X16_bad M v0 v7).bind fun z19 =>
      (ie z19.2 z19.1).bind fun _ => some (.inr (z19.1, z19.2))
    else
      F_X16_cellsOf_b59 k29 xN M v0 v1 v3 v4 v5 v7 v8 (0 : Int64) (0 : Int32)
  else
    if v7 < v3 then
      (vg M v0 17).bind fun _ =>
      (F_X16_bad M v0 v7).bind fun z21 =>
      (ie z21.2 z21.1).bind fun _ => some (.inr (z21.1, z21.2))
    else
      some (.inl M)
noncomputable def F_X16_cellsOf_b29  (n : Nat) : Mem → Nat → Nat → Int32 → Int32 → Int64 → Int32 → Int64 → Option (Mem ⊕ (Nat × Mem)) :=
  Nat.rec (motive := fun _ => Mem → Nat → Nat → Int32 → Int32 → Int64 → Int32 → Int64 → Option (Mem ⊕ (Nat × Mem))) (fun _ _ _ _ _ _ _ _ => none) (fun _ ih => F_X16_cellsOf_b29_st ih) n
noncomputable def F_X16_cellsOf (M : Mem) (v0 : Nat) (v1 : Nat) (v2 : Int32) (v3 : Int32) : Option (Mem ⊕ (Nat × Mem)) :=
  (gi M v0 1127).bind fun t22 =>
  (F_X16_bytesOf_2 t22).bind fun z23 =>
  (gr M v0 1128).bind fun t24 =>
  (gr M v0 1128).bind fun t25 =>
  (an M t25).bind fun t26 =>
  (F_X16_count M t24 t26).bind fun z27 =>
  F_X16_cellsOf_b29  xN M v0 v1 v3 z23 z27 v2 (0 : Int64)
noncomputable def F_X16_read_b45  (M : Mem) (s0 : Nat) (v0 : Nat) : Option (Int32 × Mem) :=
  (gr M v0 1103).bind fun t1 =>
  (gi M t1 1153).bind fun t2 =>
  (pi M v0 1091 t2).bind fun M3 =>
  some ((-20 : Int32), M3)
noncomputable def F_X16_read (M : Mem) (v0 : Nat) : Option (Int32 × Mem) :=
  (pi M v0 1091 (-1 : Int32)).bind fun M4 =>
  (gi M4 v0 1095).bind fun t5 =>
  if t5 = 0 then
    (vg M4 v0 17).bind fun _ =>
    (F_X16_used M4 v0).bind fun z7 =>
    (gr z7.2 v0 1088).bind fun t8 =>
    (vg z7.2 v0 17).bind fun _ =>
    tc (F_X16_headOf z7.2 v0 t8 z7.1) (fun z10 =>
      (gr z10.2 v0 1088).bind fun t12 =>
      (vg z10.2 v0 17).bind fun _ =>
      tc (F_X16_cellsOf z10.2 v0 t12 z10.1 (z7.1 - (4 : Int32))) (fun z14 =>
        (gi z14 v0 1127).bind fun t16 =>
        (gr z14 v0 1128).bind fun t17 =>
        (gr z14 v0 1100).bind fun t18 =>
        (vg z14 v0 17).bind fun _ =>
        (F_X16_madeIfRoom z14 v0 t16 t17 t18).bind fun z20 =>
        some (z20.1, z20.2))
        (fun z15 =>
          F_X16_read_b45  z15.2 z15.1 v0))
      (fun z11 =>
        F_X16_read_b45  z11.2 z11.1 v0)
  else
    some ((-13 : Int32), M4)
noncomputable def F_X16_isName_b11  (M : Mem) : Option Int32 :=
  some (0 : Int32)
noncomputable def F_X16_isName_b36  (M : Mem) : Option Int32 :=
  some (0 : Int32)
noncomputable def F_X16_isName_b15_st (k15 : Mem → Nat → Int32 → Int32 → Option Int32) (M : Mem) (v0 : Nat) (v1 : Int32) (v2 : Int32) : Option Int32 :=
  if v2 < v1 then
    (ab M v0 v2).bind fun t1 =>
    if t1 < (33 : Int32) then
      F_X16_isName_b36  M
    else
      (ab M v0 v2).bind fun t2 =>
      if (126 : Int32) < t2 then
        F_X16_isName_b36  M
      else
        let v2_3 : Int32 := v2 + (1 : Int32)
        k15 M v0 v1 v2_3
  else
    some (1 : Int32)
noncomputable def F_X16_isName_b15  (n : Nat) : Mem → Nat → Int32 → Int32 → Option Int32 :=
  Nat.rec (motive := fun _ => Mem → Nat → Int32 → Int32 → Option Int32) (fun _ _ _ _ => none) (fun _ ih => F_X16_isName_b15_st ih) n
noncomputable def F_X16_isName (M : Mem) (v0 : Nat) (v1 : Int32) : Option Int32 :=
  if v1 < (1 : Int32) then
    F_X16_isName_b11  M
  else
    if (20 : Int32) < v1 then
      F_X16_isName_b11  M
    else
      F_X16_isName_b15  xN M v0 v1 (0 : Int32)
noncomputable def F_X16_logNumber_b5_st (k5 : Mem → Nat → Int64 → Int32 → Option Mem) (M : Mem) (v0 : Nat) (v1 : Int64) (v4 : Int32) : Option Mem :=
  if v4 < 0 then
    some M
  else
    (gr M v0 1129).bind fun t1 =>
    (gi M v0 1131).bind fun t2 =>
    (sb M t1 t2 (j_i2b ((j_lshr v1 ((8 : Int32) * v4)).toInt32))).bind fun M3 =>
    (gi M3 v0 1131).bind fun t4 =>
    (pi M3 v0 1131 (t4 + (1 : Int32))).bind fun M5 =>
    let v4_6 : Int32 := v4 + (-1 : Int32)
    k5 M5 v0 v1 v4_6
noncomputable def F_X16_logNumber_b5  (n : Nat) : Mem → Nat → Int64 → Int32 → Option Mem :=
  Nat.rec (motive := fun _ => Mem → Nat → Int64 → Int32 → Option Mem) (fun _ _ _ _ => none) (fun _ ih => F_X16_logNumber_b5_st ih) n
noncomputable def F_X16_logNumber (M : Mem) (v0 : Nat) (v1 : Int64) (v3 : Int32) : Option Mem :=
  let v4_7 : Int32 := (v3 - (1 : Int32))
  F_X16_logNumber_b5  xN M v0 v1 v4_7
noncomputable def F_X16_keep_b88  (M : Mem) : Option (Int32 × Mem) :=
  some ((-12 : Int32), M)
noncomputable def F_X16_keep_b279_st (k279 : Mem → Nat → Int32 → Int32 → Option (Int32 × Mem)) (M : Mem) (v0 : Nat) (v5 : Int32) (v8 : Int32) : Option (Int32 × Mem) :=
  (gi M v0 1131).bind fun t1 =>
  if v8 < t1 then
    (gr M v0 1130).bind fun t2 =>
    (gr M v0 1129).bind fun t3 =>
    (ab M t3 v8).bind fun t4 =>
    (sb M t2 v8 t4).bind fun M5 =>
    let v8_6 : Int32 := v8 + (1 : Int32)
    k279 M5 v0 v5 v8_6
  else
    (gr M v0 1133).bind fun t7 =>
    (F_J19_valueOf M v5).bind fun z8 =>
    (vg z8.2 t7 67).bind fun _ =>
    (F_J6_add z8.2 t7 z8.1).bind fun z10 =>
    (gr z10.2 v0 1134).bind fun t11 =>
    (gi z10.2 v0 1131).bind fun t12 =>
    (F_J19_valueOf z10.2 (t12 - v5)).bind fun z13 =>
    (vg z13.2 t11 67).bind fun _ =>
    (F_J6_add z13.2 t11 z13.1).bind fun z15 =>
    (gi z15.2 v0 1131).bind fun t16 =>
    some (t16, z15.2)
noncomputable def F_X16_keep_b279  (n : Nat) : Mem → Nat → Int32 → Int32 → Option (Int32 × Mem) :=
  Nat.rec (motive := fun _ => Mem → Nat → Int32 → Int32 → Option (Int32 × Mem)) (fun _ _ _ _ => none) (fun _ ih => F_X16_keep_b279_st ih) n
noncomputable def F_X16_keep_b226_st (k226 : Mem → Nat → Int32 → Int64 → Int32 → Option (Int32 × Mem)) (M : Mem) (v0 : Nat) (v5 : Int32) (v6 : Int64) (v8 : Int32) : Option (Int32 × Mem) :=
  (gi M v0 1131).bind fun t17 =>
  if v8 < t17 then
    (gr M v0 1129).bind fun t18 =>
    (ab M t18 v8).bind fun t19 =>
    (F_J20_rotateLeft (v6 ^^^ (t19 &&& (255 : Int32)).toInt64) (27 : Int32)).bind fun z20 =>
    let v6_21 : Int64 := (z20 * (-7046029254386353131 : Int64))
    let v8_22 : Int32 := v8 + (1 : Int32)
    k226 M v0 v5 v6_21 v8_22
  else
    (vg M v0 17).bind fun _ =>
    (F_X16_logNumber M v0 v6 (8 : Int32)).bind fun z24 =>
    F_X16_keep_b279  xN z24 v0 v5 v5
noncomputable def F_X16_keep_b226  (n : Nat) : Mem → Nat → Int32 → Int64 → Int32 → Option (Int32 × Mem) :=
  Nat.rec (motive := fun _ => Mem → Nat → Int32 → Int64 → Int32 → Option (Int32 × Mem)) (fun _ _ _ _ _ => none) (fun _ ih => F_X16_keep_b226_st ih) n
noncomputable def F_X16_keep_b185_st (k185 : Mem → Nat → Int32 → Int32 → Option (Int32 × Mem)) (M : Mem) (v0 : Nat) (v5 : Int32) (v6 : Int32) : Option (Int32 × Mem) :=
  (gr M v0 1126).bind fun t25 =>
  (gi M t25 1281).bind fun t26 =>
  if v6 < t26 then
    (gr M v0 1126).bind fun t27 =>
    (gr M t27 1280).bind fun t28 =>
    (ab M t28 v6).bind fun t29 =>
    (vg M v0 17).bind fun _ =>
    (F_X16_logNumber M v0 (t29.toInt64) (1 : Int32)).bind fun z31 =>
    let v6_32 : Int32 := v6 + (1 : Int32)
    k185 z31 v0 v5 v6_32
  else
    F_X16_keep_b226  xN M v0 v5 (0 : Int64) v5
noncomputable def F_X16_keep_b185  (n : Nat) : Mem → Nat → Int32 → Int32 → Option (Int32 × Mem) :=
  Nat.rec (motive := fun _ => Mem → Nat → Int32 → Int32 → Option (Int32 × Mem)) (fun _ _ _ _ => none) (fun _ ih => F_X16_keep_b185_st ih) n
noncomputable def F_X16_keep_b157_st (k157 : Mem → Nat → Int32 → Int32 → Int32 → Option (Int32 × Mem)) (M : Mem) (v0 : Nat) (v2 : Int32) (v5 : Int32) (v6 : Int32) : Option (Int32 × Mem) :=
  if v6 < v2 then
    (gr M v0 1088).bind fun t33 =>
    (ab M t33 v6).bind fun t34 =>
    (vg M v0 17).bind fun _ =>
    (F_X16_logNumber M v0 (t34.toInt64) (1 : Int32)).bind fun z36 =>
    let v6_37 : Int32 := v6 + (1 : Int32)
    k157 z36 v0 v2 v5 v6_37
  else
    F_X16_keep_b185  xN M v0 v5 (0 : Int32)
noncomputable def F_X16_keep_b157  (n : Nat) : Mem → Nat → Int32 → Int32 → Int32 → Option (Int32 × Mem) :=
  Nat.rec (motive := fun _ => Mem → Nat → Int32 → Int32 → Int32 → Option (Int32 × Mem)) (fun _ _ _ _ _ => none) (fun _ ih => F_X16_keep_b157_st ih) n
noncomputable def F_X16_keep (M : Mem) (v0 : Nat) (v1 : Int32) : Option (Int32 × Mem) :=
  (gi M v0 1095).bind fun t38 =>
  if t38 = 0 then
    (vg M v0 17).bind fun _ =>
    (F_X16_used M v0).bind fun z40 =>
    (vg z40.2 v0 17).bind fun _ =>
    (F_X16_isGrid z40.2 v0 v1).bind fun z42 =>
    if z42 = 0 then
      some ((-14 : Int32), z40.2)
    else
      (gr z40.2 v0 1088).bind fun t43 =>
      (F_X16_isName z40.2 t43 z40.1).bind fun z44 =>
      if z44 = 0 then
        some ((-1 : Int32), z40.2)
      else
        (gr z40.2 v0 1092).bind fun t45 =>
        (ar z40.2 t45 v1).bind fun t46 =>
        (F_X16_bytesOf z40.2 t46).bind fun z47 =>
        let v3_48 : Int64 := ((((5 : Int32) + z40.1).toInt64 + z47) + (8 : Int64))
        (gr z40.2 v0 1092).bind fun t49 =>
        (ar z40.2 t49 v1).bind fun t50 =>
        (F_X16_bytesOf z40.2 t50).bind fun z51 =>
        if (30000 : Int64) < z51 then
          F_X16_keep_b88  z40.2
        else
          (gi z40.2 v0 1131).bind fun t52 =>
          if (60000 : Int64) < (t52.toInt64 + v3_48) then
            F_X16_keep_b88  z40.2
          else
            (gr z40.2 v0 1126).bind fun t53 =>
            (pi z40.2 t53 1281 (0 : Int32)).bind fun M54 =>
            (gr M54 v0 1092).bind fun t55 =>
            (ar M54 t55 v1).bind fun t56 =>
            (vg M54 v0 17).bind fun _ =>
            (F_X16_writeGrid M54 v0 t56).bind fun z58 =>
            (gr z58 v0 1126).bind fun t59 =>
            (gr z58 v0 1126).bind fun t60 =>
            (gr z58 t60 1280).bind fun t61 =>
            (gr z58 v0 1126).bind fun t62 =>
            (gi z58 t62 1281).bind fun t63 =>
            (F_X16_crc z58 t61 t63).bind fun z64 =>
            (vg z58 t59 20).bind fun _ =>
            (F_X19_number z58 t59 (z64.toInt64) (4 : Int32)).bind fun z66 =>
            (gi z66 v0 1131).bind fun t67 =>
            (vg z66 v0 17).bind fun _ =>
            (F_X16_logNumber z66 v0 v3_48 (4 : Int32)).bind fun z69 =>
            (vg z69 v0 17).bind fun _ =>
            (F_X16_logNumber z69 v0 (z40.1.toInt64) (1 : Int32)).bind fun z71 =>
            F_X16_keep_b157  xN z71 v0 z40.1 t67 (0 : Int32)
  else
    some ((-13 : Int32), M)
noncomputable def F_X16_isRecordOf_b34_st (k34 : Mem → Nat → Nat → Int32 → Int32 → Int32 → Option Int32) (M : Mem) (v0 : Nat) (v2 : Nat) (v3 : Int32) (v4 : Int32) (v5 : Int32) : Option Int32 :=
  if v5 < v3 then
    (gr M v0 1129).bind fun t1 =>
    (ab M t1 ((v4 + (5 : Int32)) + v5)).bind fun t2 =>
    (ab M v2 v5).bind fun t3 =>
    if t2 = t3 then
      let v5_4 : Int32 := v5 + (1 : Int32)
      k34 M v0 v2 v3 v4 v5_4
    else
      some (0 : Int32)
  else
    some (1 : Int32)
noncomputable def F_X16_isRecordOf_b34  (n : Nat) : Mem → Nat → Nat → Int32 → Int32 → Int32 → Option Int32 :=
  Nat.rec (motive := fun _ => Mem → Nat → Nat → Int32 → Int32 → Int32 → Option Int32) (fun _ _ _ _ _ _ => none) (fun _ ih => F_X16_isRecordOf_b34_st ih) n
noncomputable def F_X16_isRecordOf (M : Mem) (v0 : Nat) (v1 : Int32) (v2 : Nat) (v3 : Int32) : Option Int32 :=
  (gr M v0 1133).bind fun t5 =>
  (vg M t5 67).bind fun _ =>
  (F_J6_get M t5 v1).bind fun z7 =>
  (cc M z7 80).bind fun _ =>
  (vg M z7 80).bind fun _ =>
  (F_J19_intValue M z7).bind fun z9 =>
  (gr M v0 1129).bind fun t10 =>
  (ab M t10 (z9 + (4 : Int32))).bind fun t11 =>
  if t11 = v3 then
    F_X16_isRecordOf_b34  xN M v0 v2 v3 z9 (0 : Int32)
  else
    some (0 : Int32)
noncomputable def F_X16_open_b63  (M : Mem) : Option ((Int32 × Mem) ⊕ (Nat × Mem)) :=
  some (.inl ((-14 : Int32), M))
noncomputable def F_X16_open_b109_st (k109 : Mem → Nat → Int32 → Int32 → Int32 → Option ((Int32 × Mem) ⊕ (Nat × Mem))) (M : Mem) (v0 : Nat) (v3 : Int32) (v4 : Int32) (v5 : Int32) : Option ((Int32 × Mem) ⊕ (Nat × Mem)) :=
  if v5 < v4 then
    (gr M v0 1135).bind fun t1 =>
    (gr M v0 1129).bind fun t2 =>
    (ab M t2 (v3 + v5)).bind fun t3 =>
    (sb M t1 v5 t3).bind fun M4 =>
    let v5_5 : Int32 := v5 + (1 : Int32)
    k109 M4 v0 v3 v4 v5_5
  else
    (gr M v0 1135).bind fun t6 =>
    (gr M v0 1135).bind fun t7 =>
    (vg M v0 17).bind fun _ =>
    tb (F_X16_headOf M v0 t7 v4) fun z9 =>
    (vg z9.2 v0 17).bind fun _ =>
    tb (F_X16_cellsOf z9.2 v0 t6 z9.1 (v4 - (4 : Int32))) fun z11 =>
    (gi z11 v0 1127).bind fun t12 =>
    (gr z11 v0 1128).bind fun t13 =>
    (gr z11 v0 1100).bind fun t14 =>
    (vg z11 v0 17).bind fun _ =>
    (F_X16_madeIfRoom z11 v0 t12 t13 t14).bind fun z16 =>
    some (.inl (z16.1, z16.2))
noncomputable def F_X16_open_b109  (n : Nat) : Mem → Nat → Int32 → Int32 → Int32 → Option ((Int32 × Mem) ⊕ (Nat × Mem)) :=
  Nat.rec (motive := fun _ => Mem → Nat → Int32 → Int32 → Int32 → Option ((Int32 × Mem) ⊕ (Nat × Mem))) (fun _ _ _ _ _ => none) (fun _ ih => F_X16_open_b109_st ih) n
noncomputable def F_X16_open_b48  (M : Mem) (v0 : Nat) (v1 : Int32) (v2 : Int32) : Option ((Int32 × Mem) ⊕ (Nat × Mem)) :=
  if v2 < 0 then
    F_X16_open_b63  M
  else
    (gr M v0 1088).bind fun t17 =>
    (F_X16_isName M t17 v1).bind fun z18 =>
    if z18 = 0 then
      F_X16_open_b63  M
    else
      (gr M v0 1133).bind fun t19 =>
      (vg M t19 67).bind fun _ =>
      (F_J6_get M t19 v2).bind fun z21 =>
      (cc M z21 80).bind fun _ =>
      (vg M z21 80).bind fun _ =>
      (F_J19_intValue M z21).bind fun z23 =>
      let v3_24 : Int32 := ((z23 + (5 : Int32)) + v1)
      (gr M v0 1134).bind fun t25 =>
      (vg M t25 67).bind fun _ =>
      (F_J6_get M t25 v2).bind fun z27 =>
      (cc M z27 80).bind fun _ =>
      (vg M z27 80).bind fun _ =>
      (F_J19_intValue M z27).bind fun z29 =>
      let v4_30 : Int32 := ((z29 - (13 : Int32)) - v1)
      F_X16_open_b109  xN M v0 v3_24 v4_30 (0 : Int32)
noncomputable def F_X16_open_b25_st (k25 : Mem → Nat → Int32 → Int32 → Option ((Int32 × Mem) ⊕ (Nat × Mem))) (M : Mem) (v0 : Nat) (v1 : Int32) (v2 : Int32) : Option ((Int32 × Mem) ⊕ (Nat × Mem)) :=
  if v2 < 0 then
    F_X16_open_b48  M v0 v1 v2
  else
    (gr M v0 1088).bind fun t31 =>
    (vg M v0 17).bind fun _ =>
    (F_X16_isRecordOf M v0 v2 t31 v1).bind fun z33 =>
    if z33 = 0 then
      let v2_34 : Int32 := v2 + (-1 : Int32)
      k25 M v0 v1 v2_34
    else
      F_X16_open_b48  M v0 v1 v2
noncomputable def F_X16_open_b25  (n : Nat) : Mem → Nat → Int32 → Int32 → Option ((Int32 × Mem) ⊕ (Nat × Mem)) :=
  Nat.rec (motive := fun _ => Mem → Nat → Int32 → Int32 → Option ((Int32 × Mem) ⊕ (Nat × Mem))) (fun _ _ _ _ => none) (fun _ ih => F_X16_open_b25_st ih) n
noncomputable def F_X16_open (M : Mem) (v0 : Nat) : Option ((Int32 × Mem) ⊕ (Nat × Mem)) :=
  (gi M v0 1095).bind fun t35 =>
  if t35 = 0 then
    (vg M v0 17).bind fun _ =>
    (F_X16_used M v0).bind fun z37 =>
    (gr z37.2 v0 1133).bind fun t38 =>
    (vg z37.2 t38 67).bind fun _ =>
    (F_J6_size z37.2 t38).bind fun z40 =>
    let v2_41 : Int32 := (z40 - (1 : Int32))
    F_X16_open_b25  xN z37.2 v0 z37.1 v2_41
  else
    some (.inl ((-13 : Int32), M))
noncomputable def F_X16_logged (M : Mem) (v0 : Nat) : Option Int32 :=
  (gi M v0 1131).bind fun t1 =>
  some t1
noncomputable def F_X16_poke_b19  (M : Mem) : Option (Int32 × Mem) :=
  some ((0 : Int32), M)
noncomputable def F_X16_poke (M : Mem) (v0 : Nat) (v1 : Int32) (v2 : Int32) : Option (Int32 × Mem) :=
  (gi M v0 1095).bind fun t1 =>
  if t1 = 0 then
    F_X16_poke_b19  M
  else
    if v1 < 0 then
      F_X16_poke_b19  M
    else
      (gi M v0 1131).bind fun t2 =>
      if v1 < t2 then
        (gr M v0 1129).bind fun t3 =>
        (gr M v0 1129).bind fun t4 =>
        (ab M t4 v1).bind fun t5 =>
        (sb M t3 v1 (j_i2b (t5 ^^^ v2))).bind fun M6 =>
        some ((1 : Int32), M6)
      else
        F_X16_poke_b19  M
noncomputable def F_X16_crash_b11  (M : Mem) : Option (Int32 × Mem) :=
  some ((0 : Int32), M)
noncomputable def F_X16_crash_b122_st (k122 : Mem → Nat → Int32 → Option (Int32 × Mem)) (M : Mem) (v0 : Nat) (v3 : Int32) : Option (Int32 × Mem) :=
  if v3 < (8 : Int32) then
    (gr M v0 1107).bind fun t1 =>
    (si M t1 v3 (0 : Int32)).bind fun M2 =>
    let v3_3 : Int32 := v3 + (1 : Int32)
    k122 M2 v0 v3_3
  else
    (pi M v0 1098 (0 : Int32)).bind fun M4 =>
    (pi M4 v0 1099 (0 : Int32)).bind fun M5 =>
    (pi M5 v0 1102 (0 : Int32)).bind fun M6 =>
    (pi M6 v0 1117 (-1 : Int32)).bind fun M7 =>
    (pi M7 v0 1113 (0 : Int32)).bind fun M8 =>
    (pi M8 v0 1091 (-1 : Int32)).bind fun M9 =>
    (gr M9 v0 1125).bind fun t10 =>
    (pi M9 t10 1281 (0 : Int32)).bind fun M11 =>
    some ((1 : Int32), M11)
noncomputable def F_X16_crash_b122  (n : Nat) : Mem → Nat → Int32 → Option (Int32 × Mem) :=
  Nat.rec (motive := fun _ => Mem → Nat → Int32 → Option (Int32 × Mem)) (fun _ _ _ => none) (fun _ ih => F_X16_crash_b122_st ih) n
noncomputable def F_X16_crash_b88_st (k88 : Mem → Nat → Int32 → Option (Int32 × Mem)) (M : Mem) (v0 : Nat) (v3 : Int32) : Option (Int32 × Mem) :=
  (gi M v0 1123).bind fun t12 =>
  if t12 < v3 then
    let t14 : Nat := m_nx M
    let M13 : Mem := mo M 67
    (ng M13 t14).bind fun _ =>
    (F_J6_init_2 M13 t14).bind fun z16 =>
    (pr z16 v0 1105 t14).bind fun M17 =>
    F_X16_crash_b122  xN M17 v0 (0 : Int32)
  else
    (gr M v0 1122).bind fun t18 =>
    (sr M t18 v3 0).bind fun M19 =>
    let v3_20 : Int32 := v3 + (1 : Int32)
    k88 M19 v0 v3_20
noncomputable def F_X16_crash_b88  (n : Nat) : Mem → Nat → Int32 → Option (Int32 × Mem) :=
  Nat.rec (motive := fun _ => Mem → Nat → Int32 → Option (Int32 × Mem)) (fun _ _ _ => none) (fun _ ih => F_X16_crash_b88_st ih) n
noncomputable def F_X16_crash_b65_st (k65 : Mem → Nat → Int32 → Option (Int32 × Mem)) (M : Mem) (v0 : Nat) (v3 : Int32) : Option (Int32 × Mem) :=
  (gi M v0 1093).bind fun t21 =>
  if t21 < v3 then
    F_X16_crash_b88  xN M v0 (1 : Int32)
  else
    (gr M v0 1092).bind fun t22 =>
    (sr M t22 v3 0).bind fun M23 =>
    let v3_24 : Int32 := v3 + (1 : Int32)
    k65 M23 v0 v3_24
noncomputable def F_X16_crash_b65  (n : Nat) : Mem → Nat → Int32 → Option (Int32 × Mem) :=
  Nat.rec (motive := fun _ => Mem → Nat → Int32 → Option (Int32 × Mem)) (fun _ _ _ => none) (fun _ ih => F_X16_crash_b65_st ih) n
noncomputable def F_X16_crash_b58  (M : Mem) (v0 : Nat) : Option (Int32 × Mem) :=
  (pi M v0 1095 (1 : Int32)).bind fun M25 =>
  F_X16_crash_b65  xN M25 v0 (1 : Int32)
noncomputable def F_X16_crash (M : Mem) (v0 : Nat) (v1 : Int32) : Option (Int32 × Mem) :=
  (gi M v0 1095).bind fun t26 =>
  if t26 = 0 then
    if v1 < 0 then
      F_X16_crash_b11  M
    else
      (gr M v0 1133).bind fun t27 =>
      (vg M t27 67).bind fun _ =>
      (F_J6_size M t27).bind fun z29 =>
      let v2_30 : Int32 := (z29 - (1 : Int32))
      if v2_30 < 0 then
        F_X16_crash_b58  M v0
      else
        (gi M v0 1131).bind fun t31 =>
        (gr M v0 1133).bind fun t32 =>
        (vg M t32 67).bind fun _ =>
        (F_J6_get M t32 v2_30).bind fun z34 =>
        (cc M z34 80).bind fun _ =>
        (vg M z34 80).bind fun _ =>
        (F_J19_intValue M z34).bind fun z36 =>
        (F_J7_min (t31.toInt64) (z36.toInt64 + v1.toInt64)).bind fun z37 =>
        (pi M v0 1131 (z37.toInt32)).bind fun M38 =>
        F_X16_crash_b58  M38 v0
  else
    F_X16_crash_b11  M
noncomputable def F_X16_isSameName_b56_st (k56 : Mem → Nat → Int32 → Int32 → Int32 → Option Int32) (M : Mem) (v0 : Nat) (v3 : Int32) (v4 : Int32) (v5 : Int32) : Option Int32 :=
  (gr M v0 1129).bind fun t1 =>
  (ab M t1 (v3 + (4 : Int32))).bind fun t2 =>
  if v5 < t2 then
    (gr M v0 1129).bind fun t3 =>
    (ab M t3 ((v3 + (5 : Int32)) + v5)).bind fun t4 =>
    (gr M v0 1129).bind fun t5 =>
    (ab M t5 ((v4 + (5 : Int32)) + v5)).bind fun t6 =>
    if t4 = t6 then
      let v5_7 : Int32 := v5 + (1 : Int32)
      k56 M v0 v3 v4 v5_7
    else
      some (0 : Int32)
  else
    some (1 : Int32)
noncomputable def F_X16_isSameName_b56  (n : Nat) : Mem → Nat → Int32 → Int32 → Int32 → Option Int32 :=
  Nat.rec (motive := fun _ => Mem → Nat → Int32 → Int32 → Int32 → Option Int32) (fun _ _ _ _ _ => none) (fun _ ih => F_X16_isSameName_b56_st ih) n
noncomputable def F_X16_isSameName (M : Mem) (v0 : Nat) (v1 : Int32) (v2 : Int32) : Option Int32 :=
  (gr M v0 1133).bind fun t8 =>
  (vg M t8 67).bind fun _ =>
  (F_J6_get M t8 v1).bind fun z10 =>
  (cc M z10 80).bind fun _ =>
  (vg M z10 80).bind fun _ =>
  (F_J19_intValue M z10).bind fun z12 =>
  (gr M v0 1133).bind fun t13 =>
  (vg M t13 67).bind fun _ =>
  (F_J6_get M t13 v2).bind fun z15 =>
  (cc M z15 80).bind fun _ =>
  (vg M z15 80).bind fun _ =>
  (F_J19_intValue M z15).bind fun z17 =>
  (gr M v0 1129).bind fun t18 =>
  (ab M t18 (z12 + (4 : Int32))).bind fun t19 =>
  (gr M v0 1129).bind fun t20 =>
  (ab M t20 (z17 + (4 : Int32))).bind fun t21 =>
  if t19 = t21 then
    F_X16_isSameName_b56  xN M v0 z12 z17 (0 : Int32)
  else
    some (0 : Int32)
