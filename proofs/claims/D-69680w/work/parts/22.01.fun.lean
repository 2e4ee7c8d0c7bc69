/-! ===== functions: GENERATED ===== -/
noncomputable def F_X6_operand_b15_st (k15 : Mem → Nat → Int32 → Nat → Int32 → Int32 → Option Int64) (M : Mem) (v0 : Nat) (v1 : Int32) (v2 : Nat) (v3 : Int32) (v4 : Int32) : Option Int64 :=
  (gi M v0 457).bind fun t1 =>
  if v4 < t1 then
    (gr M v0 458).bind fun t2 =>
    (ai M t2 v4).bind fun t3 =>
    (gr M v0 460).bind fun t4 =>
    (ai M t4 (((4 : Int32) * v1) + v4)).bind fun t5 =>
    let v3_6 : Int32 := (v3 + (t3 * t5))
    let v4_7 : Int32 := v4 + (1 : Int32)
    k15 M v0 v1 v2 v3_6 v4_7
  else
    (gr M v2 1413).bind fun t8 =>
    (al M t8 v3).bind fun t9 =>
    some t9
noncomputable def F_X6_operand_b15  (n : Nat) : Mem → Nat → Int32 → Nat → Int32 → Int32 → Option Int64 :=
  Nat.rec (motive := fun _ => Mem → Nat → Int32 → Nat → Int32 → Int32 → Option Int64) (fun _ _ _ _ _ _ => none) (fun _ ih => F_X6_operand_b15_st ih) n
noncomputable def F_X6_operand (M : Mem) (v0 : Nat) (v1 : Int32) : Option Int64 :=
  (gr M v0 459).bind fun t10 =>
  (ar M t10 v1).bind fun t11 =>
  (gi M t11 1412).bind fun t12 =>
  F_X6_operand_b15  xN M v0 v1 t11 t12 (0 : Int32)
noncomputable def F_X6_pop (M : Mem) (v0 : Nat) : Option (Int64 × Mem) :=
  (gi M v0 451).bind fun t1 =>
  (pi M v0 451 (t1 - (1 : Int32))).bind fun M2 =>
  (gr M2 v0 450).bind fun t3 =>
  (gi M2 v0 451).bind fun t4 =>
  (al M2 t3 t4).bind fun t5 =>
  some (t5, M2)
noncomputable def F_X6_step (M : Mem) (v0 : Nat) : Option (Mem ⊕ (Nat × Mem)) :=
  (gi M v0 461).bind fun t1 =>
  if t1 = (400000 : Int32) then
    (gr M v0 449).bind fun t2 =>
    (vg M t2 2).bind fun _ =>
    (F_X1_with M t2 (10 : Int32)).bind fun z4 =>
    (ie z4.2 z4.1).bind fun _ => some (.inr (z4.1, z4.2))
  else
    (gi M v0 461).bind fun t5 =>
    (pi M v0 461 (t5 + (1 : Int32))).bind fun M6 =>
    some (.inl M6)
noncomputable def F_X23_isEndless_b21  (s0 : Int32) : Option Int32 :=
  some (s0 &&& 1)
noncomputable def F_X23_isEndless_b16   : Option Int32 :=
  F_X23_isEndless_b21  (1 : Int32)
noncomputable def F_X23_isEndless (v0 : UInt64) : Option Int32 :=
  if 0 < (j_dcmp v0 (9218868437227405311 : UInt64) .l) then
    F_X23_isEndless_b16  
  else
    if (j_dcmp v0 (18442240474082181119 : UInt64) .g) < 0 then
      F_X23_isEndless_b16  
    else
      F_X23_isEndless_b21  (0 : Int32)
noncomputable def F_X23_hasNone_b159  (s0 : Int32) : Option Int32 :=
  some (s0 &&& 1)
noncomputable def F_X23_hasNone_b154   : Option Int32 :=
  F_X23_hasNone_b159  (1 : Int32)
noncomputable def F_X23_hasNone_b68  (s0 : Int32) : Option Int32 :=
  some (s0 &&& 1)
noncomputable def F_X23_hasNone_b67   : Option Int32 :=
  F_X23_hasNone_b68  (0 : Int32)
noncomputable def F_X23_hasNone_b85  (s0 : Int32) : Option Int32 :=
  some (s0 &&& 1)
noncomputable def F_X23_hasNone_b84   : Option Int32 :=
  F_X23_hasNone_b85  (0 : Int32)
noncomputable def F_X23_hasNone_b117  (s0 : Int32) : Option Int32 :=
  some (s0 &&& 1)
noncomputable def F_X23_hasNone_b116   : Option Int32 :=
  F_X23_hasNone_b117  (0 : Int32)
noncomputable def F_X23_hasNone_b112   : Option Int32 :=
  F_X23_hasNone_b117  (1 : Int32)
noncomputable def F_X23_hasNone_b99  (v1 : UInt64) (v3 : UInt64) : Option Int32 :=
  if (j_dcmp v1 (0 : UInt64) .l) = 0 then
    (F_X23_isEndless v3).bind fun z1 =>
    if z1 = 0 then
      F_X23_hasNone_b116  
    else
      F_X23_hasNone_b112  
  else
    F_X23_hasNone_b116  
noncomputable def F_X23_hasNone_b140  (s0 : Int32) : Option Int32 :=
  some (s0 &&& 1)
noncomputable def F_X23_hasNone_b135   : Option Int32 :=
  F_X23_hasNone_b140  (1 : Int32)
noncomputable def F_X23_hasNone_b139   : Option Int32 :=
  F_X23_hasNone_b140  (0 : Int32)
noncomputable def F_X23_hasNone_b19  (s0 : Int32) (v0 : Int32) (v1 : UInt64) (v3 : UInt64) : Option Int32 :=
  if v0 = (1 : Int32) then
    if s0 = 0 then
      F_X23_hasNone_b67  
    else
      if (j_dcmp v1 v3 .l) = 0 then
        F_X23_hasNone_b67  
      else
        F_X23_hasNone_b68  (1 : Int32)
  else
    if v0 = (2 : Int32) then
      if s0 = 0 then
        F_X23_hasNone_b84  
      else
        if (j_dcmp v1 v3 .l) = 0 then
          F_X23_hasNone_b85  (1 : Int32)
        else
          F_X23_hasNone_b84  
    else
      if v0 = (3 : Int32) then
        (F_X23_isEndless v1).bind fun z2 =>
        if z2 = 0 then
          F_X23_hasNone_b99  v1 v3
        else
          if (j_dcmp v3 (0 : UInt64) .l) = 0 then
            F_X23_hasNone_b112  
          else
            F_X23_hasNone_b99  v1 v3
      else
        if v0 = (4 : Int32) then
          if s0 = 0 then
            if (j_dcmp v1 (0 : UInt64) .l) = 0 then
              if (j_dcmp v3 (0 : UInt64) .l) = 0 then
                F_X23_hasNone_b135  
              else
                F_X23_hasNone_b139  
            else
              F_X23_hasNone_b139  
          else
            F_X23_hasNone_b135  
        else
          (F_X23_isEndless v1).bind fun z3 =>
          if z3 = 0 then
            if (j_dcmp v3 (0 : UInt64) .l) = 0 then
              F_X23_hasNone_b154  
            else
              F_X23_hasNone_b159  (0 : Int32)
          else
            F_X23_hasNone_b154  
noncomputable def F_X23_hasNone_b18  (v0 : Int32) (v1 : UInt64) (v3 : UInt64) : Option Int32 :=
  F_X23_hasNone_b19  (0 : Int32) v0 v1 v3
noncomputable def F_X23_hasNone (v0 : Int32) (v1 : UInt64) (v3 : UInt64) : Option Int32 :=
  (F_X23_isEndless v1).bind fun z4 =>
  if z4 = 0 then
    F_X23_hasNone_b18  v0 v1 v3
  else
    (F_X23_isEndless v3).bind fun z5 =>
    if z5 = 0 then
      F_X23_hasNone_b18  v0 v1 v3
    else
      F_X23_hasNone_b19  (1 : Int32) v0 v1 v3
noncomputable def F_X23_floating (v0 : Int32) (v1 : Int32) (v2 : UInt64) (v4 : UInt64) : Option UInt64 :=
  if v1 = (6 : Int32) then
    let t1 : UInt32 := FP.d2f v2
    if x_n32 t1 = true then
      let t2 : UInt32 := FP.d2f v4
      if x_n32 t2 = true then
        if v0 = (1 : Int32) then
          let t3 : UInt32 := FP.fadd t1 t2
          if x_n32 t3 = true then
            let t4 : UInt64 := FP.f2d t3
            if x_n64 t4 = true then
              some t4
            else none
          else none
        else
          if v0 = (2 : Int32) then
            let t5 : UInt32 := FP.fsub t1 t2
            if x_n32 t5 = true then
              let t6 : UInt64 := FP.f2d t5
              if x_n64 t6 = true then
                some t6
              else none
            else none
          else
            if v0 = (3 : Int32) then
              let t7 : UInt32 := FP.fmul t1 t2
              if x_n32 t7 = true then
                let t8 : UInt64 := FP.f2d t7
                if x_n64 t8 = true then
                  some t8
                else none
              else none
            else
              if v0 = (4 : Int32) then
                let t9 : UInt32 := FP.fdiv t1 t2
                if x_n32 t9 = true then
                  let t10 : UInt64 := FP.f2d t9
                  if x_n64 t10 = true then
                    some t10
                  else none
                else none
              else
                let t11 : UInt32 := FP.frem t1 t2
                if x_n32 t11 = true then
                  let t12 : UInt64 := FP.f2d t11
                  if x_n64 t12 = true then
                    some t12
                  else none
                else none
      else none
    else none
  else
    if v0 = (1 : Int32) then
      let t13 : UInt64 := FP.dadd v2 v4
      if x_n64 t13 = true then
        some t13
      else none
    else
      if v0 = (2 : Int32) then
        let t14 : UInt64 := FP.dsub v2 v4
        if x_n64 t14 = true then
          some t14
        else none
      else
        if v0 = (3 : Int32) then
          let t15 : UInt64 := FP.dmul v2 v4
          if x_n64 t15 = true then
            some t15
          else none
        else
          if v0 = (4 : Int32) then
            let t16 : UInt64 := FP.ddiv v2 v4
            if x_n64 t16 = true then
              some t16
            else none
          else
            let t17 : UInt64 := FP.drem v2 v4
            if x_n64 t17 = true then
              some t17
            else none
noncomputable def F_X23_arithmetic_b171  (M : Mem) (s0 : Int64) : Option ((Int64 × Mem) ⊕ (Nat × Mem)) :=
  some (.inl (s0, M))
noncomputable def F_X23_arithmetic_b153  (M : Mem) (s0 : Int64) : Option ((Int64 × Mem) ⊕ (Nat × Mem)) :=
  some (.inl (s0, M))
noncomputable def F_X23_arithmetic_b74  (M : Mem) (v0 : Int32) (v1 : Int32) (v2 : Int64) (v4 : Int64) : Option ((Int64 × Mem) ⊕ (Nat × Mem)) :=
  if v0 = (1 : Int32) then
    (F_X23_cut v1 (v2 + v4)).bind fun z1 =>
    some (.inl (z1, M))
  else
    if v0 = (2 : Int32) then
      (F_X23_cut v1 (v2 - v4)).bind fun z2 =>
      some (.inl (z2, M))
    else
      if v0 = (3 : Int32) then
        (F_X23_cut v1 (v2 * v4)).bind fun z3 =>
        some (.inl (z3, M))
      else
        if v0 = (4 : Int32) then
          if v4 = (-1 : Int64) then
            (F_X23_cut v1 (-v2)).bind fun z4 =>
            F_X23_arithmetic_b153  M z4
          else
            if v4 = 0 then none else
            F_X23_arithmetic_b153  M (v2 / v4)
        else
          if v4 = (-1 : Int64) then
            F_X23_arithmetic_b171  M (0 : Int64)
          else
            if v4 = 0 then none else
            F_X23_arithmetic_b171  M (j_lrem v2 v4)
noncomputable def F_X23_arithmetic (M : Mem) (v0 : Int32) (v1 : Int32) (v2 : Int64) (v4 : Int64) (v6 : Nat) : Option ((Int64 × Mem) ⊕ (Nat × Mem)) :=
  if v1 < (6 : Int32) then
    if v0 < (4 : Int32) then
      F_X23_arithmetic_b74  M v0 v1 v2 v4
    else
      if v4 = (0 : Int64) then
        (vg M v6 2).bind fun _ =>
        (F_X1_with M v6 (8 : Int32)).bind fun z6 =>
        (ie z6.2 z6.1).bind fun _ => some (.inr (z6.1, z6.2))
      else
        F_X23_arithmetic_b74  M v0 v1 v2 v4
  else
    (F_X23_real v1 v2).bind fun z7 =>
    (F_X23_real v1 v4).bind fun z8 =>
    (F_X23_hasNone v0 z7 z8).bind fun z9 =>
    if z9 = 0 then
      (F_X23_floating v0 v1 z7 z8).bind fun z10 =>
      (F_X23_bits v1 z10).bind fun z11 =>
      some (.inl (z11, M))
    else
      (vg M v6 2).bind fun _ =>
      (F_X1_with M v6 (8 : Int32)).bind fun z13 =>
      (ie z13.2 z13.1).bind fun _ => some (.inr (z13.1, z13.2))
noncomputable def F_X23_shift_b62  (s0 : Int64) : Option Int64 :=
  some s0
noncomputable def F_X23_shift_b15  (s0 : Int32) (s1 : Int32) (v0 : Int32) (v1 : Int32) (v2 : Int64) : Option Int64 :=
  let v6_1 : Int32 := (s0 &&& s1)
  if v0 = (6 : Int32) then
    (F_X23_cut v1 (j_lshl v2 v6_1)).bind fun z2 =>
    some z2
  else
    if v0 = (7 : Int32) then
      some (j_lshr v2 v6_1)
    else
      if v1 = (5 : Int32) then
        F_X23_shift_b62  (j_lushr v2 v6_1)
      else
        F_X23_shift_b62  ((j_iushr (v2.toInt32) v6_1).toInt64)
noncomputable def F_X23_shift (v0 : Int32) (v1 : Int32) (v2 : Int64) (v4 : Int64) : Option Int64 :=
  if v1 = (5 : Int32) then
    F_X23_shift_b15  (v4.toInt32) (63 : Int32) v0 v1 v2
  else
    F_X23_shift_b15  (v4.toInt32) (31 : Int32) v0 v1 v2
noncomputable def F_X23_compare_b51  (s0 : Int32) : Option Int32 :=
  some s0
noncomputable def F_X23_compare (v0 : Int32) (v1 : Int64) (v3 : Int64) : Option Int32 :=
  if v0 < (6 : Int32) then
    (F_J20_compare v1 v3).bind fun z1 =>
    some z1
  else
    (F_X23_real v0 v1).bind fun z2 =>
    (F_X23_real v0 v3).bind fun z3 =>
    if (j_dcmp z2 z3 .g) < 0 then
      F_X23_compare_b51  (-1 : Int32)
    else
      if 0 < (j_dcmp z2 z3 .l) then
        F_X23_compare_b51  (1 : Int32)
      else
        F_X23_compare_b51  (0 : Int32)
noncomputable def F_X23_holds_b95  (s0 : Int32) : Option Int32 :=
  some (s0 &&& 1)
noncomputable def F_X23_holds_b45  (s0 : Int32) : Option Int32 :=
  some (s0 &&& 1)
noncomputable def F_X23_holds_b55  (s0 : Int32) : Option Int32 :=
  some (s0 &&& 1)
noncomputable def F_X23_holds_b65  (s0 : Int32) : Option Int32 :=
  some (s0 &&& 1)
noncomputable def F_X23_holds_b75  (s0 : Int32) : Option Int32 :=
  some (s0 &&& 1)
noncomputable def F_X23_holds_b85  (s0 : Int32) : Option Int32 :=
  some (s0 &&& 1)
noncomputable def F_X23_holds (v0 : Int32) (v1 : Int32) : Option Int32 :=
  if v0 = (9 : Int32) then
    if v1 < 0 then
      F_X23_holds_b45  (1 : Int32)
    else
      F_X23_holds_b45  (0 : Int32)
  else
    if v0 = (10 : Int32) then
      if 0 < v1 then
        F_X23_holds_b55  (1 : Int32)
      else
        F_X23_holds_b55  (0 : Int32)
    else
      if v0 = (11 : Int32) then
        if 0 < v1 then
          F_X23_holds_b65  (0 : Int32)
        else
          F_X23_holds_b65  (1 : Int32)
      else
        if v0 = (12 : Int32) then
          if v1 < 0 then
            F_X23_holds_b75  (0 : Int32)
          else
            F_X23_holds_b75  (1 : Int32)
        else
          if v0 = (13 : Int32) then
            if v1 = 0 then
              F_X23_holds_b85  (1 : Int32)
            else
              F_X23_holds_b85  (0 : Int32)
          else
            if v1 = 0 then
              F_X23_holds_b95  (0 : Int32)
            else
              F_X23_holds_b95  (1 : Int32)
noncomputable def F_X6_two_b85  (M : Mem) (s0 : Int64) : Option ((Int64 × Mem) ⊕ (Nat × Mem)) :=
  some (.inl (s0, M))
noncomputable def F_X6_two (M : Mem) (v0 : Nat) (v1 : Int32) (v2 : Int32) (v3 : Int64) (v5 : Int64) : Option ((Int64 × Mem) ⊕ (Nat × Mem)) :=
  if (5 : Int32) < v1 then
    if (8 : Int32) < v1 then
      if v1 = (15 : Int32) then
        some (.inl ((v3 &&& v5), M))
      else
        if v1 = (17 : Int32) then
          some (.inl ((v3 ||| v5), M))
        else
          if v1 = (16 : Int32) then
            some (.inl ((v3 ^^^ v5), M))
          else
            (F_X23_compare v2 v3 v5).bind fun z1 =>
            (F_X23_holds v1 z1).bind fun z2 =>
            if z2 = 0 then
              F_X6_two_b85  M (0 : Int64)
            else
              F_X6_two_b85  M (1 : Int64)
    else
      (F_X23_shift v1 v2 v3 v5).bind fun z3 =>
      some (.inl (z3, M))
  else
    (gr M v0 449).bind fun t4 =>
    tb (F_X23_arithmetic M v1 v2 v3 v5 t4) fun z5 =>
    some (.inl (z5.1, z5.2))
noncomputable def F_X49_root_b14  (v0 : UInt64) : Option UInt64 :=
  some v0
noncomputable def F_X49_root_b255_st (k255 : UInt64 → Int32 → Option UInt64) (v16 : UInt64) (v18 : Int32) : Option UInt64 :=
  if 0 < v18 then
    let t1 : UInt64 := FP.dmul v16 (4611686018427387904 : UInt64)
    if x_n64 t1 = true then
      let v18_2 : Int32 := v18 + (-1 : Int32)
      k255 t1 v18_2
    else none
  else
    some v16
noncomputable def F_X49_root_b255  (n : Nat) : UInt64 → Int32 → Option UInt64 :=
  Nat.rec (motive := fun _ => UInt64 → Int32 → Option UInt64) (fun _ _ => none) (fun _ ih => F_X49_root_b255_st ih) n
noncomputable def F_X49_root_b229_st (k229 : Int32 → UInt64 → Int32 → Option UInt64) (v4 : Int32) (v16 : UInt64) (v18 : Int32) : Option UInt64 :=
  if v18 < 0 then
    let t3 : UInt64 := FP.ddiv v16 (4611686018427387904 : UInt64)
    if x_n64 t3 = true then
      let v18_4 : Int32 := v18 + (1 : Int32)
      k229 v4 t3 v18_4
    else none
  else
    let v18_5 : Int32 := (v4 - (25 : Int32))
    F_X49_root_b255  xN v16 v18_5
noncomputable def F_X49_root_b229  (n : Nat) : Int32 → UInt64 → Int32 → Option UInt64 :=
  Nat.rec (motive := fun _ => Int32 → UInt64 → Int32 → Option UInt64) (fun _ _ _ => none) (fun _ ih => F_X49_root_b229_st ih) n
noncomputable def F_X49_root_b219  (s0 : Int64) (v4 : Int32) : Option UInt64 :=
  let v16_6 : UInt64 := (FP.l2d s0)
  let v18_7 : Int32 := (v4 - (25 : Int32))
  F_X49_root_b229  xN v4 v16_6 v18_7
noncomputable def F_X49_root_b203  (s0 : Int32) (v4 : Int32) (v11 : Int64) : Option UInt64 :=
  if s0 = 0 then
    F_X49_root_b219  v11 v4
  else
    F_X49_root_b219  (v11 + (1 : Int64)) v4
noncomputable def F_X49_root_b198  (v4 : Int32) (v11 : Int64) : Option UInt64 :=
  F_X49_root_b203  (1 : Int32) v4 v11
noncomputable def F_X49_root_b202  (v4 : Int32) (v11 : Int64) : Option UInt64 :=
  F_X49_root_b203  (0 : Int32) v4 v11
noncomputable def F_X49_root_b144 (k75 : Int32 → Int64 → Int64 → Int64 → Int32 → Option UInt64) (v4 : Int32) (v5 : Int64) (v7 : Int64) (v9 : Int64) (v11 : Int32) : Option UInt64 :=
  let v11_8 : Int32 := v11 + (-1 : Int32)
  k75 v4 v5 v7 v9 v11_8
noncomputable def F_X49_root_b106 (k75 : Int32 → Int64 → Int64 → Int64 → Int32 → Option UInt64) (s0 : Int64) (s1 : Int64) (v4 : Int32) (v5 : Int64) (v9 : Int64) (v11 : Int32) : Option UInt64 :=
  let v7_9 : Int64 := (s0 ||| s1)
  let v12_10 : Int64 := ((j_lshl v9 (2 : Int32)) ||| (1 : Int64))
  let v9_11 : Int64 := (j_lshl v9 (1 : Int32))
  if v7_9 < v12_10 then
    F_X49_root_b144 k75 v4 v5 v7_9 v9_11 v11
  else
    let v7_12 : Int64 := (v7_9 - v12_10)
    let v9_13 : Int64 := (v9_11 ||| (1 : Int64))
    F_X49_root_b144 k75 v4 v5 v7_12 v9_13 v11
noncomputable def F_X49_root_b75_st (k75 : Int32 → Int64 → Int64 → Int64 → Int32 → Option UInt64) (v4 : Int32) (v5 : Int64) (v7 : Int64) (v9 : Int64) (v11 : Int32) : Option UInt64 :=
  if (-28 : Int32) < v11 then
    if v11 < 0 then
      F_X49_root_b106 k75 (j_lshl v7 (2 : Int32)) (0 : Int64) v4 v5 v9 v11
    else
      F_X49_root_b106 k75 (j_lshl v7 (2 : Int32)) ((j_lshr v5 ((2 : Int32) * v11)) &&& (3 : Int64)) v4 v5 v9 v11
  else
    let v11_14 : Int64 := (j_lshr v9 (2 : Int32))
    let v13_15 : Int64 := (v9 &&& (3 : Int64))
    if v13_15 = (3 : Int64) then
      F_X49_root_b198  v4 v11_14
    else
      if v13_15 = (2 : Int64) then
        if (0 : Int64) < v7 then
          F_X49_root_b198  v4 v11_14
        else
          if (v11_14 &&& (1 : Int64)) = (1 : Int64) then
            F_X49_root_b198  v4 v11_14
          else
            F_X49_root_b202  v4 v11_14
      else
        F_X49_root_b202  v4 v11_14
noncomputable def F_X49_root_b75  (n : Nat) : Int32 → Int64 → Int64 → Int64 → Int32 → Option UInt64 :=
  Nat.rec (motive := fun _ => Int32 → Int64 → Int64 → Int64 → Int32 → Option UInt64) (fun _ _ _ _ _ => none) (fun _ ih => F_X49_root_b75_st ih) n
noncomputable def F_X49_root_b41_st (k41 : UInt64 → Int32 → Option UInt64) (v2 : UInt64) (v4 : Int32) : Option UInt64 :=
  if (j_dcmp v2 (4859383997932765184 : UInt64) .l) < 0 then
    let v5_16 : Int64 := (FP.d2l v2)
    F_X49_root_b75  xN v4 v5_16 (0 : Int64) (0 : Int64) (27 : Int32)
  else
    let t17 : UInt64 := FP.ddiv v2 (4616189618054758400 : UInt64)
    if x_n64 t17 = true then
      let v4_18 : Int32 := v4 + (1 : Int32)
      k41 t17 v4_18
    else none
noncomputable def F_X49_root_b41  (n : Nat) : UInt64 → Int32 → Option UInt64 :=
  Nat.rec (motive := fun _ => UInt64 → Int32 → Option UInt64) (fun _ _ => none) (fun _ ih => F_X49_root_b41_st ih) n
noncomputable def F_X49_root_b21_st (k21 : UInt64 → Int32 → Option UInt64) (v2 : UInt64) (v4 : Int32) : Option UInt64 :=
  if (j_dcmp v2 (4850376798678024192 : UInt64) .g) < 0 then
    let t19 : UInt64 := FP.dmul v2 (4616189618054758400 : UInt64)
    if x_n64 t19 = true then
      let v4_20 : Int32 := v4 + (-1 : Int32)
      k21 t19 v4_20
    else none
  else
    F_X49_root_b41  xN v2 v4
noncomputable def F_X49_root_b21  (n : Nat) : UInt64 → Int32 → Option UInt64 :=
  Nat.rec (motive := fun _ => UInt64 → Int32 → Option UInt64) (fun _ _ => none) (fun _ ih => F_X49_root_b21_st ih) n
noncomputable def F_X49_root (v0 : UInt64) : Option UInt64 :=
  if (j_dcmp v0 (0 : UInt64) .l) = 0 then
    F_X49_root_b14  v0
  else
    if 0 < (j_dcmp v0 (9218868437227405311 : UInt64) .l) then
      F_X49_root_b14  v0
    else
      F_X49_root_b21  xN v0 (0 : Int32)
noncomputable def F_X37_real_b57  (M : Mem) (v1 : UInt64) : Option ((UInt64 × Mem) ⊕ (Nat × Mem)) :=
  some (.inl (v1, M))
noncomputable def F_X37_real_b120  (M : Mem) (s0 : UInt64) : Option ((UInt64 × Mem) ⊕ (Nat × Mem)) :=
  some (.inl (s0, M))
noncomputable def F_X37_real_b118  (M : Mem) (v4 : UInt64) : Option ((UInt64 × Mem) ⊕ (Nat × Mem)) :=
  F_X37_real_b120  M v4
noncomputable def F_X37_real_b86  (M : Mem) (s0 : UInt64) : Option ((UInt64 × Mem) ⊕ (Nat × Mem)) :=
  some (.inl (s0, M))
noncomputable def F_X37_real (M : Mem) (v0 : Int32) (v1 : UInt64) (v3 : Nat) : Option ((UInt64 × Mem) ⊕ (Nat × Mem)) :=
  if v0 = (11 : Int32) then
    if (j_dcmp v1 (0 : UInt64) .g) < 0 then
      (vg M v3 2).bind fun _ =>
      (F_X1_with M v3 (8 : Int32)).bind fun z2 =>
      (ie z2.2 z2.1).bind fun _ => some (.inr (z2.1, z2.2))
    else
      (F_X49_root v1).bind fun z3 =>
      some (.inl (z3, M))
  else
    if v0 = (14 : Int32) then
      (F_X20_nearest v1).bind fun z4 =>
      some (.inl (z4, M))
    else
      if (j_dcmp v1 (0 : UInt64) .l) = 0 then
        F_X37_real_b57  M v1
      else
        if (j_dcmp v1 (4841369599423283200 : UInt64) .l) < 0 then
          if 0 < (j_dcmp v1 (14064741636278059008 : UInt64) .g) then
            let v4_5 : UInt64 := (FP.l2d (FP.d2l v1))
            if v0 = (12 : Int32) then
              if 0 < (j_dcmp v4_5 v1 .l) then
                let t6 : UInt64 := FP.dsub v4_5 (4607182418800017408 : UInt64)
                if x_n64 t6 = true then
                  F_X37_real_b86  M t6
                else none
              else
                F_X37_real_b86  M v4_5
            else
              if (j_dcmp v4_5 v1 .g) < 0 then
                let t7 : UInt64 := FP.dadd v4_5 (4607182418800017408 : UInt64)
                if x_n64 t7 = true then
                  some (.inl (t7, M))
                else none
              else
                if (j_dcmp v4_5 (0 : UInt64) .l) = 0 then
                  if (j_dcmp v1 (0 : UInt64) .g) < 0 then
                    F_X37_real_b120  M (9223372036854775808 : UInt64)
                  else
                    F_X37_real_b118  M v4_5
                else
                  F_X37_real_b118  M v4_5
          else
            F_X37_real_b57  M v1
        else
          F_X37_real_b57  M v1
noncomputable def F_X37_sign_b24  (s0 : Int64) : Option Int64 :=
  some s0
noncomputable def F_X37_sign (v0 : Int32) (v1 : Int64) : Option Int64 :=
  (F_X23_compare v0 v1 (0 : Int64)).bind fun z1 =>
  if v0 < (6 : Int32) then
    F_X37_sign_b24  (z1.toInt64)
  else
    (F_X23_bits v0 (FP.i2d z1)).bind fun z2 =>
    F_X37_sign_b24  z2
noncomputable def F_X23_order_b25  (v5 : Int32) : Option Int32 :=
  some v5
noncomputable def F_X23_order_b53  (s0 : Int32) : Option Int32 :=
  some s0
noncomputable def F_X23_order_b48   : Option Int32 :=
  F_X23_order_b53  (-1 : Int32)
noncomputable def F_X23_order_b52   : Option Int32 :=
  F_X23_order_b53  (1 : Int32)
noncomputable def F_X23_order (v0 : Int32) (v1 : Int64) (v3 : Int64) : Option Int32 :=
  (F_X23_compare v0 v1 v3).bind fun z1 =>
  if z1 = 0 then
    if v0 < (6 : Int32) then
      F_X23_order_b25  z1
    else
      if v1 = v3 then
        F_X23_order_b25  z1
      else
        if v1 < (0 : Int64) then
          F_X23_order_b48  
        else
          if v0 = (6 : Int32) then
            if v1 = (2147483648 : Int64) then
              F_X23_order_b48  
            else
              F_X23_order_b52  
          else
            F_X23_order_b52  
  else
    F_X23_order_b25  z1
noncomputable def F_X37_floors_b100  (M : Mem) (s0 : Int64) : Option ((Int64 × Mem) ⊕ (Nat × Mem)) :=
  some (.inl (s0, M))
noncomputable def F_X37_floors_b84  (M : Mem) (s0 : Int64) : Option ((Int64 × Mem) ⊕ (Nat × Mem)) :=
  some (.inl (s0, M))
noncomputable def F_X37_floors_b63  (M : Mem) (s0 : Int32) (v0 : Int32) (v4 : Int64) (v7 : Int64) (v9 : Int64) : Option ((Int64 × Mem) ⊕ (Nat × Mem)) :=
  if v0 = (4 : Int32) then
    if s0 = 0 then
      F_X37_floors_b84  M v7
    else
      F_X37_floors_b84  M (v7 - (1 : Int64))
  else
    if s0 = 0 then
      F_X37_floors_b100  M v9
    else
      F_X37_floors_b100  M (v9 + v4)
noncomputable def F_X37_floors_b62  (M : Mem) (v0 : Int32) (v4 : Int64) (v7 : Int64) (v9 : Int64) : Option ((Int64 × Mem) ⊕ (Nat × Mem)) :=
  F_X37_floors_b63  M (0 : Int32) v0 v4 v7 v9
noncomputable def F_X37_floors_b55  (M : Mem) (s0 : Int32) (s1 : Int32) (v0 : Int32) (v4 : Int64) (v7 : Int64) (v9 : Int64) : Option ((Int64 × Mem) ⊕ (Nat × Mem)) :=
  if s0 = s1 then
    F_X37_floors_b62  M v0 v4 v7 v9
  else
    F_X37_floors_b63  M (1 : Int32) v0 v4 v7 v9
noncomputable def F_X37_floors_b43  (M : Mem) (s0 : Int32) (v0 : Int32) (v4 : Int64) (v7 : Int64) (v9 : Int64) : Option ((Int64 × Mem) ⊕ (Nat × Mem)) :=
  if v4 < (0 : Int64) then
    F_X37_floors_b55  M s0 (1 : Int32) v0 v4 v7 v9
  else
    F_X37_floors_b55  M s0 (0 : Int32) v0 v4 v7 v9
noncomputable def F_X37_floors (M : Mem) (v0 : Int32) (v1 : Int32) (v2 : Int64) (v4 : Int64) (v6 : Nat) : Option ((Int64 × Mem) ⊕ (Nat × Mem)) :=
  tb (F_X23_arithmetic M (4 : Int32) v1 v2 v4 v6) fun z1 =>
  tb (F_X23_arithmetic z1.2 (5 : Int32) v1 v2 v4 v6) fun z2 =>
  if z2.1 = (0 : Int64) then
    F_X37_floors_b62  z2.2 v0 v4 z1.1 z2.1
  else
    if z2.1 < (0 : Int64) then
      F_X37_floors_b43  z2.2 (1 : Int32) v0 v4 z1.1 z2.1
    else
      F_X37_floors_b43  z2.2 (0 : Int32) v0 v4 z1.1 z2.1
noncomputable def F_X37_ones_b5_st (k5 : Int64 → Int64 → Int32 → Option Int64) (v0 : Int64) (v2 : Int64) (v4 : Int32) : Option Int64 :=
  if v4 < (64 : Int32) then
    let v2_1 : Int64 := (v2 + ((j_lshr v0 v4) &&& (1 : Int64)))
    let v4_2 : Int32 := v4 + (1 : Int32)
    k5 v0 v2_1 v4_2
  else
    some v2
noncomputable def F_X37_ones_b5  (n : Nat) : Int64 → Int64 → Int32 → Option Int64 :=
  Nat.rec (motive := fun _ => Int64 → Int64 → Int32 → Option Int64) (fun _ _ _ => none) (fun _ ih => F_X37_ones_b5_st ih) n
noncomputable def F_X37_ones (v0 : Int64) : Option Int64 :=
  F_X37_ones_b5  xN v0 (0 : Int64) (0 : Int32)
noncomputable def F_X37_highest_b23  (v2 : Int32) : Option Int64 :=
  some (v2.toInt64)
noncomputable def F_X37_highest_b3_st (k3 : Int64 → Int32 → Option Int64) (v0 : Int64) (v2 : Int32) : Option Int64 :=
  if v2 < 0 then
    F_X37_highest_b23  v2
  else
    if ((j_lshr v0 v2) &&& (1 : Int64)) = (0 : Int64) then
      let v2_1 : Int32 := v2 + (-1 : Int32)
      k3 v0 v2_1
    else
      F_X37_highest_b23  v2
noncomputable def F_X37_highest_b3  (n : Nat) : Int64 → Int32 → Option Int64 :=
  Nat.rec (motive := fun _ => Int64 → Int32 → Option Int64) (fun _ _ => none) (fun _ ih => F_X37_highest_b3_st ih) n
noncomputable def F_X37_highest (v0 : Int64) : Option Int64 :=
  F_X37_highest_b3  xN v0 (63 : Int32)
noncomputable def F_X37_exact_b158  (M : Mem) (v6 : Nat) (v7 : Int64) (v9 : Int32) : Option ((Int64 × Mem) ⊕ (Nat × Mem)) :=
  if v9 = 0 then
    (vg M v6 2).bind fun _ =>
    (F_X1_with M v6 (8 : Int32)).bind fun z2 =>
    (ie z2.2 z2.1).bind fun _ => some (.inr (z2.1, z2.2))
  else
    some (.inl (v7, M))
noncomputable def F_X37_exact_b156  (M : Mem) (s0 : Int32) (v6 : Nat) (v7 : Int64) : Option ((Int64 × Mem) ⊕ (Nat × Mem)) :=
  F_X37_exact_b158  M v6 v7 s0
noncomputable def F_X37_exact_b151  (M : Mem) (v6 : Nat) (v7 : Int64) : Option ((Int64 × Mem) ⊕ (Nat × Mem)) :=
  F_X37_exact_b156  M (1 : Int32) v6 v7
noncomputable def F_X37_exact_b155  (M : Mem) (v6 : Nat) (v7 : Int64) : Option ((Int64 × Mem) ⊕ (Nat × Mem)) :=
  F_X37_exact_b156  M (0 : Int32) v6 v7
noncomputable def F_X37_exact_b141  (M : Mem) (v2 : Int64) (v4 : Int64) (v6 : Nat) (v7 : Int64) : Option ((Int64 × Mem) ⊕ (Nat × Mem)) :=
  if v2 = 0 then none else
  if (v7 / v2) = v4 then
    F_X37_exact_b151  M v6 v7
  else
    F_X37_exact_b155  M v6 v7
noncomputable def F_X37_exact_b113  (M : Mem) (s0 : Int32) (v6 : Nat) (v7 : Int64) : Option ((Int64 × Mem) ⊕ (Nat × Mem)) :=
  F_X37_exact_b158  M v6 v7 s0
noncomputable def F_X37_exact_b83  (M : Mem) (s0 : Int32) (v6 : Nat) (v7 : Int64) : Option ((Int64 × Mem) ⊕ (Nat × Mem)) :=
  F_X37_exact_b158  M v6 v7 s0
noncomputable def F_X37_exact_b52  (M : Mem) (s0 : Int32) (v6 : Nat) (v7 : Int64) : Option ((Int64 × Mem) ⊕ (Nat × Mem)) :=
  F_X37_exact_b158  M v6 v7 s0
noncomputable def F_X37_exact_b30  (M : Mem) (s0 : Int64) (v0 : Int32) (v1 : Int32) (v2 : Int64) (v4 : Int64) (v6 : Nat) : Option ((Int64 × Mem) ⊕ (Nat × Mem)) :=
  if v1 = (4 : Int32) then
    if s0 = (s0.toInt32).toInt64 then
      F_X37_exact_b52  M (1 : Int32) v6 s0
    else
      F_X37_exact_b52  M (0 : Int32) v6 s0
  else
    if v0 = (6 : Int32) then
      if ((v2 ^^^ s0) &&& (v4 ^^^ s0)) < (0 : Int64) then
        F_X37_exact_b83  M (0 : Int32) v6 s0
      else
        F_X37_exact_b83  M (1 : Int32) v6 s0
    else
      if v0 = (7 : Int32) then
        if ((v2 ^^^ v4) &&& (v2 ^^^ s0)) < (0 : Int64) then
          F_X37_exact_b113  M (0 : Int32) v6 s0
        else
          F_X37_exact_b113  M (1 : Int32) v6 s0
      else
        if v2 = (0 : Int64) then
          F_X37_exact_b151  M v6 s0
        else
          if v2 = (-1 : Int64) then
            if v4 = (-9223372036854775808 : Int64) then
              F_X37_exact_b155  M v6 s0
            else
              F_X37_exact_b141  M v2 v4 v6 s0
          else
            F_X37_exact_b141  M v2 v4 v6 s0
noncomputable def F_X37_exact (M : Mem) (v0 : Int32) (v1 : Int32) (v2 : Int64) (v4 : Int64) (v6 : Nat) : Option ((Int64 × Mem) ⊕ (Nat × Mem)) :=
  if v0 = (6 : Int32) then
    F_X37_exact_b30  M (v2 + v4) v0 v1 v2 v4 v6
  else
    if v0 = (7 : Int32) then
      F_X37_exact_b30  M (v2 - v4) v0 v1 v2 v4 v6
    else
      F_X37_exact_b30  M (v2 * v4) v0 v1 v2 v4 v6
noncomputable def F_X37_work_b217  (M : Mem) (v0 : Int32) (v1 : Int32) (v2 : Int64) (v4 : Int64) (v6 : Nat) : Option ((Int64 × Mem) ⊕ (Nat × Mem)) :=
  tb (F_X37_exact M v0 v1 v2 v4 v6) fun z1 =>
  some (.inl (z1.1, z1.2))
noncomputable def F_X37_work_b129  (M : Mem) (s0 : Int64) : Option ((Int64 × Mem) ⊕ (Nat × Mem)) :=
  some (.inl (s0, M))
noncomputable def F_X37_work_b106  (M : Mem) (s0 : Int64) (s1 : Int64) : Option ((Int64 × Mem) ⊕ (Nat × Mem)) :=
  F_X37_work_b129  M (s0 &&& s1)
noncomputable def F_X37_work_b152  (M : Mem) (s0 : Int64) : Option ((Int64 × Mem) ⊕ (Nat × Mem)) :=
  some (.inl (s0, M))
noncomputable def F_X37_work_b169  (M : Mem) (s0 : Int64) : Option ((Int64 × Mem) ⊕ (Nat × Mem)) :=
  some (.inl (s0, M))
noncomputable def F_X37_work_b170  (M : Mem) (v0 : Int32) (v1 : Int32) (v2 : Int64) (v4 : Int64) (v6 : Nat) : Option ((Int64 × Mem) ⊕ (Nat × Mem)) :=
  tb (F_X37_floors M v0 v1 v2 v4 v6) fun z2 =>
  some (.inl (z2.1, z2.2))
noncomputable def F_X37_work_b195  (M : Mem) (s0 : Int64) : Option ((Int64 × Mem) ⊕ (Nat × Mem)) :=
  (F_X37_ones s0).bind fun z3 =>
  some (.inl (z3, M))
noncomputable def F_X37_work_b213  (M : Mem) (s0 : Int64) : Option ((Int64 × Mem) ⊕ (Nat × Mem)) :=
  (F_X37_highest s0).bind fun z4 =>
  some (.inl (z4, M))
noncomputable def F_X37_work (M : Mem) (v0 : Int32) (v1 : Int32) (v2 : Int64) (v4 : Int64) (v6 : Nat) : Option ((Int64 × Mem) ⊕ (Nat × Mem)) :=
  if v0 < (11 : Int32) then
    if v0 = (0 : Int32) then
      if v1 < (6 : Int32) then
        if v2 < (0 : Int64) then
          tb (F_X23_arithmetic M (2 : Int32) v1 (0 : Int64) v2 v6) fun z5 =>
          F_X37_work_b129  z5.2 z5.1
        else
          F_X37_work_b129  M v2
      else
        if v1 = (6 : Int32) then
          F_X37_work_b106  M v2 (2147483647 : Int64)
        else
          F_X37_work_b106  M v2 (9223372036854775807 : Int64)
    else
      if v0 = (1 : Int32) then
        (F_X37_sign v1 v2).bind fun z6 =>
        some (.inl (z6, M))
      else
        if v0 = (2 : Int32) then
          (F_X23_order v1 v2 v4).bind fun z7 =>
          if 0 < z7 then
            F_X37_work_b152  M v4
          else
            F_X37_work_b152  M v2
        else
          if v0 = (3 : Int32) then
            (F_X23_order v1 v2 v4).bind fun z8 =>
            if z8 < 0 then
              F_X37_work_b169  M v4
            else
              F_X37_work_b169  M v2
          else
            if v0 = (4 : Int32) then
              F_X37_work_b170  M v0 v1 v2 v4 v6
            else
              if v0 = (5 : Int32) then
                F_X37_work_b170  M v0 v1 v2 v4 v6
              else
                if v0 = (6 : Int32) then
                  F_X37_work_b217  M v0 v1 v2 v4 v6
                else
                  if v0 = (7 : Int32) then
                    F_X37_work_b217  M v0 v1 v2 v4 v6
                  else
                    if v0 = (8 : Int32) then
                      F_X37_work_b217  M v0 v1 v2 v4 v6
                    else
                      if v0 = (9 : Int32) then
                        if v1 = (4 : Int32) then
                          F_X37_work_b195  M (v2 &&& (4294967295 : Int64))
                        else
                          F_X37_work_b195  M v2
                      else
                        if v0 = (10 : Int32) then
                          if v1 = (4 : Int32) then
                            F_X37_work_b213  M (v2 &&& (4294967295 : Int64))
                          else
                            F_X37_work_b213  M v2
                        else
                          F_X37_work_b217  M v0 v1 v2 v4 v6
  else
    (F_X23_real (7 : Int32) v2).bind fun z9 =>
    tb (F_X37_real M v0 z9 v6) fun z10 =>
    (F_X23_bits (7 : Int32) z10.1).bind fun z11 =>
    some (.inl (z11, z10.2))
noncomputable def F_X6_work_b178  (M : Mem) (s0 : Int64) (v0 : Nat) (v2 : Nat) (v3 : Int32) (v4 : Int64) : Option ((Int32 × Mem) ⊕ (Nat × Mem)) :=
  (vg M v0 7).bind fun _ =>
  tb (F_X6_step M v0) fun z2 =>
  (ai z2 v2 (v3 + (1 : Int32))).bind fun t3 =>
  (ai z2 v2 (v3 + (2 : Int32))).bind fun t4 =>
  (gr z2 v0 449).bind fun t5 =>
  tb (F_X37_work z2 t3 t4 s0 v4 t5) fun z6 =>
  (vg z6.2 v0 7).bind fun _ =>
  (F_X6_push z6.2 v0 z6.1).bind fun z8 =>
  some (.inl ((3 : Int32), z8))
noncomputable def F_X6_work_b88  (M : Mem) (s0 : Nat) (s1 : Int64) : Option ((Int32 × Mem) ⊕ (Nat × Mem)) :=
  (vg M s0 7).bind fun _ =>
  (F_X6_push M s0 s1).bind fun z10 =>
  some (.inl ((2 : Int32), z10))
noncomputable def F_X6_work (M : Mem) (v0 : Nat) (v1 : Int32) (v2 : Nat) (v3 : Int32) : Option ((Int32 × Mem) ⊕ (Nat × Mem)) :=
  (vg M v0 7).bind fun _ =>
  (F_X6_pop M v0).bind fun z12 =>
  if v1 = (5 : Int32) then
    (vg z12.2 v0 7).bind fun _ =>
    tb (F_X6_step z12.2 v0) fun z14 =>
    (ai z14 v2 (v3 + (1 : Int32))).bind fun t15 =>
    if t15 < (6 : Int32) then
      if t15 = (4 : Int32) then
        F_X6_work_b88  z14 v0 (((-z12.1).toInt32).toInt64)
      else
        F_X6_work_b88  z14 v0 (-z12.1)
    else
      (F_X23_real t15 z12.1).bind fun z16 =>
      (F_X23_bits t15 (FP.dneg z16)).bind fun z17 =>
      F_X6_work_b88  z14 v0 z17
  else
    if v1 = (6 : Int32) then
      (vg z12.2 v0 7).bind fun _ =>
      tb (F_X6_step z12.2 v0) fun z19 =>
      (vg z19 v0 7).bind fun _ =>
      (F_X6_push z19 v0 (z12.1 ^^^ (-1 : Int64))).bind fun z21 =>
      some (.inl ((1 : Int32), z21))
    else
      if v1 = (7 : Int32) then
        (vg z12.2 v0 7).bind fun _ =>
        tb (F_X6_step z12.2 v0) fun z23 =>
        (vg z23 v0 7).bind fun _ =>
        (F_X6_push z23 v0 ((1 : Int64) - z12.1)).bind fun z25 =>
        some (.inl ((1 : Int32), z25))
      else
        if v1 = (8 : Int32) then
          (vg z12.2 v0 7).bind fun _ =>
          (F_X6_pop z12.2 v0).bind fun z27 =>
          (vg z27.2 v0 7).bind fun _ =>
          tb (F_X6_step z27.2 v0) fun z29 =>
          (ai z29 v2 (v3 + (1 : Int32))).bind fun t30 =>
          (ai z29 v2 (v3 + (2 : Int32))).bind fun t31 =>
          (vg z29 v0 7).bind fun _ =>
          tb (F_X6_two z29 v0 t30 t31 z27.1 z12.1) fun z33 =>
          (vg z33.2 v0 7).bind fun _ =>
          (F_X6_push z33.2 v0 z33.1).bind fun z35 =>
          some (.inl ((3 : Int32), z35))
        else
          (ai z12.2 v2 (v3 + (1 : Int32))).bind fun t36 =>
          (F_X37_parameters t36).bind fun z37 =>
          if z37 = (2 : Int32) then
            (vg z12.2 v0 7).bind fun _ =>
            (F_X6_pop z12.2 v0).bind fun z39 =>
            F_X6_work_b178  z39.2 z39.1 v0 v2 v3 z12.1
          else
            F_X6_work_b178  z12.2 z12.1 v0 v2 v3 z12.1
noncomputable def F_X6_cell_b569 (k26 : Mem → Nat → Nat → Nat → Int32 → Int32 → Option ((Int64 × Mem) ⊕ (Nat × Mem))) (M : Mem) (v0 : Nat) (v2 : Nat) (v3 : Nat) (v4 : Int32) (v5 : Int32) : Option ((Int64 × Mem) ⊕ (Nat × Mem)) :=
  k26 M v0 v2 v3 v4 v5
noncomputable def F_X6_cell_b555 (k26 : Mem → Nat → Nat → Nat → Int32 → Int32 → Option ((Int64 × Mem) ⊕ (Nat × Mem))) (M : Mem) (v0 : Nat) (v2 : Nat) (v3 : Nat) (v4 : Int32) (v5 : Int32) (v6 : Int32) : Option ((Int64 × Mem) ⊕ (Nat × Mem)) :=
  (vg M v0 7).bind fun _ =>
  tb (F_X6_work M v0 v6 v3 v4) fun z2 =>
  let v4_3 : Int32 := (v4 + z2.1)
  F_X6_cell_b569 k26 z2.2 v0 v2 v3 v4_3 v5
noncomputable def F_X6_cell_b205 (k26 : Mem → Nat → Nat → Nat → Int32 → Int32 → Option ((Int64 × Mem) ⊕ (Nat × Mem))) (M : Mem) (s0 : Nat) (s1 : Int64) (v0 : Nat) (v2 : Nat) (v3 : Nat) (v4 : Int32) (v5 : Int32) : Option ((Int64 × Mem) ⊕ (Nat × Mem)) :=
  (vg M s0 7).bind fun _ =>
  (F_X6_push M s0 s1).bind fun z5 =>
  let v4_6 : Int32 := v4 + (2 : Int32)
  F_X6_cell_b569 k26 z5 v0 v2 v3 v4_6 v5
noncomputable def F_X6_cell_b304 (k26 : Mem → Nat → Nat → Nat → Int32 → Int32 → Option ((Int64 × Mem) ⊕ (Nat × Mem))) (M : Mem) (s0 : Int64) (s1 : Int32) (v0 : Nat) (v2 : Nat) (v3 : Nat) (v4 : Int32) (v5 : Int32) : Option ((Int64 × Mem) ⊕ (Nat × Mem)) :=
  if s0 = s1.toInt64 then
    (ai M v3 (v4 + (1 : Int32))).bind fun t7 =>
    F_X6_cell_b569 k26 M v0 v2 v3 t7 v5
  else
    (gi M v0 451).bind fun t8 =>
    (pi M v0 451 (t8 - (1 : Int32))).bind fun M9 =>
    let v4_10 : Int32 := v4 + (2 : Int32)
    F_X6_cell_b569 k26 M9 v0 v2 v3 v4_10 v5
noncomputable def F_X6_cell_b277 (k26 : Mem → Nat → Nat → Nat → Int32 → Int32 → Option ((Int64 × Mem) ⊕ (Nat × Mem))) (M : Mem) (v0 : Nat) (v2 : Nat) (v3 : Nat) (v4 : Int32) (v5 : Int32) (v6 : Int32) : Option ((Int64 × Mem) ⊕ (Nat × Mem)) :=
  (vg M v0 7).bind fun _ =>
  tb (F_X6_step M v0) fun z12 =>
  (gr z12 v0 450).bind fun t13 =>
  (gi z12 v0 451).bind fun t14 =>
  (al z12 t13 (t14 - (1 : Int32))).bind fun t15 =>
  if v6 = (9 : Int32) then
    F_X6_cell_b304 k26 z12 t15 (0 : Int32) v0 v2 v3 v4 v5
  else
    F_X6_cell_b304 k26 z12 t15 (1 : Int32) v0 v2 v3 v4 v5
noncomputable def F_X6_cell_b362 (k26 : Mem → Nat → Nat → Nat → Int32 → Int32 → Option ((Int64 × Mem) ⊕ (Nat × Mem))) (M : Mem) (s0 : Int32) (v0 : Nat) (v2 : Nat) (v3 : Nat) (v5 : Int32) : Option ((Int64 × Mem) ⊕ (Nat × Mem)) :=
  F_X6_cell_b569 k26 M v0 v2 v3 s0 v5
noncomputable def F_X6_cell_b26_st (k26 : Mem → Nat → Nat → Nat → Int32 → Int32 → Option ((Int64 × Mem) ⊕ (Nat × Mem))) (M : Mem) (v0 : Nat) (v2 : Nat) (v3 : Nat) (v4 : Int32) (v5 : Int32) : Option ((Int64 × Mem) ⊕ (Nat × Mem)) :=
  (ai M v3 v4).bind fun t16 =>
  if t16 = (0 : Int32) then
    (ai M v3 (v4 + (1 : Int32))).bind fun t17 =>
    (ai M v3 (v4 + (2 : Int32))).bind fun t18 =>
    (vg M v0 7).bind fun _ =>
    (F_X6_push M v0 ((t17.toInt64 &&& (4294967295 : Int64)) ||| (j_lshl (t18.toInt64) (32 : Int32)))).bind fun z20 =>
    let v4_21 : Int32 := v4 + (3 : Int32)
    F_X6_cell_b569 k26 z20 v0 v2 v3 v4_21 v5
  else
    if t16 = (1 : Int32) then
      (ai M v3 (v4 + (1 : Int32))).bind fun t22 =>
      (vg M v0 7).bind fun _ =>
      (F_X6_operand M v0 t22).bind fun z24 =>
      (vg M v0 7).bind fun _ =>
      (F_X6_push M v0 z24).bind fun z26 =>
      let v4_27 : Int32 := v4 + (2 : Int32)
      F_X6_cell_b569 k26 z26 v0 v2 v3 v4_27 v5
    else
      if t16 = (2 : Int32) then
        (ai M v3 (v4 + (1 : Int32))).bind fun t28 =>
        (gi M v0 457).bind fun t29 =>
        if t28 < t29 then
          (gr M v0 458).bind fun t30 =>
          (gi M v0 457).bind fun t31 =>
          (ai M v3 (v4 + (1 : Int32))).bind fun t32 =>
          (ai M t30 ((t31 - (1 : Int32)) - t32)).bind fun t33 =>
          F_X6_cell_b205 k26 M v0 (t33.toInt64) v0 v2 v3 v4 v5
        else
          F_X6_cell_b205 k26 M v0 (0 : Int64) v0 v2 v3 v4 v5
      else
        if t16 = (3 : Int32) then
          (gr M v0 450).bind fun t34 =>
          (ai M v3 (v4 + (1 : Int32))).bind fun t35 =>
          (al M t34 (v5 + t35)).bind fun t36 =>
          (vg M v0 7).bind fun _ =>
          (F_X6_push M v0 t36).bind fun z38 =>
          let v4_39 : Int32 := v4 + (2 : Int32)
          F_X6_cell_b569 k26 z38 v0 v2 v3 v4_39 v5
        else
          if t16 = (4 : Int32) then
            (ai M v3 (v4 + (1 : Int32))).bind fun t40 =>
            (ai M v3 (v4 + (2 : Int32))).bind fun t41 =>
            (vg M v0 7).bind fun _ =>
            (F_X6_pop M v0).bind fun z43 =>
            (F_X23_convert t40 t41 z43.1).bind fun z44 =>
            (vg z43.2 v0 7).bind fun _ =>
            (F_X6_push z43.2 v0 z44).bind fun z46 =>
            let v4_47 : Int32 := v4 + (3 : Int32)
            F_X6_cell_b569 k26 z46 v0 v2 v3 v4_47 v5
          else
            if t16 = (5 : Int32) then
              F_X6_cell_b555 k26 M v0 v2 v3 v4 v5 t16
            else
              if t16 = (6 : Int32) then
                F_X6_cell_b555 k26 M v0 v2 v3 v4 v5 t16
              else
                if t16 = (7 : Int32) then
                  F_X6_cell_b555 k26 M v0 v2 v3 v4 v5 t16
                else
                  if t16 = (8 : Int32) then
                    F_X6_cell_b555 k26 M v0 v2 v3 v4 v5 t16
                  else
                    if t16 = (9 : Int32) then
                      F_X6_cell_b277 k26 M v0 v2 v3 v4 v5 t16
                    else
                      if t16 = (10 : Int32) then
                        F_X6_cell_b277 k26 M v0 v2 v3 v4 v5 t16
                      else
                        if t16 = (11 : Int32) then
                          (vg M v0 7).bind fun _ =>
                          tb (F_X6_step M v0) fun z49 =>
                          (vg z49 v0 7).bind fun _ =>
                          (F_X6_pop z49 v0).bind fun z51 =>
                          if z51.1 = (1 : Int64) then
                            F_X6_cell_b362 k26 z51.2 (v4 + (2 : Int32)) v0 v2 v3 v5
                          else
                            (ai z51.2 v3 (v4 + (1 : Int32))).bind fun t52 =>
                            F_X6_cell_b362 k26 z51.2 t52 v0 v2 v3 v5
                        else
                          if t16 = (12 : Int32) then
                            (ai M v3 (v4 + (1 : Int32))).bind fun t53 =>
                            F_X6_cell_b569 k26 M v0 v2 v3 t53 v5
                          else
                            if t16 = (13 : Int32) then
                              (vg M v0 7).bind fun _ =>
                              tb (F_X6_step M v0) fun z55 =>
                              (gr z55 v0 452).bind fun t56 =>
                              (gi z55 v0 455).bind fun t57 =>
                              (sr z55 t56 t57 v2).bind fun M58 =>
                              (gr M58 v0 453).bind fun t59 =>
                              (gi M58 v0 455).bind fun t60 =>
                              (si M58 t59 t60 (v4 + (2 : Int32))).bind fun M61 =>
                              (gr M61 v0 454).bind fun t62 =>
                              (gi M61 v0 455).bind fun t63 =>
                              (si M61 t62 t63 v5).bind fun M64 =>
                              (gi M64 v0 455).bind fun t65 =>
                              (pi M64 v0 455 (t65 + (1 : Int32))).bind fun M66 =>
                              (gr M66 v0 448).bind fun t67 =>
                              (gr M66 t67 320).bind fun t68 =>
                              (ai M66 v3 (v4 + (1 : Int32))).bind fun t69 =>
                              (vg M66 t68 67).bind fun _ =>
                              (F_J6_get M66 t68 t69).bind fun z71 =>
                              (cc M66 z71 39).bind fun _ =>
                              (gi M66 v0 451).bind fun t72 =>
                              (gr M66 z71 2498).bind fun t73 =>
                              (an M66 t73).bind fun t74 =>
                              let v5_75 : Int32 := (t72 - t74)
                              (gr M66 z71 2499).bind fun t76 =>
                              (gr M66 t76 2560).bind fun t77 =>
                              F_X6_cell_b569 k26 M66 v0 z71 t77 (0 : Int32) v5_75
                            else
                              if t16 = (14 : Int32) then
                                F_X6_cell_b555 k26 M v0 v2 v3 v4 v5 t16
                              else
                                if t16 = (15 : Int32) then
                                  (gi M v0 455).bind fun t78 =>
                                  if t78 = 0 then
                                    (vg M v0 7).bind fun _ =>
                                    (F_X6_pop M v0).bind fun z80 =>
                                    some (.inl (z80.1, z80.2))
                                  else
                                    (vg M v0 7).bind fun _ =>
                                    (F_X6_pop M v0).bind fun z82 =>
                                    (pi z82.2 v0 451 v5).bind fun M83 =>
                                    (vg M83 v0 7).bind fun _ =>
                                    (F_X6_push M83 v0 z82.1).bind fun z85 =>
                                    (gi z85 v0 455).bind fun t86 =>
                                    (pi z85 v0 455 (t86 - (1 : Int32))).bind fun M87 =>
                                    (gr M87 v0 452).bind fun t88 =>
                                    (gi M87 v0 455).bind fun t89 =>
                                    (ar M87 t88 t89).bind fun t90 =>
                                    (gr M87 t90 2499).bind fun t91 =>
                                    (gr M87 t91 2560).bind fun t92 =>
                                    (gr M87 v0 453).bind fun t93 =>
                                    (gi M87 v0 455).bind fun t94 =>
                                    (ai M87 t93 t94).bind fun t95 =>
                                    (gr M87 v0 454).bind fun t96 =>
                                    (gi M87 v0 455).bind fun t97 =>
                                    (ai M87 t96 t97).bind fun t98 =>
                                    F_X6_cell_b569 k26 M87 v0 t90 t92 t95 t98
                                else
                                  if t16 = (16 : Int32) then
                                    (vg M v0 7).bind fun _ =>
                                    tb (F_X6_step M v0) fun z100 =>
                                    let v4_101 : Int32 := v4 + (1 : Int32)
                                    F_X6_cell_b569 k26 z100 v0 v2 v3 v4_101 v5
                                  else
                                    F_X6_cell_b555 k26 M v0 v2 v3 v4 v5 t16
noncomputable def F_X6_cell_b26  (n : Nat) : Mem → Nat → Nat → Nat → Int32 → Int32 → Option ((Int64 × Mem) ⊕ (Nat × Mem)) :=
  Nat.rec (motive := fun _ => Mem → Nat → Nat → Nat → Int32 → Int32 → Option ((Int64 × Mem) ⊕ (Nat × Mem))) (fun _ _ _ _ _ _ => none) (fun _ ih => F_X6_cell_b26_st ih) n
noncomputable def F_X6_cell (M : Mem) (v0 : Nat) (v1 : Nat) : Option ((Int64 × Mem) ⊕ (Nat × Mem)) :=
  (gr M v1 2499).bind fun t102 =>
  (gr M t102 2560).bind fun t103 =>
  (pi M v0 451 (0 : Int32)).bind fun M104 =>
  (pi M104 v0 455 (0 : Int32)).bind fun M105 =>
  F_X6_cell_b26  xN M105 v0 v1 t103 (0 : Int32) (0 : Int32)
noncomputable def F_X6_forward_b55  (M : Mem) : Option Mem :=
  some M
noncomputable def F_X6_forward_b41  (M : Mem) (v0 : Nat) (v1 : Int32) : Option Mem :=
  if v1 < 0 then
    F_X6_forward_b55  M
  else
    (gr M v0 458).bind fun t1 =>
    (ai M t1 v1).bind fun t2 =>
    (si M t1 v1 (t2 + (1 : Int32))).bind fun M3 =>
    F_X6_forward_b55  M3
noncomputable def F_X6_forward_b7_st (k7 : Mem → Nat → Int32 → Option Mem) (M : Mem) (v0 : Nat) (v1 : Int32) : Option Mem :=
  if v1 < 0 then
    F_X6_forward_b41  M v0 v1
  else
    (gr M v0 458).bind fun t4 =>
    (ai M t4 v1).bind fun t5 =>
    (gr M v0 456).bind fun t6 =>
    (ai M t6 v1).bind fun t7 =>
    if (t5 + (1 : Int32)) = t7 then
      (gr M v0 458).bind fun t8 =>
      (si M t8 v1 (0 : Int32)).bind fun M9 =>
      let v1_10 : Int32 := v1 + (-1 : Int32)
      k7 M9 v0 v1_10
    else
      F_X6_forward_b41  M v0 v1
noncomputable def F_X6_forward_b7  (n : Nat) : Mem → Nat → Int32 → Option Mem :=
  Nat.rec (motive := fun _ => Mem → Nat → Int32 → Option Mem) (fun _ _ _ => none) (fun _ ih => F_X6_forward_b7_st ih) n
noncomputable def F_X6_forward (M : Mem) (v0 : Nat) : Option Mem :=
  (gi M v0 457).bind fun t11 =>
  let v1_12 : Int32 := (t11 - (1 : Int32))
  F_X6_forward_b7  xN M v0 v1_12
noncomputable def F_X6_run_b52  (M : Mem) (s0 : Nat) (v4 : Int32) : Option (Int32 × Mem) :=
  some (v4, M)
noncomputable def F_X6_run_b34_st (k34 : Mem → Nat → Nat → Int32 → Nat → Int32 → Option (Int32 × Mem)) (M : Mem) (v0 : Nat) (v1 : Nat) (v2 : Int32) (v3 : Nat) (v4 : Int32) : Option (Int32 × Mem) :=
  if v4 < v2 then
    (vg M v0 7).bind fun _ =>
    tc (F_X6_cell M v0 v1) (fun z2 =>
      (sj z2.2 v3 v4 z2.1).bind fun M4 =>
      (vg M4 v0 7).bind fun _ =>
      (F_X6_forward M4 v0).bind fun z6 =>
      let v4_7 : Int32 := v4 + (1 : Int32)
      k34 z6 v0 v1 v2 v3 v4_7)
      (fun z3 =>
        F_X6_run_b52  z3.2 z3.1 v4)
  else
    some ((-1 : Int32), M)
noncomputable def F_X6_run_b34  (n : Nat) : Mem → Nat → Nat → Int32 → Nat → Int32 → Option (Int32 × Mem) :=
  Nat.rec (motive := fun _ => Mem → Nat → Nat → Int32 → Nat → Int32 → Option (Int32 × Mem)) (fun _ _ _ _ _ _ => none) (fun _ ih => F_X6_run_b34_st ih) n
noncomputable def F_X6_run_b8_st (k8 : Mem → Nat → Nat → Int32 → Nat → Int32 → Option (Int32 × Mem)) (M : Mem) (v0 : Nat) (v1 : Nat) (v2 : Int32) (v3 : Nat) (v4 : Int32) : Option (Int32 × Mem) :=
  (gi M v0 457).bind fun t8 =>
  if v4 < t8 then
    (gr M v0 458).bind fun t9 =>
    (si M t9 v4 (0 : Int32)).bind fun M10 =>
    let v4_11 : Int32 := v4 + (1 : Int32)
    k8 M10 v0 v1 v2 v3 v4_11
  else
    F_X6_run_b34  xN M v0 v1 v2 v3 (0 : Int32)
noncomputable def F_X6_run_b8  (n : Nat) : Mem → Nat → Nat → Int32 → Nat → Int32 → Option (Int32 × Mem) :=
  Nat.rec (motive := fun _ => Mem → Nat → Nat → Int32 → Nat → Int32 → Option (Int32 × Mem)) (fun _ _ _ _ _ _ => none) (fun _ ih => F_X6_run_b8_st ih) n
noncomputable def F_X6_run (M : Mem) (v0 : Nat) (v1 : Nat) (v2 : Int32) (v3 : Nat) : Option (Int32 × Mem) :=
  (pi M v0 461 (0 : Int32)).bind fun M12 =>
  F_X6_run_b8  xN M12 v0 v1 v2 v3 (0 : Int32)
noncomputable def F_X0_ran_b115  (M : Mem) (s0 : Int32) : Option (Int32 × Mem) :=
  some (s0, M)
noncomputable def F_X0_ran (M : Mem) (v0 : Nat) (v1 : Nat) (v2 : Nat) : Option (Int32 × Mem) :=
  (pi M v0 96 (0 : Int32)).bind fun M1 =>
  (gr M1 v0 73).bind fun t2 =>
  (gr M1 v0 80).bind fun t3 =>
  (gr M1 v2 2373).bind fun t4 =>
  (vg M1 t2 7).bind fun _ =>
  (F_X6_join M1 t2 t3 t4).bind fun z6 =>
  if z6.1 = 0 then
    some ((-3 : Int32), z6.2)
  else
    (gr z6.2 v0 73).bind fun t7 =>
    (gr z6.2 t7 456).bind fun t8 =>
    (gr z6.2 v0 73).bind fun t9 =>
    (gi z6.2 t9 457).bind fun t10 =>
    (vg z6.2 v0 1).bind fun _ =>
    (F_X0_shapeOf z6.2 v0 t8 t10).bind fun z12 =>
    (gr z12 v0 88).bind fun t13 =>
    (gi z12 v0 89).bind fun t14 =>
    (F_X2_count z12 t13 t14).bind fun z15 =>
    if z15 < 0 then
      some ((-12 : Int32), z12)
    else
      (gr z12 v0 73).bind fun t16 =>
      (gr z12 v0 81).bind fun t17 =>
      (vg z12 t16 7).bind fun _ =>
      (F_X6_run z12 t16 v1 z15 t17).bind fun z19 =>
      (gr z19.2 v0 73).bind fun t20 =>
      (gi z19.2 t20 461).bind fun t21 =>
      (pi z19.2 v0 96 t21).bind fun M22 =>
      if z19.1 < 0 then
        (gi M22 v1 2497).bind fun t23 =>
        (gr M22 v0 81).bind fun t24 =>
        (vg M22 v0 1).bind fun _ =>
        (F_X0_made M22 v0 t23 t24).bind fun z26 =>
        F_X0_ran_b115  z26.2 z26.1
      else
        (vg M22 v0 1).bind fun _ =>
        (F_X0_failedAt M22 v0 z19.1).bind fun z28 =>
        F_X0_ran_b115  z28.2 z28.1
noncomputable def F_X0_formula_b159  (M : Mem) (s0 : Nat) (v0 : Nat) : Option (Int32 × Mem) :=
  (gr M v0 67).bind fun t1 =>
  (gi M t1 130).bind fun t2 =>
  (pi M v0 95 t2).bind fun M3 =>
  (gr M3 v0 67).bind fun t4 =>
  (gi M3 t4 129).bind fun t5 =>
  some (((-20 : Int32) - t5), M3)
noncomputable def F_X0_formula (M : Mem) (v0 : Nat) : Option (Int32 × Mem) :=
  (pi M v0 95 (-1 : Int32)).bind fun M6 =>
  (vg M6 v0 1).bind fun _ =>
  (F_X0_fine M6 v0).bind fun z8 =>
  (gi z8 v0 97).bind fun t9 =>
  if t9 = 0 then
    (vg z8 v0 1).bind fun _ =>
    (F_X0_used z8 v0).bind fun z11 =>
    let t13 : Nat := m_nx z11.2
    let M12 : Mem := mo z11.2 37
    (gr M12 v0 67).bind fun t14 =>
    (gr M12 v0 70).bind fun t15 =>
    (gr M12 v0 80).bind fun t16 =>
    (ng M12 t13).bind fun _ =>
    (F_X36_init M12 t13 t14 t15 t16 0 0).bind fun z18 =>
    (vg z18 v0 1).bind fun _ =>
    tc (F_X0_mustFit z18 v0 z11.1) (fun z20 =>
      (gr z20 v0 72).bind fun t22 =>
      (gr z20 v0 64).bind fun t23 =>
      (vg z20 t22 6).bind fun _ =>
      tc (F_X5_open z20 t22 t23 z11.1) (fun z25 =>
        (gr z25 v0 72).bind fun t27 =>
        (gi z25 t27 388).bind fun t28 =>
        let t30 : Nat := m_nx z25
        let M29 : Mem := mo z25 27
        (gr M29 v0 72).bind fun t31 =>
        (gr M29 v0 67).bind fun t32 =>
        (ng M29 t30).bind fun _ =>
        (F_X26_init M29 t30 t31 t32).bind fun z34 =>
        (vg z34 t30 27).bind fun _ =>
        tc (F_X26_formula z34 t30) (fun z36 =>
          (gi z36.2 z36.1 1858).bind fun t38 =>
          if (30 : Int32) < t38 then
            (gr z36.2 v0 67).bind fun t39 =>
            (vg z36.2 t39 2).bind fun _ =>
            (F_X1_at z36.2 t39 (2 : Int32) t28).bind fun z41 =>
            (ie z41.2 z41.1).bind fun _ =>
            F_X0_formula_b159  z41.2 z41.1 v0
          else
            (vg z36.2 z36.1 29).bind fun _ =>
            tc (F_V800 z36.2 z36.1 t13) (fun z43 =>
              let t46 : Nat := m_nx z43
              let M45 : Mem := mo z43 39
              (gi M45 z36.1 1857).bind fun t47 =>
              (ng M45 t46).bind fun _ =>
              (F_X38_init M45 t46 20 t47 0).bind fun z49 =>
              (gr z49 t46 2499).bind fun t50 =>
              (vg z49 z36.1 29).bind fun _ =>
              (F_V801 z49 z36.1 t50).bind fun z52 =>
              (gr z52 t46 2499).bind fun t53 =>
              (vg z52 t53 40).bind fun _ =>
              (F_X39_add z52 t53 (15 : Int32)).bind fun z55 =>
              (vg z55 v0 1).bind fun _ =>
              (F_X0_ran z55 v0 t46 t13).bind fun z57 =>
              some (z57.1, z57.2))
              (fun z44 =>
                F_X0_formula_b159  z44.2 z44.1 v0))
          (fun z37 =>
            F_X0_formula_b159  z37.2 z37.1 v0))
        (fun z26 =>
          F_X0_formula_b159  z26.2 z26.1 v0))
      (fun z21 =>
        F_X0_formula_b159  z21.2 z21.1 v0)
  else
    some ((-13 : Int32), z8)
noncomputable def F_X0_choose_b114_st (k114 : Mem → Nat → Int32 → Nat → Nat → Int32 → Option (Int32 × Mem)) (M : Mem) (v0 : Nat) (v2 : Int32) (v4 : Nat) (v5 : Nat) (v6 : Int32) : Option (Int32 × Mem) :=
  if v6 < v2 then
    (gr M v0 64).bind fun t1 =>
    (ab M t1 v6).bind fun t2 =>
    (vg M v5 75).bind fun _ =>
    (F_J14_append M v5 (j_i2c (t2 &&& (255 : Int32)))).bind fun z4 =>
    let v6_5 : Int32 := v6 + (1 : Int32)
    k114 z4.2 v0 v2 v4 v5 v6_5
  else
    (gr M v0 70).bind fun t6 =>
    (vg M v5 75).bind fun _ =>
    (F_J14_toString M v5).bind fun z8 =>
    (vg z8.2 t6 5).bind fun _ =>
    (F_X4_choose z8.2 t6 z8.1 v4).bind fun z10 =>
    some (z10, z8.2)
noncomputable def F_X0_choose_b114  (n : Nat) : Mem → Nat → Int32 → Nat → Nat → Int32 → Option (Int32 × Mem) :=
  Nat.rec (motive := fun _ => Mem → Nat → Int32 → Nat → Nat → Int32 → Option (Int32 × Mem)) (fun _ _ _ _ _ _ => none) (fun _ ih => F_X0_choose_b114_st ih) n
noncomputable def F_X0_choose_b78 (k38 : Mem → Nat → Int32 → Int32 → Int32 → Nat → Int32 → Option (Int32 × Mem)) (M : Mem) (s0 : Int32) (v0 : Nat) (v1 : Int32) (v2 : Int32) (v4 : Nat) (v5 : Int32) : Option (Int32 × Mem) :=
  let v5_11 : Int32 := v5 + (1 : Int32)
  k38 M v0 v1 v2 s0 v4 v5_11
noncomputable def F_X0_choose_b77 (k38 : Mem → Nat → Int32 → Int32 → Int32 → Nat → Int32 → Option (Int32 × Mem)) (M : Mem) (v0 : Nat) (v1 : Int32) (v2 : Int32) (v4 : Nat) (v5 : Int32) : Option (Int32 × Mem) :=
  F_X0_choose_b78 k38 M (0 : Int32) v0 v1 v2 v4 v5
noncomputable def F_X0_choose_b38_st (k38 : Mem → Nat → Int32 → Int32 → Int32 → Nat → Int32 → Option (Int32 × Mem)) (M : Mem) (v0 : Nat) (v1 : Int32) (v2 : Int32) (v3 : Int32) (v4 : Nat) (v5 : Int32) : Option (Int32 × Mem) :=
  if v5 < v1 then
    (gr M v0 84).bind fun t12 =>
    (ai M t12 v5).bind fun t13 =>
    (si M v4 v5 t13).bind fun M14 =>
    if v3 = 0 then
      F_X0_choose_b77 k38 M14 v0 v1 v2 v4 v5
    else
      (gr M14 v0 84).bind fun t15 =>
      (ai M14 t15 v5).bind fun t16 =>
      (F_X20_isLane t16).bind fun z17 =>
      if z17 = 0 then
        F_X0_choose_b77 k38 M14 v0 v1 v2 v4 v5
      else
        F_X0_choose_b78 k38 M14 (1 : Int32) v0 v1 v2 v4 v5
  else
    if v3 = 0 then
      some ((-14 : Int32), M)
    else
      if (12 : Int32) < v2 then
        some ((-15 : Int32), M)
      else
        let t19 : Nat := m_nx M
        let M18 : Mem := mo M 75
        (ng M18 t19).bind fun _ =>
        (F_J14_init M18 t19 v2).bind fun z21 =>
        F_X0_choose_b114  xN z21 v0 v2 v4 t19 (0 : Int32)
noncomputable def F_X0_choose_b38  (n : Nat) : Mem → Nat → Int32 → Int32 → Int32 → Nat → Int32 → Option (Int32 × Mem) :=
  Nat.rec (motive := fun _ => Mem → Nat → Int32 → Int32 → Int32 → Nat → Int32 → Option (Int32 × Mem)) (fun _ _ _ _ _ _ _ => none) (fun _ ih => F_X0_choose_b38_st ih) n
noncomputable def F_X0_choose_b29  (M : Mem) (s0 : Int32) (v0 : Nat) (v1 : Int32) (v2 : Int32) : Option (Int32 × Mem) :=
  (mk M 1005 v1).bind fun M22 =>
  let v4_23 : Nat := (m_nx M)
  F_X0_choose_b38  xN M22 v0 v1 v2 s0 v4_23 (0 : Int32)
noncomputable def F_X0_choose (M : Mem) (v0 : Nat) : Option (Int32 × Mem) :=
  (vg M v0 1).bind fun _ =>
  (F_X0_usedSizes M v0).bind fun z25 =>
  (gi z25.2 v0 97).bind fun t26 =>
  if t26 = 0 then
    (vg z25.2 v0 1).bind fun _ =>
    (F_X0_used z25.2 v0).bind fun z28 =>
    if 0 < z25.1 then
      F_X0_choose_b29  z28.2 (1 : Int32) v0 z25.1 z28.1
    else
      F_X0_choose_b29  z28.2 (0 : Int32) v0 z25.1 z28.1
  else
    some ((-13 : Int32), z25.2)
noncomputable def F_X0_steps (M : Mem) (v0 : Nat) : Option Int32 :=
  (gi M v0 96).bind fun t1 =>
  some t1
noncomputable def F_X51_isWay_b15  (s0 : Int32) : Option Int32 :=
  some (s0 &&& 1)
noncomputable def F_X51_isWay_b14   : Option Int32 :=
  F_X51_isWay_b15  (0 : Int32)
noncomputable def F_X51_isWay (v0 : Int32) : Option Int32 :=
  if v0 < 0 then
    F_X51_isWay_b14  
  else
    if (8 : Int32) < v0 then
      F_X51_isWay_b14  
    else
      F_X51_isWay_b15  (1 : Int32)
noncomputable def F_X51_takes_b49  (s0 : Int32) : Option Int32 :=
  some (s0 &&& 1)
noncomputable def F_X51_takes (v0 : Int32) (v1 : Int32) : Option Int32 :=
  if v0 = (1 : Int32) then
    (F_X20_isWhole_2 v1).bind fun z1 =>
    some (z1 &&& 1)
  else
    if (4 : Int32) < v0 then
      if v0 = (8 : Int32) then
        if v1 < (6 : Int32) then
          F_X51_takes_b49  (0 : Int32)
        else
          F_X51_takes_b49  (1 : Int32)
      else
        if v1 = 0 then
          F_X51_takes_b49  (1 : Int32)
        else
          F_X51_takes_b49  (0 : Int32)
    else
      (F_X20_isNumber v1).bind fun z2 =>
      some (z2 &&& 1)
noncomputable def F_X0_foldRefusal_b37  (M : Mem) : Option Int32 :=
  some (14 : Int32)
noncomputable def F_X0_foldRefusal_b66  (M : Mem) (s0 : Int32) : Option Int32 :=
  some s0
noncomputable def F_X0_foldRefusal_b40  (M : Mem) (v1 : Nat) (v2 : Int32) (v3 : Int32) : Option Int32 :=
  (gi M v1 1408).bind fun t1 =>
  (F_X51_takes v2 t1).bind fun z2 =>
  if z2 = 0 then
    some (1 : Int32)
  else
    (gi M v1 1409).bind fun t3 =>
    if v3 < t3 then
      F_X0_foldRefusal_b66  M (0 : Int32)
    else
      F_X0_foldRefusal_b66  M (2 : Int32)
noncomputable def F_X0_foldRefusal (M : Mem) (v0 : Nat) (v1 : Nat) (v2 : Int32) (v3 : Int32) (v4 : Int32) : Option Int32 :=
  if v1 = 6 then
    none
  else
    if v1 = 0 then
      (vg M v0 1).bind fun _ =>
      (F_X0_gone M v0).bind fun z5 =>
      some z5
    else
      (F_X51_isWay v2).bind fun z6 =>
      if z6 = 0 then
        F_X0_foldRefusal_b37  M
      else
        if v3 < (-1 : Int32) then
          F_X0_foldRefusal_b37  M
        else
          if v4 = 0 then
            F_X0_foldRefusal_b40  M v1 v2 v3
          else
            if v2 = (5 : Int32) then
              F_X0_foldRefusal_b37  M
            else
              if v2 = (8 : Int32) then
                F_X0_foldRefusal_b37  M
              else
                F_X0_foldRefusal_b40  M v1 v2 v3
noncomputable def F_X0_shapeWithout_b58  (M : Mem) : Option Mem :=
  some M
noncomputable def F_X0_shapeWithout_b52 (k7 : Mem → Nat → Nat → Int32 → Int32 → Option Mem) (M : Mem) (v0 : Nat) (v1 : Nat) (v2 : Int32) (v3 : Int32) : Option Mem :=
  let v3_1 : Int32 := v3 + (1 : Int32)
  k7 M v0 v1 v2 v3_1
noncomputable def F_X0_shapeWithout_b7_st (k7 : Mem → Nat → Nat → Int32 → Int32 → Option Mem) (M : Mem) (v0 : Nat) (v1 : Nat) (v2 : Int32) (v3 : Int32) : Option Mem :=
  (gi M v1 1409).bind fun t2 =>
  if v3 < t2 then
    if v2 < 0 then
      F_X0_shapeWithout_b58  M
    else
      if v3 = v2 then
        F_X0_shapeWithout_b52 k7 M v0 v1 v2 v3
      else
        (gr M v0 88).bind fun t3 =>
        (gi M v0 89).bind fun t4 =>
        (gr M v1 1410).bind fun t5 =>
        (ai M t5 v3).bind fun t6 =>
        (si M t3 t4 t6).bind fun M7 =>
        (gi M7 v0 89).bind fun t8 =>
        (pi M7 v0 89 (t8 + (1 : Int32))).bind fun M9 =>
        F_X0_shapeWithout_b52 k7 M9 v0 v1 v2 v3
  else
    F_X0_shapeWithout_b58  M
noncomputable def F_X0_shapeWithout_b7  (n : Nat) : Mem → Nat → Nat → Int32 → Int32 → Option Mem :=
  Nat.rec (motive := fun _ => Mem → Nat → Nat → Int32 → Int32 → Option Mem) (fun _ _ _ _ _ => none) (fun _ ih => F_X0_shapeWithout_b7_st ih) n
noncomputable def F_X0_shapeWithout (M : Mem) (v0 : Nat) (v1 : Nat) (v2 : Int32) : Option Mem :=
  (pi M v0 89 (0 : Int32)).bind fun M10 =>
  F_X0_shapeWithout_b7  xN M10 v0 v1 v2 (0 : Int32)
noncomputable def F_X0_lineOf_b89_st (k89 : Mem → Nat → Nat → Int32 → Int32 → Int32 → Option (Int32 × Mem)) (M : Mem) (v0 : Nat) (v1 : Nat) (v2 : Int32) (v4 : Int32) (v6 : Int32) : Option (Int32 × Mem) :=
  (gr M v1 1410).bind fun t1 =>
  (ai M t1 v2).bind fun t2 =>
  if v6 < t2 then
    (gr M v0 82).bind fun t3 =>
    (gr M v1 1413).bind fun t4 =>
    (gr M v1 1411).bind fun t5 =>
    (ai M t5 v2).bind fun t6 =>
    (al M t4 (v4 + (v6 * t6))).bind fun t7 =>
    (sj M t3 v6 t7).bind fun M8 =>
    let v6_9 : Int32 := v6 + (1 : Int32)
    k89 M8 v0 v1 v2 v4 v6_9
  else
    (gr M v1 1410).bind fun t10 =>
    (ai M t10 v2).bind fun t11 =>
    some (t11, M)
noncomputable def F_X0_lineOf_b89  (n : Nat) : Mem → Nat → Nat → Int32 → Int32 → Int32 → Option (Int32 × Mem) :=
  Nat.rec (motive := fun _ => Mem → Nat → Nat → Int32 → Int32 → Int32 → Option (Int32 × Mem)) (fun _ _ _ _ _ _ => none) (fun _ ih => F_X0_lineOf_b89_st ih) n
noncomputable def F_X0_lineOf_b80 (k31 : Mem → Nat → Nat → Int32 → Int32 → Int32 → Int32 → Option (Int32 × Mem)) (M : Mem) (v0 : Nat) (v1 : Nat) (v2 : Int32) (v4 : Int32) (v5 : Int32) (v6 : Int32) : Option (Int32 × Mem) :=
  let v6_12 : Int32 := v6 + (-1 : Int32)
  k31 M v0 v1 v2 v4 v5 v6_12
noncomputable def F_X0_lineOf_b31_st (k31 : Mem → Nat → Nat → Int32 → Int32 → Int32 → Int32 → Option (Int32 × Mem)) (M : Mem) (v0 : Nat) (v1 : Nat) (v2 : Int32) (v4 : Int32) (v5 : Int32) (v6 : Int32) : Option (Int32 × Mem) :=
  if v6 < 0 then
    F_X0_lineOf_b89  xN M v0 v1 v2 v4 (0 : Int32)
  else
    if v6 = v2 then
      F_X0_lineOf_b80 k31 M v0 v1 v2 v4 v5 v6
    else
      (gr M v1 1410).bind fun t13 =>
      (ai M t13 v6).bind fun t14 =>
      if t14 = 0 then none else
      (gr M v1 1411).bind fun t15 =>
      (ai M t15 v6).bind fun t16 =>
      let v4_17 : Int32 := (v4 + ((j_irem v5 t14) * t16))
      (gr M v1 1410).bind fun t18 =>
      (ai M t18 v6).bind fun t19 =>
      if t19 = 0 then none else
      let v5_20 : Int32 := (v5 / t19)
      F_X0_lineOf_b80 k31 M v0 v1 v2 v4_17 v5_20 v6
noncomputable def F_X0_lineOf_b31  (n : Nat) : Mem → Nat → Nat → Int32 → Int32 → Int32 → Int32 → Option (Int32 × Mem) :=
  Nat.rec (motive := fun _ => Mem → Nat → Nat → Int32 → Int32 → Int32 → Int32 → Option (Int32 × Mem)) (fun _ _ _ _ _ _ _ => none) (fun _ ih => F_X0_lineOf_b31_st ih) n
noncomputable def F_X0_lineOf (M : Mem) (v0 : Nat) (v1 : Nat) (v2 : Int32) (v3 : Int32) : Option (Int32 × Mem) :=
  if v2 < 0 then
    (gr M v0 82).bind fun t21 =>
    (vg M v0 1).bind fun _ =>
    (F_X0_gather M v0 v1 t21).bind fun z23 =>
    some (z23.1, z23.2)
  else
    (gi M v1 1412).bind fun t24 =>
    (gi M v1 1409).bind fun t25 =>
    let v6_26 : Int32 := (t25 - (1 : Int32))
    F_X0_lineOf_b31  xN M v0 v1 v2 t24 v3 v6_26
noncomputable def F_X51_paired_o (r_X51_paired : Mem → Int32 → Nat → Int32 → Int32 → Nat → Option ((Int64 × Mem) ⊕ (Nat × Mem))) (M : Mem) (v0 : Int32) (v1 : Nat) (v2 : Int32) (v3 : Int32) (v4 : Nat) : Option ((Int64 × Mem) ⊕ (Nat × Mem)) :=
  if v3 = 0 then
    some (.inl ((0 : Int64), M))
  else
    if v3 = (1 : Int32) then
      (al M v1 v2).bind fun t1 =>
      some (.inl (t1, M))
    else
      if (2 : Int32) = 0 then none else
      tb (r_X51_paired M v0 v1 v2 (v3 / (2 : Int32)) v4) fun z2 =>
      if (2 : Int32) = 0 then none else
      if (2 : Int32) = 0 then none else
      tb (r_X51_paired z2.2 v0 v1 (v2 + (v3 / (2 : Int32))) (v3 - (v3 / (2 : Int32))) v4) fun z3 =>
      tb (F_X23_arithmetic z3.2 (1 : Int32) v0 z2.1 z3.1 v4) fun z4 =>
      some (.inl (z4.1, z4.2))
noncomputable def R_3 (n : Nat) : ((Mem → Int32 → Nat → Int32 → Int32 → Nat → Option ((Int64 × Mem) ⊕ (Nat × Mem)))) :=
  Nat.rec (motive := fun _ => ((Mem → Int32 → Nat → Int32 → Int32 → Nat → Option ((Int64 × Mem) ⊕ (Nat × Mem))))) ((fun _ _ _ _ _ _ => none)) (fun _ ih => ((F_X51_paired_o ih))) n
noncomputable def F_X51_paired (M : Mem) (a0 : Int32) (a1 : Nat) (a2 : Int32) (a3 : Int32) (a4 : Nat) : Option ((Int64 × Mem) ⊕ (Nat × Mem)) := (R_3 xR) M a0 a1 a2 a3 a4
noncomputable def F_X51_result_b21  (s0 : Int32) : Option Int32 :=
  some s0
noncomputable def F_X51_result (v0 : Int32) (v1 : Int32) : Option Int32 :=
  if (2 : Int32) < v0 then
    if v0 = (5 : Int32) then
      F_X51_result_b21  (4 : Int32)
    else
      F_X51_result_b21  v1
  else
    (F_J7_max v1 (4 : Int32)).bind fun z1 =>
    some z1
noncomputable def F_X51_begin_b47   : Option Int64 :=
  some (0 : Int64)
noncomputable def F_X51_begin_b43  (v2 : Int64) : Option Int64 :=
  some v2
noncomputable def F_X51_begin (v0 : Int32) (v1 : Int32) (v2 : Int64) : Option Int64 :=
  if v0 = (2 : Int32) then
    (F_X23_convert (4 : Int32) v1 (1 : Int64)).bind fun z1 =>
    some z1
  else
    if v0 = (3 : Int32) then
      F_X51_begin_b43  v2
    else
      if v0 = (4 : Int32) then
        F_X51_begin_b43  v2
      else
        if v0 = (5 : Int32) then
          F_X51_begin_b47  
        else
          if v0 = (6 : Int32) then
            some (1 : Int64)
          else
            F_X51_begin_b47  
noncomputable def F_X51_add_b104  (M : Mem) (s0 : Int64) : Option ((Int64 × Mem) ⊕ (Nat × Mem)) :=
  some (.inl (s0, M))
noncomputable def F_X51_add_b121  (M : Mem) (s0 : Int64) : Option ((Int64 × Mem) ⊕ (Nat × Mem)) :=
  some (.inl (s0, M))
noncomputable def F_X51_add (M : Mem) (v0 : Int32) (v1 : Int32) (v2 : Int32) (v3 : Int64) (v5 : Int64) (v7 : Nat) : Option ((Int64 × Mem) ⊕ (Nat × Mem)) :=
  if v0 = (0 : Int32) then
    (F_X23_convert v1 v2 v5).bind fun z1 =>
    tb (F_X23_arithmetic M (1 : Int32) v2 v3 z1 v7) fun z2 =>
    some (.inl (z2.1, z2.2))
  else
    if v0 = (1 : Int32) then
      tb (F_X37_exact M (6 : Int32) v2 v3 v5 v7) fun z3 =>
      some (.inl (z3.1, z3.2))
    else
      if v0 = (2 : Int32) then
        (F_X23_convert v1 v2 v5).bind fun z4 =>
        tb (F_X23_arithmetic M (3 : Int32) v2 v3 z4 v7) fun z5 =>
        some (.inl (z5.1, z5.2))
      else
        if v0 = (3 : Int32) then
          (F_X23_order v2 v5 v3).bind fun z6 =>
          if z6 < 0 then
            F_X51_add_b104  M v5
          else
            F_X51_add_b104  M v3
        else
          if v0 = (4 : Int32) then
            (F_X23_order v2 v5 v3).bind fun z7 =>
            if 0 < z7 then
              F_X51_add_b121  M v5
            else
              F_X51_add_b121  M v3
          else
            if v0 = (5 : Int32) then
              some (.inl ((v3 + v5), M))
            else
              if v0 = (6 : Int32) then
                some (.inl ((v3 &&& v5), M))
              else
                some (.inl ((v3 ||| v5), M))
noncomputable def F_X51_all_b47_st (k47 : Mem → Int32 → Int32 → Nat → Int32 → Int32 → Nat → Int32 → Int64 → Int32 → Option ((Int64 × Mem) ⊕ (Nat × Mem))) (M : Mem) (v0 : Int32) (v1 : Int32) (v2 : Nat) (v3 : Int32) (v4 : Int32) (v5 : Nat) (v6 : Int32) (v7 : Int64) (v9 : Int32) : Option ((Int64 × Mem) ⊕ (Nat × Mem)) :=
  if v9 < v4 then
    (al M v2 (v3 + v9)).bind fun t1 =>
    tb (F_X51_add M v0 v1 v6 v7 t1 v5) fun z2 =>
    let v9_3 : Int32 := v9 + (1 : Int32)
    k47 z2.2 v0 v1 v2 v3 v4 v5 v6 z2.1 v9_3
  else
    some (.inl (v7, M))
noncomputable def F_X51_all_b47  (n : Nat) : Mem → Int32 → Int32 → Nat → Int32 → Int32 → Nat → Int32 → Int64 → Int32 → Option ((Int64 × Mem) ⊕ (Nat × Mem)) :=
  Nat.rec (motive := fun _ => Mem → Int32 → Int32 → Nat → Int32 → Int32 → Nat → Int32 → Int64 → Int32 → Option ((Int64 × Mem) ⊕ (Nat × Mem))) (fun _ _ _ _ _ _ _ _ _ _ => none) (fun _ ih => F_X51_all_b47_st ih) n
noncomputable def F_X51_all_b39  (M : Mem) (s0 : Int32) (s1 : Int32) (s2 : Int64) (v0 : Int32) (v1 : Int32) (v2 : Nat) (v3 : Int32) (v4 : Int32) (v5 : Nat) (v6 : Int32) : Option ((Int64 × Mem) ⊕ (Nat × Mem)) :=
  (F_X51_begin s0 s1 s2).bind fun z4 =>
  F_X51_all_b47  xN M v0 v1 v2 v3 v4 v5 v6 z4 (0 : Int32)
noncomputable def F_X51_all (M : Mem) (v0 : Int32) (v1 : Int32) (v2 : Nat) (v3 : Int32) (v4 : Int32) (v5 : Nat) : Option ((Int64 × Mem) ⊕ (Nat × Mem)) :=
  if v0 = (8 : Int32) then
    tb (F_X51_paired M v1 v2 v3 v4 v5) fun z5 =>
    some (.inl (z5.1, z5.2))
  else
    (F_X51_result v0 v1).bind fun z6 =>
    if 0 < v4 then
      (al M v2 v3).bind fun t7 =>
      F_X51_all_b39  M v0 z6 t7 v0 v1 v2 v3 v4 v5 z6
    else
      F_X51_all_b39  M v0 z6 (0 : Int64) v0 v1 v2 v3 v4 v5 z6
noncomputable def F_X0_fold_b165  (M : Mem) (s0 : Nat) (v0 : Nat) (v8 : Int32) : Option (Int32 × Mem) :=
  (vg M v0 1).bind fun _ =>
  (F_X0_failedAt M v0 v8).bind fun z2 =>
  some (z2.1, z2.2)
noncomputable def F_X0_fold_b117_st (k117 : Mem → Nat → Int32 → Int32 → Nat → Int32 → Int32 → Option (Int32 × Mem)) (M : Mem) (v0 : Nat) (v2 : Int32) (v3 : Int32) (v4 : Nat) (v6 : Int32) (v8 : Int32) : Option (Int32 × Mem) :=
  if v8 < v6 then
    (vg M v0 1).bind fun _ =>
    (F_X0_lineOf M v0 v4 v3 v8).bind fun z4 =>
    (gr z4.2 v0 81).bind fun t5 =>
    (gi z4.2 v4 1408).bind fun t6 =>
    (gr z4.2 v0 82).bind fun t7 =>
    (gr z4.2 v0 67).bind fun t8 =>
    tc (F_X51_all z4.2 v2 t6 t7 (0 : Int32) z4.1 t8) (fun z9 =>
      (sj z9.2 t5 v8 z9.1).bind fun M11 =>
      let v8_12 : Int32 := v8 + (1 : Int32)
      k117 M11 v0 v2 v3 v4 v6 v8_12)
      (fun z10 =>
        F_X0_fold_b165  z10.2 z10.1 v0 v8)
  else
    (gi M v4 1408).bind fun t13 =>
    (F_X51_result v2 t13).bind fun z14 =>
    (gr M v0 81).bind fun t15 =>
    (vg M v0 1).bind fun _ =>
    (F_X0_made M v0 z14 t15).bind fun z17 =>
    some (z17.1, z17.2)
noncomputable def F_X0_fold_b117  (n : Nat) : Mem → Nat → Int32 → Int32 → Nat → Int32 → Int32 → Option (Int32 × Mem) :=
  Nat.rec (motive := fun _ => Mem → Nat → Int32 → Int32 → Nat → Int32 → Int32 → Option (Int32 × Mem)) (fun _ _ _ _ _ _ _ => none) (fun _ ih => F_X0_fold_b117_st ih) n
noncomputable def F_X0_fold_b106  (M : Mem) (v0 : Nat) (v2 : Int32) (v3 : Int32) (v4 : Nat) (v6 : Int32) : Option (Int32 × Mem) :=
  if v6 < 0 then
    some ((-12 : Int32), M)
  else
    F_X0_fold_b117  xN M v0 v2 v3 v4 v6 (0 : Int32)
noncomputable def F_X0_fold_b92  (M : Mem) (v0 : Nat) : Option (Int32 × Mem) :=
  (gr M v0 67).bind fun t18 =>
  (pi M t18 129 (4 : Int32)).bind fun M19 =>
  (vg M19 v0 1).bind fun _ =>
  (F_X0_failedAt M19 v0 (0 : Int32)).bind fun z21 =>
  some (z21.1, z21.2)
noncomputable def F_X0_fold_b70  (M : Mem) (s0 : Int32) (v0 : Nat) (v2 : Int32) (v3 : Int32) (v4 : Nat) (v6 : Int32) : Option (Int32 × Mem) :=
  if s0 = 0 then
    if v6 = 0 then
      F_X0_fold_b106  M v0 v2 v3 v4 v6
    else
      if v2 = (3 : Int32) then
        F_X0_fold_b92  M v0
      else
        if v2 = (4 : Int32) then
          F_X0_fold_b92  M v0
        else
          F_X0_fold_b106  M v0 v2 v3 v4 v6
  else
    F_X0_fold_b106  M v0 v2 v3 v4 v6
noncomputable def F_X0_fold (M : Mem) (v0 : Nat) (v1 : Int32) (v2 : Int32) (v3 : Int32) : Option (Int32 × Mem) :=
  (vg M v0 1).bind fun _ =>
  (F_X0_fine M v0).bind fun z23 =>
  (vg z23 v0 1).bind fun _ =>
  (F_X0_find z23 v0 v1).bind fun z25 =>
  (vg z23 v0 1).bind fun _ =>
  (F_X0_foldRefusal z23 v0 z25 v2 v3 (0 : Int32)).bind fun z27 =>
  if 0 < z27 then
    some ((-z27), z23)
  else
    (vg z23 v0 1).bind fun _ =>
    (F_X0_shapeWithout z23 v0 z25 v3).bind fun z29 =>
    (gr z29 v0 88).bind fun t30 =>
    (gi z29 v0 89).bind fun t31 =>
    (F_X2_count z29 t30 t31).bind fun z32 =>
    if v3 < 0 then
      (vg z29 z25 22).bind fun _ =>
      (F_X21_count z29 z25).bind fun z34 =>
      F_X0_fold_b70  z29 z34 v0 v2 v3 z25 z32
    else
      (gr z29 z25 1410).bind fun t35 =>
      (ai z29 t35 v3).bind fun t36 =>
      F_X0_fold_b70  z29 t36 v0 v2 v3 z25 z32
noncomputable def F_X0_runLine_b56  (M : Mem) (s0 : Nat) (v7 : Int32) : Option (Int32 × Mem) :=
  some (v7, M)
noncomputable def F_X0_runLine_b25_st (k25 : Mem → Nat → Int32 → Int32 → Int32 → Int32 → Int64 → Int32 → Option (Int32 × Mem)) (M : Mem) (v0 : Nat) (v1 : Int32) (v2 : Int32) (v3 : Int32) (v4 : Int32) (v5 : Int64) (v7 : Int32) : Option (Int32 × Mem) :=
  if v7 < v4 then
    (gr M v0 82).bind fun t1 =>
    (al M t1 v7).bind fun t2 =>
    (gr M v0 67).bind fun t3 =>
    tc (F_X51_add M v1 v2 v3 v5 t2 t3) (fun z4 =>
      (gr z4.2 v0 82).bind fun t6 =>
      (sj z4.2 t6 v7 z4.1).bind fun M7 =>
      let v7_8 : Int32 := v7 + (1 : Int32)
      k25 M7 v0 v1 v2 v3 v4 z4.1 v7_8)
      (fun z5 =>
        F_X0_runLine_b56  z5.2 z5.1 v7)
  else
    some ((-1 : Int32), M)
noncomputable def F_X0_runLine_b25  (n : Nat) : Mem → Nat → Int32 → Int32 → Int32 → Int32 → Int64 → Int32 → Option (Int32 × Mem) :=
  Nat.rec (motive := fun _ => Mem → Nat → Int32 → Int32 → Int32 → Int32 → Int64 → Int32 → Option (Int32 × Mem)) (fun _ _ _ _ _ _ _ _ => none) (fun _ ih => F_X0_runLine_b25_st ih) n
noncomputable def F_X0_runLine_b17  (M : Mem) (s0 : Int32) (s1 : Int32) (s2 : Int64) (v0 : Nat) (v1 : Int32) (v2 : Int32) (v3 : Int32) (v4 : Int32) : Option (Int32 × Mem) :=
  (F_X51_begin s0 s1 s2).bind fun z9 =>
  F_X0_runLine_b25  xN M v0 v1 v2 v3 v4 z9 (0 : Int32)
noncomputable def F_X0_runLine (M : Mem) (v0 : Nat) (v1 : Int32) (v2 : Int32) (v3 : Int32) (v4 : Int32) : Option (Int32 × Mem) :=
  if 0 < v4 then
    (gr M v0 82).bind fun t10 =>
    (al M t10 (0 : Int32)).bind fun t11 =>
    F_X0_runLine_b17  M v1 v3 t11 v0 v1 v2 v3 v4
  else
    F_X0_runLine_b17  M v1 v3 (0 : Int64) v0 v1 v2 v3 v4
noncomputable def F_X0_cellOf_b14_st (k14 : Mem → Nat → Int32 → Int32 → Int32 → Int32 → Int32 → Option Int32) (M : Mem) (v0 : Nat) (v1 : Int32) (v2 : Int32) (v3 : Int32) (v4 : Int32) (v5 : Int32) : Option Int32 :=
  (gi M v0 1409).bind fun t1 =>
  if v5 < t1 then
    (gr M v0 1410).bind fun t2 =>
    (ai M t2 v5).bind fun t3 =>
    let v4_4 : Int32 := (v4 * t3)
    let v5_5 : Int32 := v5 + (1 : Int32)
    k14 M v0 v1 v2 v3 v4_4 v5_5
  else
    if v4 = 0 then none else
    (gr M v0 1410).bind fun t6 =>
    (ai M t6 v1).bind fun t7 =>
    if v4 = 0 then none else
    some (((((v2 / v4) * t7) + v3) * v4) + (j_irem v2 v4))
noncomputable def F_X0_cellOf_b14  (n : Nat) : Mem → Nat → Int32 → Int32 → Int32 → Int32 → Int32 → Option Int32 :=
  Nat.rec (motive := fun _ => Mem → Nat → Int32 → Int32 → Int32 → Int32 → Int32 → Option Int32) (fun _ _ _ _ _ _ _ => none) (fun _ ih => F_X0_cellOf_b14_st ih) n
noncomputable def F_X0_cellOf (M : Mem) (v0 : Nat) (v1 : Int32) (v2 : Int32) (v3 : Int32) : Option Int32 :=
  if v1 < 0 then
    some v3
  else
    let v5_8 : Int32 := (v1 + (1 : Int32))
    F_X0_cellOf_b14  xN M v0 v1 v2 v3 (1 : Int32) v5_8
noncomputable def F_X0_running_b273  (M : Mem) (v0 : Nat) (v8 : Int32) (v9 : Int32) (v10 : Int32) : Option (Int32 × Mem) :=
  if v9 < 0 then
    (gr M v0 81).bind fun t1 =>
    (vg M v0 1).bind fun _ =>
    (F_X0_made M v0 v8 t1).bind fun z3 =>
    some (z3.1, z3.2)
  else
    (gr M v0 67).bind fun t4 =>
    (pi M t4 129 v10).bind fun M5 =>
    (vg M5 v0 1).bind fun _ =>
    (F_X0_failedAt M5 v0 v9).bind fun z7 =>
    some (z7.1, z7.2)
noncomputable def F_X0_running_b267 (k106 : Mem → Nat → Int32 → Int32 → Nat → Int32 → Int32 → Int32 → Int32 → Int32 → Int32 → Option (Int32 × Mem)) (M : Mem) (v0 : Nat) (v2 : Int32) (v3 : Int32) (v4 : Nat) (v6 : Int32) (v7 : Int32) (v8 : Int32) (v9 : Int32) (v10 : Int32) (v11 : Int32) : Option (Int32 × Mem) :=
  let v11_8 : Int32 := v11 + (1 : Int32)
  k106 M v0 v2 v3 v4 v6 v7 v8 v9 v10 v11_8
noncomputable def F_X0_running_b227_st (k106 : Mem → Nat → Int32 → Int32 → Nat → Int32 → Int32 → Int32 → Int32 → Int32 → Int32 → Option (Int32 × Mem)) (k227 : Mem → Nat → Int32 → Int32 → Nat → Int32 → Int32 → Int32 → Int32 → Int32 → Int32 → Int32 → Int32 → Int32 → Option (Int32 × Mem)) (M : Mem) (v0 : Nat) (v2 : Int32) (v3 : Int32) (v4 : Nat) (v6 : Int32) (v7 : Int32) (v8 : Int32) (v9 : Int32) (v10 : Int32) (v11 : Int32) (v12 : Int32) (v13 : Int32) (v14 : Int32) : Option (Int32 × Mem) :=
  if v14 < v12 then
    if v13 < 0 then
      (gr M v0 81).bind fun t9 =>
      (F_X0_cellOf M v4 v3 v11 v14).bind fun z10 =>
      (gr M v0 82).bind fun t11 =>
      (al M t11 v14).bind fun t12 =>
      (sj M t9 z10 t12).bind fun M13 =>
      let v14_14 : Int32 := v14 + (1 : Int32)
      k227 M13 v0 v2 v3 v4 v6 v7 v8 v9 v10 v11 v12 v13 v14_14
    else
      F_X0_running_b267 k106 M v0 v2 v3 v4 v6 v7 v8 v9 v10 v11
  else
    F_X0_running_b267 k106 M v0 v2 v3 v4 v6 v7 v8 v9 v10 v11
noncomputable def F_X0_running_b227 (k106 : Mem → Nat → Int32 → Int32 → Nat → Int32 → Int32 → Int32 → Int32 → Int32 → Int32 → Option (Int32 × Mem)) (n : Nat) : Mem → Nat → Int32 → Int32 → Nat → Int32 → Int32 → Int32 → Int32 → Int32 → Int32 → Int32 → Int32 → Int32 → Option (Int32 × Mem) :=
  Nat.rec (motive := fun _ => Mem → Nat → Int32 → Int32 → Nat → Int32 → Int32 → Int32 → Int32 → Int32 → Int32 → Int32 → Int32 → Int32 → Option (Int32 × Mem)) (fun _ _ _ _ _ _ _ _ _ _ _ _ _ _ => none) (fun _ ih => F_X0_running_b227_st k106 ih) n
noncomputable def F_X0_running_b224 (k106 : Mem → Nat → Int32 → Int32 → Nat → Int32 → Int32 → Int32 → Int32 → Int32 → Int32 → Option (Int32 × Mem)) (M : Mem) (v0 : Nat) (v2 : Int32) (v3 : Int32) (v4 : Nat) (v6 : Int32) (v7 : Int32) (v8 : Int32) (v9 : Int32) (v10 : Int32) (v11 : Int32) (v12 : Int32) (v13 : Int32) : Option (Int32 × Mem) :=
  F_X0_running_b227 k106 xN M v0 v2 v3 v4 v6 v7 v8 v9 v10 v11 v12 v13 (0 : Int32)
noncomputable def F_X0_running_b222 (k106 : Mem → Nat → Int32 → Int32 → Nat → Int32 → Int32 → Int32 → Int32 → Int32 → Int32 → Option (Int32 × Mem)) (M : Mem) (s0 : Int32) (v0 : Nat) (v2 : Int32) (v3 : Int32) (v4 : Nat) (v6 : Int32) (v7 : Int32) (v8 : Int32) (v10 : Int32) (v11 : Int32) (v12 : Int32) (v13 : Int32) : Option (Int32 × Mem) :=
  F_X0_running_b224 k106 M v0 v2 v3 v4 v6 v7 v8 s0 v10 v11 v12 v13
noncomputable def F_X0_running_b182 (k106 : Mem → Nat → Int32 → Int32 → Nat → Int32 → Int32 → Int32 → Int32 → Int32 → Int32 → Option (Int32 × Mem)) (M : Mem) (s0 : Int32) (v0 : Nat) (v2 : Int32) (v3 : Int32) (v4 : Nat) (v6 : Int32) (v7 : Int32) (v8 : Int32) (v9 : Int32) (v11 : Int32) (v12 : Int32) (v13 : Int32) : Option (Int32 × Mem) :=
  if v13 < 0 then
    F_X0_running_b224 k106 M v0 v2 v3 v4 v6 v7 v8 v9 s0 v11 v12 v13
  else
    if v9 < 0 then
      (F_X0_cellOf M v4 v3 v11 v13).bind fun z15 =>
      F_X0_running_b222 k106 M z15 v0 v2 v3 v4 v6 v7 v8 s0 v11 v12 v13
    else
      (F_X0_cellOf M v4 v3 v11 v13).bind fun z16 =>
      (F_J7_min_2 v9 z16).bind fun z17 =>
      F_X0_running_b222 k106 M z17 v0 v2 v3 v4 v6 v7 v8 s0 v11 v12 v13
noncomputable def F_X0_running_b180 (k106 : Mem → Nat → Int32 → Int32 → Nat → Int32 → Int32 → Int32 → Int32 → Int32 → Int32 → Option (Int32 × Mem)) (M : Mem) (v0 : Nat) (v2 : Int32) (v3 : Int32) (v4 : Nat) (v6 : Int32) (v7 : Int32) (v8 : Int32) (v9 : Int32) (v10 : Int32) (v11 : Int32) (v12 : Int32) (v13 : Int32) : Option (Int32 × Mem) :=
  F_X0_running_b182 k106 M v10 v0 v2 v3 v4 v6 v7 v8 v9 v11 v12 v13
noncomputable def F_X0_running_b170 (k106 : Mem → Nat → Int32 → Int32 → Nat → Int32 → Int32 → Int32 → Int32 → Int32 → Int32 → Option (Int32 × Mem)) (M : Mem) (v0 : Nat) (v2 : Int32) (v3 : Int32) (v4 : Nat) (v6 : Int32) (v7 : Int32) (v8 : Int32) (v9 : Int32) (v11 : Int32) (v12 : Int32) (v13 : Int32) : Option (Int32 × Mem) :=
  (gr M v0 67).bind fun t18 =>
  (gi M t18 129).bind fun t19 =>
  F_X0_running_b182 k106 M t19 v0 v2 v3 v4 v6 v7 v8 v9 v11 v12 v13
noncomputable def F_X0_running_b106_st (k106 : Mem → Nat → Int32 → Int32 → Nat → Int32 → Int32 → Int32 → Int32 → Int32 → Int32 → Option (Int32 × Mem)) (M : Mem) (v0 : Nat) (v2 : Int32) (v3 : Int32) (v4 : Nat) (v6 : Int32) (v7 : Int32) (v8 : Int32) (v9 : Int32) (v10 : Int32) (v11 : Int32) : Option (Int32 × Mem) :=
  if v11 < v6 then
    if 0 < v7 then
      (vg M v0 1).bind fun _ =>
      (F_X0_lineOf M v0 v4 v3 v11).bind fun z21 =>
      (gi z21.2 v4 1408).bind fun t22 =>
      (vg z21.2 v0 1).bind fun _ =>
      (F_X0_runLine z21.2 v0 v2 t22 v8 z21.1).bind fun z24 =>
      if z24.1 < 0 then
        F_X0_running_b180 k106 z24.2 v0 v2 v3 v4 v6 v7 v8 v9 v10 v11 z21.1 z24.1
      else
        if v9 < 0 then
          F_X0_running_b170 k106 z24.2 v0 v2 v3 v4 v6 v7 v8 v9 v11 z21.1 z24.1
        else
          (F_X0_cellOf z24.2 v4 v3 v11 z24.1).bind fun z25 =>
          if z25 < v9 then
            F_X0_running_b170 k106 z24.2 v0 v2 v3 v4 v6 v7 v8 v9 v11 z21.1 z24.1
          else
            F_X0_running_b180 k106 z24.2 v0 v2 v3 v4 v6 v7 v8 v9 v10 v11 z21.1 z24.1
    else
      F_X0_running_b273  M v0 v8 v9 v10
  else
    F_X0_running_b273  M v0 v8 v9 v10
noncomputable def F_X0_running_b106  (n : Nat) : Mem → Nat → Int32 → Int32 → Nat → Int32 → Int32 → Int32 → Int32 → Int32 → Int32 → Option (Int32 × Mem) :=
  Nat.rec (motive := fun _ => Mem → Nat → Int32 → Int32 → Nat → Int32 → Int32 → Int32 → Int32 → Int32 → Int32 → Option (Int32 × Mem)) (fun _ _ _ _ _ _ _ _ _ _ _ => none) (fun _ ih => F_X0_running_b106_st ih) n
noncomputable def F_X0_running_b84  (M : Mem) (s0 : Int32) (v0 : Nat) (v2 : Int32) (v3 : Int32) (v4 : Nat) (v6 : Int32) : Option (Int32 × Mem) :=
  (gi M v4 1408).bind fun t26 =>
  (F_X51_result v2 t26).bind fun z27 =>
  F_X0_running_b106  xN M v0 v2 v3 v4 v6 s0 z27 (-1 : Int32) (0 : Int32) (0 : Int32)
noncomputable def F_X0_running (M : Mem) (v0 : Nat) (v1 : Int32) (v2 : Int32) (v3 : Int32) : Option (Int32 × Mem) :=
  (vg M v0 1).bind fun _ =>
  (F_X0_fine M v0).bind fun z29 =>
  (vg z29 v0 1).bind fun _ =>
  (F_X0_find z29 v0 v1).bind fun z31 =>
  (vg z29 v0 1).bind fun _ =>
  (F_X0_foldRefusal z29 v0 z31 v2 v3 (1 : Int32)).bind fun z33 =>
  if 0 < z33 then
    some ((-z33), z29)
  else
    (vg z29 v0 1).bind fun _ =>
    (F_X0_shapeWithout z29 v0 z31 v3).bind fun z35 =>
    (gr z35 v0 88).bind fun t36 =>
    (gi z35 v0 89).bind fun t37 =>
    (F_X2_count z35 t36 t37).bind fun z38 =>
    (gr z35 z31 1410).bind fun t39 =>
    (gi z35 z31 1409).bind fun t40 =>
    (vg z35 v0 1).bind fun _ =>
    (F_X0_shapeOf z35 v0 t39 t40).bind fun z42 =>
    if v3 < 0 then
      (vg z42 z31 22).bind fun _ =>
      (F_X21_count z42 z31).bind fun z44 =>
      F_X0_running_b84  z42 z44 v0 v2 v3 z31 z38
    else
      (gr z42 z31 1410).bind fun t45 =>
      (ai z42 t45 v3).bind fun t46 =>
      F_X0_running_b84  z42 t46 v0 v2 v3 z31 z38
noncomputable def F_X21_isRow_b13  (M : Mem) (s0 : Int32) : Option Int32 :=
  some (s0 &&& 1)
noncomputable def F_X21_isRow (M : Mem) (v0 : Nat) : Option Int32 :=
  (gi M v0 1409).bind fun t1 =>
  if t1 = (1 : Int32) then
    F_X21_isRow_b13  M (1 : Int32)
  else
    F_X21_isRow_b13  M (0 : Int32)
noncomputable def F_X7_isBefore_b48  (M : Mem) (s0 : Int32) : Option Int32 :=
  some (s0 &&& 1)
noncomputable def F_X7_isBefore (M : Mem) (v0 : Nat) (v1 : Int32) (v2 : Int32) : Option Int32 :=
  (gi M v0 515).bind fun t1 =>
  (gr M v0 514).bind fun t2 =>
  (al M t2 v1).bind fun t3 =>
  (gr M v0 514).bind fun t4 =>
  (al M t4 v2).bind fun t5 =>
  (F_X23_order t1 t3 t5).bind fun z6 =>
  (gi M v0 516).bind fun t7 =>
  if t7 = 0 then
    if z6 < 0 then
      F_X7_isBefore_b48  M (1 : Int32)
    else
      F_X7_isBefore_b48  M (0 : Int32)
  else
    if 0 < z6 then
      F_X7_isBefore_b48  M (1 : Int32)
    else
      F_X7_isBefore_b48  M (0 : Int32)
noncomputable def F_X7_join_b98 (k9 : Mem → Nat → Int32 → Int32 → Int32 → Int32 → Int32 → Option Mem) (M : Mem) (v0 : Nat) (v2 : Int32) (v3 : Int32) (v4 : Int32) (v5 : Int32) (v6 : Int32) : Option Mem :=
  let v6_1 : Int32 := v6 + (1 : Int32)
  k9 M v0 v2 v3 v4 v5 v6_1
noncomputable def F_X7_join_b83 (k9 : Mem → Nat → Int32 → Int32 → Int32 → Int32 → Int32 → Option Mem) (M : Mem) (s0 : Nat) (s1 : Int32) (s2 : Int32) (v0 : Nat) (v2 : Int32) (v3 : Int32) (v4 : Int32) (v5 : Int32) (v6 : Int32) (v7 : Int32) : Option Mem :=
  (si M s0 s1 s2).bind fun M2 =>
  if v7 = 0 then
    let v4_3 : Int32 := v4 + (1 : Int32)
    F_X7_join_b98 k9 M2 v0 v2 v3 v4_3 v5 v6
  else
    let v5_4 : Int32 := v5 + (1 : Int32)
    F_X7_join_b98 k9 M2 v0 v2 v3 v4 v5_4 v6
noncomputable def F_X7_join_b53 (k9 : Mem → Nat → Int32 → Int32 → Int32 → Int32 → Int32 → Option Mem) (M : Mem) (s0 : Int32) (v0 : Nat) (v2 : Int32) (v3 : Int32) (v4 : Int32) (v5 : Int32) (v6 : Int32) : Option Mem :=
  (gr M v0 513).bind fun t5 =>
  if s0 = 0 then
    (gr M v0 512).bind fun t6 =>
    (ai M t6 v4).bind fun t7 =>
    F_X7_join_b83 k9 M t5 v6 t7 v0 v2 v3 v4 v5 v6 s0
  else
    (gr M v0 512).bind fun t8 =>
    (ai M t8 v5).bind fun t9 =>
    F_X7_join_b83 k9 M t5 v6 t9 v0 v2 v3 v4 v5 v6 s0
noncomputable def F_X7_join_b48 (k9 : Mem → Nat → Int32 → Int32 → Int32 → Int32 → Int32 → Option Mem) (M : Mem) (v0 : Nat) (v2 : Int32) (v3 : Int32) (v4 : Int32) (v5 : Int32) (v6 : Int32) : Option Mem :=
  F_X7_join_b53 k9 M (1 : Int32) v0 v2 v3 v4 v5 v6
noncomputable def F_X7_join_b52 (k9 : Mem → Nat → Int32 → Int32 → Int32 → Int32 → Int32 → Option Mem) (M : Mem) (v0 : Nat) (v2 : Int32) (v3 : Int32) (v4 : Int32) (v5 : Int32) (v6 : Int32) : Option Mem :=
  F_X7_join_b53 k9 M (0 : Int32) v0 v2 v3 v4 v5 v6
noncomputable def F_X7_join_b9_st (k9 : Mem → Nat → Int32 → Int32 → Int32 → Int32 → Int32 → Option Mem) (M : Mem) (v0 : Nat) (v2 : Int32) (v3 : Int32) (v4 : Int32) (v5 : Int32) (v6 : Int32) : Option Mem :=
  if v6 < v3 then
    if v4 = v2 then
      F_X7_join_b48 k9 M v0 v2 v3 v4 v5 v6
    else
      if v5 < v3 then
        (gr M v0 512).bind fun t10 =>
        (ai M t10 v5).bind fun t11 =>
        (gr M v0 512).bind fun t12 =>
        (ai M t12 v4).bind fun t13 =>
        (vg M v0 8).bind fun _ =>
        (F_X7_isBefore M v0 t11 t13).bind fun z15 =>
        if z15 = 0 then
          F_X7_join_b52 k9 M v0 v2 v3 v4 v5 v6
        else
          F_X7_join_b48 k9 M v0 v2 v3 v4 v5 v6
      else
        F_X7_join_b52 k9 M v0 v2 v3 v4 v5 v6
  else
    some M
noncomputable def F_X7_join_b9  (n : Nat) : Mem → Nat → Int32 → Int32 → Int32 → Int32 → Int32 → Option Mem :=
  Nat.rec (motive := fun _ => Mem → Nat → Int32 → Int32 → Int32 → Int32 → Int32 → Option Mem) (fun _ _ _ _ _ _ _ => none) (fun _ ih => F_X7_join_b9_st ih) n
noncomputable def F_X7_join (M : Mem) (v0 : Nat) (v1 : Int32) (v2 : Int32) (v3 : Int32) : Option Mem :=
  F_X7_join_b9  xN M v0 v2 v3 v1 v2 v1
noncomputable def F_X7_sort_b99_st (k43 : Mem → Nat → Int32 → Int32 → Option Mem) (k99 : Mem → Nat → Int32 → Int32 → Int32 → Option Mem) (M : Mem) (v0 : Nat) (v2 : Int32) (v5 : Int32) (v6 : Int32) : Option Mem :=
  if v6 < v2 then
    (gr M v0 512).bind fun t1 =>
    (gr M v0 513).bind fun t2 =>
    (ai M t2 v6).bind fun t3 =>
    (si M t1 v6 t3).bind fun M4 =>
    let v6_5 : Int32 := v6 + (1 : Int32)
    k99 M4 v0 v2 v5 v6_5
  else
    let v5_6 : Int32 := (v5 * (2 : Int32))
    k43 M v0 v2 v5_6
noncomputable def F_X7_sort_b99 (k43 : Mem → Nat → Int32 → Int32 → Option Mem) (n : Nat) : Mem → Nat → Int32 → Int32 → Int32 → Option Mem :=
  Nat.rec (motive := fun _ => Mem → Nat → Int32 → Int32 → Int32 → Option Mem) (fun _ _ _ _ _ => none) (fun _ ih => F_X7_sort_b99_st k43 ih) n
noncomputable def F_X7_sort_b52_st (k43 : Mem → Nat → Int32 → Int32 → Option Mem) (k52 : Mem → Nat → Int32 → Int32 → Int32 → Option Mem) (M : Mem) (v0 : Nat) (v2 : Int32) (v5 : Int32) (v6 : Int32) : Option Mem :=
  if v6 < v2 then
    (F_J7_min_2 (v6 + v5) v2).bind fun z7 =>
    (F_J7_min_2 (v6 + ((2 : Int32) * v5)) v2).bind fun z8 =>
    (vg M v0 8).bind fun _ =>
    (F_X7_join M v0 v6 z7 z8).bind fun z10 =>
    let v6_11 : Int32 := (v6 + ((2 : Int32) * v5))
    k52 z10 v0 v2 v5 v6_11
  else
    F_X7_sort_b99 k43 xN M v0 v2 v5 (0 : Int32)
noncomputable def F_X7_sort_b52 (k43 : Mem → Nat → Int32 → Int32 → Option Mem) (n : Nat) : Mem → Nat → Int32 → Int32 → Int32 → Option Mem :=
  Nat.rec (motive := fun _ => Mem → Nat → Int32 → Int32 → Int32 → Option Mem) (fun _ _ _ _ _ => none) (fun _ ih => F_X7_sort_b52_st k43 ih) n
noncomputable def F_X7_sort_b43_st (k43 : Mem → Nat → Int32 → Int32 → Option Mem) (M : Mem) (v0 : Nat) (v2 : Int32) (v5 : Int32) : Option Mem :=
  if v5 < v2 then
    F_X7_sort_b52 k43 xN M v0 v2 v5 (0 : Int32)
  else
    some M
noncomputable def F_X7_sort_b43  (n : Nat) : Mem → Nat → Int32 → Int32 → Option Mem :=
  Nat.rec (motive := fun _ => Mem → Nat → Int32 → Int32 → Option Mem) (fun _ _ _ _ => none) (fun _ ih => F_X7_sort_b43_st ih) n
noncomputable def F_X7_sort_b19_st (k19 : Mem → Nat → Int32 → Int32 → Option Mem) (M : Mem) (v0 : Nat) (v2 : Int32) (v5 : Int32) : Option Mem :=
  if v5 < v2 then
    (gr M v0 512).bind fun t12 =>
    (si M t12 v5 v5).bind fun M13 =>
    let v5_14 : Int32 := v5 + (1 : Int32)
    k19 M13 v0 v2 v5_14
  else
    F_X7_sort_b43  xN M v0 v2 (1 : Int32)
noncomputable def F_X7_sort_b19  (n : Nat) : Mem → Nat → Int32 → Int32 → Option Mem :=
  Nat.rec (motive := fun _ => Mem → Nat → Int32 → Int32 → Option Mem) (fun _ _ _ _ => none) (fun _ ih => F_X7_sort_b19_st ih) n
noncomputable def F_X7_sort (M : Mem) (v0 : Nat) (v1 : Nat) (v2 : Int32) (v3 : Int32) (v4 : Int32) : Option Mem :=
  (pr M v0 514 v1).bind fun M15 =>
  (pi M15 v0 515 v3).bind fun M16 =>
  (pi M16 v0 516 v4).bind fun M17 =>
  F_X7_sort_b19  xN M17 v0 v2 (0 : Int32)
noncomputable def F_X7_at (M : Mem) (v0 : Nat) (v1 : Int32) : Option Int32 :=
  (gr M v0 512).bind fun t1 =>
  (ai M t1 v1).bind fun t2 =>
  some t2
noncomputable def F_X0_rowShape (M : Mem) (v0 : Nat) (v1 : Int32) : Option Mem :=
  (pi M v0 89 (1 : Int32)).bind fun M1 =>
  (gr M1 v0 88).bind fun t2 =>
  (si M1 t2 (0 : Int32) v1).bind fun M3 =>
  some M3
noncomputable def F_X0_sorted_b57_st (k57 : Mem → Nat → Int32 → Int32 → Option (Int32 × Mem)) (M : Mem) (v0 : Nat) (v4 : Int32) (v5 : Int32) : Option (Int32 × Mem) :=
  if v5 < v4 then
    (gr M v0 81).bind fun t1 =>
    (gr M v0 74).bind fun t2 =>
    (vg M t2 8).bind fun _ =>
    (F_X7_at M t2 v5).bind fun z4 =>
    (sj M t1 v5 (z4.toInt64)).bind fun M5 =>
    let v5_6 : Int32 := v5 + (1 : Int32)
    k57 M5 v0 v4 v5_6
  else
    (vg M v0 1).bind fun _ =>
    (F_X0_rowShape M v0 v4).bind fun z8 =>
    (gr z8 v0 81).bind fun t9 =>
    (vg z8 v0 1).bind fun _ =>
    (F_X0_made z8 v0 (4 : Int32) t9).bind fun z11 =>
    some (z11.1, z11.2)
noncomputable def F_X0_sorted_b57  (n : Nat) : Mem → Nat → Int32 → Int32 → Option (Int32 × Mem) :=
  Nat.rec (motive := fun _ => Mem → Nat → Int32 → Int32 → Option (Int32 × Mem)) (fun _ _ _ _ => none) (fun _ ih => F_X0_sorted_b57_st ih) n
noncomputable def F_X0_sorted (M : Mem) (v0 : Nat) (v1 : Int32) (v2 : Int32) : Option (Int32 × Mem) :=
  (vg M v0 1).bind fun _ =>
  (F_X0_find M v0 v1).bind fun z13 =>
  if z13 = 6 then
    none
  else
    if z13 = 0 then
      (vg M v0 1).bind fun _ =>
      (F_X0_gone M v0).bind fun z15 =>
      some ((-z15), M)
    else
      (vg M z13 22).bind fun _ =>
      (F_X21_isRow M z13).bind fun z17 =>
      if z17 = 0 then
        some ((-1 : Int32), M)
      else
        (gr M v0 82).bind fun t18 =>
        (vg M v0 1).bind fun _ =>
        (F_X0_gather M v0 z13 t18).bind fun z20 =>
        (gr z20.2 v0 74).bind fun t21 =>
        (gr z20.2 v0 82).bind fun t22 =>
        (gi z20.2 z13 1408).bind fun t23 =>
        (vg z20.2 t21 8).bind fun _ =>
        (F_X7_sort z20.2 t21 t22 z20.1 t23 v2).bind fun z25 =>
        F_X0_sorted_b57  xN z25 v0 z20.1 (0 : Int32)
noncomputable def F_X0_search_b38  (M : Mem) : Option Int32 :=
  some (-1 : Int32)
noncomputable def F_X0_search_b82 (k53 : Mem → Int64 → Nat → Int32 → Int32 → Int32 → Option Int32) (M : Mem) (v2 : Int64) (v4 : Nat) (v5 : Int32) (v6 : Int32) (v7 : Int32) : Option Int32 :=
  let v7_1 : Int32 := v7 + (1 : Int32)
  k53 M v2 v4 v5 v6 v7_1
noncomputable def F_X0_search_b53_st (k53 : Mem → Int64 → Nat → Int32 → Int32 → Int32 → Option Int32) (M : Mem) (v2 : Int64) (v4 : Nat) (v5 : Int32) (v6 : Int32) (v7 : Int32) : Option Int32 :=
  if v7 < v5 then
    (gi M v4 1408).bind fun t2 =>
    (vg M v4 22).bind fun _ =>
    (F_X21_get M v4 v7).bind fun z4 =>
    (F_X23_order t2 z4 v2).bind fun z5 =>
    if z5 < 0 then
      let v6_6 : Int32 := v6 + (1 : Int32)
      F_X0_search_b82 k53 M v2 v4 v5 v6_6 v7
    else
      F_X0_search_b82 k53 M v2 v4 v5 v6 v7
  else
    some v6
noncomputable def F_X0_search_b53  (n : Nat) : Mem → Int64 → Nat → Int32 → Int32 → Int32 → Option Int32 :=
  Nat.rec (motive := fun _ => Mem → Int64 → Nat → Int32 → Int32 → Int32 → Option Int32) (fun _ _ _ _ _ _ => none) (fun _ ih => F_X0_search_b53_st ih) n
noncomputable def F_X0_search (M : Mem) (v0 : Nat) (v1 : Int32) (v2 : Int64) : Option Int32 :=
  (vg M v0 1).bind fun _ =>
  (F_X0_find M v0 v1).bind fun z8 =>
  if z8 = 6 then
    none
  else
    if z8 = 0 then
      (vg M v0 1).bind fun _ =>
      (F_X0_gone M v0).bind fun z10 =>
      some (-z10)
    else
      (vg M z8 22).bind fun _ =>
      (F_X21_isRow M z8).bind fun z12 =>
      if z12 = 0 then
        F_X0_search_b38  M
      else
        (gi M z8 1408).bind fun t13 =>
        (F_X23_isBits t13 v2).bind fun z14 =>
        if z14 = 0 then
          F_X0_search_b38  M
        else
          (vg M z8 22).bind fun _ =>
          (F_X21_count M z8).bind fun z16 =>
          F_X0_search_b53  xN M v2 z8 z16 (0 : Int32) (0 : Int32)
noncomputable def F_X0_two_b47_st (k47 : Mem → Nat → Int32 → Int32 → Int32 → Int32 → Option (Int32 × Mem)) (M : Mem) (v0 : Nat) (v2 : Int32) (v3 : Int32) (v4 : Int32) (v5 : Int32) : Option (Int32 × Mem) :=
  if v5 < v3 then
    (gr M v0 81).bind fun t1 =>
    (gr M v0 81).bind fun t2 =>
    (al M t2 ((4096 : Int32) + v5)).bind fun t3 =>
    (sj M t1 v5 t3).bind fun M4 =>
    let v5_5 : Int32 := v5 + (1 : Int32)
    k47 M4 v0 v2 v3 v4 v5_5
  else
    (gr M v0 68).bind fun t6 =>
    (gr M v0 88).bind fun t7 =>
    (gi M v0 89).bind fun t8 =>
    (gr M v0 81).bind fun t9 =>
    (vg M t6 3).bind fun _ =>
    (F_X2_make M t6 v2 t7 t8 t9).bind fun z11 =>
    (F_J7_min_2 v4 z11.1).bind fun z12 =>
    some (z12, z11.2)
noncomputable def F_X0_two_b47  (n : Nat) : Mem → Nat → Int32 → Int32 → Int32 → Int32 → Option (Int32 × Mem) :=
  Nat.rec (motive := fun _ => Mem → Nat → Int32 → Int32 → Int32 → Int32 → Option (Int32 × Mem)) (fun _ _ _ _ _ _ => none) (fun _ ih => F_X0_two_b47_st ih) n
noncomputable def F_X0_two (M : Mem) (v0 : Nat) (v1 : Int32) (v2 : Int32) (v3 : Int32) : Option (Int32 × Mem) :=
  (gr M v0 68).bind fun t13 =>
  (vg M t13 3).bind fun _ =>
  (F_X2_hasRoom M t13 (2 : Int32) ((2 : Int32) * v3)).bind fun z15 =>
  if z15 = 0 then
    some ((-12 : Int32), M)
  else
    (vg M v0 1).bind fun _ =>
    (F_X0_rowShape M v0 v3).bind fun z17 =>
    (gr z17 v0 68).bind fun t18 =>
    (gr z17 v0 88).bind fun t19 =>
    (gi z17 v0 89).bind fun t20 =>
    (gr z17 v0 81).bind fun t21 =>
    (vg z17 t18 3).bind fun _ =>
    (F_X2_make z17 t18 v1 t19 t20 t21).bind fun z23 =>
    F_X0_two_b47  xN z23.2 v0 v2 v3 z23.1 (0 : Int32)
noncomputable def F_X0_groups_b24  (M : Mem) (v0 : Nat) : Option (Int32 × Mem) :=
  (vg M v0 1).bind fun _ =>
  (F_X0_gone M v0).bind fun z2 =>
  some ((-z2), M)
noncomputable def F_X0_groups_b43  (M : Mem) : Option (Int32 × Mem) :=
  some ((-14 : Int32), M)
noncomputable def F_X0_groups_b74  (M : Mem) : Option (Int32 × Mem) :=
  some ((-1 : Int32), M)
noncomputable def F_X0_groups_b273 (k144 : Mem → Nat → Int32 → Nat → Nat → Int32 → Int32 → Int32 → Int32 → Option (Int32 × Mem)) (M : Mem) (v0 : Nat) (v3 : Int32) (v4 : Nat) (v5 : Nat) (v6 : Int32) (v7 : Int32) (v8 : Int32) (v9 : Int32) (v10 : Int32) (v13 : Int64) : Option (Int32 × Mem) :=
  (gr M v0 81).bind fun t3 =>
  (gr M v0 82).bind fun t4 =>
  (gr M v0 74).bind fun t5 =>
  (vg M t5 8).bind fun _ =>
  (F_X7_at M t5 v9).bind fun z7 =>
  (al M t4 z7).bind fun t8 =>
  (sj M t3 v8 t8).bind fun M9 =>
  (gr M9 v0 81).bind fun t10 =>
  (sj M9 t10 ((4096 : Int32) + v8) v13).bind fun M11 =>
  let v8_12 : Int32 := v8 + (1 : Int32)
  k144 M11 v0 v3 v4 v5 v6 v7 v8_12 v10
noncomputable def F_X0_groups_b256  (M : Mem) (s0 : Nat) (v0 : Nat) : Option (Int32 × Mem) :=
  (gr M v0 67).bind fun t13 =>
  (gi M t13 129).bind fun t14 =>
  some ((-t14), M)
noncomputable def F_X0_groups_b181_st (k144 : Mem → Nat → Int32 → Nat → Nat → Int32 → Int32 → Int32 → Int32 → Option (Int32 × Mem)) (k181 : Mem → Nat → Int32 → Nat → Nat → Int32 → Int32 → Int32 → Int32 → Int32 → Int64 → Option (Int32 × Mem)) (M : Mem) (v0 : Nat) (v3 : Int32) (v4 : Nat) (v5 : Nat) (v6 : Int32) (v7 : Int32) (v8 : Int32) (v9 : Int32) (v10 : Int32) (v13 : Int64) : Option (Int32 × Mem) :=
  if v10 < v6 then
    (gr M v0 82).bind fun t15 =>
    (gr M v0 74).bind fun t16 =>
    (vg M t16 8).bind fun _ =>
    (F_X7_at M t16 v10).bind fun z18 =>
    (al M t15 z18).bind fun t19 =>
    (gr M v0 82).bind fun t20 =>
    (gr M v0 74).bind fun t21 =>
    (vg M t21 8).bind fun _ =>
    (F_X7_at M t21 v9).bind fun z23 =>
    (al M t20 z23).bind fun t24 =>
    if t19 = t24 then
      (gi M v5 1408).bind fun t25 =>
      (gr M v0 74).bind fun t26 =>
      (vg M t26 8).bind fun _ =>
      (F_X7_at M t26 v10).bind fun z28 =>
      (vg M v5 22).bind fun _ =>
      (F_X21_get M v5 z28).bind fun z30 =>
      (gr M v0 67).bind fun t31 =>
      tc (F_X51_add M v3 t25 v7 v13 z30 t31) (fun z32 =>
        let v10_34 : Int32 := v10 + (1 : Int32)
        k181 z32.2 v0 v3 v4 v5 v6 v7 v8 v9 v10_34 z32.1)
        (fun z33 =>
          F_X0_groups_b256  z33.2 z33.1 v0)
    else
      F_X0_groups_b273 k144 M v0 v3 v4 v5 v6 v7 v8 v9 v10 v13
  else
    F_X0_groups_b273 k144 M v0 v3 v4 v5 v6 v7 v8 v9 v10 v13
noncomputable def F_X0_groups_b181 (k144 : Mem → Nat → Int32 → Nat → Nat → Int32 → Int32 → Int32 → Int32 → Option (Int32 × Mem)) (n : Nat) : Mem → Nat → Int32 → Nat → Nat → Int32 → Int32 → Int32 → Int32 → Int32 → Int64 → Option (Int32 × Mem) :=
  Nat.rec (motive := fun _ => Mem → Nat → Int32 → Nat → Nat → Int32 → Int32 → Int32 → Int32 → Int32 → Int64 → Option (Int32 × Mem)) (fun _ _ _ _ _ _ _ _ _ _ _ => none) (fun _ ih => F_X0_groups_b181_st k144 ih) n
noncomputable def F_X0_groups_b144_st (k144 : Mem → Nat → Int32 → Nat → Nat → Int32 → Int32 → Int32 → Int32 → Option (Int32 × Mem)) (M : Mem) (v0 : Nat) (v3 : Int32) (v4 : Nat) (v5 : Nat) (v6 : Int32) (v7 : Int32) (v8 : Int32) (v9 : Int32) : Option (Int32 × Mem) :=
  if v9 < v6 then
    (gr M v0 74).bind fun t35 =>
    (vg M t35 8).bind fun _ =>
    (F_X7_at M t35 v9).bind fun z37 =>
    (vg M v5 22).bind fun _ =>
    (F_X21_get M v5 z37).bind fun z39 =>
    (F_X51_begin v3 v7 z39).bind fun z40 =>
    F_X0_groups_b181 k144 xN M v0 v3 v4 v5 v6 v7 v8 v9 v9 z40
  else
    (gi M v4 1408).bind fun t41 =>
    (vg M v0 1).bind fun _ =>
    (F_X0_two M v0 t41 v7 v8).bind fun z43 =>
    some (z43.1, z43.2)
noncomputable def F_X0_groups_b144  (n : Nat) : Mem → Nat → Int32 → Nat → Nat → Int32 → Int32 → Int32 → Int32 → Option (Int32 × Mem) :=
  Nat.rec (motive := fun _ => Mem → Nat → Int32 → Nat → Nat → Int32 → Int32 → Int32 → Int32 → Option (Int32 × Mem)) (fun _ _ _ _ _ _ _ _ _ => none) (fun _ ih => F_X0_groups_b144_st ih) n
noncomputable def F_X0_groups (M : Mem) (v0 : Nat) (v1 : Int32) (v2 : Int32) (v3 : Int32) : Option (Int32 × Mem) :=
  (vg M v0 1).bind fun _ =>
  (F_X0_find M v0 v1).bind fun z45 =>
  (vg M v0 1).bind fun _ =>
  (F_X0_find M v0 v2).bind fun z47 =>
  if z45 = 6 then
    none
  else
    if z45 = 0 then
      F_X0_groups_b24  M v0
    else
      if z47 = 6 then
        none
      else
        if z47 = 0 then
          F_X0_groups_b24  M v0
        else
          (F_X51_isWay v3).bind fun z48 =>
          if z48 = 0 then
            F_X0_groups_b43  M
          else
            if v3 = (8 : Int32) then
              F_X0_groups_b43  M
            else
              (vg M z45 22).bind fun _ =>
              (F_X21_isRow M z45).bind fun z50 =>
              if z50 = 0 then
                F_X0_groups_b74  M
              else
                (vg M z47 22).bind fun _ =>
                (F_X21_isRow M z47).bind fun z52 =>
                if z52 = 0 then
                  F_X0_groups_b74  M
                else
                  (gi M z47 1408).bind fun t53 =>
                  (F_X51_takes v3 t53).bind fun z54 =>
                  if z54 = 0 then
                    F_X0_groups_b74  M
                  else
                    (gr M z45 1410).bind fun t55 =>
                    (ai M t55 (0 : Int32)).bind fun t56 =>
                    (gr M z47 1410).bind fun t57 =>
                    (ai M t57 (0 : Int32)).bind fun t58 =>
                    if t56 = t58 then
                      (gr M v0 82).bind fun t59 =>
                      (vg M v0 1).bind fun _ =>
                      (F_X0_gather M v0 z45 t59).bind fun z61 =>
                      (gr z61.2 v0 74).bind fun t62 =>
                      (gr z61.2 v0 82).bind fun t63 =>
                      (gi z61.2 z45 1408).bind fun t64 =>
                      (vg z61.2 t62 8).bind fun _ =>
                      (F_X7_sort z61.2 t62 t63 z61.1 t64 (0 : Int32)).bind fun z66 =>
                      (gi z66 z47 1408).bind fun t67 =>
                      (F_X51_result v3 t67).bind fun z68 =>
                      F_X0_groups_b144  xN z66 v0 v3 z45 z47 z61.1 z68 (0 : Int32) (0 : Int32)
                    else
                      some ((-3 : Int32), M)
noncomputable def F_X7_first_b58 (k6 : Mem → Nat → Int64 → Int32 → Int32 → Option Int32) (M : Mem) (v0 : Nat) (v1 : Int64) (v4 : Int32) (v5 : Int32) : Option Int32 :=
  k6 M v0 v1 v4 v5
noncomputable def F_X7_first_b6_st (k6 : Mem → Nat → Int64 → Int32 → Int32 → Option Int32) (M : Mem) (v0 : Nat) (v1 : Int64) (v4 : Int32) (v5 : Int32) : Option Int32 :=
  if v4 < v5 then
    if (2 : Int32) = 0 then none else
    let v6_1 : Int32 := ((v4 + v5) / (2 : Int32))
    (gi M v0 515).bind fun t2 =>
    (gr M v0 514).bind fun t3 =>
    (gr M v0 512).bind fun t4 =>
    (ai M t4 v6_1).bind fun t5 =>
    (al M t3 t5).bind fun t6 =>
    (F_X23_order t2 t6 v1).bind fun z7 =>
    if z7 < 0 then
      let v4_8 : Int32 := (v6_1 + (1 : Int32))
      F_X7_first_b58 k6 M v0 v1 v4_8 v5
    else
      F_X7_first_b58 k6 M v0 v1 v4 v6_1
  else
    some v4
noncomputable def F_X7_first_b6  (n : Nat) : Mem → Nat → Int64 → Int32 → Int32 → Option Int32 :=
  Nat.rec (motive := fun _ => Mem → Nat → Int64 → Int32 → Int32 → Option Int32) (fun _ _ _ _ _ => none) (fun _ ih => F_X7_first_b6_st ih) n
noncomputable def F_X7_first (M : Mem) (v0 : Nat) (v1 : Int64) (v3 : Int32) : Option Int32 :=
  F_X7_first_b6  xN M v0 v1 (0 : Int32) v3
noncomputable def F_X0_join_b22  (M : Mem) (v0 : Nat) : Option (Int32 × Mem) :=
  (vg M v0 1).bind fun _ =>
  (F_X0_gone M v0).bind fun z2 =>
  some ((-z2), M)
noncomputable def F_X0_join_b55  (M : Mem) : Option (Int32 × Mem) :=
  some ((-1 : Int32), M)
noncomputable def F_X0_join_b208 (k100 : Mem → Nat → Nat → Int32 → Int32 → Int32 → Int32 → Option (Int32 × Mem)) (M : Mem) (v0 : Nat) (v3 : Nat) (v5 : Int32) (v6 : Int32) (v7 : Int32) (v8 : Int32) : Option (Int32 × Mem) :=
  let v8_3 : Int32 := v8 + (1 : Int32)
  k100 M v0 v3 v5 v6 v7 v8_3
noncomputable def F_X0_join_b128_st (k100 : Mem → Nat → Nat → Int32 → Int32 → Int32 → Int32 → Option (Int32 × Mem)) (k128 : Mem → Nat → Nat → Int32 → Int32 → Int32 → Int32 → Int64 → Int32 → Option (Int32 × Mem)) (M : Mem) (v0 : Nat) (v3 : Nat) (v5 : Int32) (v6 : Int32) (v7 : Int32) (v8 : Int32) (v9 : Int64) (v11 : Int32) : Option (Int32 × Mem) :=
  if v11 < v5 then
    (gr M v0 82).bind fun t4 =>
    (gr M v0 74).bind fun t5 =>
    (vg M t5 8).bind fun _ =>
    (F_X7_at M t5 v11).bind fun z7 =>
    (al M t4 z7).bind fun t8 =>
    if t8 = v9 then
      if v7 = (4096 : Int32) then
        some ((-12 : Int32), M)
      else
        (gr M v0 81).bind fun t9 =>
        (sj M t9 ((2 : Int32) * v7) (v8.toInt64)).bind fun M10 =>
        (gr M10 v0 81).bind fun t11 =>
        (gr M10 v0 74).bind fun t12 =>
        (vg M10 t12 8).bind fun _ =>
        (F_X7_at M10 t12 v11).bind fun z14 =>
        (sj M10 t11 (((2 : Int32) * v7) + (1 : Int32)) (z14.toInt64)).bind fun M15 =>
        let v7_16 : Int32 := v7 + (1 : Int32)
        let v11_17 : Int32 := v11 + (1 : Int32)
        k128 M15 v0 v3 v5 v6 v7_16 v8 v9 v11_17
    else
      F_X0_join_b208 k100 M v0 v3 v5 v6 v7 v8
  else
    F_X0_join_b208 k100 M v0 v3 v5 v6 v7 v8
noncomputable def F_X0_join_b128 (k100 : Mem → Nat → Nat → Int32 → Int32 → Int32 → Int32 → Option (Int32 × Mem)) (n : Nat) : Mem → Nat → Nat → Int32 → Int32 → Int32 → Int32 → Int64 → Int32 → Option (Int32 × Mem) :=
  Nat.rec (motive := fun _ => Mem → Nat → Nat → Int32 → Int32 → Int32 → Int32 → Int64 → Int32 → Option (Int32 × Mem)) (fun _ _ _ _ _ _ _ _ _ => none) (fun _ ih => F_X0_join_b128_st k100 ih) n
noncomputable def F_X0_join_b100_st (k100 : Mem → Nat → Nat → Int32 → Int32 → Int32 → Int32 → Option (Int32 × Mem)) (M : Mem) (v0 : Nat) (v3 : Nat) (v5 : Int32) (v6 : Int32) (v7 : Int32) (v8 : Int32) : Option (Int32 × Mem) :=
  if v8 < v6 then
    (vg M v3 22).bind fun _ =>
    (F_X21_get M v3 v8).bind fun z19 =>
    (gr M v0 74).bind fun t20 =>
    (vg M t20 8).bind fun _ =>
    (F_X7_first M t20 z19 v5).bind fun z22 =>
    F_X0_join_b128 k100 xN M v0 v3 v5 v6 v7 v8 z19 z22
  else
    (pi M v0 89 (2 : Int32)).bind fun M23 =>
    (gr M23 v0 88).bind fun t24 =>
    (si M23 t24 (0 : Int32) v7).bind fun M25 =>
    (gr M25 v0 88).bind fun t26 =>
    (si M25 t26 (1 : Int32) (2 : Int32)).bind fun M27 =>
    (gr M27 v0 81).bind fun t28 =>
    (vg M27 v0 1).bind fun _ =>
    (F_X0_made M27 v0 (4 : Int32) t28).bind fun z30 =>
    some (z30.1, z30.2)
noncomputable def F_X0_join_b100  (n : Nat) : Mem → Nat → Nat → Int32 → Int32 → Int32 → Int32 → Option (Int32 × Mem) :=
  Nat.rec (motive := fun _ => Mem → Nat → Nat → Int32 → Int32 → Int32 → Int32 → Option (Int32 × Mem)) (fun _ _ _ _ _ _ _ => none) (fun _ ih => F_X0_join_b100_st ih) n
noncomputable def F_X0_join (M : Mem) (v0 : Nat) (v1 : Int32) (v2 : Int32) : Option (Int32 × Mem) :=
  (vg M v0 1).bind fun _ =>
  (F_X0_find M v0 v1).bind fun z32 =>
  (vg M v0 1).bind fun _ =>
  (F_X0_find M v0 v2).bind fun z34 =>
  if z32 = 6 then
    none
  else
    if z32 = 0 then
      F_X0_join_b22  M v0
    else
      if z34 = 6 then
        none
      else
        if z34 = 0 then
          F_X0_join_b22  M v0
        else
          (vg M z32 22).bind fun _ =>
          (F_X21_isRow M z32).bind fun z36 =>
          if z36 = 0 then
            F_X0_join_b55  M
          else
            (vg M z34 22).bind fun _ =>
            (F_X21_isRow M z34).bind fun z38 =>
            if z38 = 0 then
              F_X0_join_b55  M
            else
              (gi M z32 1408).bind fun t39 =>
              (gi M z34 1408).bind fun t40 =>
              if t39 = t40 then
                (gr M v0 82).bind fun t41 =>
                (vg M v0 1).bind fun _ =>
                (F_X0_gather M v0 z34 t41).bind fun z43 =>
                (gr z43.2 v0 74).bind fun t44 =>
                (gr z43.2 v0 82).bind fun t45 =>
                (gi z43.2 z34 1408).bind fun t46 =>
                (vg z43.2 t44 8).bind fun _ =>
                (F_X7_sort z43.2 t44 t45 z43.1 t46 (0 : Int32)).bind fun z48 =>
                (vg z48 z32 22).bind fun _ =>
                (F_X21_count z48 z32).bind fun z50 =>
                F_X0_join_b100  xN z48 v0 z32 z43.1 z50 (0 : Int32) (0 : Int32)
              else
                F_X0_join_b55  M
noncomputable def F_X0_cellOfProduct_b6_st (k6 : Mem → Nat → Nat → Nat → Int32 → Int32 → Int32 → Int64 → Int32 → Option ((Int64 × Mem) ⊕ (Nat × Mem))) (M : Mem) (v0 : Nat) (v1 : Nat) (v2 : Nat) (v3 : Int32) (v4 : Int32) (v5 : Int32) (v6 : Int64) (v8 : Int32) : Option ((Int64 × Mem) ⊕ (Nat × Mem)) :=
  (gr M v1 1410).bind fun t1 =>
  (ai M t1 (1 : Int32)).bind fun t2 =>
  if v8 < t2 then
    (gi M v1 1408).bind fun t3 =>
    (gr M v1 1413).bind fun t4 =>
    (gi M v1 1412).bind fun t5 =>
    (gr M v1 1411).bind fun t6 =>
    (ai M t6 (0 : Int32)).bind fun t7 =>
    (gr M v1 1411).bind fun t8 =>
    (ai M t8 (1 : Int32)).bind fun t9 =>
    (al M t4 ((t5 + (v4 * t7)) + (v8 * t9))).bind fun t10 =>
    (F_X23_convert t3 v3 t10).bind fun z11 =>
    (gi M v2 1408).bind fun t12 =>
    (gr M v2 1413).bind fun t13 =>
    (gi M v2 1412).bind fun t14 =>
    (gr M v2 1411).bind fun t15 =>
    (ai M t15 (0 : Int32)).bind fun t16 =>
    (gr M v2 1411).bind fun t17 =>
    (ai M t17 (1 : Int32)).bind fun t18 =>
    (al M t13 ((t14 + (v8 * t16)) + (v5 * t18))).bind fun t19 =>
    (F_X23_convert t12 v3 t19).bind fun z20 =>
    (gr M v0 67).bind fun t21 =>
    tb (F_X23_arithmetic M (3 : Int32) v3 z11 z20 t21) fun z22 =>
    (gr z22.2 v0 67).bind fun t23 =>
    tb (F_X23_arithmetic z22.2 (1 : Int32) v3 v6 z22.1 t23) fun z24 =>
    let v8_25 : Int32 := v8 + (1 : Int32)
    k6 z24.2 v0 v1 v2 v3 v4 v5 z24.1 v8_25
  else
    some (.inl (v6, M))
noncomputable def F_X0_cellOfProduct_b6  (n : Nat) : Mem → Nat → Nat → Nat → Int32 → Int32 → Int32 → Int64 → Int32 → Option ((Int64 × Mem) ⊕ (Nat × Mem)) :=
  Nat.rec (motive := fun _ => Mem → Nat → Nat → Nat → Int32 → Int32 → Int32 → Int64 → Int32 → Option ((Int64 × Mem) ⊕ (Nat × Mem))) (fun _ _ _ _ _ _ _ _ _ => none) (fun _ ih => F_X0_cellOfProduct_b6_st ih) n
noncomputable def F_X0_cellOfProduct (M : Mem) (v0 : Nat) (v1 : Nat) (v2 : Nat) (v3 : Int32) (v4 : Int32) (v5 : Int32) : Option ((Int64 × Mem) ⊕ (Nat × Mem)) :=
  F_X0_cellOfProduct_b6  xN M v0 v1 v2 v3 v4 v5 (0 : Int64) (0 : Int32)
noncomputable def F_X0_product_b26  (M : Mem) (v0 : Nat) : Option (Int32 × Mem) :=
  (vg M v0 1).bind fun _ =>
  (F_X0_gone M v0).bind fun z2 =>
  some ((-z2), M)
noncomputable def F_X0_product_b70  (M : Mem) : Option (Int32 × Mem) :=
  some ((-1 : Int32), M)
noncomputable def F_X0_product_b169  (M : Mem) : Option (Int32 × Mem) :=
  some ((-12 : Int32), M)
noncomputable def F_X0_product_b228  (M : Mem) (s0 : Nat) (v0 : Nat) (v9 : Int32) : Option (Int32 × Mem) :=
  (vg M v0 1).bind fun _ =>
  (F_X0_failedAt M v0 v9).bind fun z4 =>
  some (z4.1, z4.2)
noncomputable def F_X0_product_b189_st (k189 : Mem → Nat → Nat → Nat → Int32 → Int32 → Int32 → Int32 → Option (Int32 × Mem)) (M : Mem) (v0 : Nat) (v3 : Nat) (v4 : Nat) (v5 : Int32) (v7 : Int32) (v8 : Int32) (v9 : Int32) : Option (Int32 × Mem) :=
  if v9 < (v5 * v7) then
    (gr M v0 81).bind fun t5 =>
    if v7 = 0 then none else
    if v7 = 0 then none else
    (vg M v0 1).bind fun _ =>
    tc (F_X0_cellOfProduct M v0 v3 v4 v8 (v9 / v7) (j_irem v9 v7)) (fun z7 =>
      (sj z7.2 t5 v9 z7.1).bind fun M9 =>
      let v9_10 : Int32 := v9 + (1 : Int32)
      k189 M9 v0 v3 v4 v5 v7 v8 v9_10)
      (fun z8 =>
        F_X0_product_b228  z8.2 z8.1 v0 v9)
  else
    (gr M v0 81).bind fun t11 =>
    (vg M v0 1).bind fun _ =>
    (F_X0_made M v0 v8 t11).bind fun z13 =>
    some (z13.1, z13.2)
noncomputable def F_X0_product_b189  (n : Nat) : Mem → Nat → Nat → Nat → Int32 → Int32 → Int32 → Int32 → Option (Int32 × Mem) :=
  Nat.rec (motive := fun _ => Mem → Nat → Nat → Nat → Int32 → Int32 → Int32 → Int32 → Option (Int32 × Mem)) (fun _ _ _ _ _ _ _ _ => none) (fun _ ih => F_X0_product_b189_st ih) n
noncomputable def F_X0_product (M : Mem) (v0 : Nat) (v1 : Int32) (v2 : Int32) : Option (Int32 × Mem) :=
  (vg M v0 1).bind fun _ =>
  (F_X0_fine M v0).bind fun z15 =>
  (vg z15 v0 1).bind fun _ =>
  (F_X0_find z15 v0 v1).bind fun z17 =>
  (vg z15 v0 1).bind fun _ =>
  (F_X0_find z15 v0 v2).bind fun z19 =>
  if z17 = 6 then
    none
  else
    if z17 = 0 then
      F_X0_product_b26  z15 v0
    else
      if z19 = 6 then
        none
      else
        if z19 = 0 then
          F_X0_product_b26  z15 v0
        else
          (gi z15 z17 1409).bind fun t20 =>
          if t20 = (2 : Int32) then
            (gi z15 z19 1409).bind fun t21 =>
            if t21 = (2 : Int32) then
              (gi z15 z17 1408).bind fun t22 =>
              (F_X20_isNumber t22).bind fun z23 =>
              if z23 = 0 then
                F_X0_product_b70  z15
              else
                (gi z15 z19 1408).bind fun t24 =>
                (F_X20_isNumber t24).bind fun z25 =>
                if z25 = 0 then
                  F_X0_product_b70  z15
                else
                  (gr z15 z17 1410).bind fun t26 =>
                  (ai z15 t26 (1 : Int32)).bind fun t27 =>
                  (gr z15 z19 1410).bind fun t28 =>
                  (ai z15 t28 (0 : Int32)).bind fun t29 =>
                  if t27 = t29 then
                    (gr z15 z17 1410).bind fun t30 =>
                    (ai z15 t30 (0 : Int32)).bind fun t31 =>
                    (gr z15 z17 1410).bind fun t32 =>
                    (ai z15 t32 (1 : Int32)).bind fun t33 =>
                    (gr z15 z19 1410).bind fun t34 =>
                    (ai z15 t34 (1 : Int32)).bind fun t35 =>
                    (pi z15 v0 89 (2 : Int32)).bind fun M36 =>
                    (gr M36 v0 88).bind fun t37 =>
                    (si M36 t37 (0 : Int32) t31).bind fun M38 =>
                    (gr M38 v0 88).bind fun t39 =>
                    (si M38 t39 (1 : Int32) t35).bind fun M40 =>
                    if (1000000 : Int64) < ((t31.toInt64 * t33.toInt64) * t35.toInt64) then
                      F_X0_product_b169  M40
                    else
                      (gr M40 v0 88).bind fun t41 =>
                      (gi M40 v0 89).bind fun t42 =>
                      (F_X2_count M40 t41 t42).bind fun z43 =>
                      if z43 < 0 then
                        F_X0_product_b169  M40
                      else
                        (gi M40 z17 1408).bind fun t44 =>
                        (gi M40 z19 1408).bind fun t45 =>
                        (F_X23_wider t44 t45).bind fun z46 =>
                        F_X0_product_b189  xN M40 v0 z17 z19 t31 t35 z46 (0 : Int32)
                  else
                    some ((-3 : Int32), z15)
            else
              F_X0_product_b70  z15
          else
            F_X0_product_b70  z15
noncomputable def F_X0_isSmall_b15  (s0 : Int32) : Option Int32 :=
  some (s0 &&& 1)
noncomputable def F_X0_isSmall_b14   : Option Int32 :=
  F_X0_isSmall_b15  (0 : Int32)
noncomputable def F_X0_isSmall (v0 : Int32) : Option Int32 :=
  if v0 < (1 : Int32) then
    F_X0_isSmall_b14  
  else
    if (4 : Int32) < v0 then
      F_X0_isSmall_b14  
    else
      F_X0_isSmall_b15  (1 : Int32)
noncomputable def F_X8_begin_b7_st (k7 : Mem → Nat → Int32 → Option Mem) (M : Mem) (v0 : Nat) (v2 : Int32) : Option Mem :=
  (gi M v0 577).bind fun t1 =>
  if v2 < t1 then
    (gr M v0 578).bind fun t2 =>
    (si M t2 v2 v2).bind fun M3 =>
    let v2_4 : Int32 := v2 + (1 : Int32)
    k7 M3 v0 v2_4
  else
    some M
noncomputable def F_X8_begin_b7  (n : Nat) : Mem → Nat → Int32 → Option Mem :=
  Nat.rec (motive := fun _ => Mem → Nat → Int32 → Option Mem) (fun _ _ _ => none) (fun _ ih => F_X8_begin_b7_st ih) n
noncomputable def F_X8_begin (M : Mem) (v0 : Nat) (v1 : Int32) : Option Mem :=
  (pi M v0 577 v1).bind fun M5 =>
  F_X8_begin_b7  xN M5 v0 (0 : Int32)
noncomputable def F_X8_place (M : Mem) (v0 : Nat) (v1 : Int32) (v2 : Int32) : Option Int32 :=
  (gr M v0 578).bind fun t1 =>
  (ai M t1 v1).bind fun t2 =>
  some ((t2 * (11 : Int32)) + v2)
noncomputable def F_X9_set_b63 (k23 : Mem → Nat → Int32 → Int64 → Int32 → Option Mem) (M : Mem) (s0 : Nat) (s1 : Int32) (s2 : Int32) (v0 : Nat) (v1 : Int32) (v4 : Int64) (v6 : Int32) : Option Mem :=
  (si M s0 s1 s2).bind fun M1 =>
  if (65536 : Int64) = 0 then none else
  let v4_2 : Int64 := (v4 / (65536 : Int64))
  let v6_3 : Int32 := v6 + (1 : Int32)
  k23 M1 v0 v1 v4_2 v6_3
noncomputable def F_X9_set_b23_st (k23 : Mem → Nat → Int32 → Int64 → Int32 → Option Mem) (M : Mem) (v0 : Nat) (v1 : Int32) (v4 : Int64) (v6 : Int32) : Option Mem :=
  if v4 = (0 : Int64) then
    (gr M v0 641).bind fun t4 =>
    (si M t4 v1 v6).bind fun M5 =>
    some M5
  else
    if (65536 : Int64) = 0 then none else
    let v7_6 : Int32 := (j_lrem v4 (65536 : Int64)).toInt32
    (gr M v0 640).bind fun t7 =>
    if v7_6 < 0 then
      F_X9_set_b63 k23 M t7 (((60 : Int32) * v1) + v6) (-v7_6) v0 v1 v4 v6
    else
      F_X9_set_b63 k23 M t7 (((60 : Int32) * v1) + v6) v7_6 v0 v1 v4 v6
noncomputable def F_X9_set_b23  (n : Nat) : Mem → Nat → Int32 → Int64 → Int32 → Option Mem :=
  Nat.rec (motive := fun _ => Mem → Nat → Int32 → Int64 → Int32 → Option Mem) (fun _ _ _ _ _ => none) (fun _ ih => F_X9_set_b23_st ih) n
noncomputable def F_X9_set_b16  (M : Mem) (s0 : Nat) (s1 : Int32) (s2 : Int32) (v0 : Nat) (v1 : Int32) (v2 : Int64) : Option Mem :=
  (sb M s0 s1 s2).bind fun M8 =>
  F_X9_set_b23  xN M8 v0 v1 v2 (0 : Int32)
noncomputable def F_X9_set (M : Mem) (v0 : Nat) (v1 : Int32) (v2 : Int64) : Option Mem :=
  (gr M v0 642).bind fun t9 =>
  if v2 < (0 : Int64) then
    F_X9_set_b16  M t9 v1 (1 : Int32) v0 v1 v2
  else
    F_X9_set_b16  M t9 v1 (0 : Int32) v0 v1 v2
noncomputable def F_X8_put (M : Mem) (v0 : Nat) (v1 : Int32) (v2 : Int32) (v3 : Int64) : Option Mem :=
  (gr M v0 576).bind fun t1 =>
  (vg M v0 9).bind fun _ =>
  (F_X8_place M v0 v1 v2).bind fun z3 =>
  (vg M t1 10).bind fun _ =>
  (F_X9_set M t1 z3 v3).bind fun z5 =>
  some z5
noncomputable def F_X9_isZero_b14  (M : Mem) (s0 : Int32) : Option Int32 :=
  some (s0 &&& 1)
noncomputable def F_X9_isZero (M : Mem) (v0 : Nat) (v1 : Int32) : Option Int32 :=
  (gr M v0 641).bind fun t1 =>
  (ai M t1 v1).bind fun t2 =>
  if t2 = 0 then
    F_X9_isZero_b14  M (1 : Int32)
  else
    F_X9_isZero_b14  M (0 : Int32)
noncomputable def F_X9_trim_b28  (M : Mem) (v0 : Nat) (v1 : Int32) (v3 : Int32) : Option Mem :=
  (gr M v0 641).bind fun t1 =>
  (si M t1 v1 v3).bind fun M2 =>
  some M2
noncomputable def F_X9_trim_b2_st (k2 : Mem → Nat → Int32 → Int32 → Option Mem) (M : Mem) (v0 : Nat) (v1 : Int32) (v3 : Int32) : Option Mem :=
  if 0 < v3 then
    (gr M v0 640).bind fun t3 =>
    (ai M t3 ((((60 : Int32) * v1) + v3) - (1 : Int32))).bind fun t4 =>
    if t4 = 0 then
      let v3_5 : Int32 := v3 + (-1 : Int32)
      k2 M v0 v1 v3_5
    else
      F_X9_trim_b28  M v0 v1 v3
  else
    F_X9_trim_b28  M v0 v1 v3
noncomputable def F_X9_trim_b2  (n : Nat) : Mem → Nat → Int32 → Int32 → Option Mem :=
  Nat.rec (motive := fun _ => Mem → Nat → Int32 → Int32 → Option Mem) (fun _ _ _ _ => none) (fun _ ih => F_X9_trim_b2_st ih) n
noncomputable def F_X9_trim (M : Mem) (v0 : Nat) (v1 : Int32) (v2 : Int32) : Option Mem :=
  F_X9_trim_b2  xN M v0 v1 v2
noncomputable def F_X9_multiply_b216  (M : Mem) (s0 : Nat) (s1 : Int32) (s2 : Int32) (v0 : Nat) (v3 : Int32) (v4 : Int32) : Option Mem :=
  (sb M s0 s1 s2).bind fun M1 =>
  (vg M1 v0 10).bind fun _ =>
  (F_X9_trim M1 v0 v3 v4).bind fun z3 =>
  some z3
noncomputable def F_X9_multiply_b79_st (k47 : Mem → Nat → Int32 → Int32 → Int32 → Int32 → Int32 → Option Mem) (k79 : Mem → Nat → Int32 → Int32 → Int32 → Int32 → Int32 → Int64 → Int64 → Int32 → Option Mem) (M : Mem) (v0 : Nat) (v1 : Int32) (v2 : Int32) (v3 : Int32) (v4 : Int32) (v5 : Int32) (v6 : Int64) (v8 : Int64) (v10 : Int32) : Option Mem :=
  (gr M v0 641).bind fun t4 =>
  (ai M t4 v2).bind fun t5 =>
  if v10 < t5 then
    (gr M v0 640).bind fun t6 =>
    (ai M t6 ((((60 : Int32) * v3) + v5) + v10)).bind fun t7 =>
    (gr M v0 640).bind fun t8 =>
    (ai M t8 (((60 : Int32) * v2) + v10)).bind fun t9 =>
    let v11_10 : Int64 := ((t7.toInt64 + (v8 * t9.toInt64)) + v6)
    (gr M v0 640).bind fun t11 =>
    (si M t11 ((((60 : Int32) * v3) + v5) + v10) ((v11_10 &&& (65535 : Int64)).toInt32)).bind fun M12 =>
    let v6_13 : Int64 := (j_lshr v11_10 (16 : Int32))
    let v10_14 : Int32 := v10 + (1 : Int32)
    k79 M12 v0 v1 v2 v3 v4 v5 v6_13 v8 v10_14
  else
    (gr M v0 640).bind fun t15 =>
    (gr M v0 641).bind fun t16 =>
    (ai M t16 v2).bind fun t17 =>
    (si M t15 ((((60 : Int32) * v3) + v5) + t17) (v6.toInt32)).bind fun M18 =>
    let v5_19 : Int32 := v5 + (1 : Int32)
    k47 M18 v0 v1 v2 v3 v4 v5_19
noncomputable def F_X9_multiply_b79 (k47 : Mem → Nat → Int32 → Int32 → Int32 → Int32 → Int32 → Option Mem) (n : Nat) : Mem → Nat → Int32 → Int32 → Int32 → Int32 → Int32 → Int64 → Int64 → Int32 → Option Mem :=
  Nat.rec (motive := fun _ => Mem → Nat → Int32 → Int32 → Int32 → Int32 → Int32 → Int64 → Int64 → Int32 → Option Mem) (fun _ _ _ _ _ _ _ _ _ _ => none) (fun _ ih => F_X9_multiply_b79_st k47 ih) n
noncomputable def F_X9_multiply_b47_st (k47 : Mem → Nat → Int32 → Int32 → Int32 → Int32 → Int32 → Option Mem) (M : Mem) (v0 : Nat) (v1 : Int32) (v2 : Int32) (v3 : Int32) (v4 : Int32) (v5 : Int32) : Option Mem :=
  (gr M v0 641).bind fun t20 =>
  (ai M t20 v1).bind fun t21 =>
  if v5 < t21 then
    (gr M v0 640).bind fun t22 =>
    (ai M t22 (((60 : Int32) * v1) + v5)).bind fun t23 =>
    let v8_24 : Int64 := t23.toInt64
    F_X9_multiply_b79 k47 xN M v0 v1 v2 v3 v4 v5 (0 : Int64) v8_24 (0 : Int32)
  else
    (gr M v0 642).bind fun t25 =>
    (gr M v0 642).bind fun t26 =>
    (ab M t26 v1).bind fun t27 =>
    (gr M v0 642).bind fun t28 =>
    (ab M t28 v2).bind fun t29 =>
    if t27 = t29 then
      F_X9_multiply_b216  M t25 v3 (0 : Int32) v0 v3 v4
    else
      F_X9_multiply_b216  M t25 v3 (1 : Int32) v0 v3 v4
noncomputable def F_X9_multiply_b47  (n : Nat) : Mem → Nat → Int32 → Int32 → Int32 → Int32 → Int32 → Option Mem :=
  Nat.rec (motive := fun _ => Mem → Nat → Int32 → Int32 → Int32 → Int32 → Int32 → Option Mem) (fun _ _ _ _ _ _ _ => none) (fun _ ih => F_X9_multiply_b47_st ih) n
noncomputable def F_X9_multiply_b18_st (k18 : Mem → Nat → Int32 → Int32 → Int32 → Int32 → Int32 → Option Mem) (M : Mem) (v0 : Nat) (v1 : Int32) (v2 : Int32) (v3 : Int32) (v4 : Int32) (v5 : Int32) : Option Mem :=
  if v5 < v4 then
    (gr M v0 640).bind fun t30 =>
    (si M t30 (((60 : Int32) * v3) + v5) (0 : Int32)).bind fun M31 =>
    let v5_32 : Int32 := v5 + (1 : Int32)
    k18 M31 v0 v1 v2 v3 v4 v5_32
  else
    F_X9_multiply_b47  xN M v0 v1 v2 v3 v4 (0 : Int32)
noncomputable def F_X9_multiply_b18  (n : Nat) : Mem → Nat → Int32 → Int32 → Int32 → Int32 → Int32 → Option Mem :=
  Nat.rec (motive := fun _ => Mem → Nat → Int32 → Int32 → Int32 → Int32 → Int32 → Option Mem) (fun _ _ _ _ _ _ _ => none) (fun _ ih => F_X9_multiply_b18_st ih) n
noncomputable def F_X9_multiply (M : Mem) (v0 : Nat) (v1 : Int32) (v2 : Int32) (v3 : Int32) : Option Mem :=
  (gr M v0 641).bind fun t33 =>
  (ai M t33 v1).bind fun t34 =>
  (gr M v0 641).bind fun t35 =>
  (ai M t35 v2).bind fun t36 =>
  let v4_37 : Int32 := (t34 + t36)
  F_X9_multiply_b18  xN M v0 v1 v2 v3 v4_37 (0 : Int32)
noncomputable def F_X9_isBelow_b23  (M : Mem) (s0 : Int32) : Option Int32 :=
  some (s0 &&& 1)
noncomputable def F_X9_isBelow_b22  (M : Mem) : Option Int32 :=
  F_X9_isBelow_b23  M (0 : Int32)
noncomputable def F_X9_isBelow (M : Mem) (v0 : Nat) (v1 : Int32) : Option Int32 :=
  (gr M v0 642).bind fun t1 =>
  (ab M t1 v1).bind fun t2 =>
  if t2 = 0 then
    F_X9_isBelow_b22  M
  else
    (gr M v0 641).bind fun t3 =>
    (ai M t3 v1).bind fun t4 =>
    if 0 < t4 then
      F_X9_isBelow_b23  M (1 : Int32)
    else
      F_X9_isBelow_b22  M
noncomputable def F_X9_digit_b25  (M : Mem) (s0 : Int32) : Option Int32 :=
  some s0
noncomputable def F_X9_digit (M : Mem) (v0 : Nat) (v1 : Int32) (v2 : Int32) : Option Int32 :=
  (gr M v0 641).bind fun t1 =>
  (ai M t1 v1).bind fun t2 =>
  if v2 < t2 then
    (gr M v0 640).bind fun t3 =>
    (ai M t3 (((60 : Int32) * v1) + v2)).bind fun t4 =>
    F_X9_digit_b25  M t4
  else
    F_X9_digit_b25  M (0 : Int32)
noncomputable def F_X9_addAmounts_b23_st (k23 : Mem → Nat → Int32 → Int32 → Int32 → Int32 → Int32 → Int32 → Option Mem) (M : Mem) (v0 : Nat) (v1 : Int32) (v2 : Int32) (v3 : Int32) (v4 : Int32) (v5 : Int32) (v6 : Int32) : Option Mem :=
  if v6 < v4 then
    (vg M v0 10).bind fun _ =>
    (F_X9_digit M v0 v1 v6).bind fun z2 =>
    (vg M v0 10).bind fun _ =>
    (F_X9_digit M v0 v2 v6).bind fun z4 =>
    let v7_5 : Int32 := ((z2 + z4) + v5)
    (gr M v0 640).bind fun t6 =>
    (si M t6 (((60 : Int32) * v3) + v6) (v7_5 &&& (65535 : Int32))).bind fun M7 =>
    let v5_8 : Int32 := (j_ishr v7_5 (16 : Int32))
    let v6_9 : Int32 := v6 + (1 : Int32)
    k23 M7 v0 v1 v2 v3 v4 v5_8 v6_9
  else
    (gr M v0 640).bind fun t10 =>
    (si M t10 (((60 : Int32) * v3) + v4) v5).bind fun M11 =>
    (vg M11 v0 10).bind fun _ =>
    (F_X9_trim M11 v0 v3 (v4 + (1 : Int32))).bind fun z13 =>
    some z13
noncomputable def F_X9_addAmounts_b23  (n : Nat) : Mem → Nat → Int32 → Int32 → Int32 → Int32 → Int32 → Int32 → Option Mem :=
  Nat.rec (motive := fun _ => Mem → Nat → Int32 → Int32 → Int32 → Int32 → Int32 → Int32 → Option Mem) (fun _ _ _ _ _ _ _ _ => none) (fun _ ih => F_X9_addAmounts_b23_st ih) n
noncomputable def F_X9_addAmounts (M : Mem) (v0 : Nat) (v1 : Int32) (v2 : Int32) (v3 : Int32) : Option Mem :=
  (gr M v0 641).bind fun t14 =>
  (ai M t14 v1).bind fun t15 =>
  (gr M v0 641).bind fun t16 =>
  (ai M t16 v2).bind fun t17 =>
  (F_J7_max t15 t17).bind fun z18 =>
  F_X9_addAmounts_b23  xN M v0 v1 v2 v3 z18 (0 : Int32) (0 : Int32)
noncomputable def F_X9_compare_b94  (M : Mem) (s0 : Int32) : Option Int32 :=
  some s0
noncomputable def F_X9_compare_b45_st (k45 : Mem → Nat → Int32 → Int32 → Int32 → Option Int32) (M : Mem) (v0 : Nat) (v1 : Int32) (v2 : Int32) (v3 : Int32) : Option Int32 :=
  if v3 < 0 then
    some (0 : Int32)
  else
    (gr M v0 640).bind fun t1 =>
    (ai M t1 (((60 : Int32) * v1) + v3)).bind fun t2 =>
    (gr M v0 640).bind fun t3 =>
    (ai M t3 (((60 : Int32) * v2) + v3)).bind fun t4 =>
    if t2 = t4 then
      let v3_5 : Int32 := v3 + (-1 : Int32)
      k45 M v0 v1 v2 v3_5
    else
      if t2 < t4 then
        F_X9_compare_b94  M (-1 : Int32)
      else
        F_X9_compare_b94  M (1 : Int32)
noncomputable def F_X9_compare_b45  (n : Nat) : Mem → Nat → Int32 → Int32 → Int32 → Option Int32 :=
  Nat.rec (motive := fun _ => Mem → Nat → Int32 → Int32 → Int32 → Option Int32) (fun _ _ _ _ _ => none) (fun _ ih => F_X9_compare_b45_st ih) n
noncomputable def F_X9_compare_b35  (M : Mem) (s0 : Int32) : Option Int32 :=
  some s0
noncomputable def F_X9_compare (M : Mem) (v0 : Nat) (v1 : Int32) (v2 : Int32) : Option Int32 :=
  (gr M v0 641).bind fun t6 =>
  (ai M t6 v1).bind fun t7 =>
  (gr M v0 641).bind fun t8 =>
  (ai M t8 v2).bind fun t9 =>
  if t7 = t9 then
    (gr M v0 641).bind fun t10 =>
    (ai M t10 v1).bind fun t11 =>
    let v3_12 : Int32 := (t11 - (1 : Int32))
    F_X9_compare_b45  xN M v0 v1 v2 v3_12
  else
    (gr M v0 641).bind fun t13 =>
    (ai M t13 v1).bind fun t14 =>
    (gr M v0 641).bind fun t15 =>
    (ai M t15 v2).bind fun t16 =>
    if t14 < t16 then
      F_X9_compare_b35  M (-1 : Int32)
    else
      F_X9_compare_b35  M (1 : Int32)
noncomputable def F_X9_takeAmounts_b51 (k14 : Mem → Nat → Int32 → Int32 → Int32 → Int32 → Int32 → Int32 → Option Mem) (M : Mem) (s0 : Int32) (v0 : Nat) (v1 : Int32) (v2 : Int32) (v3 : Int32) (v4 : Int32) (v6 : Int32) (v7 : Int32) : Option Mem :=
  (gr M v0 640).bind fun t1 =>
  (si M t1 (((60 : Int32) * v3) + v6) (v7 &&& (65535 : Int32))).bind fun M2 =>
  let v6_3 : Int32 := v6 + (1 : Int32)
  k14 M2 v0 v1 v2 v3 v4 s0 v6_3
noncomputable def F_X9_takeAmounts_b14_st (k14 : Mem → Nat → Int32 → Int32 → Int32 → Int32 → Int32 → Int32 → Option Mem) (M : Mem) (v0 : Nat) (v1 : Int32) (v2 : Int32) (v3 : Int32) (v4 : Int32) (v5 : Int32) (v6 : Int32) : Option Mem :=
  if v6 < v4 then
    (vg M v0 10).bind fun _ =>
    (F_X9_digit M v0 v1 v6).bind fun z5 =>
    (vg M v0 10).bind fun _ =>
    (F_X9_digit M v0 v2 v6).bind fun z7 =>
    let v7_8 : Int32 := ((z5 - z7) - v5)
    if v7_8 < 0 then
      F_X9_takeAmounts_b51 k14 M (1 : Int32) v0 v1 v2 v3 v4 v6 v7_8
    else
      F_X9_takeAmounts_b51 k14 M (0 : Int32) v0 v1 v2 v3 v4 v6 v7_8
  else
    (vg M v0 10).bind fun _ =>
    (F_X9_trim M v0 v3 v4).bind fun z10 =>
    some z10
noncomputable def F_X9_takeAmounts_b14  (n : Nat) : Mem → Nat → Int32 → Int32 → Int32 → Int32 → Int32 → Int32 → Option Mem :=
  Nat.rec (motive := fun _ => Mem → Nat → Int32 → Int32 → Int32 → Int32 → Int32 → Int32 → Option Mem) (fun _ _ _ _ _ _ _ _ => none) (fun _ ih => F_X9_takeAmounts_b14_st ih) n
noncomputable def F_X9_takeAmounts (M : Mem) (v0 : Nat) (v1 : Int32) (v2 : Int32) (v3 : Int32) : Option Mem :=
  (gr M v0 641).bind fun t11 =>
  (ai M t11 v1).bind fun t12 =>
  F_X9_takeAmounts_b14  xN M v0 v1 v2 v3 t12 (0 : Int32) (0 : Int32)
noncomputable def F_X9_subtract_b118  (M : Mem) : Option Mem :=
  some M
noncomputable def F_X9_subtract_b117  (M : Mem) (s0 : Nat) (s1 : Int32) (s2 : Int32) : Option Mem :=
  (sb M s0 s1 s2).bind fun M1 =>
  F_X9_subtract_b118  M1
noncomputable def F_X9_subtract_b56  (M : Mem) (s0 : Nat) (s1 : Int32) (s2 : Int32) : Option Mem :=
  (sb M s0 s1 s2).bind fun M2 =>
  F_X9_subtract_b118  M2
noncomputable def F_X9_subtract (M : Mem) (v0 : Nat) (v1 : Int32) (v2 : Int32) (v3 : Int32) : Option Mem :=
  (vg M v0 10).bind fun _ =>
  (F_X9_isBelow M v0 v1).bind fun z4 =>
  (vg M v0 10).bind fun _ =>
  (F_X9_isBelow M v0 v2).bind fun z6 =>
  if z4 = z6 then
    (vg M v0 10).bind fun _ =>
    (F_X9_compare M v0 v1 v2).bind fun z8 =>
    if z8 < 0 then
      (vg M v0 10).bind fun _ =>
      (F_X9_takeAmounts M v0 v2 v1 v3).bind fun z10 =>
      (gr z10 v0 642).bind fun t11 =>
      (gr z10 v0 642).bind fun t12 =>
      (ab z10 t12 v2).bind fun t13 =>
      if t13 = 0 then
        F_X9_subtract_b117  z10 t11 v3 (1 : Int32)
      else
        F_X9_subtract_b117  z10 t11 v3 (0 : Int32)
    else
      (vg M v0 10).bind fun _ =>
      (F_X9_takeAmounts M v0 v1 v2 v3).bind fun z15 =>
      (gr z15 v0 642).bind fun t16 =>
      (gr z15 v0 642).bind fun t17 =>
      (ab z15 t17 v1).bind fun t18 =>
      (sb z15 t16 v3 t18).bind fun M19 =>
      F_X9_subtract_b118  M19
  else
    (vg M v0 10).bind fun _ =>
    (F_X9_addAmounts M v0 v1 v2 v3).bind fun z21 =>
    (gr z21 v0 642).bind fun t22 =>
    (vg z21 v0 10).bind fun _ =>
    (F_X9_isZero z21 v0 v1).bind fun z24 =>
    if z24 = 0 then
      (gr z21 v0 642).bind fun t25 =>
      (ab z21 t25 v1).bind fun t26 =>
      F_X9_subtract_b56  z21 t22 v3 t26
    else
      (gr z21 v0 642).bind fun t27 =>
      (ab z21 t27 v2).bind fun t28 =>
      if t28 = 0 then
        F_X9_subtract_b56  z21 t22 v3 (1 : Int32)
      else
        F_X9_subtract_b56  z21 t22 v3 (0 : Int32)
noncomputable def F_X9_put_b2_st (k2 : Mem → Nat → Int32 → Int32 → Int32 → Option Mem) (M : Mem) (v0 : Nat) (v1 : Int32) (v2 : Int32) (v3 : Int32) : Option Mem :=
  (gr M v0 641).bind fun t1 =>
  (ai M t1 v1).bind fun t2 =>
  if v3 < t2 then
    (gr M v0 640).bind fun t3 =>
    (gr M v0 640).bind fun t4 =>
    (ai M t4 (((60 : Int32) * v1) + v3)).bind fun t5 =>
    (si M t3 (((60 : Int32) * v2) + v3) t5).bind fun M6 =>
    let v3_7 : Int32 := v3 + (1 : Int32)
    k2 M6 v0 v1 v2 v3_7
  else
    (gr M v0 641).bind fun t8 =>
    (gr M v0 641).bind fun t9 =>
    (ai M t9 v1).bind fun t10 =>
    (si M t8 v2 t10).bind fun M11 =>
    (gr M11 v0 642).bind fun t12 =>
    (gr M11 v0 642).bind fun t13 =>
    (ab M11 t13 v1).bind fun t14 =>
    (sb M11 t12 v2 t14).bind fun M15 =>
    some M15
noncomputable def F_X9_put_b2  (n : Nat) : Mem → Nat → Int32 → Int32 → Int32 → Option Mem :=
  Nat.rec (motive := fun _ => Mem → Nat → Int32 → Int32 → Int32 → Option Mem) (fun _ _ _ _ _ => none) (fun _ ih => F_X9_put_b2_st ih) n
noncomputable def F_X9_put (M : Mem) (v0 : Nat) (v1 : Int32) (v2 : Int32) : Option Mem :=
  F_X9_put_b2  xN M v0 v1 v2 (0 : Int32)
noncomputable def F_X9_shifted_b76  (M : Mem) : Option Mem :=
  some M
noncomputable def F_X9_shifted_b6_st (k6 : Mem → Nat → Int32 → Int32 → Nat → Int32 → Int32 → Option Mem) (M : Mem) (v0 : Nat) (v1 : Int32) (v2 : Int32) (v3 : Nat) (v4 : Int32) (v5 : Int32) : Option Mem :=
  (gr M v0 641).bind fun t1 =>
  (ai M t1 v1).bind fun t2 =>
  if v5 < t2 then
    (gr M v0 640).bind fun t3 =>
    (ai M t3 (((60 : Int32) * v1) + v5)).bind fun t4 =>
    let v6_5 : Int32 := ((j_ishl t4 v2) ||| v4)
    (si M v3 v5 (v6_5 &&& (65535 : Int32))).bind fun M6 =>
    let v4_7 : Int32 := (j_ishr v6_5 (16 : Int32))
    let v5_8 : Int32 := v5 + (1 : Int32)
    k6 M6 v0 v1 v2 v3 v4_7 v5_8
  else
    (gr M v0 643).bind fun t9 =>
    if ac v3 t9 = true then
      if v3 = t9 then
        (gr M v0 641).bind fun t10 =>
        (ai M t10 v1).bind fun t11 =>
        (si M v3 t11 v4).bind fun M12 =>
        F_X9_shifted_b76  M12
      else
        F_X9_shifted_b76  M
    else
      none
noncomputable def F_X9_shifted_b6  (n : Nat) : Mem → Nat → Int32 → Int32 → Nat → Int32 → Int32 → Option Mem :=
  Nat.rec (motive := fun _ => Mem → Nat → Int32 → Int32 → Nat → Int32 → Int32 → Option Mem) (fun _ _ _ _ _ _ _ => none) (fun _ ih => F_X9_shifted_b6_st ih) n
noncomputable def F_X9_shifted (M : Mem) (v0 : Nat) (v1 : Int32) (v2 : Int32) (v3 : Nat) : Option Mem :=
  F_X9_shifted_b6  xN M v0 v1 v2 v3 (0 : Int32) (0 : Int32)
noncomputable def F_X9_takeTimes_b6_st (k6 : Mem → Nat → Int64 → Int32 → Int32 → Int64 → Int32 → Option (Int32 × Mem)) (M : Mem) (v0 : Nat) (v1 : Int64) (v3 : Int32) (v4 : Int32) (v5 : Int64) (v7 : Int32) : Option (Int32 × Mem) :=
  if v7 < v4 then
    (gr M v0 643).bind fun t1 =>
    (ai M t1 (v3 + v7)).bind fun t2 =>
    (gr M v0 644).bind fun t3 =>
    (ai M t3 v7).bind fun t4 =>
    let v8_5 : Int64 := ((t2.toInt64 - (v1 * t4.toInt64)) + v5)
    (gr M v0 643).bind fun t6 =>
    (si M t6 (v3 + v7) ((v8_5 &&& (65535 : Int64)).toInt32)).bind fun M7 =>
    let v5_8 : Int64 := (j_lshr v8_5 (16 : Int32))
    let v7_9 : Int32 := v7 + (1 : Int32)
    k6 M7 v0 v1 v3 v4 v5_8 v7_9
  else
    (gr M v0 643).bind fun t10 =>
    (ai M t10 (v3 + v4)).bind fun t11 =>
    let v7_12 : Int64 := (t11.toInt64 + v5)
    (gr M v0 643).bind fun t13 =>
    (si M t13 (v3 + v4) ((v7_12 &&& (65535 : Int64)).toInt32)).bind fun M14 =>
    some ((j_lshr v7_12 (16 : Int32)).toInt32, M14)
noncomputable def F_X9_takeTimes_b6  (n : Nat) : Mem → Nat → Int64 → Int32 → Int32 → Int64 → Int32 → Option (Int32 × Mem) :=
  Nat.rec (motive := fun _ => Mem → Nat → Int64 → Int32 → Int32 → Int64 → Int32 → Option (Int32 × Mem)) (fun _ _ _ _ _ _ _ => none) (fun _ ih => F_X9_takeTimes_b6_st ih) n
noncomputable def F_X9_takeTimes (M : Mem) (v0 : Nat) (v1 : Int64) (v3 : Int32) (v4 : Int32) : Option (Int32 × Mem) :=
  F_X9_takeTimes_b6  xN M v0 v1 v3 v4 (0 : Int64) (0 : Int32)
noncomputable def F_X9_addBack_b5_st (k5 : Mem → Nat → Int32 → Int32 → Int32 → Int32 → Option (Int32 × Mem)) (M : Mem) (v0 : Nat) (v1 : Int32) (v2 : Int32) (v3 : Int32) (v4 : Int32) : Option (Int32 × Mem) :=
  if v4 < v2 then
    (gr M v0 643).bind fun t1 =>
    (ai M t1 (v1 + v4)).bind fun t2 =>
    (gr M v0 644).bind fun t3 =>
    (ai M t3 v4).bind fun t4 =>
    let v5_5 : Int32 := ((t2 + t4) + v3)
    (gr M v0 643).bind fun t6 =>
    (si M t6 (v1 + v4) (v5_5 &&& (65535 : Int32))).bind fun M7 =>
    let v3_8 : Int32 := (j_ishr v5_5 (16 : Int32))
    let v4_9 : Int32 := v4 + (1 : Int32)
    k5 M7 v0 v1 v2 v3_8 v4_9
  else
    (gr M v0 643).bind fun t10 =>
    (ai M t10 (v1 + v2)).bind fun t11 =>
    let v4_12 : Int32 := (t11 + v3)
    (gr M v0 643).bind fun t13 =>
    (si M t13 (v1 + v2) (v4_12 &&& (65535 : Int32))).bind fun M14 =>
    some ((j_ishr v4_12 (16 : Int32)), M14)
noncomputable def F_X9_addBack_b5  (n : Nat) : Mem → Nat → Int32 → Int32 → Int32 → Int32 → Option (Int32 × Mem) :=
  Nat.rec (motive := fun _ => Mem → Nat → Int32 → Int32 → Int32 → Int32 → Option (Int32 × Mem)) (fun _ _ _ _ _ _ => none) (fun _ ih => F_X9_addBack_b5_st ih) n
noncomputable def F_X9_addBack (M : Mem) (v0 : Nat) (v1 : Int32) (v2 : Int32) : Option (Int32 × Mem) :=
  F_X9_addBack_b5  xN M v0 v1 v2 (0 : Int32) (0 : Int32)
noncomputable def F_X9_step_b54_st (k54 : Mem → Nat → Int32 → Int32 → Int64 → Int32 → Option (Int32 × Mem)) (M : Mem) (v0 : Nat) (v1 : Int32) (v2 : Int32) (v5 : Int64) (v7 : Int32) : Option (Int32 × Mem) :=
  if v7 = 0 then
    some (v5.toInt32, M)
  else
    let v5_1 : Int64 := (v5 - (1 : Int64))
    (vg M v0 10).bind fun _ =>
    (F_X9_addBack M v0 v1 v2).bind fun z3 =>
    let v7_4 : Int32 := (v7 + z3.1)
    k54 z3.2 v0 v1 v2 v5_1 v7_4
noncomputable def F_X9_step_b54  (n : Nat) : Mem → Nat → Int32 → Int32 → Int64 → Int32 → Option (Int32 × Mem) :=
  Nat.rec (motive := fun _ => Mem → Nat → Int32 → Int32 → Int64 → Int32 → Option (Int32 × Mem)) (fun _ _ _ _ _ _ => none) (fun _ ih => F_X9_step_b54_st ih) n
noncomputable def F_X9_step (M : Mem) (v0 : Nat) (v1 : Int32) (v2 : Int32) : Option (Int32 × Mem) :=
  (gr M v0 643).bind fun t5 =>
  (ai M t5 (v1 + v2)).bind fun t6 =>
  (gr M v0 643).bind fun t7 =>
  (ai M t7 ((v1 + v2) - (1 : Int32))).bind fun t8 =>
  let v3_9 : Int64 := ((j_lshl (t6.toInt64) (16 : Int32)) ||| t8.toInt64)
  (gr M v0 644).bind fun t10 =>
  (ai M t10 (v2 - (1 : Int32))).bind fun t11 =>
  if t11.toInt64 = 0 then none else
  (F_J7_min (v3_9 / (t11.toInt64)) (65535 : Int64)).bind fun z12 =>
  (vg M v0 10).bind fun _ =>
  (F_X9_takeTimes M v0 z12 v1 v2).bind fun z14 =>
  F_X9_step_b54  xN z14.2 v0 v1 v2 z12 z14.1
noncomputable def F_X9_divide_b169_st (k169 : Mem → Nat → Int32 → Int32 → Int32 → Int32 → Int32 → Int32 → Int32 → Option Mem) (M : Mem) (v0 : Nat) (v1 : Int32) (v3 : Int32) (v4 : Int32) (v5 : Int32) (v7 : Int32) (v8 : Int32) (v9 : Int32) : Option Mem :=
  if v9 < v5 then
    (gr M v0 640).bind fun t1 =>
    (gr M v0 643).bind fun t2 =>
    (ai M t2 v9).bind fun t3 =>
    (gr M v0 643).bind fun t4 =>
    (ai M t4 (v9 + (1 : Int32))).bind fun t5 =>
    (si M t1 (((60 : Int32) * v4) + v9) ((j_ishr t3 v8) ||| ((j_ishl t5 ((16 : Int32) - v8)) &&& (65535 : Int32)))).bind fun M6 =>
    let v9_7 : Int32 := v9 + (1 : Int32)
    k169 M6 v0 v1 v3 v4 v5 v7 v8 v9_7
  else
    (vg M v0 10).bind fun _ =>
    (F_X9_trim M v0 v4 v5).bind fun z9 =>
    (gr z9 v0 642).bind fun t10 =>
    (sb z9 t10 v3 v7).bind fun M11 =>
    (gr M11 v0 642).bind fun t12 =>
    (gr M11 v0 642).bind fun t13 =>
    (ab M11 t13 v1).bind fun t14 =>
    (sb M11 t12 v4 t14).bind fun M15 =>
    some M15
noncomputable def F_X9_divide_b169  (n : Nat) : Mem → Nat → Int32 → Int32 → Int32 → Int32 → Int32 → Int32 → Int32 → Option Mem :=
  Nat.rec (motive := fun _ => Mem → Nat → Int32 → Int32 → Int32 → Int32 → Int32 → Int32 → Int32 → Option Mem) (fun _ _ _ _ _ _ _ _ _ => none) (fun _ ih => F_X9_divide_b169_st ih) n
noncomputable def F_X9_divide_b126_st (k126 : Mem → Nat → Int32 → Int32 → Int32 → Int32 → Int32 → Int32 → Int32 → Int32 → Option Mem) (M : Mem) (v0 : Nat) (v1 : Int32) (v3 : Int32) (v4 : Int32) (v5 : Int32) (v6 : Int32) (v7 : Int32) (v8 : Int32) (v9 : Int32) : Option Mem :=
  if v9 < 0 then
    (vg M v0 10).bind fun _ =>
    (F_X9_trim M v0 v3 (v6 + (1 : Int32))).bind fun z17 =>
    F_X9_divide_b169  xN z17 v0 v1 v3 v4 v5 v7 v8 (0 : Int32)
  else
    (gr M v0 640).bind fun t18 =>
    (vg M v0 10).bind fun _ =>
    (F_X9_step M v0 v9 v5).bind fun z20 =>
    (si z20.2 t18 (((60 : Int32) * v3) + v9) z20.1).bind fun M21 =>
    let v9_22 : Int32 := v9 + (-1 : Int32)
    k126 M21 v0 v1 v3 v4 v5 v6 v7 v8 v9_22
noncomputable def F_X9_divide_b126  (n : Nat) : Mem → Nat → Int32 → Int32 → Int32 → Int32 → Int32 → Int32 → Int32 → Int32 → Option Mem :=
  Nat.rec (motive := fun _ => Mem → Nat → Int32 → Int32 → Int32 → Int32 → Int32 → Int32 → Int32 → Int32 → Option Mem) (fun _ _ _ _ _ _ _ _ _ _ => none) (fun _ ih => F_X9_divide_b126_st ih) n
noncomputable def F_X9_divide_b71_st (k71 : Mem → Nat → Int32 → Int32 → Int32 → Int32 → Int32 → Int32 → Int32 → Int32 → Option Mem) (M : Mem) (v0 : Nat) (v1 : Int32) (v2 : Int32) (v3 : Int32) (v4 : Int32) (v5 : Int32) (v6 : Int32) (v7 : Int32) (v8 : Int32) : Option Mem :=
  (gr M v0 640).bind fun t23 =>
  (ai M t23 ((((60 : Int32) * v2) + v5) - (1 : Int32))).bind fun t24 =>
  if ((j_ishl t24 v8) &&& (32768 : Int32)) = 0 then
    let v8_25 : Int32 := v8 + (1 : Int32)
    k71 M v0 v1 v2 v3 v4 v5 v6 v7 v8_25
  else
    (gr M v0 643).bind fun t26 =>
    (vg M v0 10).bind fun _ =>
    (F_X9_shifted M v0 v1 v8 t26).bind fun z28 =>
    (gr z28 v0 644).bind fun t29 =>
    (vg z28 v0 10).bind fun _ =>
    (F_X9_shifted z28 v0 v2 v8 t29).bind fun z31 =>
    F_X9_divide_b126  xN z31 v0 v1 v3 v4 v5 v6 v7 v8 v6
noncomputable def F_X9_divide_b71  (n : Nat) : Mem → Nat → Int32 → Int32 → Int32 → Int32 → Int32 → Int32 → Int32 → Int32 → Option Mem :=
  Nat.rec (motive := fun _ => Mem → Nat → Int32 → Int32 → Int32 → Int32 → Int32 → Int32 → Int32 → Int32 → Option Mem) (fun _ _ _ _ _ _ _ _ _ _ => none) (fun _ ih => F_X9_divide_b71_st ih) n
noncomputable def F_X9_divide_b39  (M : Mem) (s0 : Int32) (v0 : Nat) (v1 : Int32) (v2 : Int32) (v3 : Int32) (v4 : Int32) (v5 : Int32) (v6 : Int32) : Option Mem :=
  if v6 < 0 then
    (vg M v0 10).bind fun _ =>
    (F_X9_put M v0 v1 v4).bind fun z33 =>
    (gr z33 v0 641).bind fun t34 =>
    (si z33 t34 v3 (0 : Int32)).bind fun M35 =>
    (gr M35 v0 642).bind fun t36 =>
    (sb M35 t36 v3 (0 : Int32)).bind fun M37 =>
    some M37
  else
    F_X9_divide_b71  xN M v0 v1 v2 v3 v4 v5 v6 s0 (0 : Int32)
noncomputable def F_X9_divide (M : Mem) (v0 : Nat) (v1 : Int32) (v2 : Int32) (v3 : Int32) (v4 : Int32) : Option Mem :=
  (gr M v0 641).bind fun t38 =>
  (ai M t38 v2).bind fun t39 =>
  (gr M v0 641).bind fun t40 =>
  (ai M t40 v1).bind fun t41 =>
  let v6_42 : Int32 := (t41 - t39)
  (gr M v0 642).bind fun t43 =>
  (ab M t43 v1).bind fun t44 =>
  (gr M v0 642).bind fun t45 =>
  (ab M t45 v2).bind fun t46 =>
  if t44 = t46 then
    F_X9_divide_b39  M (0 : Int32) v0 v1 v2 v3 v4 t39 v6_42
  else
    F_X9_divide_b39  M (1 : Int32) v0 v1 v2 v3 v4 t39 v6_42
noncomputable def F_X8_clearRow_b119 (k5 : Mem → Nat → Int32 → Int32 → Int32 → Option Mem) (M : Mem) (v0 : Nat) (v1 : Int32) (v2 : Int32) (v3 : Int32) : Option Mem :=
  let v3_1 : Int32 := v3 + (-1 : Int32)
  k5 M v0 v1 v2 v3_1
noncomputable def F_X8_clearRow_b87 (k5 : Mem → Nat → Int32 → Int32 → Int32 → Option Mem) (M : Mem) (v0 : Nat) (v1 : Int32) (v2 : Int32) (v3 : Int32) : Option Mem :=
  (gr M v0 576).bind fun t2 =>
  (vg M t2 10).bind fun _ =>
  (F_X9_subtract M t2 (120 : Int32) (121 : Int32) (122 : Int32)).bind fun z4 =>
  (gr z4 v0 576).bind fun t5 =>
  (vg z4 v0 9).bind fun _ =>
  (F_X8_place z4 v0 v1 v3).bind fun z7 =>
  (vg z4 t5 10).bind fun _ =>
  (F_X9_divide z4 t5 (122 : Int32) (125 : Int32) z7 (123 : Int32)).bind fun z9 =>
  F_X8_clearRow_b119 k5 z9 v0 v1 v2 v3
noncomputable def F_X8_clearRow_b19 (k5 : Mem → Nat → Int32 → Int32 → Int32 → Option Mem) (M : Mem) (v0 : Nat) (v1 : Int32) (v2 : Int32) (v3 : Int32) : Option Mem :=
  if v3 = v2 then
    F_X8_clearRow_b119 k5 M v0 v1 v2 v3
  else
    (gr M v0 576).bind fun t10 =>
    (vg M v0 9).bind fun _ =>
    (F_X8_place M v0 v2 v2).bind fun z12 =>
    (vg M v0 9).bind fun _ =>
    (F_X8_place M v0 v1 v3).bind fun z14 =>
    (vg M t10 10).bind fun _ =>
    (F_X9_multiply M t10 z12 z14 (120 : Int32)).bind fun z16 =>
    if v3 < v2 then
      (gr z16 v0 576).bind fun t17 =>
      (vg z16 t17 10).bind fun _ =>
      (F_X9_set z16 t17 (121 : Int32) (0 : Int64)).bind fun z19 =>
      F_X8_clearRow_b87 k5 z19 v0 v1 v2 v3
    else
      (gr z16 v0 576).bind fun t20 =>
      (vg z16 v0 9).bind fun _ =>
      (F_X8_place z16 v0 v1 v2).bind fun z22 =>
      (vg z16 v0 9).bind fun _ =>
      (F_X8_place z16 v0 v2 v3).bind fun z24 =>
      (vg z16 t20 10).bind fun _ =>
      (F_X9_multiply z16 t20 z22 z24 (121 : Int32)).bind fun z26 =>
      F_X8_clearRow_b87 k5 z26 v0 v1 v2 v3
noncomputable def F_X8_clearRow_b5_st (k5 : Mem → Nat → Int32 → Int32 → Int32 → Option Mem) (M : Mem) (v0 : Nat) (v1 : Int32) (v2 : Int32) (v3 : Int32) : Option Mem :=
  if v3 < 0 then
    (gr M v0 576).bind fun t27 =>
    (vg M v0 9).bind fun _ =>
    (F_X8_place M v0 v1 v2).bind fun z29 =>
    (vg M t27 10).bind fun _ =>
    (F_X9_set M t27 z29 (0 : Int64)).bind fun z31 =>
    some z31
  else
    if v3 < v2 then
      if v3 = v1 then
        F_X8_clearRow_b19 k5 M v0 v1 v2 v3
      else
        F_X8_clearRow_b119 k5 M v0 v1 v2 v3
    else
      F_X8_clearRow_b19 k5 M v0 v1 v2 v3
noncomputable def F_X8_clearRow_b5  (n : Nat) : Mem → Nat → Int32 → Int32 → Int32 → Option Mem :=
  Nat.rec (motive := fun _ => Mem → Nat → Int32 → Int32 → Int32 → Option Mem) (fun _ _ _ _ _ => none) (fun _ ih => F_X8_clearRow_b5_st ih) n
noncomputable def F_X8_clearRow (M : Mem) (v0 : Nat) (v1 : Int32) (v2 : Int32) : Option Mem :=
  (gi M v0 577).bind fun t32 =>
  F_X8_clearRow_b5  xN M v0 v1 v2 t32
noncomputable def F_X8_clear_b113 (k12 : Mem → Nat → Int32 → Option (Int32 × Mem)) (k91 : Mem → Nat → Int32 → Int32 → Option (Int32 × Mem)) (M : Mem) (v0 : Nat) (v1 : Int32) (v4 : Int32) : Option (Int32 × Mem) :=
  let v4_1 : Int32 := v4 + (1 : Int32)
  k91 M v0 v1 v4_1
noncomputable def F_X8_clear_b91_st (k12 : Mem → Nat → Int32 → Option (Int32 × Mem)) (k91 : Mem → Nat → Int32 → Int32 → Option (Int32 × Mem)) (M : Mem) (v0 : Nat) (v1 : Int32) (v4 : Int32) : Option (Int32 × Mem) :=
  (gi M v0 577).bind fun t2 =>
  if v4 < t2 then
    if v4 = v1 then
      F_X8_clear_b113 k12 k91 M v0 v1 v4
    else
      (vg M v0 9).bind fun _ =>
      (F_X8_clearRow M v0 v4 v1).bind fun z4 =>
      F_X8_clear_b113 k12 k91 z4 v0 v1 v4
  else
    (gr M v0 576).bind fun t5 =>
    (vg M v0 9).bind fun _ =>
    (F_X8_place M v0 v1 v1).bind fun z7 =>
    (vg M t5 10).bind fun _ =>
    (F_X9_put M t5 z7 (125 : Int32)).bind fun z9 =>
    let v1_10 : Int32 := v1 + (1 : Int32)
    k12 z9 v0 v1_10
noncomputable def F_X8_clear_b91 (k12 : Mem → Nat → Int32 → Option (Int32 × Mem)) (n : Nat) : Mem → Nat → Int32 → Int32 → Option (Int32 × Mem) :=
  Nat.rec (motive := fun _ => Mem → Nat → Int32 → Int32 → Option (Int32 × Mem)) (fun _ _ _ _ => none) (fun _ ih => F_X8_clear_b91_st k12 ih) n
noncomputable def F_X8_clear_b52 (k12 : Mem → Nat → Int32 → Option (Int32 × Mem)) (M : Mem) (v0 : Nat) (v1 : Int32) (v2 : Int32) : Option (Int32 × Mem) :=
  (gi M v0 577).bind fun t11 =>
  if v2 = t11 then
    some ((0 : Int32), M)
  else
    (gr M v0 578).bind fun t12 =>
    (ai M t12 v2).bind fun t13 =>
    (gr M v0 578).bind fun t14 =>
    (gr M v0 578).bind fun t15 =>
    (ai M t15 v1).bind fun t16 =>
    (si M t14 v2 t16).bind fun M17 =>
    (gr M17 v0 578).bind fun t18 =>
    (si M17 t18 v1 t13).bind fun M19 =>
    F_X8_clear_b91 k12 xN M19 v0 v1 (0 : Int32)
noncomputable def F_X8_clear_b22_st (k12 : Mem → Nat → Int32 → Option (Int32 × Mem)) (k22 : Mem → Nat → Int32 → Int32 → Option (Int32 × Mem)) (M : Mem) (v0 : Nat) (v1 : Int32) (v2 : Int32) : Option (Int32 × Mem) :=
  (gi M v0 577).bind fun t20 =>
  if v2 < t20 then
    (gr M v0 576).bind fun t21 =>
    (vg M v0 9).bind fun _ =>
    (F_X8_place M v0 v2 v1).bind fun z23 =>
    (vg M t21 10).bind fun _ =>
    (F_X9_isZero M t21 z23).bind fun z25 =>
    if z25 = 0 then
      F_X8_clear_b52 k12 M v0 v1 v2
    else
      let v2_26 : Int32 := v2 + (1 : Int32)
      k22 M v0 v1 v2_26
  else
    F_X8_clear_b52 k12 M v0 v1 v2
noncomputable def F_X8_clear_b22 (k12 : Mem → Nat → Int32 → Option (Int32 × Mem)) (n : Nat) : Mem → Nat → Int32 → Int32 → Option (Int32 × Mem) :=
  Nat.rec (motive := fun _ => Mem → Nat → Int32 → Int32 → Option (Int32 × Mem)) (fun _ _ _ _ => none) (fun _ ih => F_X8_clear_b22_st k12 ih) n
noncomputable def F_X8_clear_b12_st (k12 : Mem → Nat → Int32 → Option (Int32 × Mem)) (M : Mem) (v0 : Nat) (v1 : Int32) : Option (Int32 × Mem) :=
  (gi M v0 577).bind fun t27 =>
  if v1 < t27 then
    F_X8_clear_b22 k12 xN M v0 v1 v1
  else
    some ((1 : Int32), M)
noncomputable def F_X8_clear_b12  (n : Nat) : Mem → Nat → Int32 → Option (Int32 × Mem) :=
  Nat.rec (motive := fun _ => Mem → Nat → Int32 → Option (Int32 × Mem)) (fun _ _ _ => none) (fun _ ih => F_X8_clear_b12_st ih) n
noncomputable def F_X8_clear (M : Mem) (v0 : Nat) : Option (Int32 × Mem) :=
  (gr M v0 576).bind fun t28 =>
  (vg M t28 10).bind fun _ =>
  (F_X9_set M t28 (125 : Int32) (1 : Int64)).bind fun z30 =>
  F_X8_clear_b12  xN z30 v0 (0 : Int32)
noncomputable def F_X9_turn_b19  (M : Mem) (s0 : Nat) (s1 : Int32) (s2 : Int32) : Option Mem :=
  (sb M s0 s1 s2).bind fun M1 =>
  some M1
noncomputable def F_X9_turn (M : Mem) (v0 : Nat) (v1 : Int32) : Option Mem :=
  (gr M v0 642).bind fun t2 =>
  (gr M v0 642).bind fun t3 =>
  (ab M t3 v1).bind fun t4 =>
  if t4 = 0 then
    F_X9_turn_b19  M t2 v1 (1 : Int32)
  else
    F_X9_turn_b19  M t2 v1 (0 : Int32)
noncomputable def F_X8_common_b41_st (k41 : Mem → Nat → Option Mem) (M : Mem) (v0 : Nat) : Option Mem :=
  (gr M v0 576).bind fun t1 =>
  (vg M t1 10).bind fun _ =>
  (F_X9_isZero M t1 (120 : Int32)).bind fun z3 =>
  if z3 = 0 then
    (gr M v0 576).bind fun t4 =>
    (vg M t4 10).bind fun _ =>
    (F_X9_divide M t4 (124 : Int32) (120 : Int32) (121 : Int32) (122 : Int32)).bind fun z6 =>
    (gr z6 v0 576).bind fun t7 =>
    (vg z6 t7 10).bind fun _ =>
    (F_X9_put z6 t7 (120 : Int32) (124 : Int32)).bind fun z9 =>
    (gr z9 v0 576).bind fun t10 =>
    (vg z9 t10 10).bind fun _ =>
    (F_X9_put z9 t10 (122 : Int32) (120 : Int32)).bind fun z12 =>
    k41 z12 v0
  else
    some M
noncomputable def F_X8_common_b41  (n : Nat) : Mem → Nat → Option Mem :=
  Nat.rec (motive := fun _ => Mem → Nat → Option Mem) (fun _ _ => none) (fun _ ih => F_X8_common_b41_st ih) n
noncomputable def F_X8_common (M : Mem) (v0 : Nat) (v1 : Int32) (v2 : Int32) : Option Mem :=
  (gr M v0 576).bind fun t13 =>
  (vg M t13 10).bind fun _ =>
  (F_X9_put M t13 v2 (124 : Int32)).bind fun z15 =>
  (gr z15 v0 576).bind fun t16 =>
  (vg z15 t16 10).bind fun _ =>
  (F_X9_put z15 t16 v1 (120 : Int32)).bind fun z18 =>
  (gr z18 v0 576).bind fun t19 =>
  (vg z18 t19 10).bind fun _ =>
  (F_X9_isBelow z18 t19 (120 : Int32)).bind fun z21 =>
  if z21 = 0 then
    F_X8_common_b41  xN z18 v0
  else
    (gr z18 v0 576).bind fun t22 =>
    (vg z18 t22 10).bind fun _ =>
    (F_X9_turn z18 t22 (120 : Int32)).bind fun z24 =>
    F_X8_common_b41  xN z24 v0
noncomputable def F_X9_isLong_b112  (M : Mem) (s0 : Int32) : Option Int32 :=
  some (s0 &&& 1)
noncomputable def F_X9_isLong_b107  (M : Mem) : Option Int32 :=
  F_X9_isLong_b112  M (1 : Int32)
noncomputable def F_X9_isLong_b96  (M : Mem) (s0 : Int32) (v2 : Int32) : Option Int32 :=
  if v2 < (32768 : Int32) then
    F_X9_isLong_b107  M
  else
    if s0 = 0 then
      F_X9_isLong_b112  M (0 : Int32)
    else
      F_X9_isLong_b107  M
noncomputable def F_X9_isLong_b95  (M : Mem) (v2 : Int32) : Option Int32 :=
  F_X9_isLong_b96  M (0 : Int32) v2
noncomputable def F_X9_isLong (M : Mem) (v0 : Nat) (v1 : Int32) : Option Int32 :=
  (gr M v0 641).bind fun t1 =>
  (ai M t1 v1).bind fun t2 =>
  if t2 < (4 : Int32) then
    some (1 : Int32)
  else
    (gr M v0 641).bind fun t3 =>
    (ai M t3 v1).bind fun t4 =>
    if (4 : Int32) < t4 then
      some (0 : Int32)
    else
      (gr M v0 640).bind fun t5 =>
      (ai M t5 (((60 : Int32) * v1) + (3 : Int32))).bind fun t6 =>
      (gr M v0 642).bind fun t7 =>
      (ab M t7 v1).bind fun t8 =>
      if t8 = 0 then
        F_X9_isLong_b95  M t6
      else
        if t6 = (32768 : Int32) then
          (gr M v0 640).bind fun t9 =>
          (ai M t9 ((60 : Int32) * v1)).bind fun t10 =>
          if t10 = 0 then
            (gr M v0 640).bind fun t11 =>
            (ai M t11 (((60 : Int32) * v1) + (1 : Int32))).bind fun t12 =>
            if t12 = 0 then
              (gr M v0 640).bind fun t13 =>
              (ai M t13 (((60 : Int32) * v1) + (2 : Int32))).bind fun t14 =>
              if t14 = 0 then
                F_X9_isLong_b96  M (1 : Int32) t6
              else
                F_X9_isLong_b95  M t6
            else
              F_X9_isLong_b95  M t6
          else
            F_X9_isLong_b95  M t6
        else
          F_X9_isLong_b95  M t6
noncomputable def F_X9_worth_b57  (M : Mem) (s0 : Int64) : Option Int64 :=
  some s0
noncomputable def F_X9_worth_b12_st (k12 : Mem → Nat → Int32 → Int64 → Int32 → Option Int64) (M : Mem) (v0 : Nat) (v1 : Int32) (v2 : Int64) (v4 : Int32) : Option Int64 :=
  if v4 < 0 then
    (gr M v0 642).bind fun t1 =>
    (ab M t1 v1).bind fun t2 =>
    if t2 = 0 then
      F_X9_worth_b57  M v2
    else
      F_X9_worth_b57  M (-v2)
  else
    (gr M v0 640).bind fun t3 =>
    (ai M t3 (((60 : Int32) * v1) + v4)).bind fun t4 =>
    let v2_5 : Int64 := ((j_lshl v2 (16 : Int32)) ||| t4.toInt64)
    let v4_6 : Int32 := v4 + (-1 : Int32)
    k12 M v0 v1 v2_5 v4_6
noncomputable def F_X9_worth_b12  (n : Nat) : Mem → Nat → Int32 → Int64 → Int32 → Option Int64 :=
  Nat.rec (motive := fun _ => Mem → Nat → Int32 → Int64 → Int32 → Option Int64) (fun _ _ _ _ _ => none) (fun _ ih => F_X9_worth_b12_st ih) n
noncomputable def F_X9_worth (M : Mem) (v0 : Nat) (v1 : Int32) : Option Int64 :=
  (gr M v0 641).bind fun t7 =>
  (ai M t7 v1).bind fun t8 =>
  let v4_9 : Int32 := (t8 - (1 : Int32))
  F_X9_worth_b12  xN M v0 v1 (0 : Int64) v4_9
noncomputable def F_X8_tell_b112  (M : Mem) (v1 : Int32) : Option (Int32 × Mem) :=
  some (v1, M)
noncomputable def F_X8_tell_b54 (k2 : Mem → Nat → Int32 → Option (Int32 × Mem)) (M : Mem) (v0 : Nat) (v1 : Int32) (v2 : Int32) (v3 : Int32) : Option (Int32 × Mem) :=
  (vg M v0 9).bind fun _ =>
  (F_X8_common M v0 v2 v3).bind fun z2 =>
  (gr z2 v0 576).bind fun t3 =>
  (vg z2 t3 10).bind fun _ =>
  (F_X9_divide z2 t3 v2 (124 : Int32) (120 : Int32) (123 : Int32)).bind fun z5 =>
  (gr z5 v0 576).bind fun t6 =>
  (vg z5 t6 10).bind fun _ =>
  (F_X9_divide z5 t6 v3 (124 : Int32) (121 : Int32) (123 : Int32)).bind fun z8 =>
  (gr z8 v0 576).bind fun t9 =>
  (vg z8 t9 10).bind fun _ =>
  (F_X9_isLong z8 t9 (120 : Int32)).bind fun z11 =>
  if z11 = 0 then
    F_X8_tell_b112  z8 v1
  else
    (gr z8 v0 576).bind fun t12 =>
    (vg z8 t12 10).bind fun _ =>
    (F_X9_isLong z8 t12 (121 : Int32)).bind fun z14 =>
    if z14 = 0 then
      F_X8_tell_b112  z8 v1
    else
      (gr z8 v0 579).bind fun t15 =>
      (gr z8 v0 576).bind fun t16 =>
      (vg z8 t16 10).bind fun _ =>
      (F_X9_worth z8 t16 (120 : Int32)).bind fun z18 =>
      (sj z8 t15 v1 z18).bind fun M19 =>
      (gr M19 v0 580).bind fun t20 =>
      (gr M19 v0 576).bind fun t21 =>
      (vg M19 t21 10).bind fun _ =>
      (F_X9_worth M19 t21 (121 : Int32)).bind fun z23 =>
      (sj M19 t20 v1 z23).bind fun M24 =>
      let v1_25 : Int32 := v1 + (1 : Int32)
      k2 M24 v0 v1_25
noncomputable def F_X8_tell_b2_st (k2 : Mem → Nat → Int32 → Option (Int32 × Mem)) (M : Mem) (v0 : Nat) (v1 : Int32) : Option (Int32 × Mem) :=
  (gi M v0 577).bind fun t26 =>
  if v1 < t26 then
    (gi M v0 577).bind fun t27 =>
    (vg M v0 9).bind fun _ =>
    (F_X8_place M v0 v1 t27).bind fun z29 =>
    (vg M v0 9).bind fun _ =>
    (F_X8_place M v0 v1 v1).bind fun z31 =>
    (gr M v0 576).bind fun t32 =>
    (vg M t32 10).bind fun _ =>
    (F_X9_isBelow M t32 z31).bind fun z34 =>
    if z34 = 0 then
      F_X8_tell_b54 k2 M v0 v1 z29 z31
    else
      (gr M v0 576).bind fun t35 =>
      (vg M t35 10).bind fun _ =>
      (F_X9_turn M t35 z31).bind fun z37 =>
      (gr z37 v0 576).bind fun t38 =>
      (vg z37 t38 10).bind fun _ =>
      (F_X9_turn z37 t38 z29).bind fun z40 =>
      F_X8_tell_b54 k2 z40 v0 v1 z29 z31
  else
    some ((-1 : Int32), M)
noncomputable def F_X8_tell_b2  (n : Nat) : Mem → Nat → Int32 → Option (Int32 × Mem) :=
  Nat.rec (motive := fun _ => Mem → Nat → Int32 → Option (Int32 × Mem)) (fun _ _ _ => none) (fun _ ih => F_X8_tell_b2_st ih) n
noncomputable def F_X8_tell (M : Mem) (v0 : Nat) : Option (Int32 × Mem) :=
  F_X8_tell_b2  xN M v0 (0 : Int32)
noncomputable def F_X0_solve_b26  (M : Mem) (v0 : Nat) : Option (Int32 × Mem) :=
  (vg M v0 1).bind fun _ =>
  (F_X0_gone M v0).bind fun z2 =>
  some ((-z2), M)
noncomputable def F_X0_solve_b103  (M : Mem) : Option (Int32 × Mem) :=
  some ((-1 : Int32), M)
noncomputable def F_X0_solve_b136  (M : Mem) : Option (Int32 × Mem) :=
  some ((-3 : Int32), M)
noncomputable def F_X0_solve_b273_st (k273 : Mem → Nat → Int32 → Int32 → Option (Int32 × Mem)) (M : Mem) (v0 : Nat) (v6 : Int32) (v8 : Int32) : Option (Int32 × Mem) :=
  if v8 < v6 then
    (gr M v0 81).bind fun t3 =>
    (gr M v0 75).bind fun t4 =>
    (gr M t4 579).bind fun t5 =>
    (al M t5 v8).bind fun t6 =>
    (sj M t3 v8 t6).bind fun M7 =>
    (gr M7 v0 81).bind fun t8 =>
    (gr M7 v0 75).bind fun t9 =>
    (gr M7 t9 580).bind fun t10 =>
    (al M7 t10 v8).bind fun t11 =>
    (sj M7 t8 ((4096 : Int32) + v8) t11).bind fun M12 =>
    let v8_13 : Int32 := v8 + (1 : Int32)
    k273 M12 v0 v6 v8_13
  else
    (vg M v0 1).bind fun _ =>
    (F_X0_two M v0 (5 : Int32) (5 : Int32) v6).bind fun z15 =>
    some (z15.1, z15.2)
noncomputable def F_X0_solve_b273  (n : Nat) : Mem → Nat → Int32 → Int32 → Option (Int32 × Mem) :=
  Nat.rec (motive := fun _ => Mem → Nat → Int32 → Int32 → Option (Int32 × Mem)) (fun _ _ _ _ => none) (fun _ ih => F_X0_solve_b273_st ih) n
noncomputable def F_X0_solve_b161_st (k151 : Mem → Nat → Nat → Nat → Int32 → Int32 → Option (Int32 × Mem)) (k161 : Mem → Nat → Nat → Nat → Int32 → Int32 → Int32 → Option (Int32 × Mem)) (M : Mem) (v0 : Nat) (v3 : Nat) (v4 : Nat) (v6 : Int32) (v7 : Int32) (v8 : Int32) : Option (Int32 × Mem) :=
  if v8 < v6 then
    (gr M v0 75).bind fun t16 =>
    (vg M v3 22).bind fun _ =>
    (F_X21_get M v3 ((v6 * v7) + v8)).bind fun z18 =>
    (vg M t16 9).bind fun _ =>
    (F_X8_put M t16 v7 v8 z18).bind fun z20 =>
    let v8_21 : Int32 := v8 + (1 : Int32)
    k161 z20 v0 v3 v4 v6 v7 v8_21
  else
    (gr M v0 75).bind fun t22 =>
    (vg M v4 22).bind fun _ =>
    (F_X21_get M v4 v7).bind fun z24 =>
    (vg M t22 9).bind fun _ =>
    (F_X8_put M t22 v7 v6 z24).bind fun z26 =>
    let v7_27 : Int32 := v7 + (1 : Int32)
    k151 z26 v0 v3 v4 v6 v7_27
noncomputable def F_X0_solve_b161 (k151 : Mem → Nat → Nat → Nat → Int32 → Int32 → Option (Int32 × Mem)) (n : Nat) : Mem → Nat → Nat → Nat → Int32 → Int32 → Int32 → Option (Int32 × Mem) :=
  Nat.rec (motive := fun _ => Mem → Nat → Nat → Nat → Int32 → Int32 → Int32 → Option (Int32 × Mem)) (fun _ _ _ _ _ _ _ => none) (fun _ ih => F_X0_solve_b161_st k151 ih) n
noncomputable def F_X0_solve_b151_st (k151 : Mem → Nat → Nat → Nat → Int32 → Int32 → Option (Int32 × Mem)) (M : Mem) (v0 : Nat) (v3 : Nat) (v4 : Nat) (v6 : Int32) (v7 : Int32) : Option (Int32 × Mem) :=
  if v7 < v6 then
    F_X0_solve_b161 k151 xN M v0 v3 v4 v6 v7 (0 : Int32)
  else
    (gr M v0 75).bind fun t28 =>
    (vg M t28 9).bind fun _ =>
    (F_X8_clear M t28).bind fun z30 =>
    if z30.1 = 0 then
      some ((-6 : Int32), z30.2)
    else
      (gr z30.2 v0 75).bind fun t31 =>
      (vg z30.2 t31 9).bind fun _ =>
      (F_X8_tell z30.2 t31).bind fun z33 =>
      (vg z33.2 v0 1).bind fun _ =>
      (F_X0_rowShape z33.2 v0 v6).bind fun z35 =>
      if z33.1 < 0 then
        F_X0_solve_b273  xN z35 v0 v6 (0 : Int32)
      else
        (gr z35 v0 67).bind fun t36 =>
        (pi z35 t36 129 (8 : Int32)).bind fun M37 =>
        (vg M37 v0 1).bind fun _ =>
        (F_X0_failedAt M37 v0 z33.1).bind fun z39 =>
        some (z39.1, z39.2)
noncomputable def F_X0_solve_b151  (n : Nat) : Mem → Nat → Nat → Nat → Int32 → Int32 → Option (Int32 × Mem) :=
  Nat.rec (motive := fun _ => Mem → Nat → Nat → Nat → Int32 → Int32 → Option (Int32 × Mem)) (fun _ _ _ _ _ _ => none) (fun _ ih => F_X0_solve_b151_st ih) n
noncomputable def F_X0_solve_b75  (M : Mem) (s0 : Int32) (v0 : Nat) (v3 : Nat) (v4 : Nat) : Option (Int32 × Mem) :=
  if s0 = 0 then
    F_X0_solve_b103  M
  else
    (gr M v3 1410).bind fun t40 =>
    (ai M t40 (0 : Int32)).bind fun t41 =>
    if t41 < (1 : Int32) then
      F_X0_solve_b103  M
    else
      (gr M v3 1410).bind fun t42 =>
      (ai M t42 (0 : Int32)).bind fun t43 =>
      if (10 : Int32) < t43 then
        F_X0_solve_b103  M
      else
        (gr M v3 1410).bind fun t44 =>
        (ai M t44 (0 : Int32)).bind fun t45 =>
        (gr M v3 1410).bind fun t46 =>
        (ai M t46 (1 : Int32)).bind fun t47 =>
        if t47 = t45 then
          (gr M v4 1410).bind fun t48 =>
          (ai M t48 (0 : Int32)).bind fun t49 =>
          if t49 = t45 then
            (gr M v0 75).bind fun t50 =>
            (vg M t50 9).bind fun _ =>
            (F_X8_begin M t50 t45).bind fun z52 =>
            F_X0_solve_b151  xN z52 v0 v3 v4 t45 (0 : Int32)
          else
            F_X0_solve_b136  M
        else
          F_X0_solve_b136  M
noncomputable def F_X0_solve_b74  (M : Mem) (v0 : Nat) (v3 : Nat) (v4 : Nat) : Option (Int32 × Mem) :=
  F_X0_solve_b75  M (0 : Int32) v0 v3 v4
noncomputable def F_X0_solve (M : Mem) (v0 : Nat) (v1 : Int32) (v2 : Int32) : Option (Int32 × Mem) :=
  (vg M v0 1).bind fun _ =>
  (F_X0_fine M v0).bind fun z54 =>
  (vg z54 v0 1).bind fun _ =>
  (F_X0_find z54 v0 v1).bind fun z56 =>
  (vg z54 v0 1).bind fun _ =>
  (F_X0_find z54 v0 v2).bind fun z58 =>
  if z56 = 6 then
    none
  else
    if z56 = 0 then
      F_X0_solve_b26  z54 v0
    else
      if z58 = 6 then
        none
      else
        if z58 = 0 then
          F_X0_solve_b26  z54 v0
        else
          (gi z54 z56 1409).bind fun t59 =>
          if t59 = (2 : Int32) then
            (gi z54 z58 1409).bind fun t60 =>
            if t60 = (1 : Int32) then
              (gi z54 z56 1408).bind fun t61 =>
              (F_X0_isSmall t61).bind fun z62 =>
              if z62 = 0 then
                F_X0_solve_b74  z54 v0 z56 z58
              else
                (gi z54 z58 1408).bind fun t63 =>
                (F_X0_isSmall t63).bind fun z64 =>
                if z64 = 0 then
                  F_X0_solve_b74  z54 v0 z56 z58
                else
                  F_X0_solve_b75  z54 (1 : Int32) v0 z56 z58
            else
              F_X0_solve_b74  z54 v0 z56 z58
          else
            F_X0_solve_b74  z54 v0 z56 z58
noncomputable def F_X10_isPrime_b11   : Option Int32 :=
  some (0 : Int32)
noncomputable def F_X10_isPrime_b15_st (k15 : Int32 → Int32 → Option Int32) (v0 : Int32) (v1 : Int32) : Option Int32 :=
  if v0.toInt64 < (v1.toInt64 * v1.toInt64) then
    some (1 : Int32)
  else
    if v1 = 0 then none else
    if (j_irem v0 v1) = 0 then
      some (0 : Int32)
    else
      let v1_1 : Int32 := v1 + (2 : Int32)
      k15 v0 v1_1
noncomputable def F_X10_isPrime_b15  (n : Nat) : Int32 → Int32 → Option Int32 :=
  Nat.rec (motive := fun _ => Int32 → Int32 → Option Int32) (fun _ _ => none) (fun _ ih => F_X10_isPrime_b15_st ih) n
noncomputable def F_X10_isPrime (v0 : Int32) : Option Int32 :=
  if v0 < (3 : Int32) then
    F_X10_isPrime_b11  
  else
    if (2 : Int32) = 0 then none else
    if (j_irem v0 (2 : Int32)) = 0 then
      F_X10_isPrime_b11  
    else
      F_X10_isPrime_b15  xN v0 (3 : Int32)
noncomputable def F_X10_power_b39 (k9 : Mem → Nat → Int64 → Int64 → Int64 → Option Int64) (M : Mem) (v0 : Nat) (v5 : Int64) (v7 : Int64) (v9 : Int64) : Option Int64 :=
  (gl M v0 705).bind fun t1 =>
  if t1 = 0 then none else
  let v7_2 : Int64 := (j_lrem (v7 * v7) t1)
  if (2 : Int64) = 0 then none else
  let v9_3 : Int64 := (v9 / (2 : Int64))
  k9 M v0 v5 v7_2 v9_3
noncomputable def F_X10_power_b9_st (k9 : Mem → Nat → Int64 → Int64 → Int64 → Option Int64) (M : Mem) (v0 : Nat) (v5 : Int64) (v7 : Int64) (v9 : Int64) : Option Int64 :=
  if (0 : Int64) < v9 then
    if (2 : Int64) = 0 then none else
    if (j_lrem v9 (2 : Int64)) = (1 : Int64) then
      (gl M v0 705).bind fun t4 =>
      if t4 = 0 then none else
      let v5_5 : Int64 := (j_lrem (v5 * v7) t4)
      F_X10_power_b39 k9 M v0 v5_5 v7 v9
    else
      F_X10_power_b39 k9 M v0 v5 v7 v9
  else
    some v5
noncomputable def F_X10_power_b9  (n : Nat) : Mem → Nat → Int64 → Int64 → Int64 → Option Int64 :=
  Nat.rec (motive := fun _ => Mem → Nat → Int64 → Int64 → Int64 → Option Int64) (fun _ _ _ _ _ => none) (fun _ ih => F_X10_power_b9_st ih) n
noncomputable def F_X10_power (M : Mem) (v0 : Nat) (v1 : Int64) (v3 : Int64) : Option Int64 :=
  F_X10_power_b9  xN M v0 (1 : Int64) v1 v3
noncomputable def F_X10_root_b11_st (k11 : Mem → Nat → Int32 → Int64 → Option Int64) (M : Mem) (v0 : Nat) (v1 : Int32) (v2 : Int64) : Option Int64 :=
  (gl M v0 705).bind fun t1 =>
  if v1.toInt64 = 0 then none else
  (vg M v0 11).bind fun _ =>
  (F_X10_power M v0 v2 ((t1 - (1 : Int64)) / (v1.toInt64))).bind fun z3 =>
  if (2 : Int32) = 0 then none else
  (vg M v0 11).bind fun _ =>
  (F_X10_power M v0 z3 ((v1 / (2 : Int32)).toInt64)).bind fun z5 =>
  (gl M v0 705).bind fun t6 =>
  if z5 = (t6 - (1 : Int64)) then
    (gl M v0 705).bind fun t7 =>
    if v1.toInt64 = 0 then none else
    (vg M v0 11).bind fun _ =>
    (F_X10_power M v0 v2 ((t7 - (1 : Int64)) / (v1.toInt64))).bind fun z9 =>
    some z9
  else
    let v2_10 : Int64 := (v2 + (1 : Int64))
    k11 M v0 v1 v2_10
noncomputable def F_X10_root_b11  (n : Nat) : Mem → Nat → Int32 → Int64 → Option Int64 :=
  Nat.rec (motive := fun _ => Mem → Nat → Int32 → Int64 → Option Int64) (fun _ _ _ _ => none) (fun _ ih => F_X10_root_b11_st ih) n
noncomputable def F_X10_root (M : Mem) (v0 : Nat) (v1 : Int32) : Option Int64 :=
  if v1 = (1 : Int32) then
    some (1 : Int64)
  else
    F_X10_root_b11  xN M v0 v1 (2 : Int64)
noncomputable def F_X10_turn_b73 (k4 : Mem → Nat → Int32 → Int32 → Int32 → Option Mem) (M : Mem) (v0 : Nat) (v1 : Int32) (v2 : Int32) (v3 : Int32) : Option Mem :=
  let v3_1 : Int32 := v3 + (1 : Int32)
  k4 M v0 v1 v2 v3_1
noncomputable def F_X10_turn_b14_st (k4 : Mem → Nat → Int32 → Int32 → Int32 → Option Mem) (k14 : Mem → Nat → Int32 → Int32 → Int32 → Int32 → Option Mem) (M : Mem) (v0 : Nat) (v1 : Int32) (v2 : Int32) (v3 : Int32) (v4 : Int32) : Option Mem :=
  if (v2 &&& v4) = 0 then
    let v2_2 : Int32 := (v2 ||| v4)
    if v3 < v2_2 then
      (gr M v0 704).bind fun t3 =>
      (al M t3 v3).bind fun t4 =>
      (gr M v0 704).bind fun t5 =>
      (gr M v0 704).bind fun t6 =>
      (al M t6 v2_2).bind fun t7 =>
      (sj M t5 v3 t7).bind fun M8 =>
      (gr M8 v0 704).bind fun t9 =>
      (sj M8 t9 v2_2 t4).bind fun M10 =>
      F_X10_turn_b73 k4 M10 v0 v1 v2_2 v3
    else
      F_X10_turn_b73 k4 M v0 v1 v2_2 v3
  else
    let v2_11 : Int32 := (v2 ^^^ v4)
    if (2 : Int32) = 0 then none else
    let v4_12 : Int32 := (v4 / (2 : Int32))
    k14 M v0 v1 v2_11 v3 v4_12
noncomputable def F_X10_turn_b14 (k4 : Mem → Nat → Int32 → Int32 → Int32 → Option Mem) (n : Nat) : Mem → Nat → Int32 → Int32 → Int32 → Int32 → Option Mem :=
  Nat.rec (motive := fun _ => Mem → Nat → Int32 → Int32 → Int32 → Int32 → Option Mem) (fun _ _ _ _ _ _ => none) (fun _ ih => F_X10_turn_b14_st k4 ih) n
noncomputable def F_X10_turn_b4_st (k4 : Mem → Nat → Int32 → Int32 → Int32 → Option Mem) (M : Mem) (v0 : Nat) (v1 : Int32) (v2 : Int32) (v3 : Int32) : Option Mem :=
  if v3 < v1 then
    if (2 : Int32) = 0 then none else
    let v4_13 : Int32 := (v1 / (2 : Int32))
    F_X10_turn_b14 k4 xN M v0 v1 v2 v3 v4_13
  else
    some M
noncomputable def F_X10_turn_b4  (n : Nat) : Mem → Nat → Int32 → Int32 → Int32 → Option Mem :=
  Nat.rec (motive := fun _ => Mem → Nat → Int32 → Int32 → Int32 → Option Mem) (fun _ _ _ _ _ => none) (fun _ ih => F_X10_turn_b4_st ih) n
noncomputable def F_X10_turn (M : Mem) (v0 : Nat) (v1 : Int32) : Option Mem :=
  F_X10_turn_b4  xN M v0 v1 (0 : Int32) (1 : Int32)
noncomputable def F_X10_pair_b6_st (k6 : Mem → Nat → Int32 → Int32 → Int64 → Int64 → Int32 → Option Mem) (M : Mem) (v0 : Nat) (v1 : Int32) (v2 : Int32) (v3 : Int64) (v5 : Int64) (v7 : Int32) : Option Mem :=
  if v7 < (v1 + v2) then
    (gr M v0 704).bind fun t1 =>
    (al M t1 v7).bind fun t2 =>
    (gr M v0 704).bind fun t3 =>
    (al M t3 (v7 + v2)).bind fun t4 =>
    (gl M v0 705).bind fun t5 =>
    if t5 = 0 then none else
    let v10_6 : Int64 := (j_lrem (t4 * v5) t5)
    (gr M v0 704).bind fun t7 =>
    (gl M v0 705).bind fun t8 =>
    if t8 = 0 then none else
    (sj M t7 v7 (j_lrem (t2 + v10_6) t8)).bind fun M9 =>
    (gr M9 v0 704).bind fun t10 =>
    (gl M9 v0 705).bind fun t11 =>
    (gl M9 v0 705).bind fun t12 =>
    if t12 = 0 then none else
    (sj M9 t10 (v7 + v2) (j_lrem ((t2 + t11) - v10_6) t12)).bind fun M13 =>
    (gl M13 v0 705).bind fun t14 =>
    if t14 = 0 then none else
    let v5_15 : Int64 := (j_lrem (v5 * v3) t14)
    let v7_16 : Int32 := v7 + (1 : Int32)
    k6 M13 v0 v1 v2 v3 v5_15 v7_16
  else
    some M
noncomputable def F_X10_pair_b6  (n : Nat) : Mem → Nat → Int32 → Int32 → Int64 → Int64 → Int32 → Option Mem :=
  Nat.rec (motive := fun _ => Mem → Nat → Int32 → Int32 → Int64 → Int64 → Int32 → Option Mem) (fun _ _ _ _ _ _ _ => none) (fun _ ih => F_X10_pair_b6_st ih) n
noncomputable def F_X10_pair (M : Mem) (v0 : Nat) (v1 : Int32) (v2 : Int32) (v3 : Int64) : Option Mem :=
  F_X10_pair_b6  xN M v0 v1 v2 v3 (1 : Int64) v1
noncomputable def F_X10_work_b126_st (k126 : Mem → Nat → Int32 → Int64 → Int32 → Option Mem) (M : Mem) (v0 : Nat) (v1 : Int32) (v6 : Int64) (v8 : Int32) : Option Mem :=
  if v8 < v1 then
    (gr M v0 704).bind fun t1 =>
    (gr M v0 704).bind fun t2 =>
    (al M t2 v8).bind fun t3 =>
    (gl M v0 705).bind fun t4 =>
    if t4 = 0 then none else
    (sj M t1 v8 (j_lrem (t3 * v6) t4)).bind fun M5 =>
    let v8_6 : Int32 := v8 + (1 : Int32)
    k126 M5 v0 v1 v6 v8_6
  else
    some M
noncomputable def F_X10_work_b126  (n : Nat) : Mem → Nat → Int32 → Int64 → Int32 → Option Mem :=
  Nat.rec (motive := fun _ => Mem → Nat → Int32 → Int64 → Int32 → Option Mem) (fun _ _ _ _ _ => none) (fun _ ih => F_X10_work_b126_st ih) n
noncomputable def F_X10_work_b65_st (k41 : Mem → Nat → Int32 → Int32 → Int64 → Int32 → Option Mem) (k65 : Mem → Nat → Int32 → Int32 → Int64 → Int32 → Int64 → Int32 → Option Mem) (M : Mem) (v0 : Nat) (v1 : Int32) (v3 : Int32) (v4 : Int64) (v6 : Int32) (v7 : Int64) (v9 : Int32) : Option Mem :=
  if v9 < v1 then
    (vg M v0 11).bind fun _ =>
    (F_X10_pair M v0 v9 v6 v7).bind fun z8 =>
    let v9_9 : Int32 := (v9 + ((2 : Int32) * v6))
    k65 z8 v0 v1 v3 v4 v6 v7 v9_9
  else
    let v6_10 : Int32 := (v6 * (2 : Int32))
    k41 M v0 v1 v3 v4 v6_10
noncomputable def F_X10_work_b65 (k41 : Mem → Nat → Int32 → Int32 → Int64 → Int32 → Option Mem) (n : Nat) : Mem → Nat → Int32 → Int32 → Int64 → Int32 → Int64 → Int32 → Option Mem :=
  Nat.rec (motive := fun _ => Mem → Nat → Int32 → Int32 → Int64 → Int32 → Int64 → Int32 → Option Mem) (fun _ _ _ _ _ _ _ _ => none) (fun _ ih => F_X10_work_b65_st k41 ih) n
noncomputable def F_X10_work_b41_st (k41 : Mem → Nat → Int32 → Int32 → Int64 → Int32 → Option Mem) (M : Mem) (v0 : Nat) (v1 : Int32) (v3 : Int32) (v4 : Int64) (v6 : Int32) : Option Mem :=
  if v6 < v1 then
    if ((2 : Int32) * v6) = 0 then none else
    (vg M v0 11).bind fun _ =>
    (F_X10_power M v0 v4 ((v1 / ((2 : Int32) * v6)).toInt64)).bind fun z12 =>
    F_X10_work_b65 k41 xN M v0 v1 v3 v4 v6 z12 (0 : Int32)
  else
    if v3 = 0 then
      some M
    else
      (gl M v0 705).bind fun t13 =>
      (vg M v0 11).bind fun _ =>
      (F_X10_power M v0 (v1.toInt64) (t13 - (2 : Int64))).bind fun z15 =>
      F_X10_work_b126  xN M v0 v1 z15 (0 : Int32)
noncomputable def F_X10_work_b41  (n : Nat) : Mem → Nat → Int32 → Int32 → Int64 → Int32 → Option Mem :=
  Nat.rec (motive := fun _ => Mem → Nat → Int32 → Int32 → Int64 → Int32 → Option Mem) (fun _ _ _ _ _ _ => none) (fun _ ih => F_X10_work_b41_st ih) n
noncomputable def F_X10_work_b33  (M : Mem) (v0 : Nat) (v1 : Int32) (v3 : Int32) (v4 : Int64) : Option Mem :=
  (vg M v0 11).bind fun _ =>
  (F_X10_turn M v0 v1).bind fun z17 =>
  F_X10_work_b41  xN z17 v0 v1 v3 v4 (1 : Int32)
noncomputable def F_X10_work (M : Mem) (v0 : Nat) (v1 : Int32) (v2 : Int32) (v3 : Int32) : Option Mem :=
  (pj M v0 705 (v2.toInt64)).bind fun M18 =>
  (vg M18 v0 11).bind fun _ =>
  (F_X10_root M18 v0 v1).bind fun z20 =>
  if v3 = 0 then
    F_X10_work_b33  M18 v0 v1 v3 z20
  else
    (gl M18 v0 705).bind fun t21 =>
    (vg M18 v0 11).bind fun _ =>
    (F_X10_power M18 v0 z20 (t21 - (2 : Int64))).bind fun z23 =>
    F_X10_work_b33  M18 v0 v1 v3 z23
noncomputable def F_X0_residues_b109  (M : Mem) : Option (Int32 × Mem) :=
  some ((-1 : Int32), M)
noncomputable def F_X0_residues_b165 (k120 : Mem → Nat → Int32 → Int32 → Nat → Int32 → Int32 → Option (Int32 × Mem)) (M : Mem) (s0 : Nat) (s1 : Int32) (s2 : Int64) (v0 : Nat) (v2 : Int32) (v3 : Int32) (v4 : Nat) (v5 : Int32) (v7 : Int32) : Option (Int32 × Mem) :=
  (sj M s0 s1 s2).bind fun M1 =>
  let v7_2 : Int32 := v7 + (1 : Int32)
  k120 M1 v0 v2 v3 v4 v5 v7_2
noncomputable def F_X0_residues_b120_st (k120 : Mem → Nat → Int32 → Int32 → Nat → Int32 → Int32 → Option (Int32 × Mem)) (M : Mem) (v0 : Nat) (v2 : Int32) (v3 : Int32) (v4 : Nat) (v5 : Int32) (v7 : Int32) : Option (Int32 × Mem) :=
  if v7 < v5 then
    (vg M v4 22).bind fun _ =>
    (F_X21_get M v4 v7).bind fun z4 =>
    if v2.toInt64 = 0 then none else
    let v8_5 : Int64 := (j_lrem z4 (v2.toInt64))
    (gr M v0 76).bind fun t6 =>
    (gr M t6 704).bind fun t7 =>
    if v8_5 < (0 : Int64) then
      F_X0_residues_b165 k120 M t7 v7 (v8_5 + v2.toInt64) v0 v2 v3 v4 v5 v7
    else
      F_X0_residues_b165 k120 M t7 v7 v8_5 v0 v2 v3 v4 v5 v7
  else
    (gr M v0 76).bind fun t8 =>
    (vg M t8 11).bind fun _ =>
    (F_X10_work M t8 v5 v2 v3).bind fun z10 =>
    (gr z10 v0 76).bind fun t11 =>
    (gr z10 t11 704).bind fun t12 =>
    (vg z10 v0 1).bind fun _ =>
    (F_X0_made z10 v0 (5 : Int32) t12).bind fun z14 =>
    some (z14.1, z14.2)
noncomputable def F_X0_residues_b120  (n : Nat) : Mem → Nat → Int32 → Int32 → Nat → Int32 → Int32 → Option (Int32 × Mem) :=
  Nat.rec (motive := fun _ => Mem → Nat → Int32 → Int32 → Nat → Int32 → Int32 → Option (Int32 × Mem)) (fun _ _ _ _ _ _ _ => none) (fun _ ih => F_X0_residues_b120_st ih) n
noncomputable def F_X0_residues_b68  (M : Mem) (s0 : Int32) (v0 : Nat) (v2 : Int32) (v3 : Int32) (v4 : Nat) (v5 : Int32) : Option (Int32 × Mem) :=
  if s0 = 0 then
    F_X0_residues_b109  M
  else
    (gi M v4 1408).bind fun t15 =>
    (F_X20_isWhole_2 t15).bind fun z16 =>
    if z16 = 0 then
      F_X0_residues_b109  M
    else
      if (1000000007 : Int32) < v2 then
        F_X0_residues_b109  M
      else
        (F_X10_isPrime v2).bind fun z17 =>
        if z17 = 0 then
          F_X0_residues_b109  M
        else
          if v5 = 0 then none else
          if (j_irem (v2 - (1 : Int32)) v5) = 0 then
            (vg M v0 1).bind fun _ =>
            (F_X0_rowShape M v0 v5).bind fun z19 =>
            F_X0_residues_b120  xN z19 v0 v2 v3 v4 v5 (0 : Int32)
          else
            F_X0_residues_b109  M
noncomputable def F_X0_residues_b67  (M : Mem) (v0 : Nat) (v2 : Int32) (v3 : Int32) (v4 : Nat) (v5 : Int32) : Option (Int32 × Mem) :=
  F_X0_residues_b68  M (0 : Int32) v0 v2 v3 v4 v5
noncomputable def F_X0_residues_b37  (M : Mem) (s0 : Int32) (v0 : Nat) (v2 : Int32) (v3 : Int32) (v4 : Nat) : Option (Int32 × Mem) :=
  if s0 < (1 : Int32) then
    F_X0_residues_b67  M v0 v2 v3 v4 s0
  else
    if (1024 : Int32) < s0 then
      F_X0_residues_b67  M v0 v2 v3 v4 s0
    else
      if (s0 &&& (s0 - (1 : Int32))) = 0 then
        F_X0_residues_b68  M (1 : Int32) v0 v2 v3 v4 s0
      else
        F_X0_residues_b67  M v0 v2 v3 v4 s0
noncomputable def F_X0_residues (M : Mem) (v0 : Nat) (v1 : Int32) (v2 : Int32) (v3 : Int32) : Option (Int32 × Mem) :=
  (vg M v0 1).bind fun _ =>
  (F_X0_find M v0 v1).bind fun z21 =>
  if z21 = 6 then
    none
  else
    if z21 = 0 then
      (vg M v0 1).bind fun _ =>
      (F_X0_gone M v0).bind fun z23 =>
      some ((-z23), M)
    else
      (vg M z21 22).bind fun _ =>
      (F_X21_isRow M z21).bind fun z25 =>
      if z25 = 0 then
        F_X0_residues_b37  M (0 : Int32) v0 v2 v3 z21
      else
        (gr M z21 1410).bind fun t26 =>
        (ai M t26 (0 : Int32)).bind fun t27 =>
        F_X0_residues_b37  M t27 v0 v2 v3 z21
noncomputable def F_X11_wrong (M : Mem) (v0 : Nat) (v1 : Int32) : Option (Nat × Mem) :=
  (gr M v0 768).bind fun t1 =>
  (vg M t1 2).bind fun _ =>
  (F_X1_at M t1 (20 : Int32) v1).bind fun z3 =>
  some (z3.1, z3.2)
noncomputable def F_X11_look_b28  (M : Mem) (s0 : Int32) : Option Int32 :=
  some s0
noncomputable def F_X11_look (M : Mem) (v0 : Nat) : Option Int32 :=
  (gi M v0 774).bind fun t1 =>
  (gi M v0 773).bind fun t2 =>
  if t1 < t2 then
    (gr M v0 772).bind fun t3 =>
    (gi M v0 774).bind fun t4 =>
    (ab M t3 t4).bind fun t5 =>
    F_X11_look_b28  M (t5 &&& (255 : Int32))
  else
    F_X11_look_b28  M (-1 : Int32)
noncomputable def F_X11_mean (M : Mem) (v0 : Nat) : Option Mem :=
  (gr M v0 775).bind fun t1 =>
  (gi M v0 776).bind fun t2 =>
  (gr M v0 772).bind fun t3 =>
  (gi M v0 774).bind fun t4 =>
  (ab M t3 t4).bind fun t5 =>
  (sb M t1 t2 t5).bind fun M6 =>
  (gi M6 v0 776).bind fun t7 =>
  (pi M6 v0 776 (t7 + (1 : Int32))).bind fun M8 =>
  (gi M8 v0 774).bind fun t9 =>
  (pi M8 v0 774 (t9 + (1 : Int32))).bind fun M10 =>
  some M10
noncomputable def F_X11_quoted_b33  (M : Mem) (v0 : Nat) : Option (Mem ⊕ (Nat × Mem)) :=
  (gi M v0 774).bind fun t1 =>
  (vg M v0 12).bind fun _ =>
  (F_X11_wrong M v0 t1).bind fun z3 =>
  (ie z3.2 z3.1).bind fun _ => some (.inr (z3.1, z3.2))
noncomputable def F_X11_quoted_b88 (k12 : Mem → Nat → Int32 → Option (Mem ⊕ (Nat × Mem))) (M : Mem) (v0 : Nat) (v1 : Int32) : Option (Mem ⊕ (Nat × Mem)) :=
  k12 M v0 v1
noncomputable def F_X11_quoted_b79 (k12 : Mem → Nat → Int32 → Option (Mem ⊕ (Nat × Mem))) (M : Mem) (s0 : Int32) (v0 : Nat) : Option (Mem ⊕ (Nat × Mem)) :=
  if s0 = 0 then
    F_X11_quoted_b88 k12 M v0 s0
  else
    (vg M v0 12).bind fun _ =>
    (F_X11_mean M v0).bind fun z5 =>
    F_X11_quoted_b88 k12 z5 v0 s0
noncomputable def F_X11_quoted_b12_st (k12 : Mem → Nat → Int32 → Option (Mem ⊕ (Nat × Mem))) (M : Mem) (v0 : Nat) (v1 : Int32) : Option (Mem ⊕ (Nat × Mem)) :=
  if v1 = 0 then
    some (.inl M)
  else
    (vg M v0 12).bind fun _ =>
    (F_X11_look M v0).bind fun z7 =>
    if z7 < (32 : Int32) then
      F_X11_quoted_b33  M v0
    else
      if (126 : Int32) < z7 then
        F_X11_quoted_b33  M v0
      else
        if z7 = (34 : Int32) then
          (gi M v0 774).bind fun t8 =>
          (pi M v0 774 (t8 + (1 : Int32))).bind fun M9 =>
          (vg M9 v0 12).bind fun _ =>
          (F_X11_look M9 v0).bind fun z11 =>
          if z11 = (34 : Int32) then
            F_X11_quoted_b79 k12 M9 (1 : Int32) v0
          else
            F_X11_quoted_b79 k12 M9 (0 : Int32) v0
        else
          (vg M v0 12).bind fun _ =>
          (F_X11_mean M v0).bind fun z13 =>
          F_X11_quoted_b88 k12 z13 v0 v1
noncomputable def F_X11_quoted_b12  (n : Nat) : Mem → Nat → Int32 → Option (Mem ⊕ (Nat × Mem)) :=
  Nat.rec (motive := fun _ => Mem → Nat → Int32 → Option (Mem ⊕ (Nat × Mem))) (fun _ _ _ => none) (fun _ ih => F_X11_quoted_b12_st ih) n
noncomputable def F_X11_quoted (M : Mem) (v0 : Nat) : Option (Mem ⊕ (Nat × Mem)) :=
  (gi M v0 774).bind fun t14 =>
  (pi M v0 774 (t14 + (1 : Int32))).bind fun M15 =>
  F_X11_quoted_b12  xN M15 v0 (1 : Int32)
noncomputable def F_X11_length_b22  (M : Mem) (s0 : Int32) : Option Int32 :=
  some s0
noncomputable def F_X11_length (M : Mem) (v0 : Nat) (v1 : Int32) : Option Int32 :=
  (gr M v0 778).bind fun t1 =>
  (ab M t1 v1).bind fun t2 =>
  if t2 < 0 then
    F_X11_length_b22  M (0 : Int32)
  else
    (gr M v0 778).bind fun t3 =>
    (ab M t3 v1).bind fun t4 =>
    F_X11_length_b22  M (t4 &&& (63 : Int32))
noncomputable def F_X11_isSame_b17_st (k17 : Mem → Nat → Int32 → Int32 → Int32 → Option Int32) (M : Mem) (v0 : Nat) (v1 : Int32) (v2 : Int32) (v3 : Int32) : Option Int32 :=
  (vg M v0 12).bind fun _ =>
  (F_X11_length M v0 v1).bind fun z2 =>
  if v3 < z2 then
    (gr M v0 775).bind fun t3 =>
    (gr M v0 777).bind fun t4 =>
    (ai M t4 v1).bind fun t5 =>
    (ab M t3 (t5 + v3)).bind fun t6 =>
    (gr M v0 775).bind fun t7 =>
    (gr M v0 777).bind fun t8 =>
    (ai M t8 v2).bind fun t9 =>
    (ab M t7 (t9 + v3)).bind fun t10 =>
    if t6 = t10 then
      let v3_11 : Int32 := v3 + (1 : Int32)
      k17 M v0 v1 v2 v3_11
    else
      some (0 : Int32)
  else
    some (1 : Int32)
noncomputable def F_X11_isSame_b17  (n : Nat) : Mem → Nat → Int32 → Int32 → Int32 → Option Int32 :=
  Nat.rec (motive := fun _ => Mem → Nat → Int32 → Int32 → Int32 → Option Int32) (fun _ _ _ _ _ => none) (fun _ ih => F_X11_isSame_b17_st ih) n
noncomputable def F_X11_isSame (M : Mem) (v0 : Nat) (v1 : Int32) (v2 : Int32) : Option Int32 :=
  (vg M v0 12).bind fun _ =>
  (F_X11_length M v0 v1).bind fun z13 =>
  (vg M v0 12).bind fun _ =>
  (F_X11_length M v0 v2).bind fun z15 =>
  if z13 = z15 then
    F_X11_isSame_b17  xN M v0 v1 v2 (0 : Int32)
  else
    some (0 : Int32)
noncomputable def F_X11_cell_b162  (M : Mem) (v0 : Nat) (v2 : Int32) : Option (Mem ⊕ (Nat × Mem)) :=
  (vg M v0 12).bind fun _ =>
  (F_X11_wrong M v0 v2).bind fun z2 =>
  (ie z2.2 z2.1).bind fun _ => some (.inr (z2.1, z2.2))
noncomputable def F_X11_cell_b246  (M : Mem) (v0 : Nat) : Option (Mem ⊕ (Nat × Mem)) :=
  (gi M v0 779).bind fun t3 =>
  (pi M v0 779 (t3 + (1 : Int32))).bind fun M4 =>
  some (.inl M4)
noncomputable def F_X11_cell_b208_st (k208 : Mem → Nat → Int32 → Int32 → Int32 → Option (Mem ⊕ (Nat × Mem))) (M : Mem) (v0 : Nat) (v1 : Int32) (v2 : Int32) (v6 : Int32) : Option (Mem ⊕ (Nat × Mem)) :=
  (gi M v0 779).bind fun t5 =>
  if v6 < t5 then
    if v1 = 0 then
      F_X11_cell_b246  M v0
    else
      (gi M v0 779).bind fun t6 =>
      (vg M v0 12).bind fun _ =>
      (F_X11_isSame M v0 v6 t6).bind fun z8 =>
      if z8 = 0 then
        let v6_9 : Int32 := v6 + (1 : Int32)
        k208 M v0 v1 v2 v6_9
      else
        (vg M v0 12).bind fun _ =>
        (F_X11_wrong M v0 v2).bind fun z11 =>
        (ie z11.2 z11.1).bind fun _ => some (.inr (z11.1, z11.2))
  else
    F_X11_cell_b246  M v0
noncomputable def F_X11_cell_b208  (n : Nat) : Mem → Nat → Int32 → Int32 → Int32 → Option (Mem ⊕ (Nat × Mem)) :=
  Nat.rec (motive := fun _ => Mem → Nat → Int32 → Int32 → Int32 → Option (Mem ⊕ (Nat × Mem))) (fun _ _ _ _ _ => none) (fun _ ih => F_X11_cell_b208_st ih) n
noncomputable def F_X11_cell_b203  (M : Mem) (s0 : Nat) (s1 : Int32) (s2 : Int32) (v0 : Nat) (v1 : Int32) (v2 : Int32) : Option (Mem ⊕ (Nat × Mem)) :=
  (sb M s0 s1 (j_i2b s2)).bind fun M12 =>
  F_X11_cell_b208  xN M12 v0 v1 v2 (0 : Int32)
noncomputable def F_X11_cell_b189  (M : Mem) (s0 : Nat) (s1 : Int32) (v0 : Nat) (v1 : Int32) (v2 : Int32) (v3 : Int32) (v4 : Int32) : Option (Mem ⊕ (Nat × Mem)) :=
  if v3 = 0 then
    F_X11_cell_b203  M s0 s1 v4 v0 v1 v2
  else
    F_X11_cell_b203  M s0 s1 (v4 + (64 : Int32)) v0 v1 v2
noncomputable def F_X11_cell_b168  (M : Mem) (v0 : Nat) (v1 : Int32) (v2 : Int32) (v3 : Int32) (v4 : Int32) : Option (Mem ⊕ (Nat × Mem)) :=
  (gr M v0 778).bind fun t13 =>
  (gi M v0 779).bind fun t14 =>
  if v4 = 0 then
    if v3 = 0 then
      F_X11_cell_b203  M t13 t14 (-1 : Int32) v0 v1 v2
    else
      F_X11_cell_b189  M t13 t14 v0 v1 v2 v3 v4
  else
    F_X11_cell_b189  M t13 t14 v0 v1 v2 v3 v4
noncomputable def F_X11_cell_b150  (M : Mem) (s0 : Int32) (s1 : Int32) (v0 : Nat) (v1 : Int32) (v2 : Int32) (v3 : Int32) (v4 : Int32) : Option (Mem ⊕ (Nat × Mem)) :=
  if s1 < s0 then
    F_X11_cell_b162  M v0 v2
  else
    if v1 = 0 then
      F_X11_cell_b168  M v0 v1 v2 v3 v4
    else
      if v4 = 0 then
        F_X11_cell_b162  M v0 v2
      else
        F_X11_cell_b168  M v0 v1 v2 v3 v4
noncomputable def F_X11_cell_b121  (M : Mem) (s0 : Int32) (v0 : Nat) (v1 : Int32) (v2 : Int32) (v3 : Int32) (v4 : Int32) : Option (Mem ⊕ (Nat × Mem)) :=
  if s0 = 0 then
    (gi M v0 774).bind fun t15 =>
    (vg M v0 12).bind fun _ =>
    (F_X11_wrong M v0 t15).bind fun z17 =>
    (ie z17.2 z17.1).bind fun _ => some (.inr (z17.1, z17.2))
  else
    if v1 = 0 then
      F_X11_cell_b150  M v4 (40 : Int32) v0 v1 v2 v3 v4
    else
      F_X11_cell_b150  M v4 (20 : Int32) v0 v1 v2 v3 v4
noncomputable def F_X11_cell_b116  (M : Mem) (v0 : Nat) (v1 : Int32) (v2 : Int32) (v3 : Int32) (v4 : Int32) : Option (Mem ⊕ (Nat × Mem)) :=
  F_X11_cell_b121  M (1 : Int32) v0 v1 v2 v3 v4
noncomputable def F_X11_cell_b82  (M : Mem) (v0 : Nat) (v1 : Int32) (v2 : Int32) (v3 : Int32) : Option (Mem ⊕ (Nat × Mem)) :=
  (gi M v0 776).bind fun t18 =>
  (gr M v0 777).bind fun t19 =>
  (gi M v0 779).bind fun t20 =>
  (ai M t19 t20).bind fun t21 =>
  let v4_22 : Int32 := (t18 - t21)
  (vg M v0 12).bind fun _ =>
  (F_X11_look M v0).bind fun z24 =>
  if z24 = (44 : Int32) then
    F_X11_cell_b116  M v0 v1 v2 v3 v4_22
  else
    (vg M v0 12).bind fun _ =>
    (F_X11_look M v0).bind fun z26 =>
    if z26 = (10 : Int32) then
      F_X11_cell_b116  M v0 v1 v2 v3 v4_22
    else
      F_X11_cell_b121  M (0 : Int32) v0 v1 v2 v3 v4_22
noncomputable def F_X11_cell_b39_st (k39 : Mem → Nat → Int32 → Int32 → Int32 → Option (Mem ⊕ (Nat × Mem))) (M : Mem) (v0 : Nat) (v1 : Int32) (v2 : Int32) (v3 : Int32) : Option (Mem ⊕ (Nat × Mem)) :=
  (vg M v0 12).bind fun _ =>
  (F_X11_look M v0).bind fun z28 =>
  if z28 < (32 : Int32) then
    F_X11_cell_b82  M v0 v1 v2 v3
  else
    (vg M v0 12).bind fun _ =>
    (F_X11_look M v0).bind fun z30 =>
    if (126 : Int32) < z30 then
      F_X11_cell_b82  M v0 v1 v2 v3
    else
      (vg M v0 12).bind fun _ =>
      (F_X11_look M v0).bind fun z32 =>
      if z32 = (34 : Int32) then
        F_X11_cell_b82  M v0 v1 v2 v3
      else
        (vg M v0 12).bind fun _ =>
        (F_X11_look M v0).bind fun z34 =>
        if z34 = (44 : Int32) then
          F_X11_cell_b82  M v0 v1 v2 v3
        else
          (vg M v0 12).bind fun _ =>
          (F_X11_mean M v0).bind fun z36 =>
          k39 z36 v0 v1 v2 v3
noncomputable def F_X11_cell_b39  (n : Nat) : Mem → Nat → Int32 → Int32 → Int32 → Option (Mem ⊕ (Nat × Mem)) :=
  Nat.rec (motive := fun _ => Mem → Nat → Int32 → Int32 → Int32 → Option (Mem ⊕ (Nat × Mem))) (fun _ _ _ _ _ => none) (fun _ ih => F_X11_cell_b39_st ih) n
noncomputable def F_X11_cell_b27  (M : Mem) (s0 : Int32) (v0 : Nat) (v1 : Int32) (v2 : Int32) : Option (Mem ⊕ (Nat × Mem)) :=
  if s0 = 0 then
    F_X11_cell_b39  xN M v0 v1 v2 s0
  else
    (vg M v0 12).bind fun _ =>
    tb (F_X11_quoted M v0) fun z38 =>
    F_X11_cell_b82  z38 v0 v1 v2 s0
noncomputable def F_X11_cell (M : Mem) (v0 : Nat) (v1 : Int32) (v2 : Int32) : Option (Mem ⊕ (Nat × Mem)) :=
  (gr M v0 777).bind fun t39 =>
  (gi M v0 779).bind fun t40 =>
  (gi M v0 776).bind fun t41 =>
  (si M t39 t40 t41).bind fun M42 =>
  (vg M42 v0 12).bind fun _ =>
  (F_X11_look M42 v0).bind fun z44 =>
  if z44 = (34 : Int32) then
    F_X11_cell_b27  M42 (1 : Int32) v0 v1 v2
  else
    F_X11_cell_b27  M42 (0 : Int32) v0 v1 v2
noncomputable def F_X11_line_b102  (M : Mem) (v0 : Nat) : Option (Mem ⊕ (Nat × Mem)) :=
  (gi M v0 774).bind fun t1 =>
  (vg M v0 12).bind fun _ =>
  (F_X11_wrong M v0 t1).bind fun z3 =>
  (ie z3.2 z3.1).bind fun _ => some (.inr (z3.1, z3.2))
noncomputable def F_X11_line_b111  (M : Mem) (v0 : Nat) : Option (Mem ⊕ (Nat × Mem)) :=
  (gi M v0 774).bind fun t4 =>
  (pi M v0 774 (t4 + (1 : Int32))).bind fun M5 =>
  some (.inl M5)
noncomputable def F_X11_line_b73 (k7 : Mem → Nat → Int32 → Int32 → Int32 → Option (Mem ⊕ (Nat × Mem))) (M : Mem) (v0 : Nat) (v1 : Int32) (v2 : Int32) (v3 : Int32) : Option (Mem ⊕ (Nat × Mem)) :=
  k7 M v0 v1 v2 v3
noncomputable def F_X11_line_b58 (k7 : Mem → Nat → Int32 → Int32 → Int32 → Option (Mem ⊕ (Nat × Mem))) (M : Mem) (s0 : Int32) (v0 : Nat) (v1 : Int32) (v2 : Int32) : Option (Mem ⊕ (Nat × Mem)) :=
  if s0 = 0 then
    F_X11_line_b73 k7 M v0 v1 v2 s0
  else
    (gi M v0 774).bind fun t6 =>
    (pi M v0 774 (t6 + (1 : Int32))).bind fun M7 =>
    F_X11_line_b73 k7 M7 v0 v1 v2 s0
noncomputable def F_X11_line_b7_st (k7 : Mem → Nat → Int32 → Int32 → Int32 → Option (Mem ⊕ (Nat × Mem))) (M : Mem) (v0 : Nat) (v1 : Int32) (v2 : Int32) (v3 : Int32) : Option (Mem ⊕ (Nat × Mem)) :=
  if v3 = 0 then
    (vg M v0 12).bind fun _ =>
    (F_X11_look M v0).bind fun z9 =>
    if z9 = (10 : Int32) then
      (gi M v0 779).bind fun t10 =>
      (gi M v0 780).bind fun t11 =>
      if (t10 - v2) < t11 then
        if v1 = 0 then
          F_X11_line_b102  M v0
        else
          F_X11_line_b111  M v0
      else
        F_X11_line_b111  M v0
    else
      F_X11_line_b102  M v0
  else
    (gi M v0 774).bind fun t12 =>
    (gi M v0 779).bind fun t13 =>
    (gi M v0 780).bind fun t14 =>
    if (t13 - v2) = t14 then
      (vg M v0 12).bind fun _ =>
      (F_X11_wrong M v0 t12).bind fun z16 =>
      (ie z16.2 z16.1).bind fun _ => some (.inr (z16.1, z16.2))
    else
      (vg M v0 12).bind fun _ =>
      tb (F_X11_cell M v0 v1 t12) fun z18 =>
      (vg z18 v0 12).bind fun _ =>
      (F_X11_look z18 v0).bind fun z20 =>
      if z20 = (44 : Int32) then
        F_X11_line_b58 k7 z18 (1 : Int32) v0 v1 v2
      else
        F_X11_line_b58 k7 z18 (0 : Int32) v0 v1 v2
noncomputable def F_X11_line_b7  (n : Nat) : Mem → Nat → Int32 → Int32 → Int32 → Option (Mem ⊕ (Nat × Mem)) :=
  Nat.rec (motive := fun _ => Mem → Nat → Int32 → Int32 → Int32 → Option (Mem ⊕ (Nat × Mem))) (fun _ _ _ _ _ => none) (fun _ ih => F_X11_line_b7_st ih) n
noncomputable def F_X11_line (M : Mem) (v0 : Nat) (v1 : Int32) : Option (Mem ⊕ (Nat × Mem)) :=
  (gi M v0 779).bind fun t21 =>
  F_X11_line_b7  xN M v0 v1 t21 (1 : Int32)
noncomputable def F_X12_hasRoom_b16  (M : Mem) (s0 : Int32) : Option Int32 :=
  some (s0 &&& 1)
noncomputable def F_X12_hasRoom (M : Mem) (v0 : Nat) (v1 : Int32) : Option Int32 :=
  (gi M v0 833).bind fun t1 =>
  if (65536 : Int32) < (t1 + v1) then
    F_X12_hasRoom_b16  M (0 : Int32)
  else
    F_X12_hasRoom_b16  M (1 : Int32)
noncomputable def F_X52_init (M : Mem) (v0 : Nat) (v1 : Int32) (v2 : Int32) : Option Mem :=
  (ng M v0).bind fun _ =>
  (pi M v0 3392 v1).bind fun M3 =>
  (pi M3 v0 3393 v2).bind fun M4 =>
  (mk M4 1005 v1).bind fun M5 =>
  (pr M5 v0 3394 (m_nx M4)).bind fun M6 =>
  (mk M6 1002 v1).bind fun M7 =>
  (pr M7 v0 3395 (m_nx M6)).bind fun M8 =>
  (mk M8 1005 (v1 * v2)).bind fun M9 =>
  (pr M9 v0 3396 (m_nx M8)).bind fun M10 =>
  (mk M10 1002 (v1 * v2)).bind fun M11 =>
  (pr M11 v0 3397 (m_nx M10)).bind fun M12 =>
  (mk M12 1005 v1).bind fun M13 =>
  (pr M13 v0 3398 (m_nx M12)).bind fun M14 =>
  some M14
noncomputable def F_X12_add_b3_st (k3 : Mem → Nat → Nat → Int32 → Int32 → Int32 → Option (Int32 × Mem)) (M : Mem) (v0 : Nat) (v1 : Nat) (v2 : Int32) (v3 : Int32) (v4 : Int32) : Option (Int32 × Mem) :=
  if v4 < v3 then
    (gr M v0 832).bind fun t1 =>
    (gi M v0 833).bind fun t2 =>
    (ab M v1 (v2 + v4)).bind fun t3 =>
    (sb M t1 (t2 + v4) t3).bind fun M4 =>
    let v4_5 : Int32 := v4 + (1 : Int32)
    k3 M4 v0 v1 v2 v3 v4_5
  else
    (gi M v0 833).bind fun t6 =>
    (pi M v0 833 (t6 + v3)).bind fun M7 =>
    (gi M7 v0 833).bind fun t8 =>
    some ((t8 - v3), M7)
noncomputable def F_X12_add_b3  (n : Nat) : Mem → Nat → Nat → Int32 → Int32 → Int32 → Option (Int32 × Mem) :=
  Nat.rec (motive := fun _ => Mem → Nat → Nat → Int32 → Int32 → Int32 → Option (Int32 × Mem)) (fun _ _ _ _ _ _ => none) (fun _ ih => F_X12_add_b3_st ih) n
noncomputable def F_X12_add (M : Mem) (v0 : Nat) (v1 : Nat) (v2 : Int32) (v3 : Int32) : Option (Int32 × Mem) :=
  F_X12_add_b3  xN M v0 v1 v2 v3 (0 : Int32)
noncomputable def F_X52_isMissing_b14  (M : Mem) (s0 : Int32) : Option Int32 :=
  some (s0 &&& 1)
noncomputable def F_X52_isMissing (M : Mem) (v0 : Nat) (v1 : Int32) : Option Int32 :=
  (gr M v0 3397).bind fun t1 =>
  (ab M t1 v1).bind fun t2 =>
  if t2 < 0 then
    F_X52_isMissing_b14  M (1 : Int32)
  else
    F_X52_isMissing_b14  M (0 : Int32)
noncomputable def F_X52_length_b22  (M : Mem) (s0 : Int32) : Option Int32 :=
  some s0
noncomputable def F_X52_length (M : Mem) (v0 : Nat) (v1 : Int32) : Option Int32 :=
  (gr M v0 3397).bind fun t1 =>
  (ab M t1 v1).bind fun t2 =>
  if t2 < 0 then
    F_X52_length_b22  M (0 : Int32)
  else
    (gr M v0 3397).bind fun t3 =>
    (ab M t3 v1).bind fun t4 =>
    F_X52_length_b22  M (t4 &&& (63 : Int32))
noncomputable def F_X52_isQuoted_b16  (M : Mem) (s0 : Int32) : Option Int32 :=
  some (s0 &&& 1)
noncomputable def F_X52_isQuoted (M : Mem) (v0 : Nat) (v1 : Int32) : Option Int32 :=
  (gr M v0 3397).bind fun t1 =>
  (ab M t1 v1).bind fun t2 =>
  if t2 < (64 : Int32) then
    F_X52_isQuoted_b16  M (0 : Int32)
  else
    F_X52_isQuoted_b16  M (1 : Int32)
noncomputable def F_X11_isWord_b13_st (k13 : Mem → Nat → Int32 → Int32 → Nat → Int32 → Option Int32) (M : Mem) (v0 : Nat) (v1 : Int32) (v2 : Int32) (v3 : Nat) (v4 : Int32) : Option Int32 :=
  if v4 < v2 then
    (gr M v0 769).bind fun t1 =>
    (gr M t1 832).bind fun t2 =>
    (ab M t2 (v1 + v4)).bind fun t3 =>
    (vg M v3 76).bind fun _ =>
    (F_J15_charAt M v3 v4).bind fun z5 =>
    if t3 = z5 then
      let v4_6 : Int32 := v4 + (1 : Int32)
      k13 M v0 v1 v2 v3 v4_6
    else
      some (0 : Int32)
  else
    some (1 : Int32)
noncomputable def F_X11_isWord_b13  (n : Nat) : Mem → Nat → Int32 → Int32 → Nat → Int32 → Option Int32 :=
  Nat.rec (motive := fun _ => Mem → Nat → Int32 → Int32 → Nat → Int32 → Option Int32) (fun _ _ _ _ _ _ => none) (fun _ ih => F_X11_isWord_b13_st ih) n
noncomputable def F_X11_isWord (M : Mem) (v0 : Nat) (v1 : Int32) (v2 : Int32) (v3 : Nat) : Option Int32 :=
  (vg M v3 76).bind fun _ =>
  (F_J15_length M v3).bind fun z8 =>
  if v2 = z8 then
    F_X11_isWord_b13  xN M v0 v1 v2 v3 (0 : Int32)
  else
    some (0 : Int32)
noncomputable def F_X11_isDigit_b17  (s0 : Int32) : Option Int32 :=
  some (s0 &&& 1)
noncomputable def F_X11_isDigit_b16   : Option Int32 :=
  F_X11_isDigit_b17  (0 : Int32)
noncomputable def F_X11_isDigit (v0 : Int32) : Option Int32 :=
  if v0 < (48 : Int32) then
    F_X11_isDigit_b16  
  else
    if (57 : Int32) < v0 then
      F_X11_isDigit_b16  
    else
      F_X11_isDigit_b17  (1 : Int32)
noncomputable def F_X11_wholeLane_b187  (M : Mem) (s0 : Int32) : Option Int32 :=
  some s0
noncomputable def F_X11_wholeLane_b175  (M : Mem) (s0 : Int32) : Option Int32 :=
  if s0 = 0 then
    F_X11_wholeLane_b187  M (5 : Int32)
  else
    F_X11_wholeLane_b187  M (4 : Int32)
noncomputable def F_X11_wholeLane_b174  (M : Mem) : Option Int32 :=
  F_X11_wholeLane_b175  M (0 : Int32)
noncomputable def F_X11_wholeLane_b166  (M : Mem) (s0 : Int64) (s1 : Int64) : Option Int32 :=
  if s1 < s0 then
    F_X11_wholeLane_b174  M
  else
    F_X11_wholeLane_b175  M (1 : Int32)
noncomputable def F_X11_wholeLane_b140  (M : Mem) (v2 : Int32) (v3 : Int32) (v4 : Int64) (v6 : Int32) : Option Int32 :=
  if v6 = 0 then
    F_X11_wholeLane_b174  M
  else
    if (10 : Int32) < v2 then
      F_X11_wholeLane_b174  M
    else
      if v3 = 0 then
        F_X11_wholeLane_b166  M v4 (2147483647 : Int64)
      else
        F_X11_wholeLane_b166  M v4 (2147483648 : Int64)
noncomputable def F_X11_wholeLane_b125  (M : Mem) (s0 : Int32) (v2 : Int32) (v3 : Int32) (v4 : Int64) (v6 : Int32) : Option Int32 :=
  if v6 = 0 then
    if s0 = 0 then
      some (8 : Int32)
    else
      F_X11_wholeLane_b140  M v2 v3 v4 v6
  else
    F_X11_wholeLane_b140  M v2 v3 v4 v6
noncomputable def F_X11_wholeLane_b124  (M : Mem) (v2 : Int32) (v3 : Int32) (v4 : Int64) (v6 : Int32) : Option Int32 :=
  F_X11_wholeLane_b125  M (0 : Int32) v2 v3 v4 v6
noncomputable def F_X11_wholeLane_b87 (k18 : Mem → Nat → Int32 → Int32 → Int32 → Int64 → Int32 → Int32 → Option Int32) (M : Mem) (v0 : Nat) (v1 : Int32) (v2 : Int32) (v3 : Int32) (v4 : Int64) (v6 : Int32) (v7 : Int32) : Option Int32 :=
  let v7_1 : Int32 := v7 + (1 : Int32)
  k18 M v0 v1 v2 v3 v4 v6 v7_1
noncomputable def F_X11_wholeLane_b68 (k18 : Mem → Nat → Int32 → Int32 → Int32 → Int64 → Int32 → Int32 → Option Int32) (M : Mem) (s0 : Int32) (v0 : Nat) (v1 : Int32) (v2 : Int32) (v3 : Int32) (v4 : Int64) (v7 : Int32) (v8 : Int32) : Option Int32 :=
  if s0 = 0 then
    F_X11_wholeLane_b87 k18 M v0 v1 v2 v3 v4 s0 v7
  else
    let v4_2 : Int64 := (((10 : Int64) * v4) + v8.toInt64)
    F_X11_wholeLane_b87 k18 M v0 v1 v2 v3 v4_2 s0 v7
noncomputable def F_X11_wholeLane_b67 (k18 : Mem → Nat → Int32 → Int32 → Int32 → Int64 → Int32 → Int32 → Option Int32) (M : Mem) (v0 : Nat) (v1 : Int32) (v2 : Int32) (v3 : Int32) (v4 : Int64) (v7 : Int32) (v8 : Int32) : Option Int32 :=
  F_X11_wholeLane_b68 k18 M (0 : Int32) v0 v1 v2 v3 v4 v7 v8
noncomputable def F_X11_wholeLane_b18_st (k18 : Mem → Nat → Int32 → Int32 → Int32 → Int64 → Int32 → Int32 → Option Int32) (M : Mem) (v0 : Nat) (v1 : Int32) (v2 : Int32) (v3 : Int32) (v4 : Int64) (v6 : Int32) (v7 : Int32) : Option Int32 :=
  if v7 < v2 then
    (gr M v0 769).bind fun t3 =>
    (gr M t3 832).bind fun t4 =>
    (ab M t4 (v1 + v7)).bind fun t5 =>
    let v8_6 : Int32 := (t5 - (48 : Int32))
    if v6 = 0 then
      F_X11_wholeLane_b67 k18 M v0 v1 v2 v3 v4 v7 v8_6
    else
      if (10 : Int64) = 0 then none else
      if (((9223372036854775807 : Int64) - v8_6.toInt64) / (10 : Int64)) < v4 then
        F_X11_wholeLane_b67 k18 M v0 v1 v2 v3 v4 v7 v8_6
      else
        F_X11_wholeLane_b68 k18 M (1 : Int32) v0 v1 v2 v3 v4 v7 v8_6
  else
    if v6 = 0 then
      if v3 = 0 then
        F_X11_wholeLane_b124  M v2 v3 v4 v6
      else
        if v2 = (19 : Int32) then
          (vg M v0 12).bind fun _ =>
          (F_X11_isWord M v0 v1 (19 : Int32) 36).bind fun z8 =>
          if z8 = 0 then
            F_X11_wholeLane_b124  M v2 v3 v4 v6
          else
            F_X11_wholeLane_b125  M (1 : Int32) v2 v3 v4 v6
        else
          F_X11_wholeLane_b124  M v2 v3 v4 v6
    else
      F_X11_wholeLane_b124  M v2 v3 v4 v6
noncomputable def F_X11_wholeLane_b18  (n : Nat) : Mem → Nat → Int32 → Int32 → Int32 → Int64 → Int32 → Int32 → Option Int32 :=
  Nat.rec (motive := fun _ => Mem → Nat → Int32 → Int32 → Int32 → Int64 → Int32 → Int32 → Option Int32) (fun _ _ _ _ _ _ _ _ => none) (fun _ ih => F_X11_wholeLane_b18_st ih) n
noncomputable def F_X11_wholeLane (M : Mem) (v0 : Nat) (v1 : Int32) (v2 : Int32) (v3 : Int32) : Option Int32 :=
  if (19 : Int32) < v2 then
    some (8 : Int32)
  else
    F_X11_wholeLane_b18  xN M v0 v1 v2 v3 (0 : Int64) (1 : Int32) (0 : Int32)
noncomputable def F_X11_laneOfCell_b49  (M : Mem) : Option Int32 :=
  some (0 : Int32)
noncomputable def F_X11_laneOfCell_b244  (M : Mem) (s0 : Int32) : Option Int32 :=
  some s0
noncomputable def F_X11_laneOfCell_b242  (M : Mem) : Option Int32 :=
  F_X11_laneOfCell_b244  M (8 : Int32)
noncomputable def F_X11_laneOfCell_b209  (M : Mem) (v4 : Int32) (v5 : Int32) (v6 : Int32) (v8 : Int32) : Option Int32 :=
  if v6 = v4 then
    if (v8 + (1 : Int32)) < v6 then
      if (15 : Int32) < ((v4 - v5) - (1 : Int32)) then
        F_X11_laneOfCell_b242  M
      else
        F_X11_laneOfCell_b244  M (7 : Int32)
    else
      F_X11_laneOfCell_b242  M
  else
    F_X11_laneOfCell_b242  M
noncomputable def F_X11_laneOfCell_b178_st (k178 : Mem → Nat → Int32 → Int32 → Int32 → Int32 → Int32 → Option Int32) (M : Mem) (v0 : Nat) (v3 : Int32) (v4 : Int32) (v5 : Int32) (v6 : Int32) (v8 : Int32) : Option Int32 :=
  if v6 < v4 then
    (gr M v0 769).bind fun t1 =>
    (gr M t1 832).bind fun t2 =>
    (ab M t2 (v3 + v6)).bind fun t3 =>
    (F_X11_isDigit t3).bind fun z4 =>
    if z4 = 0 then
      F_X11_laneOfCell_b209  M v4 v5 v6 v8
    else
      let v6_5 : Int32 := v6 + (1 : Int32)
      k178 M v0 v3 v4 v5 v6_5 v8
  else
    F_X11_laneOfCell_b209  M v4 v5 v6 v8
noncomputable def F_X11_laneOfCell_b178  (n : Nat) : Mem → Nat → Int32 → Int32 → Int32 → Int32 → Int32 → Option Int32 :=
  Nat.rec (motive := fun _ => Mem → Nat → Int32 → Int32 → Int32 → Int32 → Int32 → Option Int32) (fun _ _ _ _ _ _ _ => none) (fun _ ih => F_X11_laneOfCell_b178_st ih) n
noncomputable def F_X11_laneOfCell_b147  (M : Mem) (s0 : Nat) (s1 : Int32) (s2 : Int32) (s3 : Int32) : Option Int32 :=
  (vg M s0 12).bind fun _ =>
  (F_X11_wholeLane M s0 s1 s2 s3).bind fun z7 =>
  some z7
noncomputable def F_X11_laneOfCell_b107  (M : Mem) (v0 : Nat) (v3 : Int32) (v4 : Int32) (v5 : Int32) (v6 : Int32) : Option Int32 :=
  let v7_8 : Int32 := (v6 - v5)
  if v7_8 = 0 then
    some (8 : Int32)
  else
    if v6 = v4 then
      if v5 = (1 : Int32) then
        F_X11_laneOfCell_b147  M v0 (v3 + v5) v7_8 (1 : Int32)
      else
        F_X11_laneOfCell_b147  M v0 (v3 + v5) v7_8 (0 : Int32)
    else
      (gr M v0 769).bind fun t9 =>
      (gr M t9 832).bind fun t10 =>
      (ab M t10 (v3 + v6)).bind fun t11 =>
      if t11 = (46 : Int32) then
        let v6_12 : Int32 := v6 + (1 : Int32)
        F_X11_laneOfCell_b178  xN M v0 v3 v4 v5 v6_12 v6
      else
        some (8 : Int32)
noncomputable def F_X11_laneOfCell_b76_st (k76 : Mem → Nat → Int32 → Int32 → Int32 → Int32 → Option Int32) (M : Mem) (v0 : Nat) (v3 : Int32) (v4 : Int32) (v5 : Int32) (v6 : Int32) : Option Int32 :=
  if v6 < v4 then
    (gr M v0 769).bind fun t13 =>
    (gr M t13 832).bind fun t14 =>
    (ab M t14 (v3 + v6)).bind fun t15 =>
    (F_X11_isDigit t15).bind fun z16 =>
    if z16 = 0 then
      F_X11_laneOfCell_b107  M v0 v3 v4 v5 v6
    else
      let v6_17 : Int32 := v6 + (1 : Int32)
      k76 M v0 v3 v4 v5 v6_17
  else
    F_X11_laneOfCell_b107  M v0 v3 v4 v5 v6
noncomputable def F_X11_laneOfCell_b76  (n : Nat) : Mem → Nat → Int32 → Int32 → Int32 → Int32 → Option Int32 :=
  Nat.rec (motive := fun _ => Mem → Nat → Int32 → Int32 → Int32 → Int32 → Option Int32) (fun _ _ _ _ _ _ => none) (fun _ ih => F_X11_laneOfCell_b76_st ih) n
noncomputable def F_X11_laneOfCell_b70  (M : Mem) (s0 : Int32) (v0 : Nat) (v3 : Int32) (v4 : Int32) : Option Int32 :=
  F_X11_laneOfCell_b76  xN M v0 v3 v4 s0 s0
noncomputable def F_X11_laneOfCell (M : Mem) (v0 : Nat) (v1 : Nat) (v2 : Int32) : Option Int32 :=
  (gr M v1 3396).bind fun t18 =>
  (ai M t18 v2).bind fun t19 =>
  (vg M v1 53).bind fun _ =>
  (F_X52_length M v1 v2).bind fun z21 =>
  (vg M v1 53).bind fun _ =>
  (F_X52_isQuoted M v1 v2).bind fun z23 =>
  if z23 = 0 then
    (vg M v0 12).bind fun _ =>
    (F_X11_isWord M v0 t19 z21 61).bind fun z25 =>
    if z25 = 0 then
      (vg M v0 12).bind fun _ =>
      (F_X11_isWord M v0 t19 z21 56).bind fun z27 =>
      if z27 = 0 then
        (gr M v0 769).bind fun t28 =>
        (gr M t28 832).bind fun t29 =>
        (ab M t29 t19).bind fun t30 =>
        if t30 = (45 : Int32) then
          F_X11_laneOfCell_b70  M (1 : Int32) v0 t19 z21
        else
          F_X11_laneOfCell_b70  M (0 : Int32) v0 t19 z21
      else
        F_X11_laneOfCell_b49  M
    else
      F_X11_laneOfCell_b49  M
  else
    some (8 : Int32)
noncomputable def F_X11_takes_b48  (M : Mem) (s0 : Int32) : Option Int32 :=
  some (s0 &&& 1)
noncomputable def F_X11_takes_b43  (M : Mem) : Option Int32 :=
  F_X11_takes_b48  M (1 : Int32)
noncomputable def F_X11_takes_b47  (M : Mem) : Option Int32 :=
  F_X11_takes_b48  M (0 : Int32)
noncomputable def F_X11_takes_b26  (M : Mem) (v1 : Int32) (v4 : Int32) : Option Int32 :=
  if v4 = v1 then
    F_X11_takes_b43  M
  else
    if v1 = (5 : Int32) then
      if v4 = (4 : Int32) then
        F_X11_takes_b43  M
      else
        F_X11_takes_b47  M
    else
      F_X11_takes_b47  M
noncomputable def F_X11_takes_b94  (M : Mem) (s0 : Int32) : Option Int32 :=
  some (s0 &&& 1)
noncomputable def F_X11_takes_b84  (M : Mem) (s0 : Int32) : Option Int32 :=
  if (15 : Int32) < s0 then
    F_X11_takes_b94  M (0 : Int32)
  else
    F_X11_takes_b94  M (1 : Int32)
noncomputable def F_X11_takes_b49  (M : Mem) (v0 : Nat) (v2 : Nat) (v3 : Int32) : Option Int32 :=
  (vg M v2 53).bind fun _ =>
  (F_X52_length M v2 v3).bind fun z2 =>
  (gr M v0 769).bind fun t3 =>
  (gr M t3 832).bind fun t4 =>
  (gr M v2 3396).bind fun t5 =>
  (ai M t5 v3).bind fun t6 =>
  (ab M t4 t6).bind fun t7 =>
  if t7 = (45 : Int32) then
    F_X11_takes_b84  M (z2 - (1 : Int32))
  else
    F_X11_takes_b84  M z2
noncomputable def F_X11_takes (M : Mem) (v0 : Nat) (v1 : Int32) (v2 : Nat) (v3 : Int32) : Option Int32 :=
  (vg M v0 12).bind fun _ =>
  (F_X11_laneOfCell M v0 v2 v3).bind fun z9 =>
  if v1 = (7 : Int32) then
    if z9 = (4 : Int32) then
      F_X11_takes_b49  M v0 v2 v3
    else
      if z9 = (5 : Int32) then
        F_X11_takes_b49  M v0 v2 v3
      else
        F_X11_takes_b26  M v1 z9
  else
    F_X11_takes_b26  M v1 z9
noncomputable def F_X11_takesAll_b45 (k3 : Mem → Nat → Int32 → Nat → Int32 → Int32 → Option Int32) (M : Mem) (v0 : Nat) (v1 : Int32) (v2 : Nat) (v3 : Int32) (v4 : Int32) : Option Int32 :=
  let v4_1 : Int32 := v4 + (1 : Int32)
  k3 M v0 v1 v2 v3 v4_1
noncomputable def F_X11_takesAll_b3_st (k3 : Mem → Nat → Int32 → Nat → Int32 → Int32 → Option Int32) (M : Mem) (v0 : Nat) (v1 : Int32) (v2 : Nat) (v3 : Int32) (v4 : Int32) : Option Int32 :=
  (gi M v2 3393).bind fun t2 =>
  if v4 < t2 then
    (gi M v2 3392).bind fun t3 =>
    let v5_4 : Int32 := ((t3 * v4) + v3)
    (vg M v2 53).bind fun _ =>
    (F_X52_isMissing M v2 v5_4).bind fun z6 =>
    if z6 = 0 then
      (vg M v0 12).bind fun _ =>
      (F_X11_takes M v0 v1 v2 v5_4).bind fun z8 =>
      if z8 = 0 then
        some (0 : Int32)
      else
        F_X11_takesAll_b45 k3 M v0 v1 v2 v3 v4
    else
      F_X11_takesAll_b45 k3 M v0 v1 v2 v3 v4
  else
    some (1 : Int32)
noncomputable def F_X11_takesAll_b3  (n : Nat) : Mem → Nat → Int32 → Nat → Int32 → Int32 → Option Int32 :=
  Nat.rec (motive := fun _ => Mem → Nat → Int32 → Nat → Int32 → Int32 → Option Int32) (fun _ _ _ _ _ _ => none) (fun _ ih => F_X11_takesAll_b3_st ih) n
noncomputable def F_X11_takesAll (M : Mem) (v0 : Nat) (v1 : Int32) (v2 : Nat) (v3 : Int32) : Option Int32 :=
  F_X11_takesAll_b3  xN M v0 v1 v2 v3 (0 : Int32)
noncomputable def F_X11_laneOf_b116  (M : Mem) (s0 : Int32) : Option Int32 :=
  some s0
noncomputable def F_X11_laneOf_b114  (M : Mem) : Option Int32 :=
  F_X11_laneOf_b116  M (8 : Int32)
noncomputable def F_X11_laneOf_b94  (M : Mem) (v0 : Nat) (v1 : Nat) (v2 : Int32) (v3 : Int32) : Option Int32 :=
  if v3 = 0 then
    F_X11_laneOf_b114  M
  else
    (vg M v0 12).bind fun _ =>
    (F_X11_takesAll M v0 (7 : Int32) v1 v2).bind fun z2 =>
    if z2 = 0 then
      F_X11_laneOf_b114  M
    else
      F_X11_laneOf_b116  M (7 : Int32)
noncomputable def F_X11_laneOf_b78  (M : Mem) (v0 : Nat) (v1 : Nat) (v2 : Int32) (v3 : Int32) : Option Int32 :=
  if v3 = 0 then
    F_X11_laneOf_b94  M v0 v1 v2 v3
  else
    (vg M v0 12).bind fun _ =>
    (F_X11_takesAll M v0 (5 : Int32) v1 v2).bind fun z4 =>
    if z4 = 0 then
      F_X11_laneOf_b94  M v0 v1 v2 v3
    else
      some (5 : Int32)
noncomputable def F_X11_laneOf_b62  (M : Mem) (v0 : Nat) (v1 : Nat) (v2 : Int32) (v3 : Int32) : Option Int32 :=
  if v3 = 0 then
    F_X11_laneOf_b78  M v0 v1 v2 v3
  else
    (vg M v0 12).bind fun _ =>
    (F_X11_takesAll M v0 (4 : Int32) v1 v2).bind fun z6 =>
    if z6 = 0 then
      F_X11_laneOf_b78  M v0 v1 v2 v3
    else
      some (4 : Int32)
noncomputable def F_X11_laneOf_b39 (k5 : Mem → Nat → Nat → Int32 → Int32 → Int32 → Option Int32) (M : Mem) (s0 : Int32) (v0 : Nat) (v1 : Nat) (v2 : Int32) (v4 : Int32) : Option Int32 :=
  let v4_7 : Int32 := v4 + (1 : Int32)
  k5 M v0 v1 v2 s0 v4_7
noncomputable def F_X11_laneOf_b34 (k5 : Mem → Nat → Nat → Int32 → Int32 → Int32 → Option Int32) (M : Mem) (v0 : Nat) (v1 : Nat) (v2 : Int32) (v4 : Int32) : Option Int32 :=
  F_X11_laneOf_b39 k5 M (1 : Int32) v0 v1 v2 v4
noncomputable def F_X11_laneOf_b5_st (k5 : Mem → Nat → Nat → Int32 → Int32 → Int32 → Option Int32) (M : Mem) (v0 : Nat) (v1 : Nat) (v2 : Int32) (v3 : Int32) (v4 : Int32) : Option Int32 :=
  (gi M v1 3393).bind fun t8 =>
  if v4 < t8 then
    if v3 = 0 then
      (gi M v1 3392).bind fun t9 =>
      (vg M v1 53).bind fun _ =>
      (F_X52_isMissing M v1 ((t9 * v4) + v2)).bind fun z11 =>
      if z11 = 0 then
        F_X11_laneOf_b34 k5 M v0 v1 v2 v4
      else
        F_X11_laneOf_b39 k5 M (0 : Int32) v0 v1 v2 v4
    else
      F_X11_laneOf_b34 k5 M v0 v1 v2 v4
  else
    if v3 = 0 then
      F_X11_laneOf_b62  M v0 v1 v2 v3
    else
      (vg M v0 12).bind fun _ =>
      (F_X11_takesAll M v0 (0 : Int32) v1 v2).bind fun z13 =>
      if z13 = 0 then
        F_X11_laneOf_b62  M v0 v1 v2 v3
      else
        some (0 : Int32)
noncomputable def F_X11_laneOf_b5  (n : Nat) : Mem → Nat → Nat → Int32 → Int32 → Int32 → Option Int32 :=
  Nat.rec (motive := fun _ => Mem → Nat → Nat → Int32 → Int32 → Int32 → Option Int32) (fun _ _ _ _ _ _ => none) (fun _ ih => F_X11_laneOf_b5_st ih) n
noncomputable def F_X11_laneOf (M : Mem) (v0 : Nat) (v1 : Nat) (v2 : Int32) : Option Int32 :=
  F_X11_laneOf_b5  xN M v0 v1 v2 (0 : Int32) (0 : Int32)
noncomputable def F_X11_finish_b2_st (k2 : Mem → Nat → Nat → Int32 → Option (Int32 × Mem)) (M : Mem) (v0 : Nat) (v1 : Nat) (v2 : Int32) : Option (Int32 × Mem) :=
  (gi M v1 3392).bind fun t1 =>
  if v2 < t1 then
    (gr M v1 3398).bind fun t2 =>
    (vg M v0 12).bind fun _ =>
    (F_X11_laneOf M v0 v1 v2).bind fun z4 =>
    (si M t2 v2 z4).bind fun M5 =>
    let v2_6 : Int32 := v2 + (1 : Int32)
    k2 M5 v0 v1 v2_6
  else
    (gi M v0 771).bind fun t7 =>
    (pi M v0 771 (t7 + (1 : Int32))).bind fun M8 =>
    (gr M8 v0 770).bind fun t9 =>
    (gi M8 v0 771).bind fun t10 =>
    (sr M8 t9 t10 v1).bind fun M11 =>
    (gi M11 v0 771).bind fun t12 =>
    some (t12, M11)
noncomputable def F_X11_finish_b2  (n : Nat) : Mem → Nat → Nat → Int32 → Option (Int32 × Mem) :=
  Nat.rec (motive := fun _ => Mem → Nat → Nat → Int32 → Option (Int32 × Mem)) (fun _ _ _ _ => none) (fun _ ih => F_X11_finish_b2_st ih) n
noncomputable def F_X11_finish (M : Mem) (v0 : Nat) (v1 : Nat) : Option (Int32 × Mem) :=
  F_X11_finish_b2  xN M v0 v1 (0 : Int32)
noncomputable def F_X11_make_b23  (M : Mem) (v0 : Nat) : Option ((Int32 × Mem) ⊕ (Nat × Mem)) :=
  (gr M v0 768).bind fun t1 =>
  (vg M t1 2).bind fun _ =>
  (F_X1_with M t1 (12 : Int32)).bind fun z3 =>
  (ie z3.2 z3.1).bind fun _ => some (.inr (z3.1, z3.2))
noncomputable def F_X11_make_b114_st (k114 : Mem → Nat → Int32 → Nat → Int32 → Int32 → Option ((Int32 × Mem) ⊕ (Nat × Mem))) (M : Mem) (v0 : Nat) (v1 : Int32) (v2 : Nat) (v3 : Int32) (v4 : Int32) : Option ((Int32 × Mem) ⊕ (Nat × Mem)) :=
  (gi M v0 780).bind fun t4 =>
  if v4 < (t4 * v1) then
    (gr M v2 3396).bind fun t5 =>
    (gr M v0 777).bind fun t6 =>
    (gi M v0 780).bind fun t7 =>
    (ai M t6 (t7 + v4)).bind fun t8 =>
    (si M t5 v4 (v3 + t8)).bind fun M9 =>
    (gr M9 v2 3397).bind fun t10 =>
    (gr M9 v0 778).bind fun t11 =>
    (gi M9 v0 780).bind fun t12 =>
    (ab M9 t11 (t12 + v4)).bind fun t13 =>
    (sb M9 t10 v4 t13).bind fun M14 =>
    let v4_15 : Int32 := v4 + (1 : Int32)
    k114 M14 v0 v1 v2 v3 v4_15
  else
    (vg M v0 12).bind fun _ =>
    (F_X11_finish M v0 v2).bind fun z17 =>
    some (.inl (z17.1, z17.2))
noncomputable def F_X11_make_b114  (n : Nat) : Mem → Nat → Int32 → Nat → Int32 → Int32 → Option ((Int32 × Mem) ⊕ (Nat × Mem)) :=
  Nat.rec (motive := fun _ => Mem → Nat → Int32 → Nat → Int32 → Int32 → Option ((Int32 × Mem) ⊕ (Nat × Mem))) (fun _ _ _ _ _ _ => none) (fun _ ih => F_X11_make_b114_st ih) n
noncomputable def F_X11_make_b66_st (k66 : Mem → Nat → Int32 → Nat → Int32 → Int32 → Option ((Int32 × Mem) ⊕ (Nat × Mem))) (M : Mem) (v0 : Nat) (v1 : Int32) (v2 : Nat) (v3 : Int32) (v4 : Int32) : Option ((Int32 × Mem) ⊕ (Nat × Mem)) :=
  (gi M v0 780).bind fun t18 =>
  if v4 < t18 then
    (gr M v2 3394).bind fun t19 =>
    (gr M v0 777).bind fun t20 =>
    (ai M t20 v4).bind fun t21 =>
    (si M t19 v4 (v3 + t21)).bind fun M22 =>
    (gr M22 v2 3395).bind fun t23 =>
    (gr M22 v0 778).bind fun t24 =>
    (ab M22 t24 v4).bind fun t25 =>
    (sb M22 t23 v4 t25).bind fun M26 =>
    let v4_27 : Int32 := v4 + (1 : Int32)
    k66 M26 v0 v1 v2 v3 v4_27
  else
    F_X11_make_b114  xN M v0 v1 v2 v3 (0 : Int32)
noncomputable def F_X11_make_b66  (n : Nat) : Mem → Nat → Int32 → Nat → Int32 → Int32 → Option ((Int32 × Mem) ⊕ (Nat × Mem)) :=
  Nat.rec (motive := fun _ => Mem → Nat → Int32 → Nat → Int32 → Int32 → Option ((Int32 × Mem) ⊕ (Nat × Mem))) (fun _ _ _ _ _ _ => none) (fun _ ih => F_X11_make_b66_st ih) n
noncomputable def F_X11_make (M : Mem) (v0 : Nat) (v1 : Int32) : Option ((Int32 × Mem) ⊕ (Nat × Mem)) :=
  (gi M v0 771).bind fun t28 =>
  if t28 = (40 : Int32) then
    F_X11_make_b23  M v0
  else
    (gr M v0 769).bind fun t29 =>
    (gi M v0 776).bind fun t30 =>
    (vg M t29 13).bind fun _ =>
    (F_X12_hasRoom M t29 t30).bind fun z32 =>
    if z32 = 0 then
      F_X11_make_b23  M v0
    else
      let t34 : Nat := m_nx M
      let M33 : Mem := mo M 53
      (gi M33 v0 780).bind fun t35 =>
      (ng M33 t34).bind fun _ =>
      (F_X52_init M33 t34 t35 v1).bind fun z37 =>
      (gr z37 v0 769).bind fun t38 =>
      (gr z37 v0 775).bind fun t39 =>
      (gi z37 v0 776).bind fun t40 =>
      (vg z37 t38 13).bind fun _ =>
      (F_X12_add z37 t38 t39 (0 : Int32) t40).bind fun z42 =>
      F_X11_make_b66  xN z42.2 v0 v1 t34 z42.1 (0 : Int32)
noncomputable def F_X11_read_b46_st (k46 : Mem → Nat → Int32 → Option ((Int32 × Mem) ⊕ (Nat × Mem))) (M : Mem) (v0 : Nat) (v3 : Int32) : Option ((Int32 × Mem) ⊕ (Nat × Mem)) :=
  (gi M v0 774).bind fun t1 =>
  (gi M v0 773).bind fun t2 =>
  if t1 < t2 then
    if v3 = (500 : Int32) then
      (gi M v0 774).bind fun t3 =>
      (vg M v0 12).bind fun _ =>
      (F_X11_wrong M v0 t3).bind fun z5 =>
      (ie z5.2 z5.1).bind fun _ => some (.inr (z5.1, z5.2))
    else
      (vg M v0 12).bind fun _ =>
      tb (F_X11_line M v0 (0 : Int32)) fun z7 =>
      let v3_8 : Int32 := v3 + (1 : Int32)
      k46 z7 v0 v3_8
  else
    (vg M v0 12).bind fun _ =>
    tb (F_X11_make M v0 (v3 - (1 : Int32))) fun z10 =>
    some (.inl (z10.1, z10.2))
noncomputable def F_X11_read_b46  (n : Nat) : Mem → Nat → Int32 → Option ((Int32 × Mem) ⊕ (Nat × Mem)) :=
  Nat.rec (motive := fun _ => Mem → Nat → Int32 → Option ((Int32 × Mem) ⊕ (Nat × Mem))) (fun _ _ _ => none) (fun _ ih => F_X11_read_b46_st ih) n
noncomputable def F_X11_read (M : Mem) (v0 : Nat) (v1 : Nat) (v2 : Int32) : Option ((Int32 × Mem) ⊕ (Nat × Mem)) :=
  (pr M v0 772 v1).bind fun M11 =>
  (pi M11 v0 773 v2).bind fun M12 =>
  (pi M12 v0 774 (0 : Int32)).bind fun M13 =>
  (pi M13 v0 776 (0 : Int32)).bind fun M14 =>
  (pi M14 v0 779 (0 : Int32)).bind fun M15 =>
  (pi M15 v0 780 (16 : Int32)).bind fun M16 =>
  (vg M16 v0 12).bind fun _ =>
  tb (F_X11_line M16 v0 (1 : Int32)) fun z18 =>
  (gi z18 v0 779).bind fun t19 =>
  (pi z18 v0 780 t19).bind fun M20 =>
  F_X11_read_b46  xN M20 v0 (1 : Int32)
noncomputable def F_X0_table_b33  (M : Mem) (s0 : Nat) (v0 : Nat) : Option (Int32 × Mem) :=
  (gr M v0 67).bind fun t1 =>
  (gi M t1 130).bind fun t2 =>
  (pi M v0 95 t2).bind fun M3 =>
  (gr M3 v0 67).bind fun t4 =>
  (gi M3 t4 129).bind fun t5 =>
  some ((-t5), M3)
noncomputable def F_X0_table (M : Mem) (v0 : Nat) : Option (Int32 × Mem) :=
  (pi M v0 95 (-1 : Int32)).bind fun M6 =>
  (gi M6 v0 97).bind fun t7 =>
  if t7 = 0 then
    (vg M6 v0 1).bind fun _ =>
    (F_X0_used M6 v0).bind fun z9 =>
    (gr z9.2 v0 77).bind fun t10 =>
    (gr z9.2 v0 64).bind fun t11 =>
    (vg z9.2 t10 12).bind fun _ =>
    tc (F_X11_read z9.2 t10 t11 z9.1) (fun z13 =>
      some (z13.1, z13.2))
      (fun z14 =>
        F_X0_table_b33  z14.2 z14.1 v0)
  else
    some ((-13 : Int32), M6)
noncomputable def F_X11_find_b23  (M : Mem) (s0 : Nat) : Option Nat :=
  some s0
noncomputable def F_X11_find_b22  (M : Mem) : Option Nat :=
  F_X11_find_b23  M 0
noncomputable def F_X11_find (M : Mem) (v0 : Nat) (v1 : Int32) : Option Nat :=
  if v1 < (1 : Int32) then
    F_X11_find_b22  M
  else
    (gi M v0 771).bind fun t1 =>
    if t1 < v1 then
      F_X11_find_b22  M
    else
      (gr M v0 770).bind fun t2 =>
      (ar M t2 v1).bind fun t3 =>
      F_X11_find_b23  M t3
noncomputable def F_X0_findTable_b19  (M : Mem) (s0 : Nat) : Option Nat :=
  some s0
noncomputable def F_X0_findTable (M : Mem) (v0 : Nat) (v1 : Int32) : Option Nat :=
  (gi M v0 97).bind fun t1 =>
  if t1 = 0 then
    (gr M v0 77).bind fun t2 =>
    (vg M t2 12).bind fun _ =>
    (F_X11_find M t2 v1).bind fun z4 =>
    F_X0_findTable_b19  M z4
  else
    F_X0_findTable_b19  M 0
noncomputable def F_X0_rows_b22  (M : Mem) (s0 : Int32) : Option Int32 :=
  some s0
noncomputable def F_X0_rows (M : Mem) (v0 : Nat) (v1 : Int32) : Option Int32 :=
  (vg M v0 1).bind fun _ =>
  (F_X0_findTable M v0 v1).bind fun z2 =>
  if z2 = 6 then
    none
  else
    if z2 = 0 then
      (vg M v0 1).bind fun _ =>
      (F_X0_gone M v0).bind fun z4 =>
      F_X0_rows_b22  M (-z4)
    else
      (gi M z2 3393).bind fun t5 =>
      F_X0_rows_b22  M t5
noncomputable def F_X11_named_b85 (k3 : Mem → Nat → Nat → Nat → Int32 → Int32 → Option Int32) (M : Mem) (v0 : Nat) (v1 : Nat) (v2 : Nat) (v3 : Int32) (v4 : Int32) (v5 : Int32) : Option Int32 :=
  if v5 = 0 then
    let v4_1 : Int32 := v4 + (1 : Int32)
    k3 M v0 v1 v2 v3 v4_1
  else
    some v4
noncomputable def F_X11_named_b77 (k3 : Mem → Nat → Nat → Nat → Int32 → Int32 → Option Int32) (k36 : Mem → Nat → Nat → Nat → Int32 → Int32 → Int32 → Int32 → Option Int32) (M : Mem) (s0 : Int32) (v0 : Nat) (v1 : Nat) (v2 : Nat) (v3 : Int32) (v4 : Int32) (v6 : Int32) : Option Int32 :=
  let v6_2 : Int32 := v6 + (1 : Int32)
  k36 M v0 v1 v2 v3 v4 s0 v6_2
noncomputable def F_X11_named_b36_st (k3 : Mem → Nat → Nat → Nat → Int32 → Int32 → Option Int32) (k36 : Mem → Nat → Nat → Nat → Int32 → Int32 → Int32 → Int32 → Option Int32) (M : Mem) (v0 : Nat) (v1 : Nat) (v2 : Nat) (v3 : Int32) (v4 : Int32) (v5 : Int32) (v6 : Int32) : Option Int32 :=
  if v6 < v3 then
    if v5 = 0 then
      F_X11_named_b85 k3 M v0 v1 v2 v3 v4 v5
    else
      (gr M v0 769).bind fun t3 =>
      (gr M t3 832).bind fun t4 =>
      (gr M v1 3394).bind fun t5 =>
      (ai M t5 v4).bind fun t6 =>
      (ab M t4 (t6 + v6)).bind fun t7 =>
      (ab M v2 v6).bind fun t8 =>
      if t7 = t8 then
        F_X11_named_b77 k3 k36 M (1 : Int32) v0 v1 v2 v3 v4 v6
      else
        F_X11_named_b77 k3 k36 M (0 : Int32) v0 v1 v2 v3 v4 v6
  else
    F_X11_named_b85 k3 M v0 v1 v2 v3 v4 v5
noncomputable def F_X11_named_b36 (k3 : Mem → Nat → Nat → Nat → Int32 → Int32 → Option Int32) (n : Nat) : Mem → Nat → Nat → Nat → Int32 → Int32 → Int32 → Int32 → Option Int32 :=
  Nat.rec (motive := fun _ => Mem → Nat → Nat → Nat → Int32 → Int32 → Int32 → Int32 → Option Int32) (fun _ _ _ _ _ _ _ _ => none) (fun _ ih => F_X11_named_b36_st k3 ih) n
noncomputable def F_X11_named_b31 (k3 : Mem → Nat → Nat → Nat → Int32 → Int32 → Option Int32) (M : Mem) (s0 : Int32) (v0 : Nat) (v1 : Nat) (v2 : Nat) (v3 : Int32) (v4 : Int32) : Option Int32 :=
  F_X11_named_b36 k3 xN M v0 v1 v2 v3 v4 s0 (0 : Int32)
noncomputable def F_X11_named_b3_st (k3 : Mem → Nat → Nat → Nat → Int32 → Int32 → Option Int32) (M : Mem) (v0 : Nat) (v1 : Nat) (v2 : Nat) (v3 : Int32) (v4 : Int32) : Option Int32 :=
  (gi M v1 3392).bind fun t9 =>
  if v4 < t9 then
    (gr M v1 3395).bind fun t10 =>
    (ab M t10 v4).bind fun t11 =>
    if (t11 &&& (63 : Int32)) = v3 then
      F_X11_named_b31 k3 M (1 : Int32) v0 v1 v2 v3 v4
    else
      F_X11_named_b31 k3 M (0 : Int32) v0 v1 v2 v3 v4
  else
    some (-1 : Int32)
noncomputable def F_X11_named_b3  (n : Nat) : Mem → Nat → Nat → Nat → Int32 → Int32 → Option Int32 :=
  Nat.rec (motive := fun _ => Mem → Nat → Nat → Nat → Int32 → Int32 → Option Int32) (fun _ _ _ _ _ _ => none) (fun _ ih => F_X11_named_b3_st ih) n
noncomputable def F_X11_named (M : Mem) (v0 : Nat) (v1 : Nat) (v2 : Nat) (v3 : Int32) : Option Int32 :=
  F_X11_named_b3  xN M v0 v1 v2 v3 (0 : Int32)
noncomputable def F_X0_named_b56  (M : Mem) (s0 : Int32) : Option (Int32 × Mem) :=
  some (s0, M)
noncomputable def F_X0_named_b42  (M : Mem) (s0 : Int32) : Option (Int32 × Mem) :=
  if s0 < 0 then
    F_X0_named_b56  M (-14 : Int32)
  else
    F_X0_named_b56  M s0
noncomputable def F_X0_named (M : Mem) (v0 : Nat) (v1 : Int32) : Option (Int32 × Mem) :=
  (gi M v0 97).bind fun t1 =>
  if t1 = 0 then
    (vg M v0 1).bind fun _ =>
    (F_X0_used M v0).bind fun z3 =>
    (vg z3.2 v0 1).bind fun _ =>
    (F_X0_findTable z3.2 v0 v1).bind fun z5 =>
    if z5 = 6 then
      none
    else
      if z5 = 0 then
        F_X0_named_b42  z3.2 (-1 : Int32)
      else
        (gr z3.2 v0 77).bind fun t6 =>
        (gr z3.2 v0 64).bind fun t7 =>
        (vg z3.2 t6 12).bind fun _ =>
        (F_X11_named z3.2 t6 z5 t7 z3.1).bind fun z9 =>
        F_X0_named_b42  z3.2 z9
  else
    some ((-13 : Int32), M)
noncomputable def F_X0_columnRefusal_b28  (M : Mem) (s0 : Int32) : Option Int32 :=
  some s0
noncomputable def F_X0_columnRefusal_b23  (M : Mem) : Option Int32 :=
  F_X0_columnRefusal_b28  M (2 : Int32)
noncomputable def F_X0_columnRefusal (M : Mem) (v0 : Nat) (v1 : Nat) (v2 : Int32) : Option Int32 :=
  if v1 = 6 then
    none
  else
    if v1 = 0 then
      (vg M v0 1).bind fun _ =>
      (F_X0_gone M v0).bind fun z2 =>
      F_X0_columnRefusal_b28  M z2
    else
      if v2 < 0 then
        F_X0_columnRefusal_b23  M
      else
        (gi M v1 3392).bind fun t3 =>
        if v2 < t3 then
          F_X0_columnRefusal_b28  M (0 : Int32)
        else
          F_X0_columnRefusal_b23  M
noncomputable def F_X0_columnLane_b31  (M : Mem) (s0 : Int32) : Option Int32 :=
  some s0
noncomputable def F_X0_columnLane (M : Mem) (v0 : Nat) (v1 : Int32) (v2 : Int32) : Option Int32 :=
  (vg M v0 1).bind fun _ =>
  (F_X0_findTable M v0 v1).bind fun z2 =>
  (vg M v0 1).bind fun _ =>
  (F_X0_columnRefusal M v0 z2 v2).bind fun z4 =>
  if 0 < z4 then
    F_X0_columnLane_b31  M (-z4)
  else
    (gr M z2 3398).bind fun t5 =>
    (ai M t5 v2).bind fun t6 =>
    F_X0_columnLane_b31  M t6
noncomputable def F_X11_value_b219  (M : Mem) (s0 : Int32) (s1 : UInt64) : Option Int64 :=
  (F_X23_bits s0 s1).bind fun z1 =>
  some z1
noncomputable def F_X11_value_b174_st (k174 : Mem → Int32 → Int64 → Int32 → UInt64 → Int32 → Option Int64) (M : Mem) (v6 : Int32) (v7 : Int64) (v9 : Int32) (v11 : UInt64) (v13 : Int32) : Option Int64 :=
  if v13 < v9 then
    let t2 : UInt64 := FP.dmul v11 (4621819117588971520 : UInt64)
    if x_n64 t2 = true then
      let v13_3 : Int32 := v13 + (1 : Int32)
      k174 M v6 v7 v9 t2 v13_3
    else none
  else
    let t4 : UInt64 := FP.ddiv (FP.l2d (-v7)) v11
    if x_n64 t4 = true then
      if v6 = 0 then
        F_X11_value_b219  M (7 : Int32) t4
      else
        F_X11_value_b219  M (7 : Int32) (FP.dneg t4)
    else none
noncomputable def F_X11_value_b174  (n : Nat) : Mem → Int32 → Int64 → Int32 → UInt64 → Int32 → Option Int64 :=
  Nat.rec (motive := fun _ => Mem → Int32 → Int64 → Int32 → UInt64 → Int32 → Option Int64) (fun _ _ _ _ _ _ => none) (fun _ ih => F_X11_value_b174_st ih) n
noncomputable def F_X11_value_b167  (M : Mem) (s0 : Int64) : Option Int64 :=
  some s0
noncomputable def F_X11_value_b142 (k84 : Mem → Nat → Int32 → Int32 → Int32 → Int32 → Int64 → Int32 → Int32 → Int32 → Option Int64) (M : Mem) (v0 : Nat) (v3 : Int32) (v4 : Int32) (v5 : Int32) (v6 : Int32) (v7 : Int64) (v9 : Int32) (v10 : Int32) (v11 : Int32) : Option Int64 :=
  let v11_5 : Int32 := v11 + (1 : Int32)
  k84 M v0 v3 v4 v5 v6 v7 v9 v10 v11_5
noncomputable def F_X11_value_b84_st (k84 : Mem → Nat → Int32 → Int32 → Int32 → Int32 → Int64 → Int32 → Int32 → Int32 → Option Int64) (M : Mem) (v0 : Nat) (v3 : Int32) (v4 : Int32) (v5 : Int32) (v6 : Int32) (v7 : Int64) (v9 : Int32) (v10 : Int32) (v11 : Int32) : Option Int64 :=
  if v11 < v5 then
    (gr M v0 769).bind fun t6 =>
    (gr M t6 832).bind fun t7 =>
    (ab M t7 (v4 + v11)).bind fun t8 =>
    if t8 = (46 : Int32) then
      F_X11_value_b142 k84 M v0 v3 v4 v5 v6 v7 v9 (1 : Int32) v11
    else
      let v7_9 : Int64 := (((10 : Int64) * v7) - (t8 - (48 : Int32)).toInt64)
      if v10 = 0 then
        F_X11_value_b142 k84 M v0 v3 v4 v5 v6 v7_9 v9 v10 v11
      else
        let v9_10 : Int32 := v9 + (1 : Int32)
        F_X11_value_b142 k84 M v0 v3 v4 v5 v6 v7_9 v9_10 v10 v11
  else
    if v3 = (7 : Int32) then
      F_X11_value_b174  xN M v6 v7 v9 (4607182418800017408 : UInt64) (0 : Int32)
    else
      if v6 = 0 then
        F_X11_value_b167  M (-v7)
      else
        F_X11_value_b167  M v7
noncomputable def F_X11_value_b84  (n : Nat) : Mem → Nat → Int32 → Int32 → Int32 → Int32 → Int64 → Int32 → Int32 → Int32 → Option Int64 :=
  Nat.rec (motive := fun _ => Mem → Nat → Int32 → Int32 → Int32 → Int32 → Int64 → Int32 → Int32 → Int32 → Option Int64) (fun _ _ _ _ _ _ _ _ _ _ => none) (fun _ ih => F_X11_value_b84_st ih) n
noncomputable def F_X11_value_b82  (M : Mem) (s0 : Int32) (v0 : Nat) (v3 : Int32) (v4 : Int32) (v5 : Int32) (v6 : Int32) (v7 : Int64) (v9 : Int32) (v10 : Int32) : Option Int64 :=
  F_X11_value_b84  xN M v0 v3 v4 v5 v6 v7 v9 v10 s0
noncomputable def F_X11_value_b61  (M : Mem) (s0 : Int32) (v0 : Nat) (v3 : Int32) (v4 : Int32) (v5 : Int32) : Option Int64 :=
  if s0 = 0 then
    F_X11_value_b82  M (0 : Int32) v0 v3 v4 v5 s0 (0 : Int64) (0 : Int32) (0 : Int32)
  else
    F_X11_value_b82  M (1 : Int32) v0 v3 v4 v5 s0 (0 : Int64) (0 : Int32) (0 : Int32)
noncomputable def F_X11_value_b40  (M : Mem) (s0 : Int64) : Option Int64 :=
  some s0
noncomputable def F_X11_value (M : Mem) (v0 : Nat) (v1 : Nat) (v2 : Int32) (v3 : Int32) : Option Int64 :=
  (vg M v1 53).bind fun _ =>
  (F_X52_isMissing M v1 v2).bind fun z12 =>
  if z12 = 0 then
    (gr M v1 3396).bind fun t13 =>
    (ai M t13 v2).bind fun t14 =>
    (vg M v1 53).bind fun _ =>
    (F_X52_length M v1 v2).bind fun z16 =>
    if v3 = 0 then
      if z16 = (4 : Int32) then
        F_X11_value_b40  M (1 : Int64)
      else
        F_X11_value_b40  M (0 : Int64)
    else
      (gr M v0 769).bind fun t17 =>
      (gr M t17 832).bind fun t18 =>
      (ab M t18 t14).bind fun t19 =>
      if t19 = (45 : Int32) then
        F_X11_value_b61  M (1 : Int32) v0 v3 t14 z16
      else
        F_X11_value_b61  M (0 : Int32) v0 v3 t14 z16
  else
    some (0 : Int64)
noncomputable def F_X12_compare_b61  (M : Mem) (s0 : Int32) : Option Int32 :=
  some s0
noncomputable def F_X12_compare_b3_st (k3 : Mem → Nat → Int32 → Int32 → Int32 → Int32 → Int32 → Option Int32) (M : Mem) (v0 : Nat) (v1 : Int32) (v2 : Int32) (v3 : Int32) (v4 : Int32) (v5 : Int32) : Option Int32 :=
  (F_J7_min_2 v2 v4).bind fun z1 =>
  if v5 < z1 then
    (gr M v0 832).bind fun t2 =>
    (ab M t2 (v1 + v5)).bind fun t3 =>
    (gr M v0 832).bind fun t4 =>
    (ab M t4 (v3 + v5)).bind fun t5 =>
    if t3 = t5 then
      let v5_6 : Int32 := v5 + (1 : Int32)
      k3 M v0 v1 v2 v3 v4 v5_6
    else
      (gr M v0 832).bind fun t7 =>
      (ab M t7 (v1 + v5)).bind fun t8 =>
      (gr M v0 832).bind fun t9 =>
      (ab M t9 (v3 + v5)).bind fun t10 =>
      if t8 < t10 then
        F_X12_compare_b61  M (-1 : Int32)
      else
        F_X12_compare_b61  M (1 : Int32)
  else
    (F_J19_compare v2 v4).bind fun z11 =>
    some z11
noncomputable def F_X12_compare_b3  (n : Nat) : Mem → Nat → Int32 → Int32 → Int32 → Int32 → Int32 → Option Int32 :=
  Nat.rec (motive := fun _ => Mem → Nat → Int32 → Int32 → Int32 → Int32 → Int32 → Option Int32) (fun _ _ _ _ _ _ _ => none) (fun _ ih => F_X12_compare_b3_st ih) n
noncomputable def F_X12_compare (M : Mem) (v0 : Nat) (v1 : Int32) (v2 : Int32) (v3 : Int32) (v4 : Int32) : Option Int32 :=
  F_X12_compare_b3  xN M v0 v1 v2 v3 v4 (0 : Int32)
noncomputable def F_X11_before_b100 (k29 : Mem → Nat → Nat → Int32 → Int32 → Int64 → Int32 → Option Int64) (M : Mem) (v0 : Nat) (v1 : Nat) (v2 : Int32) (v4 : Int32) (v5 : Int64) (v7 : Int32) : Option Int64 :=
  let v7_1 : Int32 := v7 + (1 : Int32)
  k29 M v0 v1 v2 v4 v5 v7_1
noncomputable def F_X11_before_b29_st (k29 : Mem → Nat → Nat → Int32 → Int32 → Int64 → Int32 → Option Int64) (M : Mem) (v0 : Nat) (v1 : Nat) (v2 : Int32) (v4 : Int32) (v5 : Int64) (v7 : Int32) : Option Int64 :=
  (gi M v1 3393).bind fun t2 =>
  if v7 < t2 then
    (gi M v1 3392).bind fun t3 =>
    let v8_4 : Int32 := ((t3 * v7) + v2)
    (vg M v1 53).bind fun _ =>
    (F_X52_isMissing M v1 v8_4).bind fun z6 =>
    if z6 = 0 then
      (gr M v0 769).bind fun t7 =>
      (gr M v1 3396).bind fun t8 =>
      (ai M t8 v8_4).bind fun t9 =>
      (vg M v1 53).bind fun _ =>
      (F_X52_length M v1 v8_4).bind fun z11 =>
      (gr M v1 3396).bind fun t12 =>
      (ai M t12 v4).bind fun t13 =>
      (vg M v1 53).bind fun _ =>
      (F_X52_length M v1 v4).bind fun z15 =>
      (vg M t7 13).bind fun _ =>
      (F_X12_compare M t7 t9 z11 t13 z15).bind fun z17 =>
      if z17 < 0 then
        let v5_18 : Int64 := (v5 + (1 : Int64))
        F_X11_before_b100 k29 M v0 v1 v2 v4 v5_18 v7
      else
        F_X11_before_b100 k29 M v0 v1 v2 v4 v5 v7
    else
      F_X11_before_b100 k29 M v0 v1 v2 v4 v5 v7
  else
    some v5
noncomputable def F_X11_before_b29  (n : Nat) : Mem → Nat → Nat → Int32 → Int32 → Int64 → Int32 → Option Int64 :=
  Nat.rec (motive := fun _ => Mem → Nat → Nat → Int32 → Int32 → Int64 → Int32 → Option Int64) (fun _ _ _ _ _ _ _ => none) (fun _ ih => F_X11_before_b29_st ih) n
noncomputable def F_X11_before (M : Mem) (v0 : Nat) (v1 : Nat) (v2 : Int32) (v3 : Int32) : Option Int64 :=
  (gi M v1 3392).bind fun t19 =>
  let v4_20 : Int32 := ((t19 * v3) + v2)
  (vg M v1 53).bind fun _ =>
  (F_X52_isMissing M v1 v4_20).bind fun z22 =>
  if z22 = 0 then
    F_X11_before_b29  xN M v0 v1 v2 v4_20 (0 : Int64) (0 : Int32)
  else
    some (-1 : Int64)
noncomputable def F_X11_column_b202 (k112 : Mem → Nat → Nat → Int32 → Nat → Int64 → Int32 → Option Mem) (M : Mem) (v0 : Nat) (v1 : Nat) (v2 : Int32) (v3 : Nat) (v4 : Int64) (v6 : Int32) : Option Mem :=
  let v6_1 : Int32 := v6 + (1 : Int32)
  k112 M v0 v1 v2 v3 v4 v6_1
noncomputable def F_X11_column_b196 (k112 : Mem → Nat → Nat → Int32 → Nat → Int64 → Int32 → Option Mem) (M : Mem) (v0 : Nat) (v1 : Nat) (v2 : Int32) (v3 : Nat) (v4 : Int64) (v6 : Int32) (v7 : Int32) : Option Mem :=
  (sj M v3 v7 v4).bind fun M2 =>
  F_X11_column_b202 k112 M2 v0 v1 v2 v3 v4 v6
noncomputable def F_X11_column_b190 (k112 : Mem → Nat → Nat → Int32 → Nat → Int64 → Int32 → Option Mem) (M : Mem) (v0 : Nat) (v1 : Nat) (v2 : Int32) (v3 : Nat) (v4 : Int64) (v6 : Int32) (v7 : Int32) : Option Mem :=
  let v4_3 : Int64 := (v4 + (1 : Int64))
  F_X11_column_b196 k112 M v0 v1 v2 v3 v4_3 v6 v7
noncomputable def F_X11_column_b112_st (k112 : Mem → Nat → Nat → Int32 → Nat → Int64 → Int32 → Option Mem) (M : Mem) (v0 : Nat) (v1 : Nat) (v2 : Int32) (v3 : Nat) (v4 : Int64) (v6 : Int32) : Option Mem :=
  (gi M v1 3393).bind fun t4 =>
  if v6 < t4 then
    (gr M v0 781).bind fun t5 =>
    (vg M t5 8).bind fun _ =>
    (F_X7_at M t5 v6).bind fun z7 =>
    (gi M v1 3392).bind fun t8 =>
    (vg M v1 53).bind fun _ =>
    (F_X52_isMissing M v1 ((t8 * z7) + v2)).bind fun z10 =>
    if z10 = 0 then
      if v6 = 0 then
        F_X11_column_b190 k112 M v0 v1 v2 v3 v4 v6 z7
      else
        (gr M v0 782).bind fun t11 =>
        (gr M v0 781).bind fun t12 =>
        (vg M t12 8).bind fun _ =>
        (F_X7_at M t12 (v6 - (1 : Int32))).bind fun z14 =>
        (al M t11 z14).bind fun t15 =>
        (gr M v0 782).bind fun t16 =>
        (al M t16 z7).bind fun t17 =>
        if t15 = t17 then
          F_X11_column_b196 k112 M v0 v1 v2 v3 v4 v6 z7
        else
          F_X11_column_b190 k112 M v0 v1 v2 v3 v4 v6 z7
    else
      (sj M v3 z7 (-1 : Int64)).bind fun M18 =>
      F_X11_column_b202 k112 M18 v0 v1 v2 v3 v4 v6
  else
    some M
noncomputable def F_X11_column_b112  (n : Nat) : Mem → Nat → Nat → Int32 → Nat → Int64 → Int32 → Option Mem :=
  Nat.rec (motive := fun _ => Mem → Nat → Nat → Int32 → Nat → Int64 → Int32 → Option Mem) (fun _ _ _ _ _ _ _ => none) (fun _ ih => F_X11_column_b112_st ih) n
noncomputable def F_X11_column_b57_st (k57 : Mem → Nat → Nat → Int32 → Nat → Int32 → Option Mem) (M : Mem) (v0 : Nat) (v1 : Nat) (v2 : Int32) (v3 : Nat) (v4 : Int32) : Option Mem :=
  (gi M v1 3393).bind fun t19 =>
  if v4 < t19 then
    (gr M v0 782).bind fun t20 =>
    (vg M v0 12).bind fun _ =>
    (F_X11_before M v0 v1 v2 v4).bind fun z22 =>
    (sj M t20 v4 z22).bind fun M23 =>
    let v4_24 : Int32 := v4 + (1 : Int32)
    k57 M23 v0 v1 v2 v3 v4_24
  else
    (gr M v0 781).bind fun t25 =>
    (gr M v0 782).bind fun t26 =>
    (gi M v1 3393).bind fun t27 =>
    (vg M t25 8).bind fun _ =>
    (F_X7_sort M t25 t26 t27 (5 : Int32) (0 : Int32)).bind fun z29 =>
    F_X11_column_b112  xN z29 v0 v1 v2 v3 (-1 : Int64) (0 : Int32)
noncomputable def F_X11_column_b57  (n : Nat) : Mem → Nat → Nat → Int32 → Nat → Int32 → Option Mem :=
  Nat.rec (motive := fun _ => Mem → Nat → Nat → Int32 → Nat → Int32 → Option Mem) (fun _ _ _ _ _ _ => none) (fun _ ih => F_X11_column_b57_st ih) n
noncomputable def F_X11_column_b14_st (k14 : Mem → Nat → Nat → Int32 → Nat → Int32 → Option Mem) (M : Mem) (v0 : Nat) (v1 : Nat) (v2 : Int32) (v3 : Nat) (v4 : Int32) : Option Mem :=
  (gi M v1 3393).bind fun t30 =>
  if v4 < t30 then
    (gi M v1 3392).bind fun t31 =>
    (gr M v1 3398).bind fun t32 =>
    (ai M t32 v2).bind fun t33 =>
    (vg M v0 12).bind fun _ =>
    (F_X11_value M v0 v1 ((t31 * v4) + v2) t33).bind fun z35 =>
    (sj M v3 v4 z35).bind fun M36 =>
    let v4_37 : Int32 := v4 + (1 : Int32)
    k14 M36 v0 v1 v2 v3 v4_37
  else
    some M
noncomputable def F_X11_column_b14  (n : Nat) : Mem → Nat → Nat → Int32 → Nat → Int32 → Option Mem :=
  Nat.rec (motive := fun _ => Mem → Nat → Nat → Int32 → Nat → Int32 → Option Mem) (fun _ _ _ _ _ _ => none) (fun _ ih => F_X11_column_b14_st ih) n
noncomputable def F_X11_column (M : Mem) (v0 : Nat) (v1 : Nat) (v2 : Int32) (v3 : Nat) : Option Mem :=
  (gr M v1 3398).bind fun t38 =>
  (ai M t38 v2).bind fun t39 =>
  if t39 = (8 : Int32) then
    F_X11_column_b57  xN M v0 v1 v2 v3 (0 : Int32)
  else
    F_X11_column_b14  xN M v0 v1 v2 v3 (0 : Int32)
noncomputable def F_X0_column_b66  (M : Mem) (s0 : Nat) (s1 : Int32) (v0 : Nat) : Option (Int32 × Mem) :=
  (gr M v0 81).bind fun t1 =>
  (vg M s0 1).bind fun _ =>
  (F_X0_made M s0 s1 t1).bind fun z3 =>
  some (z3.1, z3.2)
noncomputable def F_X0_column (M : Mem) (v0 : Nat) (v1 : Int32) (v2 : Int32) : Option (Int32 × Mem) :=
  (vg M v0 1).bind fun _ =>
  (F_X0_findTable M v0 v1).bind fun z5 =>
  (vg M v0 1).bind fun _ =>
  (F_X0_columnRefusal M v0 z5 v2).bind fun z7 =>
  if 0 < z7 then
    some ((-z7), M)
  else
    (gr M v0 77).bind fun t8 =>
    (gr M v0 81).bind fun t9 =>
    (vg M t8 12).bind fun _ =>
    (F_X11_column M t8 z5 v2 t9).bind fun z11 =>
    (gi z11 z5 3393).bind fun t12 =>
    (vg z11 v0 1).bind fun _ =>
    (F_X0_rowShape z11 v0 t12).bind fun z14 =>
    (gr z14 z5 3398).bind fun t15 =>
    (ai z14 t15 v2).bind fun t16 =>
    if t16 = (8 : Int32) then
      F_X0_column_b66  z14 v0 (4 : Int32) v0
    else
      (gr z14 z5 3398).bind fun t17 =>
      (ai z14 t17 v2).bind fun t18 =>
      F_X0_column_b66  z14 v0 t18 v0
noncomputable def F_X0_missing_b62 (k26 : Mem → Nat → Int32 → Nat → Int32 → Option (Int32 × Mem)) (M : Mem) (s0 : Nat) (s1 : Int32) (s2 : Int64) (v0 : Nat) (v2 : Int32) (v3 : Nat) (v5 : Int32) : Option (Int32 × Mem) :=
  (sj M s0 s1 s2).bind fun M1 =>
  let v5_2 : Int32 := v5 + (1 : Int32)
  k26 M1 v0 v2 v3 v5_2
noncomputable def F_X0_missing_b26_st (k26 : Mem → Nat → Int32 → Nat → Int32 → Option (Int32 × Mem)) (M : Mem) (v0 : Nat) (v2 : Int32) (v3 : Nat) (v5 : Int32) : Option (Int32 × Mem) :=
  (gi M v3 3393).bind fun t3 =>
  if v5 < t3 then
    (gr M v0 81).bind fun t4 =>
    (gi M v3 3392).bind fun t5 =>
    (vg M v3 53).bind fun _ =>
    (F_X52_isMissing M v3 ((t5 * v5) + v2)).bind fun z7 =>
    if z7 = 0 then
      F_X0_missing_b62 k26 M t4 v5 (0 : Int64) v0 v2 v3 v5
    else
      F_X0_missing_b62 k26 M t4 v5 (1 : Int64) v0 v2 v3 v5
  else
    (gi M v3 3393).bind fun t8 =>
    (vg M v0 1).bind fun _ =>
    (F_X0_rowShape M v0 t8).bind fun z10 =>
    (gr z10 v0 81).bind fun t11 =>
    (vg z10 v0 1).bind fun _ =>
    (F_X0_made z10 v0 (0 : Int32) t11).bind fun z13 =>
    some (z13.1, z13.2)
noncomputable def F_X0_missing_b26  (n : Nat) : Mem → Nat → Int32 → Nat → Int32 → Option (Int32 × Mem) :=
  Nat.rec (motive := fun _ => Mem → Nat → Int32 → Nat → Int32 → Option (Int32 × Mem)) (fun _ _ _ _ _ => none) (fun _ ih => F_X0_missing_b26_st ih) n
noncomputable def F_X0_missing (M : Mem) (v0 : Nat) (v1 : Int32) (v2 : Int32) : Option (Int32 × Mem) :=
  (vg M v0 1).bind fun _ =>
  (F_X0_findTable M v0 v1).bind fun z15 =>
  (vg M v0 1).bind fun _ =>
  (F_X0_columnRefusal M v0 z15 v2).bind fun z17 =>
  if 0 < z17 then
    some ((-z17), M)
  else
    F_X0_missing_b26  xN M v0 v2 z15 (0 : Int32)
noncomputable def F_X11_pick_b119  (M : Mem) (v0 : Nat) : Option ((Int32 × Mem) ⊕ (Nat × Mem)) :=
  (gr M v0 768).bind fun t1 =>
  (vg M t1 2).bind fun _ =>
  (F_X1_with M t1 (12 : Int32)).bind fun z3 =>
  (ie z3.2 z3.1).bind fun _ => some (.inr (z3.1, z3.2))
noncomputable def F_X11_pick_b227_st (k218 : Mem → Nat → Nat → Nat → Int32 → Nat → Int32 → Option ((Int32 × Mem) ⊕ (Nat × Mem))) (k227 : Mem → Nat → Nat → Nat → Int32 → Nat → Int32 → Int32 → Option ((Int32 × Mem) ⊕ (Nat × Mem))) (M : Mem) (v0 : Nat) (v1 : Nat) (v2 : Nat) (v3 : Int32) (v5 : Nat) (v6 : Int32) (v7 : Int32) : Option ((Int32 × Mem) ⊕ (Nat × Mem)) :=
  (gi M v1 3392).bind fun t4 =>
  if v7 < t4 then
    (gi M v1 3392).bind fun t5 =>
    (al M v2 v6).bind fun t6 =>
    let v8_7 : Int32 := ((t5 * t6.toInt32) + v7)
    (gr M v5 3396).bind fun t8 =>
    (gi M v1 3392).bind fun t9 =>
    (gr M v0 769).bind fun t10 =>
    (gr M v0 769).bind fun t11 =>
    (gr M t11 832).bind fun t12 =>
    (gr M v1 3396).bind fun t13 =>
    (ai M t13 v8_7).bind fun t14 =>
    (vg M v1 53).bind fun _ =>
    (F_X52_length M v1 v8_7).bind fun z16 =>
    (vg M t10 13).bind fun _ =>
    (F_X12_add M t10 t12 t14 z16).bind fun z18 =>
    (si z18.2 t8 ((t9 * v6) + v7) z18.1).bind fun M19 =>
    (gr M19 v5 3397).bind fun t20 =>
    (gi M19 v1 3392).bind fun t21 =>
    (gr M19 v1 3397).bind fun t22 =>
    (ab M19 t22 v8_7).bind fun t23 =>
    (sb M19 t20 ((t21 * v6) + v7) t23).bind fun M24 =>
    let v7_25 : Int32 := v7 + (1 : Int32)
    k227 M24 v0 v1 v2 v3 v5 v6 v7_25
  else
    let v6_26 : Int32 := v6 + (1 : Int32)
    k218 M v0 v1 v2 v3 v5 v6_26
noncomputable def F_X11_pick_b227 (k218 : Mem → Nat → Nat → Nat → Int32 → Nat → Int32 → Option ((Int32 × Mem) ⊕ (Nat × Mem))) (n : Nat) : Mem → Nat → Nat → Nat → Int32 → Nat → Int32 → Int32 → Option ((Int32 × Mem) ⊕ (Nat × Mem)) :=
  Nat.rec (motive := fun _ => Mem → Nat → Nat → Nat → Int32 → Nat → Int32 → Int32 → Option ((Int32 × Mem) ⊕ (Nat × Mem))) (fun _ _ _ _ _ _ _ _ => none) (fun _ ih => F_X11_pick_b227_st k218 ih) n
noncomputable def F_X11_pick_b218_st (k218 : Mem → Nat → Nat → Nat → Int32 → Nat → Int32 → Option ((Int32 × Mem) ⊕ (Nat × Mem))) (M : Mem) (v0 : Nat) (v1 : Nat) (v2 : Nat) (v3 : Int32) (v5 : Nat) (v6 : Int32) : Option ((Int32 × Mem) ⊕ (Nat × Mem)) :=
  if v6 < v3 then
    F_X11_pick_b227 k218 xN M v0 v1 v2 v3 v5 v6 (0 : Int32)
  else
    (vg M v0 12).bind fun _ =>
    (F_X11_finish M v0 v5).bind fun z28 =>
    some (.inl (z28.1, z28.2))
noncomputable def F_X11_pick_b218  (n : Nat) : Mem → Nat → Nat → Nat → Int32 → Nat → Int32 → Option ((Int32 × Mem) ⊕ (Nat × Mem)) :=
  Nat.rec (motive := fun _ => Mem → Nat → Nat → Nat → Int32 → Nat → Int32 → Option ((Int32 × Mem) ⊕ (Nat × Mem))) (fun _ _ _ _ _ _ _ => none) (fun _ ih => F_X11_pick_b218_st ih) n
noncomputable def F_X11_pick_b146_st (k146 : Mem → Nat → Nat → Nat → Int32 → Nat → Int32 → Option ((Int32 × Mem) ⊕ (Nat × Mem))) (M : Mem) (v0 : Nat) (v1 : Nat) (v2 : Nat) (v3 : Int32) (v5 : Nat) (v6 : Int32) : Option ((Int32 × Mem) ⊕ (Nat × Mem)) :=
  (gi M v1 3392).bind fun t29 =>
  if v6 < t29 then
    (gr M v5 3394).bind fun t30 =>
    (gr M v0 769).bind fun t31 =>
    (gr M v0 769).bind fun t32 =>
    (gr M t32 832).bind fun t33 =>
    (gr M v1 3394).bind fun t34 =>
    (ai M t34 v6).bind fun t35 =>
    (gr M v1 3395).bind fun t36 =>
    (ab M t36 v6).bind fun t37 =>
    (vg M t31 13).bind fun _ =>
    (F_X12_add M t31 t33 t35 (t37 &&& (63 : Int32))).bind fun z39 =>
    (si z39.2 t30 v6 z39.1).bind fun M40 =>
    (gr M40 v5 3395).bind fun t41 =>
    (gr M40 v1 3395).bind fun t42 =>
    (ab M40 t42 v6).bind fun t43 =>
    (sb M40 t41 v6 t43).bind fun M44 =>
    let v6_45 : Int32 := v6 + (1 : Int32)
    k146 M44 v0 v1 v2 v3 v5 v6_45
  else
    F_X11_pick_b218  xN M v0 v1 v2 v3 v5 (0 : Int32)
noncomputable def F_X11_pick_b146  (n : Nat) : Mem → Nat → Nat → Nat → Int32 → Nat → Int32 → Option ((Int32 × Mem) ⊕ (Nat × Mem)) :=
  Nat.rec (motive := fun _ => Mem → Nat → Nat → Nat → Int32 → Nat → Int32 → Option ((Int32 × Mem) ⊕ (Nat × Mem))) (fun _ _ _ _ _ _ _ => none) (fun _ ih => F_X11_pick_b146_st ih) n
noncomputable def F_X11_pick_b48_st (k39 : Mem → Nat → Nat → Nat → Int32 → Int32 → Int32 → Option ((Int32 × Mem) ⊕ (Nat × Mem))) (k48 : Mem → Nat → Nat → Nat → Int32 → Int32 → Int32 → Int32 → Option ((Int32 × Mem) ⊕ (Nat × Mem))) (M : Mem) (v0 : Nat) (v1 : Nat) (v2 : Nat) (v3 : Int32) (v4 : Int32) (v5 : Int32) (v6 : Int32) : Option ((Int32 × Mem) ⊕ (Nat × Mem)) :=
  (gi M v1 3392).bind fun t46 =>
  if v6 < t46 then
    (gi M v1 3392).bind fun t47 =>
    (al M v2 v5).bind fun t48 =>
    (vg M v1 53).bind fun _ =>
    (F_X52_length M v1 ((t47 * t48.toInt32) + v6)).bind fun z50 =>
    let v4_51 : Int32 := (v4 + z50)
    let v6_52 : Int32 := v6 + (1 : Int32)
    k48 M v0 v1 v2 v3 v4_51 v5 v6_52
  else
    let v5_53 : Int32 := v5 + (1 : Int32)
    k39 M v0 v1 v2 v3 v4 v5_53
noncomputable def F_X11_pick_b48 (k39 : Mem → Nat → Nat → Nat → Int32 → Int32 → Int32 → Option ((Int32 × Mem) ⊕ (Nat × Mem))) (n : Nat) : Mem → Nat → Nat → Nat → Int32 → Int32 → Int32 → Int32 → Option ((Int32 × Mem) ⊕ (Nat × Mem)) :=
  Nat.rec (motive := fun _ => Mem → Nat → Nat → Nat → Int32 → Int32 → Int32 → Int32 → Option ((Int32 × Mem) ⊕ (Nat × Mem))) (fun _ _ _ _ _ _ _ _ => none) (fun _ ih => F_X11_pick_b48_st k39 ih) n
noncomputable def F_X11_pick_b39_st (k39 : Mem → Nat → Nat → Nat → Int32 → Int32 → Int32 → Option ((Int32 × Mem) ⊕ (Nat × Mem))) (M : Mem) (v0 : Nat) (v1 : Nat) (v2 : Nat) (v3 : Int32) (v4 : Int32) (v5 : Int32) : Option ((Int32 × Mem) ⊕ (Nat × Mem)) :=
  if v5 < v3 then
    F_X11_pick_b48 k39 xN M v0 v1 v2 v3 v4 v5 (0 : Int32)
  else
    (gi M v0 771).bind fun t54 =>
    if t54 = (40 : Int32) then
      F_X11_pick_b119  M v0
    else
      if v3 < (500 : Int32) then
        (gr M v0 769).bind fun t55 =>
        (vg M t55 13).bind fun _ =>
        (F_X12_hasRoom M t55 v4).bind fun z57 =>
        if z57 = 0 then
          F_X11_pick_b119  M v0
        else
          let t59 : Nat := m_nx M
          let M58 : Mem := mo M 53
          (gi M58 v1 3392).bind fun t60 =>
          (ng M58 t59).bind fun _ =>
          (F_X52_init M58 t59 t60 v3).bind fun z62 =>
          F_X11_pick_b146  xN z62 v0 v1 v2 v3 t59 (0 : Int32)
      else
        F_X11_pick_b119  M v0
noncomputable def F_X11_pick_b39  (n : Nat) : Mem → Nat → Nat → Nat → Int32 → Int32 → Int32 → Option ((Int32 × Mem) ⊕ (Nat × Mem)) :=
  Nat.rec (motive := fun _ => Mem → Nat → Nat → Nat → Int32 → Int32 → Int32 → Option ((Int32 × Mem) ⊕ (Nat × Mem))) (fun _ _ _ _ _ _ _ => none) (fun _ ih => F_X11_pick_b39_st ih) n
noncomputable def F_X11_pick_b6_st (k6 : Mem → Nat → Nat → Nat → Int32 → Int32 → Int32 → Option ((Int32 × Mem) ⊕ (Nat × Mem))) (M : Mem) (v0 : Nat) (v1 : Nat) (v2 : Nat) (v3 : Int32) (v4 : Int32) (v5 : Int32) : Option ((Int32 × Mem) ⊕ (Nat × Mem)) :=
  (gi M v1 3392).bind fun t63 =>
  if v5 < t63 then
    (gr M v1 3395).bind fun t64 =>
    (ab M t64 v5).bind fun t65 =>
    let v4_66 : Int32 := (v4 + (t65 &&& (63 : Int32)))
    let v5_67 : Int32 := v5 + (1 : Int32)
    k6 M v0 v1 v2 v3 v4_66 v5_67
  else
    F_X11_pick_b39  xN M v0 v1 v2 v3 v4 (0 : Int32)
noncomputable def F_X11_pick_b6  (n : Nat) : Mem → Nat → Nat → Nat → Int32 → Int32 → Int32 → Option ((Int32 × Mem) ⊕ (Nat × Mem)) :=
  Nat.rec (motive := fun _ => Mem → Nat → Nat → Nat → Int32 → Int32 → Int32 → Option ((Int32 × Mem) ⊕ (Nat × Mem))) (fun _ _ _ _ _ _ _ => none) (fun _ ih => F_X11_pick_b6_st ih) n
noncomputable def F_X11_pick (M : Mem) (v0 : Nat) (v1 : Nat) (v2 : Nat) (v3 : Int32) : Option ((Int32 × Mem) ⊕ (Nat × Mem)) :=
  F_X11_pick_b6  xN M v0 v1 v2 v3 (0 : Int32) (0 : Int32)
noncomputable def F_X0_pick_b22  (M : Mem) (v0 : Nat) : Option (Int32 × Mem) :=
  (vg M v0 1).bind fun _ =>
  (F_X0_gone M v0).bind fun z2 =>
  some ((-z2), M)
noncomputable def F_X0_pick_b45  (M : Mem) : Option (Int32 × Mem) :=
  some ((-1 : Int32), M)
noncomputable def F_X0_pick_b121  (M : Mem) (s0 : Nat) (v0 : Nat) : Option (Int32 × Mem) :=
  (gr M v0 67).bind fun t3 =>
  (gi M t3 129).bind fun t4 =>
  some ((-t4), M)
noncomputable def F_X0_pick_b97  (M : Mem) : Option (Int32 × Mem) :=
  some ((-2 : Int32), M)
noncomputable def F_X0_pick_b62_st (k62 : Mem → Nat → Nat → Int32 → Int32 → Option (Int32 × Mem)) (M : Mem) (v0 : Nat) (v3 : Nat) (v5 : Int32) (v6 : Int32) : Option (Int32 × Mem) :=
  if v6 < v5 then
    (gr M v0 81).bind fun t5 =>
    (al M t5 v6).bind fun t6 =>
    if t6 < (0 : Int64) then
      F_X0_pick_b97  M
    else
      (gr M v0 81).bind fun t7 =>
      (al M t7 v6).bind fun t8 =>
      (gi M v3 3393).bind fun t9 =>
      if t8 < t9.toInt64 then
        let v6_10 : Int32 := v6 + (1 : Int32)
        k62 M v0 v3 v5 v6_10
      else
        F_X0_pick_b97  M
  else
    (gr M v0 77).bind fun t11 =>
    (gr M v0 81).bind fun t12 =>
    (vg M t11 12).bind fun _ =>
    tc (F_X11_pick M t11 v3 t12 v5) (fun z14 =>
      some (z14.1, z14.2))
      (fun z15 =>
        F_X0_pick_b121  z15.2 z15.1 v0)
noncomputable def F_X0_pick_b62  (n : Nat) : Mem → Nat → Nat → Int32 → Int32 → Option (Int32 × Mem) :=
  Nat.rec (motive := fun _ => Mem → Nat → Nat → Int32 → Int32 → Option (Int32 × Mem)) (fun _ _ _ _ _ => none) (fun _ ih => F_X0_pick_b62_st ih) n
noncomputable def F_X0_pick (M : Mem) (v0 : Nat) (v1 : Int32) (v2 : Int32) : Option (Int32 × Mem) :=
  (vg M v0 1).bind fun _ =>
  (F_X0_findTable M v0 v1).bind fun z17 =>
  (vg M v0 1).bind fun _ =>
  (F_X0_find M v0 v2).bind fun z19 =>
  if z17 = 6 then
    none
  else
    if z17 = 0 then
      F_X0_pick_b22  M v0
    else
      if z19 = 6 then
        none
      else
        if z19 = 0 then
          F_X0_pick_b22  M v0
        else
          (vg M z19 22).bind fun _ =>
          (F_X21_isRow M z19).bind fun z21 =>
          if z21 = 0 then
            F_X0_pick_b45  M
          else
            (gi M z19 1408).bind fun t22 =>
            if t22 = (4 : Int32) then
              (gr M v0 81).bind fun t23 =>
              (vg M v0 1).bind fun _ =>
              (F_X0_gather M v0 z19 t23).bind fun z25 =>
              F_X0_pick_b62  xN z25.2 v0 z17 z25.1 (0 : Int32)
            else
              F_X0_pick_b45  M
noncomputable def F_X15_put (M : Mem) (v0 : Nat) (v1 : Int32) : Option (Int32 × Mem) :=
  (gi M v0 1025).bind fun t1 =>
  (gr M v0 1024).bind fun t2 =>
  (an M t2).bind fun t3 =>
  if t1 = t3 then
    some ((0 : Int32), M)
  else
    (gr M v0 1024).bind fun t4 =>
    (gi M v0 1025).bind fun t5 =>
    (sb M t4 t5 (j_i2b v1)).bind fun M6 =>
    (gi M6 v0 1025).bind fun t7 =>
    (pi M6 v0 1025 (t7 + (1 : Int32))).bind fun M8 =>
    some ((1 : Int32), M8)
noncomputable def F_X11_needsMarks_b36  (M : Mem) : Option Int32 :=
  some (1 : Int32)
noncomputable def F_X11_needsMarks_b77  (M : Mem) : Option Int32 :=
  some (1 : Int32)
noncomputable def F_X11_needsMarks_b40_st (k40 : Mem → Nat → Int32 → Int32 → Int32 → Option Int32) (M : Mem) (v0 : Nat) (v1 : Int32) (v2 : Int32) (v3 : Int32) : Option Int32 :=
  if v3 < v2 then
    (gr M v0 769).bind fun t1 =>
    (gr M t1 832).bind fun t2 =>
    (ab M t2 (v1 + v3)).bind fun t3 =>
    if t3 = (34 : Int32) then
      F_X11_needsMarks_b77  M
    else
      (gr M v0 769).bind fun t4 =>
      (gr M t4 832).bind fun t5 =>
      (ab M t5 (v1 + v3)).bind fun t6 =>
      if t6 = (44 : Int32) then
        F_X11_needsMarks_b77  M
      else
        let v3_7 : Int32 := v3 + (1 : Int32)
        k40 M v0 v1 v2 v3_7
  else
    some (0 : Int32)
noncomputable def F_X11_needsMarks_b40  (n : Nat) : Mem → Nat → Int32 → Int32 → Int32 → Option Int32 :=
  Nat.rec (motive := fun _ => Mem → Nat → Int32 → Int32 → Int32 → Option Int32) (fun _ _ _ _ _ => none) (fun _ ih => F_X11_needsMarks_b40_st ih) n
noncomputable def F_X11_needsMarks (M : Mem) (v0 : Nat) (v1 : Int32) (v2 : Int32) : Option Int32 :=
  if v2 = 0 then
    F_X11_needsMarks_b36  M
  else
    (gr M v0 769).bind fun t8 =>
    (gr M t8 832).bind fun t9 =>
    (ab M t9 v1).bind fun t10 =>
    if t10 = (32 : Int32) then
      F_X11_needsMarks_b36  M
    else
      (gr M v0 769).bind fun t11 =>
      (gr M t11 832).bind fun t12 =>
      (ab M t12 ((v1 + v2) - (1 : Int32))).bind fun t13 =>
      if t13 = (32 : Int32) then
        F_X11_needsMarks_b36  M
      else
        F_X11_needsMarks_b40  xN M v0 v1 v2 (0 : Int32)
noncomputable def F_X11_say_b129  (M : Mem) (s0 : Int32) : Option (Int32 × Mem) :=
  some ((s0 &&& 1), M)
noncomputable def F_X11_say_b128  (M : Mem) : Option (Int32 × Mem) :=
  F_X11_say_b129  M (0 : Int32)
noncomputable def F_X11_say_b119  (M : Mem) (v5 : Int32) : Option (Int32 × Mem) :=
  if v5 = 0 then
    F_X11_say_b128  M
  else
    F_X11_say_b129  M (1 : Int32)
noncomputable def F_X11_say_b97 (k24 : Mem → Nat → Nat → Int32 → Int32 → Int32 → Int32 → Int32 → Option (Int32 × Mem)) (M : Mem) (s0 : Int32) (v0 : Nat) (v1 : Nat) (v2 : Int32) (v3 : Int32) (v4 : Int32) (v6 : Int32) : Option (Int32 × Mem) :=
  let v6_1 : Int32 := v6 + (1 : Int32)
  k24 M v0 v1 v2 v3 v4 s0 v6_1
noncomputable def F_X11_say_b96 (k24 : Mem → Nat → Nat → Int32 → Int32 → Int32 → Int32 → Int32 → Option (Int32 × Mem)) (M : Mem) (v0 : Nat) (v1 : Nat) (v2 : Int32) (v3 : Int32) (v4 : Int32) (v6 : Int32) : Option (Int32 × Mem) :=
  F_X11_say_b97 k24 M (0 : Int32) v0 v1 v2 v3 v4 v6
noncomputable def F_X11_say_b68 (k24 : Mem → Nat → Nat → Int32 → Int32 → Int32 → Int32 → Int32 → Option (Int32 × Mem)) (M : Mem) (v0 : Nat) (v1 : Nat) (v2 : Int32) (v3 : Int32) (v4 : Int32) (v5 : Int32) (v6 : Int32) : Option (Int32 × Mem) :=
  (gr M v0 769).bind fun t2 =>
  (gr M t2 832).bind fun t3 =>
  (ab M t3 (v2 + v6)).bind fun t4 =>
  (vg M v1 16).bind fun _ =>
  (F_X15_put M v1 t4).bind fun z6 =>
  if z6.1 = 0 then
    F_X11_say_b96 k24 z6.2 v0 v1 v2 v3 v4 v6
  else
    if v5 = 0 then
      F_X11_say_b96 k24 z6.2 v0 v1 v2 v3 v4 v6
    else
      F_X11_say_b97 k24 z6.2 (1 : Int32) v0 v1 v2 v3 v4 v6
noncomputable def F_X11_say_b66 (k24 : Mem → Nat → Nat → Int32 → Int32 → Int32 → Int32 → Int32 → Option (Int32 × Mem)) (M : Mem) (s0 : Int32) (v0 : Nat) (v1 : Nat) (v2 : Int32) (v3 : Int32) (v4 : Int32) (v6 : Int32) : Option (Int32 × Mem) :=
  F_X11_say_b68 k24 M v0 v1 v2 v3 v4 s0 v6
noncomputable def F_X11_say_b65 (k24 : Mem → Nat → Nat → Int32 → Int32 → Int32 → Int32 → Int32 → Option (Int32 × Mem)) (M : Mem) (v0 : Nat) (v1 : Nat) (v2 : Int32) (v3 : Int32) (v4 : Int32) (v6 : Int32) : Option (Int32 × Mem) :=
  F_X11_say_b66 k24 M (0 : Int32) v0 v1 v2 v3 v4 v6
noncomputable def F_X11_say_b24_st (k24 : Mem → Nat → Nat → Int32 → Int32 → Int32 → Int32 → Int32 → Option (Int32 × Mem)) (M : Mem) (v0 : Nat) (v1 : Nat) (v2 : Int32) (v3 : Int32) (v4 : Int32) (v5 : Int32) (v6 : Int32) : Option (Int32 × Mem) :=
  if v6 < v3 then
    (gr M v0 769).bind fun t7 =>
    (gr M t7 832).bind fun t8 =>
    (ab M t8 (v2 + v6)).bind fun t9 =>
    if t9 = (34 : Int32) then
      (vg M v1 16).bind fun _ =>
      (F_X15_put M v1 (34 : Int32)).bind fun z11 =>
      if z11.1 = 0 then
        F_X11_say_b65 k24 z11.2 v0 v1 v2 v3 v4 v6
      else
        if v5 = 0 then
          F_X11_say_b65 k24 z11.2 v0 v1 v2 v3 v4 v6
        else
          F_X11_say_b66 k24 z11.2 (1 : Int32) v0 v1 v2 v3 v4 v6
    else
      F_X11_say_b68 k24 M v0 v1 v2 v3 v4 v5 v6
  else
    if v4 = 0 then
      F_X11_say_b119  M v5
    else
      (vg M v1 16).bind fun _ =>
      (F_X15_put M v1 (34 : Int32)).bind fun z13 =>
      if z13.1 = 0 then
        F_X11_say_b128  z13.2
      else
        F_X11_say_b119  z13.2 v5
noncomputable def F_X11_say_b24  (n : Nat) : Mem → Nat → Nat → Int32 → Int32 → Int32 → Int32 → Int32 → Option (Int32 × Mem) :=
  Nat.rec (motive := fun _ => Mem → Nat → Nat → Int32 → Int32 → Int32 → Int32 → Int32 → Option (Int32 × Mem)) (fun _ _ _ _ _ _ _ _ => none) (fun _ ih => F_X11_say_b24_st ih) n
noncomputable def F_X11_say_b19  (M : Mem) (s0 : Int32) (v0 : Nat) (v1 : Nat) (v2 : Int32) (v3 : Int32) (v4 : Int32) : Option (Int32 × Mem) :=
  F_X11_say_b24  xN M v0 v1 v2 v3 v4 s0 (0 : Int32)
noncomputable def F_X11_say_b14  (M : Mem) (v0 : Nat) (v1 : Nat) (v2 : Int32) (v3 : Int32) (v4 : Int32) : Option (Int32 × Mem) :=
  F_X11_say_b19  M (1 : Int32) v0 v1 v2 v3 v4
noncomputable def F_X11_say (M : Mem) (v0 : Nat) (v1 : Nat) (v2 : Int32) (v3 : Int32) (v4 : Int32) : Option (Int32 × Mem) :=
  if v4 = 0 then
    F_X11_say_b14  M v0 v1 v2 v3 v4
  else
    (vg M v1 16).bind fun _ =>
    (F_X15_put M v1 (34 : Int32)).bind fun z15 =>
    if z15.1 = 0 then
      F_X11_say_b19  z15.2 (0 : Int32) v0 v1 v2 v3 v4
    else
      F_X11_say_b14  z15.2 v0 v1 v2 v3 v4
noncomputable def F_X11_isMarked_b44  (M : Mem) (s0 : Int32) : Option Int32 :=
  some (s0 &&& 1)
noncomputable def F_X11_isMarked_b43  (M : Mem) : Option Int32 :=
  F_X11_isMarked_b44  M (0 : Int32)
noncomputable def F_X11_isMarked (M : Mem) (v0 : Nat) (v1 : Nat) (v2 : Int32) (v3 : Int32) : Option Int32 :=
  (gr M v1 3396).bind fun t1 =>
  (ai M t1 v3).bind fun t2 =>
  (vg M v1 53).bind fun _ =>
  (F_X52_length M v1 v3).bind fun z4 =>
  (vg M v0 12).bind fun _ =>
  (F_X11_needsMarks M v0 t2 z4).bind fun z6 =>
  if z6 = 0 then
    (gr M v1 3398).bind fun t7 =>
    (ai M t7 v2).bind fun t8 =>
    if t8 = (8 : Int32) then
      (vg M v1 53).bind fun _ =>
      (F_X52_isQuoted M v1 v3).bind fun z10 =>
      if z10 = 0 then
        F_X11_isMarked_b43  M
      else
        F_X11_isMarked_b44  M (1 : Int32)
    else
      F_X11_isMarked_b43  M
  else
    some (1 : Int32)
noncomputable def F_X11_write_b259  (M : Mem) (v3 : Int32) : Option (Int32 × Mem) :=
  some ((v3 &&& 1), M)
noncomputable def F_X11_write_b252 (k118 : Mem → Nat → Nat → Nat → Int32 → Int32 → Option (Int32 × Mem)) (M : Mem) (s0 : Int32) (v0 : Nat) (v1 : Nat) (v2 : Nat) (v4 : Int32) : Option (Int32 × Mem) :=
  let v4_1 : Int32 := v4 + (1 : Int32)
  k118 M v0 v1 v2 s0 v4_1
noncomputable def F_X11_write_b251 (k118 : Mem → Nat → Nat → Nat → Int32 → Int32 → Option (Int32 × Mem)) (M : Mem) (v0 : Nat) (v1 : Nat) (v2 : Nat) (v4 : Int32) : Option (Int32 × Mem) :=
  F_X11_write_b252 k118 M (0 : Int32) v0 v1 v2 v4
noncomputable def F_X11_write_b228 (k118 : Mem → Nat → Nat → Nat → Int32 → Int32 → Option (Int32 × Mem)) (k134 : Mem → Nat → Nat → Nat → Int32 → Int32 → Int32 → Option (Int32 × Mem)) (M : Mem) (v0 : Nat) (v1 : Nat) (v2 : Nat) (v3 : Int32) (v4 : Int32) (v5 : Int32) : Option (Int32 × Mem) :=
  let v5_2 : Int32 := v5 + (1 : Int32)
  k134 M v0 v1 v2 v3 v4 v5_2
noncomputable def F_X11_write_b227 (k118 : Mem → Nat → Nat → Nat → Int32 → Int32 → Option (Int32 × Mem)) (k134 : Mem → Nat → Nat → Nat → Int32 → Int32 → Int32 → Option (Int32 × Mem)) (M : Mem) (s0 : Int32) (v0 : Nat) (v1 : Nat) (v2 : Nat) (v4 : Int32) (v5 : Int32) : Option (Int32 × Mem) :=
  F_X11_write_b228 k118 k134 M v0 v1 v2 s0 v4 v5
noncomputable def F_X11_write_b226 (k118 : Mem → Nat → Nat → Nat → Int32 → Int32 → Option (Int32 × Mem)) (k134 : Mem → Nat → Nat → Nat → Int32 → Int32 → Int32 → Option (Int32 × Mem)) (M : Mem) (v0 : Nat) (v1 : Nat) (v2 : Nat) (v4 : Int32) (v5 : Int32) : Option (Int32 × Mem) :=
  F_X11_write_b227 k118 k134 M (0 : Int32) v0 v1 v2 v4 v5
noncomputable def F_X11_write_b167 (k118 : Mem → Nat → Nat → Nat → Int32 → Int32 → Option (Int32 × Mem)) (k134 : Mem → Nat → Nat → Nat → Int32 → Int32 → Int32 → Option (Int32 × Mem)) (M : Mem) (v0 : Nat) (v1 : Nat) (v2 : Nat) (v3 : Int32) (v4 : Int32) (v5 : Int32) : Option (Int32 × Mem) :=
  (gi M v1 3392).bind fun t3 =>
  let v6_4 : Int32 := ((t3 * v4) + v5)
  (vg M v1 53).bind fun _ =>
  (F_X52_isMissing M v1 v6_4).bind fun z6 =>
  if z6 = 0 then
    (gr M v1 3396).bind fun t7 =>
    (ai M t7 v6_4).bind fun t8 =>
    (vg M v1 53).bind fun _ =>
    (F_X52_length M v1 v6_4).bind fun z10 =>
    (vg M v0 12).bind fun _ =>
    (F_X11_isMarked M v0 v1 v5 v6_4).bind fun z12 =>
    (vg M v0 12).bind fun _ =>
    (F_X11_say M v0 v2 t8 z10 z12).bind fun z14 =>
    if z14.1 = 0 then
      F_X11_write_b226 k118 k134 z14.2 v0 v1 v2 v4 v5
    else
      if v3 = 0 then
        F_X11_write_b226 k118 k134 z14.2 v0 v1 v2 v4 v5
      else
        F_X11_write_b227 k118 k134 z14.2 (1 : Int32) v0 v1 v2 v4 v5
  else
    F_X11_write_b228 k118 k134 M v0 v1 v2 v3 v4 v5
noncomputable def F_X11_write_b166 (k118 : Mem → Nat → Nat → Nat → Int32 → Int32 → Option (Int32 × Mem)) (k134 : Mem → Nat → Nat → Nat → Int32 → Int32 → Int32 → Option (Int32 × Mem)) (M : Mem) (s0 : Int32) (v0 : Nat) (v1 : Nat) (v2 : Nat) (v4 : Int32) (v5 : Int32) : Option (Int32 × Mem) :=
  F_X11_write_b167 k118 k134 M v0 v1 v2 s0 v4 v5
noncomputable def F_X11_write_b165 (k118 : Mem → Nat → Nat → Nat → Int32 → Int32 → Option (Int32 × Mem)) (k134 : Mem → Nat → Nat → Nat → Int32 → Int32 → Int32 → Option (Int32 × Mem)) (M : Mem) (v0 : Nat) (v1 : Nat) (v2 : Nat) (v4 : Int32) (v5 : Int32) : Option (Int32 × Mem) :=
  F_X11_write_b166 k118 k134 M (0 : Int32) v0 v1 v2 v4 v5
noncomputable def F_X11_write_b134_st (k118 : Mem → Nat → Nat → Nat → Int32 → Int32 → Option (Int32 × Mem)) (k134 : Mem → Nat → Nat → Nat → Int32 → Int32 → Int32 → Option (Int32 × Mem)) (M : Mem) (v0 : Nat) (v1 : Nat) (v2 : Nat) (v3 : Int32) (v4 : Int32) (v5 : Int32) : Option (Int32 × Mem) :=
  (gi M v1 3392).bind fun t15 =>
  if v5 < t15 then
    if 0 < v5 then
      (vg M v2 16).bind fun _ =>
      (F_X15_put M v2 (44 : Int32)).bind fun z17 =>
      if z17.1 = 0 then
        F_X11_write_b165 k118 k134 z17.2 v0 v1 v2 v4 v5
      else
        if v3 = 0 then
          F_X11_write_b165 k118 k134 z17.2 v0 v1 v2 v4 v5
        else
          F_X11_write_b166 k118 k134 z17.2 (1 : Int32) v0 v1 v2 v4 v5
    else
      F_X11_write_b167 k118 k134 M v0 v1 v2 v3 v4 v5
  else
    (vg M v2 16).bind fun _ =>
    (F_X15_put M v2 (10 : Int32)).bind fun z19 =>
    if z19.1 = 0 then
      F_X11_write_b251 k118 z19.2 v0 v1 v2 v4
    else
      if v3 = 0 then
        F_X11_write_b251 k118 z19.2 v0 v1 v2 v4
      else
        F_X11_write_b252 k118 z19.2 (1 : Int32) v0 v1 v2 v4
noncomputable def F_X11_write_b134 (k118 : Mem → Nat → Nat → Nat → Int32 → Int32 → Option (Int32 × Mem)) (n : Nat) : Mem → Nat → Nat → Nat → Int32 → Int32 → Int32 → Option (Int32 × Mem) :=
  Nat.rec (motive := fun _ => Mem → Nat → Nat → Nat → Int32 → Int32 → Int32 → Option (Int32 × Mem)) (fun _ _ _ _ _ _ _ => none) (fun _ ih => F_X11_write_b134_st k118 ih) n
noncomputable def F_X11_write_b118_st (k118 : Mem → Nat → Nat → Nat → Int32 → Int32 → Option (Int32 × Mem)) (M : Mem) (v0 : Nat) (v1 : Nat) (v2 : Nat) (v3 : Int32) (v4 : Int32) : Option (Int32 × Mem) :=
  (gi M v1 3393).bind fun t20 =>
  if v4 < t20 then
    if v3 = 0 then
      F_X11_write_b259  M v3
    else
      F_X11_write_b134 k118 xN M v0 v1 v2 v3 v4 (0 : Int32)
  else
    F_X11_write_b259  M v3
noncomputable def F_X11_write_b118  (n : Nat) : Mem → Nat → Nat → Nat → Int32 → Int32 → Option (Int32 × Mem) :=
  Nat.rec (motive := fun _ => Mem → Nat → Nat → Nat → Int32 → Int32 → Option (Int32 × Mem)) (fun _ _ _ _ _ _ => none) (fun _ ih => F_X11_write_b118_st ih) n
noncomputable def F_X11_write_b114  (M : Mem) (s0 : Int32) (v0 : Nat) (v1 : Nat) (v2 : Nat) : Option (Int32 × Mem) :=
  F_X11_write_b118  xN M v0 v1 v2 s0 (0 : Int32)
noncomputable def F_X11_write_b113  (M : Mem) (v0 : Nat) (v1 : Nat) (v2 : Nat) : Option (Int32 × Mem) :=
  F_X11_write_b114  M (0 : Int32) v0 v1 v2
noncomputable def F_X11_write_b89 (k5 : Mem → Nat → Nat → Nat → Int32 → Int32 → Option (Int32 × Mem)) (M : Mem) (s0 : Int32) (v0 : Nat) (v1 : Nat) (v2 : Nat) (v4 : Int32) : Option (Int32 × Mem) :=
  let v4_21 : Int32 := v4 + (1 : Int32)
  k5 M v0 v1 v2 s0 v4_21
noncomputable def F_X11_write_b88 (k5 : Mem → Nat → Nat → Nat → Int32 → Int32 → Option (Int32 × Mem)) (M : Mem) (v0 : Nat) (v1 : Nat) (v2 : Nat) (v4 : Int32) : Option (Int32 × Mem) :=
  F_X11_write_b89 k5 M (0 : Int32) v0 v1 v2 v4
noncomputable def F_X11_write_b38 (k5 : Mem → Nat → Nat → Nat → Int32 → Int32 → Option (Int32 × Mem)) (M : Mem) (v0 : Nat) (v1 : Nat) (v2 : Nat) (v3 : Int32) (v4 : Int32) : Option (Int32 × Mem) :=
  (gr M v1 3395).bind fun t22 =>
  (ab M t22 v4).bind fun t23 =>
  let v5_24 : Int32 := (t23 &&& (63 : Int32))
  (gr M v1 3394).bind fun t25 =>
  (ai M t25 v4).bind fun t26 =>
  (gr M v1 3394).bind fun t27 =>
  (ai M t27 v4).bind fun t28 =>
  (vg M v0 12).bind fun _ =>
  (F_X11_needsMarks M v0 t28 v5_24).bind fun z30 =>
  (vg M v0 12).bind fun _ =>
  (F_X11_say M v0 v2 t26 v5_24 z30).bind fun z32 =>
  if z32.1 = 0 then
    F_X11_write_b88 k5 z32.2 v0 v1 v2 v4
  else
    if v3 = 0 then
      F_X11_write_b88 k5 z32.2 v0 v1 v2 v4
    else
      F_X11_write_b89 k5 z32.2 (1 : Int32) v0 v1 v2 v4
noncomputable def F_X11_write_b37 (k5 : Mem → Nat → Nat → Nat → Int32 → Int32 → Option (Int32 × Mem)) (M : Mem) (s0 : Int32) (v0 : Nat) (v1 : Nat) (v2 : Nat) (v4 : Int32) : Option (Int32 × Mem) :=
  F_X11_write_b38 k5 M v0 v1 v2 s0 v4
noncomputable def F_X11_write_b36 (k5 : Mem → Nat → Nat → Nat → Int32 → Int32 → Option (Int32 × Mem)) (M : Mem) (v0 : Nat) (v1 : Nat) (v2 : Nat) (v4 : Int32) : Option (Int32 × Mem) :=
  F_X11_write_b37 k5 M (0 : Int32) v0 v1 v2 v4
noncomputable def F_X11_write_b5_st (k5 : Mem → Nat → Nat → Nat → Int32 → Int32 → Option (Int32 × Mem)) (M : Mem) (v0 : Nat) (v1 : Nat) (v2 : Nat) (v3 : Int32) (v4 : Int32) : Option (Int32 × Mem) :=
  (gi M v1 3392).bind fun t33 =>
  if v4 < t33 then
    if 0 < v4 then
      (vg M v2 16).bind fun _ =>
      (F_X15_put M v2 (44 : Int32)).bind fun z35 =>
      if z35.1 = 0 then
        F_X11_write_b36 k5 z35.2 v0 v1 v2 v4
      else
        if v3 = 0 then
          F_X11_write_b36 k5 z35.2 v0 v1 v2 v4
        else
          F_X11_write_b37 k5 z35.2 (1 : Int32) v0 v1 v2 v4
    else
      F_X11_write_b38 k5 M v0 v1 v2 v3 v4
  else
    (vg M v2 16).bind fun _ =>
    (F_X15_put M v2 (10 : Int32)).bind fun z37 =>
    if z37.1 = 0 then
      F_X11_write_b113  z37.2 v0 v1 v2
    else
      if v3 = 0 then
        F_X11_write_b113  z37.2 v0 v1 v2
      else
        F_X11_write_b114  z37.2 (1 : Int32) v0 v1 v2
noncomputable def F_X11_write_b5  (n : Nat) : Mem → Nat → Nat → Nat → Int32 → Int32 → Option (Int32 × Mem) :=
  Nat.rec (motive := fun _ => Mem → Nat → Nat → Nat → Int32 → Int32 → Option (Int32 × Mem)) (fun _ _ _ _ _ _ => none) (fun _ ih => F_X11_write_b5_st ih) n
noncomputable def F_X11_write (M : Mem) (v0 : Nat) (v1 : Nat) (v2 : Nat) : Option (Int32 × Mem) :=
  F_X11_write_b5  xN M v0 v1 v2 (1 : Int32) (0 : Int32)
noncomputable def F_X0_written (M : Mem) (v0 : Nat) (v1 : Int32) : Option (Int32 × Mem) :=
  if v1 = 0 then
    some ((-12 : Int32), M)
  else
    (gr M v0 92).bind fun t1 =>
    (gr M v0 93).bind fun t2 =>
    (pr M v0 92 t2).bind fun M3 =>
    (pr M3 v0 93 t1).bind fun M4 =>
    (gr M4 v0 92).bind fun t5 =>
    (gi M4 t5 1025).bind fun t6 =>
    some (t6, M4)
noncomputable def F_X0_write (M : Mem) (v0 : Nat) (v1 : Int32) : Option (Int32 × Mem) :=
  (vg M v0 1).bind fun _ =>
  (F_X0_findTable M v0 v1).bind fun z2 =>
  if z2 = 6 then
    none
  else
    if z2 = 0 then
      (vg M v0 1).bind fun _ =>
      (F_X0_gone M v0).bind fun z4 =>
      some ((-z4), M)
    else
      (gr M v0 93).bind fun t5 =>
      (pi M t5 1025 (0 : Int32)).bind fun M6 =>
      (gr M6 v0 77).bind fun t7 =>
      (gr M6 v0 93).bind fun t8 =>
      (vg M6 t7 12).bind fun _ =>
      (F_X11_write M6 t7 z2 t8).bind fun z10 =>
      (vg z10.2 v0 1).bind fun _ =>
      (F_X0_written z10.2 v0 z10.1).bind fun z12 =>
      some (z12.1, z12.2)
noncomputable def F_X15_number_b38 (k8 : Mem → Nat → Int64 → Int32 → Int32 → Option (Int32 × Mem)) (M : Mem) (s0 : Int32) (v0 : Nat) (v1 : Int64) (v5 : Int32) : Option (Int32 × Mem) :=
  let v5_1 : Int32 := v5 + (-1 : Int32)
  k8 M v0 v1 s0 v5_1
noncomputable def F_X15_number_b37 (k8 : Mem → Nat → Int64 → Int32 → Int32 → Option (Int32 × Mem)) (M : Mem) (v0 : Nat) (v1 : Int64) (v5 : Int32) : Option (Int32 × Mem) :=
  F_X15_number_b38 k8 M (0 : Int32) v0 v1 v5
noncomputable def F_X15_number_b8_st (k8 : Mem → Nat → Int64 → Int32 → Int32 → Option (Int32 × Mem)) (M : Mem) (v0 : Nat) (v1 : Int64) (v4 : Int32) (v5 : Int32) : Option (Int32 × Mem) :=
  if v5 < 0 then
    some ((v4 &&& 1), M)
  else
    (vg M v0 16).bind fun _ =>
    (F_X15_put M v0 ((j_lshr v1 ((8 : Int32) * v5)).toInt32)).bind fun z3 =>
    if z3.1 = 0 then
      F_X15_number_b37 k8 z3.2 v0 v1 v5
    else
      if v4 = 0 then
        F_X15_number_b37 k8 z3.2 v0 v1 v5
      else
        F_X15_number_b38 k8 z3.2 (1 : Int32) v0 v1 v5
noncomputable def F_X15_number_b8  (n : Nat) : Mem → Nat → Int64 → Int32 → Int32 → Option (Int32 × Mem) :=
  Nat.rec (motive := fun _ => Mem → Nat → Int64 → Int32 → Int32 → Option (Int32 × Mem)) (fun _ _ _ _ _ => none) (fun _ ih => F_X15_number_b8_st ih) n
noncomputable def F_X15_number (M : Mem) (v0 : Nat) (v1 : Int64) (v3 : Int32) : Option (Int32 × Mem) :=
  let v5_4 : Int32 := (v3 - (1 : Int32))
  F_X15_number_b8  xN M v0 v1 (1 : Int32) v5_4
noncomputable def F_X20_width_b35  (s0 : Int32) : Option Int32 :=
  some s0
noncomputable def F_X20_width_b29   : Option Int32 :=
  F_X20_width_b35  (4 : Int32)
noncomputable def F_X20_width (v0 : Int32) : Option Int32 :=
  if (1 : Int32) < v0 then
    if (3 : Int32) < v0 then
      if v0 = (4 : Int32) then
        F_X20_width_b29  
      else
        if v0 = (6 : Int32) then
          F_X20_width_b29  
        else
          F_X20_width_b35  (8 : Int32)
    else
      F_X20_width_b35  (2 : Int32)
  else
    F_X20_width_b35  (1 : Int32)
noncomputable def F_X13_checkOf_b51 (k5 : Mem → Nat → Int32 → Int32 → Int32 → Option Int32) (k25 : Mem → Nat → Int32 → Int32 → Int32 → Int32 → Option Int32) (M : Mem) (s0 : Int32) (v0 : Nat) (v2 : Int32) (v4 : Int32) (v5 : Int32) : Option Int32 :=
  let v5_1 : Int32 := v5 + (1 : Int32)
  k25 M v0 v2 s0 v4 v5_1
noncomputable def F_X13_checkOf_b25_st (k5 : Mem → Nat → Int32 → Int32 → Int32 → Option Int32) (k25 : Mem → Nat → Int32 → Int32 → Int32 → Int32 → Option Int32) (M : Mem) (v0 : Nat) (v2 : Int32) (v3 : Int32) (v4 : Int32) (v5 : Int32) : Option Int32 :=
  if v5 < (8 : Int32) then
    if (v3 &&& (1 : Int32)) = (1 : Int32) then
      F_X13_checkOf_b51 k5 k25 M ((j_iushr v3 (1 : Int32)) ^^^ (-306674912 : Int32)) v0 v2 v4 v5
    else
      F_X13_checkOf_b51 k5 k25 M (j_iushr v3 (1 : Int32)) v0 v2 v4 v5
  else
    let v4_2 : Int32 := v4 + (1 : Int32)
    k5 M v0 v2 v3 v4_2
noncomputable def F_X13_checkOf_b25 (k5 : Mem → Nat → Int32 → Int32 → Int32 → Option Int32) (n : Nat) : Mem → Nat → Int32 → Int32 → Int32 → Int32 → Option Int32 :=
  Nat.rec (motive := fun _ => Mem → Nat → Int32 → Int32 → Int32 → Int32 → Option Int32) (fun _ _ _ _ _ _ => none) (fun _ ih => F_X13_checkOf_b25_st k5 ih) n
noncomputable def F_X13_checkOf_b5_st (k5 : Mem → Nat → Int32 → Int32 → Int32 → Option Int32) (M : Mem) (v0 : Nat) (v2 : Int32) (v3 : Int32) (v4 : Int32) : Option Int32 :=
  if v4 < v2 then
    (ab M v0 v4).bind fun t3 =>
    let v3_4 : Int32 := (v3 ^^^ (t3 &&& (255 : Int32)))
    F_X13_checkOf_b25 k5 xN M v0 v2 v3_4 v4 (0 : Int32)
  else
    some (v3 ^^^ (-1 : Int32))
noncomputable def F_X13_checkOf_b5  (n : Nat) : Mem → Nat → Int32 → Int32 → Int32 → Option Int32 :=
  Nat.rec (motive := fun _ => Mem → Nat → Int32 → Int32 → Int32 → Option Int32) (fun _ _ _ _ _ => none) (fun _ ih => F_X13_checkOf_b5_st ih) n
noncomputable def F_X13_checkOf (M : Mem) (v0 : Nat) (v1 : Int32) (v2 : Int32) : Option Int32 :=
  F_X13_checkOf_b5  xN M v0 v2 (-1 : Int32) v1
noncomputable def F_X13_write_b173  (M : Mem) (s0 : Int32) : Option (Int32 × Mem) :=
  some ((s0 &&& 1), M)
noncomputable def F_X13_write_b172  (M : Mem) : Option (Int32 × Mem) :=
  F_X13_write_b173  M (0 : Int32)
noncomputable def F_X13_write_b143  (M : Mem) (v1 : Nat) (v2 : Int32) (v3 : Int32) : Option (Int32 × Mem) :=
  if v3 = 0 then
    F_X13_write_b172  M
  else
    (gr M v1 1024).bind fun t1 =>
    (gi M v1 1025).bind fun t2 =>
    (F_X13_checkOf M t1 v2 t2).bind fun z3 =>
    (vg M v1 16).bind fun _ =>
    (F_X15_number M v1 (z3.toInt64) (4 : Int32)).bind fun z5 =>
    if z5.1 = 0 then
      F_X13_write_b172  z5.2
    else
      F_X13_write_b173  z5.2 (1 : Int32)
noncomputable def F_X13_write_b113_st (k113 : Mem → Nat → Nat → Int32 → Int32 → Int32 → Int32 → Int32 → Option (Int32 × Mem)) (M : Mem) (v0 : Nat) (v1 : Nat) (v2 : Int32) (v3 : Int32) (v4 : Int32) (v5 : Int32) (v6 : Int32) : Option (Int32 × Mem) :=
  if v6 < v4 then
    if v3 = 0 then
      F_X13_write_b143  M v1 v2 v3
    else
      (vg M v0 22).bind fun _ =>
      (F_X21_get M v0 v6).bind fun z7 =>
      (vg M v1 16).bind fun _ =>
      (F_X15_number M v1 z7 v5).bind fun z9 =>
      let v6_10 : Int32 := v6 + (1 : Int32)
      k113 z9.2 v0 v1 v2 z9.1 v4 v5 v6_10
  else
    F_X13_write_b143  M v1 v2 v3
noncomputable def F_X13_write_b113  (n : Nat) : Mem → Nat → Nat → Int32 → Int32 → Int32 → Int32 → Int32 → Option (Int32 × Mem) :=
  Nat.rec (motive := fun _ => Mem → Nat → Nat → Int32 → Int32 → Int32 → Int32 → Int32 → Option (Int32 × Mem)) (fun _ _ _ _ _ _ _ _ => none) (fun _ ih => F_X13_write_b113_st ih) n
noncomputable def F_X13_write_b88 (k54 : Mem → Nat → Nat → Int32 → Int32 → Int32 → Option (Int32 × Mem)) (M : Mem) (s0 : Int32) (v0 : Nat) (v1 : Nat) (v2 : Int32) (v4 : Int32) : Option (Int32 × Mem) :=
  let v4_11 : Int32 := v4 + (1 : Int32)
  k54 M v0 v1 v2 s0 v4_11
noncomputable def F_X13_write_b87 (k54 : Mem → Nat → Nat → Int32 → Int32 → Int32 → Option (Int32 × Mem)) (M : Mem) (v0 : Nat) (v1 : Nat) (v2 : Int32) (v4 : Int32) : Option (Int32 × Mem) :=
  F_X13_write_b88 k54 M (0 : Int32) v0 v1 v2 v4
noncomputable def F_X13_write_b54_st (k54 : Mem → Nat → Nat → Int32 → Int32 → Int32 → Option (Int32 × Mem)) (M : Mem) (v0 : Nat) (v1 : Nat) (v2 : Int32) (v3 : Int32) (v4 : Int32) : Option (Int32 × Mem) :=
  (gi M v0 1409).bind fun t12 =>
  if v4 < t12 then
    (gr M v0 1410).bind fun t13 =>
    (ai M t13 v4).bind fun t14 =>
    (vg M v1 16).bind fun _ =>
    (F_X15_number M v1 (t14.toInt64) (2 : Int32)).bind fun z16 =>
    if z16.1 = 0 then
      F_X13_write_b87 k54 z16.2 v0 v1 v2 v4
    else
      if v3 = 0 then
        F_X13_write_b87 k54 z16.2 v0 v1 v2 v4
      else
        F_X13_write_b88 k54 z16.2 (1 : Int32) v0 v1 v2 v4
  else
    (vg M v0 22).bind fun _ =>
    (F_X21_count M v0).bind fun z18 =>
    (gi M v0 1408).bind fun t19 =>
    (F_X20_width t19).bind fun z20 =>
    F_X13_write_b113  xN M v0 v1 v2 v3 z18 z20 (0 : Int32)
noncomputable def F_X13_write_b54  (n : Nat) : Mem → Nat → Nat → Int32 → Int32 → Int32 → Option (Int32 × Mem) :=
  Nat.rec (motive := fun _ => Mem → Nat → Nat → Int32 → Int32 → Int32 → Option (Int32 × Mem)) (fun _ _ _ _ _ _ => none) (fun _ ih => F_X13_write_b54_st ih) n
noncomputable def F_X13_write_b50  (M : Mem) (s0 : Int32) (v0 : Nat) (v1 : Nat) (v2 : Int32) : Option (Int32 × Mem) :=
  F_X13_write_b54  xN M v0 v1 v2 s0 (0 : Int32)
noncomputable def F_X13_write_b49  (M : Mem) (v0 : Nat) (v1 : Nat) (v2 : Int32) : Option (Int32 × Mem) :=
  F_X13_write_b50  M (0 : Int32) v0 v1 v2
noncomputable def F_X13_write (M : Mem) (v0 : Nat) (v1 : Nat) : Option (Int32 × Mem) :=
  (gi M v1 1025).bind fun t21 =>
  (vg M v1 16).bind fun _ =>
  (F_X15_put M v1 (71 : Int32)).bind fun z23 =>
  if z23.1 = 0 then
    F_X13_write_b49  z23.2 v0 v1 t21
  else
    (vg z23.2 v1 16).bind fun _ =>
    (F_X15_put z23.2 v1 (82 : Int32)).bind fun z25 =>
    if z25.1 = 0 then
      F_X13_write_b49  z25.2 v0 v1 t21
    else
      (gi z25.2 v0 1408).bind fun t26 =>
      (vg z25.2 v1 16).bind fun _ =>
      (F_X15_put z25.2 v1 t26).bind fun z28 =>
      if z28.1 = 0 then
        F_X13_write_b49  z28.2 v0 v1 t21
      else
        (gi z28.2 v0 1409).bind fun t29 =>
        (vg z28.2 v1 16).bind fun _ =>
        (F_X15_put z28.2 v1 t29).bind fun z31 =>
        if z31.1 = 0 then
          F_X13_write_b49  z31.2 v0 v1 t21
        else
          F_X13_write_b50  z31.2 (1 : Int32) v0 v1 t21
noncomputable def F_X0_bytes (M : Mem) (v0 : Nat) (v1 : Int32) : Option (Int32 × Mem) :=
  (vg M v0 1).bind fun _ =>
  (F_X0_find M v0 v1).bind fun z2 =>
  if z2 = 6 then
    none
  else
    if z2 = 0 then
      (vg M v0 1).bind fun _ =>
      (F_X0_gone M v0).bind fun z4 =>
      some ((-z4), M)
    else
      (gr M v0 93).bind fun t5 =>
      (pi M t5 1025 (0 : Int32)).bind fun M6 =>
      (gr M6 v0 93).bind fun t7 =>
      (F_X13_write M6 z2 t7).bind fun z8 =>
      (vg z8.2 v0 1).bind fun _ =>
      (F_X0_written z8.2 v0 z8.1).bind fun z10 =>
      some (z10.1, z10.2)
noncomputable def F_X0_out_b32  (M : Mem) (s0 : Int32) : Option Int32 :=
  some s0
noncomputable def F_X0_out_b31  (M : Mem) : Option Int32 :=
  F_X0_out_b32  M (-1 : Int32)
noncomputable def F_X0_out (M : Mem) (v0 : Nat) (v1 : Int32) : Option Int32 :=
  if v1 < 0 then
    F_X0_out_b31  M
  else
    (gr M v0 92).bind fun t1 =>
    (gi M t1 1025).bind fun t2 =>
    if v1 < t2 then
      (gr M v0 92).bind fun t3 =>
      (gr M t3 1024).bind fun t4 =>
      (ab M t4 v1).bind fun t5 =>
      F_X0_out_b32  M (t5 &&& (255 : Int32))
    else
      F_X0_out_b31  M
noncomputable def F_X13_wrong (M : Mem) (v0 : Nat) (v1 : Int32) (v2 : Int32) : Option (Nat × Mem) :=
  (gr M v0 896).bind fun t1 =>
  (vg M t1 2).bind fun _ =>
  (F_X1_at M t1 (20 : Int32) (v1 - v2)).bind fun z3 =>
  some (z3.1, z3.2)
noncomputable def F_X13_number_b28_st (k28 : Mem → Nat → Int32 → Int64 → Int32 → Option ((Int64 × Mem) ⊕ (Nat × Mem))) (M : Mem) (v0 : Nat) (v1 : Int32) (v3 : Int64) (v5 : Int32) : Option ((Int64 × Mem) ⊕ (Nat × Mem)) :=
  if v5 < v1 then
    (gr M v0 897).bind fun t1 =>
    (gi M v0 899).bind fun t2 =>
    (ab M t1 (t2 + v5)).bind fun t3 =>
    let v3_4 : Int64 := ((j_lshl v3 (8 : Int32)) ||| (t3 &&& (255 : Int32)).toInt64)
    let v5_5 : Int32 := v5 + (1 : Int32)
    k28 M v0 v1 v3_4 v5_5
  else
    (gi M v0 899).bind fun t6 =>
    (pi M v0 899 (t6 + v1)).bind fun M7 =>
    some (.inl (v3, M7))
noncomputable def F_X13_number_b28  (n : Nat) : Mem → Nat → Int32 → Int64 → Int32 → Option ((Int64 × Mem) ⊕ (Nat × Mem)) :=
  Nat.rec (motive := fun _ => Mem → Nat → Int32 → Int64 → Int32 → Option ((Int64 × Mem) ⊕ (Nat × Mem))) (fun _ _ _ _ _ => none) (fun _ ih => F_X13_number_b28_st ih) n
noncomputable def F_X13_number (M : Mem) (v0 : Nat) (v1 : Int32) (v2 : Int32) : Option ((Int64 × Mem) ⊕ (Nat × Mem)) :=
  (gi M v0 899).bind fun t8 =>
  (gi M v0 898).bind fun t9 =>
  if t9 < (t8 + v1) then
    (gi M v0 899).bind fun t10 =>
    (vg M v0 14).bind fun _ =>
    (F_X13_wrong M v0 t10 v2).bind fun z12 =>
    (ie z12.2 z12.1).bind fun _ => some (.inr (z12.1, z12.2))
  else
    F_X13_number_b28  xN M v0 v1 (0 : Int64) (0 : Int32)
noncomputable def F_X13_must (M : Mem) (v0 : Nat) (v1 : Int32) (v2 : Int32) (v3 : Int32) : Option (Mem ⊕ (Nat × Mem)) :=
  if v1 = 0 then
    (gi M v0 899).bind fun t1 =>
    (vg M v0 14).bind fun _ =>
    (F_X13_wrong M v0 (t1 - v2) v3).bind fun z3 =>
    (ie z3.2 z3.1).bind fun _ => some (.inr (z3.1, z3.2))
  else
    some (.inl M)
noncomputable def F_X13_cell_b52  (M : Mem) (v0 : Nat) (v1 : Int32) (v2 : Int32) (v3 : Int32) (v4 : Int64) : Option (Mem ⊕ (Nat × Mem)) :=
  (gi M v0 902).bind fun t1 =>
  (F_X23_isBits t1 v4).bind fun z2 =>
  (vg M v0 14).bind fun _ =>
  tb (F_X13_must M v0 z2 v2 v3) fun z4 =>
  (gr z4 v0 903).bind fun t5 =>
  (sj z4 t5 v1 v4).bind fun M6 =>
  some (.inl M6)
noncomputable def F_X13_cell_b38  (M : Mem) (v0 : Nat) (v1 : Int32) (v2 : Int32) (v3 : Int32) (v4 : Int64) : Option (Mem ⊕ (Nat × Mem)) :=
  (gi M v0 902).bind fun t7 =>
  if t7 = (4 : Int32) then
    let v4_8 : Int64 := (v4.toInt32).toInt64
    F_X13_cell_b52  M v0 v1 v2 v3 v4_8
  else
    F_X13_cell_b52  M v0 v1 v2 v3 v4
noncomputable def F_X13_cell_b23  (M : Mem) (v0 : Nat) (v1 : Int32) (v2 : Int32) (v3 : Int32) (v4 : Int64) : Option (Mem ⊕ (Nat × Mem)) :=
  (gi M v0 902).bind fun t9 =>
  if t9 = (2 : Int32) then
    let v4_10 : Int64 := (j_i2s (v4.toInt32)).toInt64
    F_X13_cell_b38  M v0 v1 v2 v3 v4_10
  else
    F_X13_cell_b38  M v0 v1 v2 v3 v4
noncomputable def F_X13_cell (M : Mem) (v0 : Nat) (v1 : Int32) (v2 : Int32) (v3 : Int32) : Option (Mem ⊕ (Nat × Mem)) :=
  (vg M v0 14).bind fun _ =>
  tb (F_X13_number M v0 v2 v3) fun z12 =>
  (gi z12.2 v0 902).bind fun t13 =>
  if t13 = (1 : Int32) then
    let v4_14 : Int64 := (j_i2b (z12.1.toInt32)).toInt64
    F_X13_cell_b23  z12.2 v0 v1 v2 v3 v4_14
  else
    F_X13_cell_b23  z12.2 v0 v1 v2 v3 z12.1
noncomputable def F_X13_read_b327 (k315 : Mem → Nat → Int32 → Int32 → Int32 → Int32 → Option ((Int32 × Mem) ⊕ (Nat × Mem))) (M : Mem) (v0 : Nat) (v2 : Int32) (v5 : Int32) (v6 : Int32) (v7 : Int32) : Option ((Int32 × Mem) ⊕ (Nat × Mem)) :=
  (vg M v0 14).bind fun _ =>
  tb (F_X13_cell M v0 v7 v6 v2) fun z2 =>
  let v7_3 : Int32 := v7 + (1 : Int32)
  k315 z2 v0 v2 v5 v6 v7_3
noncomputable def F_X13_read_b315_st (k315 : Mem → Nat → Int32 → Int32 → Int32 → Int32 → Option ((Int32 × Mem) ⊕ (Nat × Mem))) (M : Mem) (v0 : Nat) (v2 : Int32) (v5 : Int32) (v6 : Int32) (v7 : Int32) : Option ((Int32 × Mem) ⊕ (Nat × Mem)) :=
  if v5 < 0 then
    F_X13_read_b327 k315 M v0 v2 v5 v6 v7
  else
    if v7 < v5 then
      F_X13_read_b327 k315 M v0 v2 v5 v6 v7
    else
      (gi M v0 899).bind fun t4 =>
      (gi M v0 898).bind fun t5 =>
      if t4 < t5 then
        (gi M v0 899).bind fun t6 =>
        (vg M v0 14).bind fun _ =>
        (F_X13_wrong M v0 t6 v2).bind fun z8 =>
        (ie z8.2 z8.1).bind fun _ => some (.inr (z8.1, z8.2))
      else
        some (.inl (v5, M))
noncomputable def F_X13_read_b315  (n : Nat) : Mem → Nat → Int32 → Int32 → Int32 → Int32 → Option ((Int32 × Mem) ⊕ (Nat × Mem)) :=
  Nat.rec (motive := fun _ => Mem → Nat → Int32 → Int32 → Int32 → Int32 → Option ((Int32 × Mem) ⊕ (Nat × Mem))) (fun _ _ _ _ _ _ => none) (fun _ ih => F_X13_read_b315_st ih) n
noncomputable def F_X13_read_b279 (k237 : Mem → Nat → Int32 → Int32 → Option ((Int32 × Mem) ⊕ (Nat × Mem))) (M : Mem) (s0 : Nat) (s1 : Int32) (v0 : Nat) (v2 : Int32) (v5 : Int32) : Option ((Int32 × Mem) ⊕ (Nat × Mem)) :=
  (vg M s0 14).bind fun _ =>
  tb (F_X13_must M s0 s1 (2 : Int32) v2) fun z10 =>
  let v5_11 : Int32 := v5 + (1 : Int32)
  k237 z10 v0 v2 v5_11
noncomputable def F_X13_read_b237_st (k237 : Mem → Nat → Int32 → Int32 → Option ((Int32 × Mem) ⊕ (Nat × Mem))) (M : Mem) (v0 : Nat) (v2 : Int32) (v5 : Int32) : Option ((Int32 × Mem) ⊕ (Nat × Mem)) :=
  (gi M v0 901).bind fun t12 =>
  if v5 < t12 then
    (gr M v0 900).bind fun t13 =>
    (vg M v0 14).bind fun _ =>
    tb (F_X13_number M v0 (2 : Int32) v2) fun z15 =>
    (si z15.2 t13 v5 (z15.1.toInt32)).bind fun M16 =>
    (gr M16 v0 900).bind fun t17 =>
    (ai M16 t17 v5).bind fun t18 =>
    if (4096 : Int32) < t18 then
      F_X13_read_b279 k237 M16 v0 (0 : Int32) v0 v2 v5
    else
      F_X13_read_b279 k237 M16 v0 (1 : Int32) v0 v2 v5
  else
    (gr M v0 900).bind fun t19 =>
    (gi M v0 901).bind fun t20 =>
    (F_X2_count M t19 t20).bind fun z21 =>
    (gi M v0 902).bind fun t22 =>
    (F_X20_width t22).bind fun z23 =>
    F_X13_read_b315  xN M v0 v2 z21 z23 (0 : Int32)
noncomputable def F_X13_read_b237  (n : Nat) : Mem → Nat → Int32 → Int32 → Option ((Int32 × Mem) ⊕ (Nat × Mem)) :=
  Nat.rec (motive := fun _ => Mem → Nat → Int32 → Int32 → Option ((Int32 × Mem) ⊕ (Nat × Mem))) (fun _ _ _ _ => none) (fun _ ih => F_X13_read_b237_st ih) n
noncomputable def F_X13_read_b229  (M : Mem) (s0 : Nat) (s1 : Int32) (v0 : Nat) (v2 : Int32) : Option ((Int32 × Mem) ⊕ (Nat × Mem)) :=
  (vg M s0 14).bind fun _ =>
  tb (F_X13_must M s0 s1 (1 : Int32) v2) fun z25 =>
  F_X13_read_b237  xN z25 v0 v2 (0 : Int32)
noncomputable def F_X13_read_b199  (M : Mem) (s0 : Nat) (s1 : Int32) (v0 : Nat) (v2 : Int32) : Option ((Int32 × Mem) ⊕ (Nat × Mem)) :=
  (vg M s0 14).bind fun _ =>
  tb (F_X13_must M s0 s1 (1 : Int32) v2) fun z27 =>
  (vg z27 v0 14).bind fun _ =>
  tb (F_X13_number z27 v0 (1 : Int32) v2) fun z29 =>
  (pi z29.2 v0 901 (z29.1.toInt32)).bind fun M30 =>
  (gi M30 v0 901).bind fun t31 =>
  if (4 : Int32) < t31 then
    F_X13_read_b229  M30 v0 (0 : Int32) v0 v2
  else
    F_X13_read_b229  M30 v0 (1 : Int32) v0 v2
noncomputable def F_X13_read_b168  (M : Mem) (s0 : Nat) (s1 : Int32) (v0 : Nat) (v2 : Int32) : Option ((Int32 × Mem) ⊕ (Nat × Mem)) :=
  (vg M s0 14).bind fun _ =>
  tb (F_X13_must M s0 s1 (1 : Int32) v2) fun z33 =>
  (vg z33 v0 14).bind fun _ =>
  tb (F_X13_number z33 v0 (1 : Int32) v2) fun z35 =>
  (pi z35.2 v0 902 (z35.1.toInt32)).bind fun M36 =>
  (gi M36 v0 902).bind fun t37 =>
  if (7 : Int32) < t37 then
    F_X13_read_b199  M36 v0 (0 : Int32) v0 v2
  else
    F_X13_read_b199  M36 v0 (1 : Int32) v0 v2
noncomputable def F_X13_read_b144  (M : Mem) (s0 : Nat) (s1 : Int32) (v0 : Nat) (v2 : Int32) : Option ((Int32 × Mem) ⊕ (Nat × Mem)) :=
  (vg M s0 14).bind fun _ =>
  tb (F_X13_must M s0 s1 (1 : Int32) v2) fun z39 =>
  (vg z39 v0 14).bind fun _ =>
  tb (F_X13_number z39 v0 (1 : Int32) v2) fun z41 =>
  if z41.1 = (82 : Int64) then
    F_X13_read_b168  z41.2 v0 (1 : Int32) v0 v2
  else
    F_X13_read_b168  z41.2 v0 (0 : Int32) v0 v2
noncomputable def F_X13_read_b107  (M : Mem) (v0 : Nat) (v2 : Int32) (v3 : Int32) (v4 : Int32) : Option ((Int32 × Mem) ⊕ (Nat × Mem)) :=
  if v4 = 0 then
    (F_J7_max (v3 - (4 : Int32)) v2).bind fun z42 =>
    (vg M v0 14).bind fun _ =>
    (F_X13_wrong M v0 z42 v2).bind fun z44 =>
    (ie z44.2 z44.1).bind fun _ => some (.inr (z44.1, z44.2))
  else
    (vg M v0 14).bind fun _ =>
    tb (F_X13_number M v0 (1 : Int32) v2) fun z46 =>
    if z46.1 = (71 : Int64) then
      F_X13_read_b144  z46.2 v0 (1 : Int32) v0 v2
    else
      F_X13_read_b144  z46.2 v0 (0 : Int32) v0 v2
noncomputable def F_X13_read_b105  (M : Mem) (s0 : Int32) (v0 : Nat) (v2 : Int32) (v3 : Int32) : Option ((Int32 × Mem) ⊕ (Nat × Mem)) :=
  F_X13_read_b107  M v0 v2 v3 s0
noncomputable def F_X13_read_b30  (M : Mem) (s0 : Int32) (v0 : Nat) (v1 : Nat) (v2 : Int32) (v3 : Int32) : Option ((Int32 × Mem) ⊕ (Nat × Mem)) :=
  if s0 = 0 then
    F_X13_read_b107  M v0 v2 v3 s0
  else
    (ab M v1 (v3 - (4 : Int32))).bind fun t47 =>
    (ab M v1 (v3 - (3 : Int32))).bind fun t48 =>
    (ab M v1 (v3 - (2 : Int32))).bind fun t49 =>
    (ab M v1 (v3 - (1 : Int32))).bind fun t50 =>
    let v5_51 : Int32 := ((((j_ishl (t47 &&& (255 : Int32)) (24 : Int32)) ||| (j_ishl (t48 &&& (255 : Int32)) (16 : Int32))) ||| (j_ishl (t49 &&& (255 : Int32)) (8 : Int32))) ||| (t50 &&& (255 : Int32)))
    (F_X13_checkOf M v1 v2 (v3 - (4 : Int32))).bind fun z52 =>
    if v5_51 = z52 then
      F_X13_read_b105  M (1 : Int32) v0 v2 v3
    else
      F_X13_read_b105  M (0 : Int32) v0 v2 v3
noncomputable def F_X13_read (M : Mem) (v0 : Nat) (v1 : Nat) (v2 : Int32) (v3 : Int32) : Option ((Int32 × Mem) ⊕ (Nat × Mem)) :=
  (pr M v0 897 v1).bind fun M53 =>
  (pi M53 v0 899 v2).bind fun M54 =>
  (pi M54 v0 898 (v3 - (4 : Int32))).bind fun M55 =>
  if (v3 - v2) < (8 : Int32) then
    F_X13_read_b30  M55 (0 : Int32) v0 v1 v2 v3
  else
    F_X13_read_b30  M55 (1 : Int32) v0 v1 v2 v3
noncomputable def F_X0_readGrid (M : Mem) (v0 : Nat) : Option (Int32 × Mem) :=
  (gr M v0 78).bind fun t1 =>
  (gr M t1 900).bind fun t2 =>
  (gr M v0 78).bind fun t3 =>
  (gi M t3 901).bind fun t4 =>
  (vg M v0 1).bind fun _ =>
  (F_X0_shapeOf M v0 t2 t4).bind fun z6 =>
  (gr z6 v0 78).bind fun t7 =>
  (gi z6 t7 902).bind fun t8 =>
  (gr z6 v0 78).bind fun t9 =>
  (gr z6 t9 903).bind fun t10 =>
  (vg z6 v0 1).bind fun _ =>
  (F_X0_made z6 v0 t8 t10).bind fun z12 =>
  some (z12.1, z12.2)
noncomputable def F_X0_read_b46  (M : Mem) (s0 : Nat) (v0 : Nat) : Option (Int32 × Mem) :=
  (gr M v0 67).bind fun t1 =>
  (gi M t1 130).bind fun t2 =>
  (pi M v0 95 t2).bind fun M3 =>
  (gr M3 v0 67).bind fun t4 =>
  (gi M3 t4 129).bind fun t5 =>
  some ((-t5), M3)
noncomputable def F_X0_read_b45  (M : Mem) (s0 : Int32) : Option (Int32 × Mem) :=
  some (s0, M)
noncomputable def F_X0_read (M : Mem) (v0 : Nat) : Option (Int32 × Mem) :=
  (pi M v0 95 (-1 : Int32)).bind fun M6 =>
  (gi M6 v0 97).bind fun t7 =>
  if t7 = 0 then
    (vg M6 v0 1).bind fun _ =>
    (F_X0_used M6 v0).bind fun z9 =>
    (gr z9.2 v0 78).bind fun t10 =>
    (gr z9.2 v0 64).bind fun t11 =>
    (vg z9.2 t10 14).bind fun _ =>
    tc (F_X13_read z9.2 t10 t11 (0 : Int32) z9.1) (fun z13 =>
      if z13.1 < 0 then
        F_X0_read_b45  z13.2 (-12 : Int32)
      else
        (vg z13.2 v0 1).bind fun _ =>
        (F_X0_readGrid z13.2 v0).bind fun z16 =>
        F_X0_read_b45  z16.2 z16.1)
      (fun z14 =>
        F_X0_read_b46  z14.2 z14.1 v0)
  else
    some ((-13 : Int32), M6)
noncomputable def F_X14_sum_b5_st (k5 : Mem → Nat → Int32 → Int64 → Int32 → Option Int64) (M : Mem) (v0 : Nat) (v2 : Int32) (v3 : Int64) (v5 : Int32) : Option Int64 :=
  if v5 < v2 then
    (ab M v0 v5).bind fun t1 =>
    let v3_2 : Int64 := (v3 ^^^ (t1 &&& (255 : Int32)).toInt64)
    let v3_3 : Int64 := (((j_lshl v3_2 (27 : Int32)) ||| (j_lushr v3_2 (37 : Int32))) * (-7046029254386353131 : Int64))
    let v5_4 : Int32 := v5 + (1 : Int32)
    k5 M v0 v2 v3_3 v5_4
  else
    some v3
noncomputable def F_X14_sum_b5  (n : Nat) : Mem → Nat → Int32 → Int64 → Int32 → Option Int64 :=
  Nat.rec (motive := fun _ => Mem → Nat → Int32 → Int64 → Int32 → Option Int64) (fun _ _ _ _ _ => none) (fun _ ih => F_X14_sum_b5_st ih) n
noncomputable def F_X14_sum (M : Mem) (v0 : Nat) (v1 : Int32) (v2 : Int32) : Option Int64 :=
  F_X14_sum_b5  xN M v0 v2 (0 : Int64) v1
