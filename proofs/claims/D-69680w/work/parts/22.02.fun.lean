/-! ===== functions: GENERATED ===== -/
noncomputable def F_X14_keep_b238_st (k238 : Mem → Nat → Int32 → Int32 → Int32 → Option (Int32 × Mem)) (M : Mem) (v0 : Nat) (v4 : Int32) (v5 : Int32) (v8 : Int32) : Option (Int32 × Mem) :=
  (gr M v0 960).bind fun t1 =>
  (gi M t1 1025).bind fun t2 =>
  if v8 < t2 then
    (gr M v0 961).bind fun t3 =>
    (gr M t3 1024).bind fun t4 =>
    (gr M v0 960).bind fun t5 =>
    (gr M t5 1024).bind fun t6 =>
    (ab M t6 v8).bind fun t7 =>
    (sb M t4 v8 t7).bind fun M8 =>
    let v8_9 : Int32 := v8 + (1 : Int32)
    k238 M8 v0 v4 v5 v8_9
  else
    (pi M v0 962 v4).bind fun M10 =>
    some ((v5 &&& 1), M10)
noncomputable def F_X14_keep_b238  (n : Nat) : Mem → Nat → Int32 → Int32 → Int32 → Option (Int32 × Mem) :=
  Nat.rec (motive := fun _ => Mem → Nat → Int32 → Int32 → Int32 → Option (Int32 × Mem)) (fun _ _ _ _ _ => none) (fun _ ih => F_X14_keep_b238_st ih) n
noncomputable def F_X14_keep_b232  (M : Mem) (s0 : Int32) (v0 : Nat) (v4 : Int32) : Option (Int32 × Mem) :=
  F_X14_keep_b238  xN M v0 v4 s0 v4
noncomputable def F_X14_keep_b231  (M : Mem) (v0 : Nat) (v4 : Int32) : Option (Int32 × Mem) :=
  F_X14_keep_b232  M (0 : Int32) v0 v4
noncomputable def F_X14_keep_b141  (M : Mem) (s0 : Int32) (v0 : Nat) (v4 : Int32) : Option (Int32 × Mem) :=
  (gr M v0 960).bind fun t11 =>
  (gi M t11 1025).bind fun t12 =>
  (gr M v0 960).bind fun t13 =>
  (pi M t13 1025 v4).bind fun M14 =>
  if s0 = 0 then
    some ((0 : Int32), M14)
  else
    (gr M14 v0 960).bind fun t15 =>
    (vg M14 t15 16).bind fun _ =>
    (F_X15_number M14 t15 (((t12 + (8 : Int32)) - v4).toInt64) (4 : Int32)).bind fun z17 =>
    (gr z17.2 v0 960).bind fun t18 =>
    (pi z17.2 t18 1025 t12).bind fun M19 =>
    (gr M19 v0 960).bind fun t20 =>
    (gr M19 v0 960).bind fun t21 =>
    (gr M19 t21 1024).bind fun t22 =>
    (F_X14_sum M19 t22 v4 t12).bind fun z23 =>
    (vg M19 t20 16).bind fun _ =>
    (F_X15_number M19 t20 z23 (8 : Int32)).bind fun z25 =>
    if z25.1 = 0 then
      F_X14_keep_b231  z25.2 v0 v4
    else
      if z17.1 = 0 then
        F_X14_keep_b231  z25.2 v0 v4
      else
        F_X14_keep_b232  z25.2 (1 : Int32) v0 v4
noncomputable def F_X14_keep_b140  (M : Mem) (v0 : Nat) (v4 : Int32) : Option (Int32 × Mem) :=
  F_X14_keep_b141  M (0 : Int32) v0 v4
noncomputable def F_X14_keep_b72 (k42 : Mem → Nat → Nat → Int32 → Nat → Int32 → Int32 → Int32 → Option (Int32 × Mem)) (M : Mem) (s0 : Int32) (v0 : Nat) (v1 : Nat) (v2 : Int32) (v3 : Nat) (v4 : Int32) (v6 : Int32) : Option (Int32 × Mem) :=
  let v6_26 : Int32 := v6 + (1 : Int32)
  k42 M v0 v1 v2 v3 v4 s0 v6_26
noncomputable def F_X14_keep_b71 (k42 : Mem → Nat → Nat → Int32 → Nat → Int32 → Int32 → Int32 → Option (Int32 × Mem)) (M : Mem) (v0 : Nat) (v1 : Nat) (v2 : Int32) (v3 : Nat) (v4 : Int32) (v6 : Int32) : Option (Int32 × Mem) :=
  F_X14_keep_b72 k42 M (0 : Int32) v0 v1 v2 v3 v4 v6
noncomputable def F_X14_keep_b42_st (k42 : Mem → Nat → Nat → Int32 → Nat → Int32 → Int32 → Int32 → Option (Int32 × Mem)) (M : Mem) (v0 : Nat) (v1 : Nat) (v2 : Int32) (v3 : Nat) (v4 : Int32) (v5 : Int32) (v6 : Int32) : Option (Int32 × Mem) :=
  if v6 < v2 then
    (gr M v0 960).bind fun t27 =>
    (ab M v1 v6).bind fun t28 =>
    (vg M t27 16).bind fun _ =>
    (F_X15_put M t27 t28).bind fun z30 =>
    if z30.1 = 0 then
      F_X14_keep_b71 k42 z30.2 v0 v1 v2 v3 v4 v6
    else
      if v5 = 0 then
        F_X14_keep_b71 k42 z30.2 v0 v1 v2 v3 v4 v6
      else
        F_X14_keep_b72 k42 z30.2 (1 : Int32) v0 v1 v2 v3 v4 v6
  else
    (gr M v0 960).bind fun t31 =>
    (gi M t31 1025).bind fun t32 =>
    if v5 = 0 then
      F_X14_keep_b140  M v0 v4
    else
      (gr M v0 960).bind fun t33 =>
      (F_X13_write M v3 t33).bind fun z34 =>
      if z34.1 = 0 then
        F_X14_keep_b140  z34.2 v0 v4
      else
        (gr z34.2 v0 960).bind fun t35 =>
        (gi z34.2 t35 1025).bind fun t36 =>
        if (30000 : Int32) < (t36 - t32) then
          F_X14_keep_b140  z34.2 v0 v4
        else
          (gr z34.2 v0 960).bind fun t37 =>
          (gi z34.2 t37 1025).bind fun t38 =>
          if (60000 : Int32) < (t38 + (8 : Int32)) then
            F_X14_keep_b140  z34.2 v0 v4
          else
            F_X14_keep_b141  z34.2 (1 : Int32) v0 v4
noncomputable def F_X14_keep_b42  (n : Nat) : Mem → Nat → Nat → Int32 → Nat → Int32 → Int32 → Int32 → Option (Int32 × Mem) :=
  Nat.rec (motive := fun _ => Mem → Nat → Nat → Int32 → Nat → Int32 → Int32 → Int32 → Option (Int32 × Mem)) (fun _ _ _ _ _ _ _ _ => none) (fun _ ih => F_X14_keep_b42_st ih) n
noncomputable def F_X14_keep_b37  (M : Mem) (s0 : Int32) (v0 : Nat) (v1 : Nat) (v2 : Int32) (v3 : Nat) (v4 : Int32) : Option (Int32 × Mem) :=
  F_X14_keep_b42  xN M v0 v1 v2 v3 v4 s0 (0 : Int32)
noncomputable def F_X14_keep_b36  (M : Mem) (v0 : Nat) (v1 : Nat) (v2 : Int32) (v3 : Nat) (v4 : Int32) : Option (Int32 × Mem) :=
  F_X14_keep_b37  M (0 : Int32) v0 v1 v2 v3 v4
noncomputable def F_X14_keep (M : Mem) (v0 : Nat) (v1 : Nat) (v2 : Int32) (v3 : Nat) : Option (Int32 × Mem) :=
  (gr M v0 960).bind fun t39 =>
  (gi M t39 1025).bind fun t40 =>
  (gr M v0 960).bind fun t41 =>
  (vg M t41 16).bind fun _ =>
  (F_X15_number M t41 (0 : Int64) (4 : Int32)).bind fun z43 =>
  if z43.1 = 0 then
    F_X14_keep_b36  z43.2 v0 v1 v2 v3 t40
  else
    (gr z43.2 v0 960).bind fun t44 =>
    (vg z43.2 t44 16).bind fun _ =>
    (F_X15_put z43.2 t44 v2).bind fun z46 =>
    if z46.1 = 0 then
      F_X14_keep_b36  z46.2 v0 v1 v2 v3 t40
    else
      F_X14_keep_b37  z46.2 (1 : Int32) v0 v1 v2 v3 t40
noncomputable def F_X14_size (M : Mem) (v0 : Nat) : Option Int32 :=
  (gr M v0 960).bind fun t1 =>
  (gi M t1 1025).bind fun t2 =>
  some t2
noncomputable def F_X0_keep_b132  (M : Mem) (s0 : Int32) : Option (Int32 × Mem) :=
  some (s0, M)
noncomputable def F_X0_keep_b97  (M : Mem) (v0 : Nat) (v2 : Int32) (v3 : Nat) (v4 : Int32) : Option (Int32 × Mem) :=
  if v4 = 0 then
    some ((-1 : Int32), M)
  else
    (gr M v0 79).bind fun t1 =>
    (gr M v0 64).bind fun t2 =>
    (vg M t1 15).bind fun _ =>
    (F_X14_keep M t1 t2 v2 v3).bind fun z4 =>
    if z4.1 = 0 then
      F_X0_keep_b132  z4.2 (-12 : Int32)
    else
      (gr z4.2 v0 79).bind fun t5 =>
      (vg z4.2 t5 15).bind fun _ =>
      (F_X14_size z4.2 t5).bind fun z7 =>
      F_X0_keep_b132  z4.2 z7
noncomputable def F_X0_keep_b89 (k49 : Mem → Nat → Int32 → Nat → Int32 → Int32 → Option (Int32 × Mem)) (M : Mem) (s0 : Int32) (v0 : Nat) (v2 : Int32) (v3 : Nat) (v5 : Int32) : Option (Int32 × Mem) :=
  let v5_8 : Int32 := v5 + (1 : Int32)
  k49 M v0 v2 v3 s0 v5_8
noncomputable def F_X0_keep_b88 (k49 : Mem → Nat → Int32 → Nat → Int32 → Int32 → Option (Int32 × Mem)) (M : Mem) (v0 : Nat) (v2 : Int32) (v3 : Nat) (v5 : Int32) : Option (Int32 × Mem) :=
  F_X0_keep_b89 k49 M (0 : Int32) v0 v2 v3 v5
noncomputable def F_X0_keep_b49_st (k49 : Mem → Nat → Int32 → Nat → Int32 → Int32 → Option (Int32 × Mem)) (M : Mem) (v0 : Nat) (v2 : Int32) (v3 : Nat) (v4 : Int32) (v5 : Int32) : Option (Int32 × Mem) :=
  if v5 < v2 then
    if v4 = 0 then
      F_X0_keep_b97  M v0 v2 v3 v4
    else
      (gr M v0 64).bind fun t9 =>
      (ab M t9 v5).bind fun t10 =>
      if t10 < (33 : Int32) then
        F_X0_keep_b88 k49 M v0 v2 v3 v5
      else
        (gr M v0 64).bind fun t11 =>
        (ab M t11 v5).bind fun t12 =>
        if (126 : Int32) < t12 then
          F_X0_keep_b88 k49 M v0 v2 v3 v5
        else
          F_X0_keep_b89 k49 M (1 : Int32) v0 v2 v3 v5
  else
    F_X0_keep_b97  M v0 v2 v3 v4
noncomputable def F_X0_keep_b49  (n : Nat) : Mem → Nat → Int32 → Nat → Int32 → Int32 → Option (Int32 × Mem) :=
  Nat.rec (motive := fun _ => Mem → Nat → Int32 → Nat → Int32 → Int32 → Option (Int32 × Mem)) (fun _ _ _ _ _ _ => none) (fun _ ih => F_X0_keep_b49_st ih) n
noncomputable def F_X0_keep_b44  (M : Mem) (s0 : Int32) (v0 : Nat) (v2 : Int32) (v3 : Nat) : Option (Int32 × Mem) :=
  F_X0_keep_b49  xN M v0 v2 v3 s0 (0 : Int32)
noncomputable def F_X0_keep_b43  (M : Mem) (v0 : Nat) (v2 : Int32) (v3 : Nat) : Option (Int32 × Mem) :=
  F_X0_keep_b44  M (0 : Int32) v0 v2 v3
noncomputable def F_X0_keep (M : Mem) (v0 : Nat) (v1 : Int32) : Option (Int32 × Mem) :=
  (gi M v0 97).bind fun t13 =>
  if t13 = 0 then
    (vg M v0 1).bind fun _ =>
    (F_X0_used M v0).bind fun z15 =>
    (vg z15.2 v0 1).bind fun _ =>
    (F_X0_find z15.2 v0 v1).bind fun z17 =>
    if z17 = 6 then
      none
    else
      if z17 = 0 then
        some ((-14 : Int32), z15.2)
      else
        if z15.1 < (1 : Int32) then
          F_X0_keep_b43  z15.2 v0 z15.1 z17
        else
          if (20 : Int32) < z15.1 then
            F_X0_keep_b43  z15.2 v0 z15.1 z17
          else
            F_X0_keep_b44  z15.2 (1 : Int32) v0 z15.1 z17
  else
    some ((-13 : Int32), M)
noncomputable def F_X14_four (M : Mem) (v0 : Nat) (v1 : Int32) : Option Int32 :=
  (gr M v0 960).bind fun t1 =>
  (gr M t1 1024).bind fun t2 =>
  (ab M t2 v1).bind fun t3 =>
  (gr M v0 960).bind fun t4 =>
  (gr M t4 1024).bind fun t5 =>
  (ab M t5 (v1 + (1 : Int32))).bind fun t6 =>
  (gr M v0 960).bind fun t7 =>
  (gr M t7 1024).bind fun t8 =>
  (ab M t8 (v1 + (2 : Int32))).bind fun t9 =>
  (gr M v0 960).bind fun t10 =>
  (gr M t10 1024).bind fun t11 =>
  (ab M t11 (v1 + (3 : Int32))).bind fun t12 =>
  some ((((j_ishl (t3 &&& (255 : Int32)) (24 : Int32)) ||| (j_ishl (t6 &&& (255 : Int32)) (16 : Int32))) ||| (j_ishl (t9 &&& (255 : Int32)) (8 : Int32))) ||| (t12 &&& (255 : Int32)))
noncomputable def F_X14_find_b96 (k6 : Mem → Nat → Nat → Int32 → Int32 → Int32 → Int32 → Int32 → Option Int32) (M : Mem) (v0 : Nat) (v1 : Nat) (v2 : Int32) (v3 : Int32) (v4 : Int32) (v5 : Int32) (v6 : Int32) : Option Int32 :=
  (vg M v0 15).bind fun _ =>
  (F_X14_four M v0 v6).bind fun z2 =>
  let v6_3 : Int32 := (v6 + z2)
  k6 M v0 v1 v2 v3 v4 v5 v6_3
noncomputable def F_X14_find_b87 (k6 : Mem → Nat → Nat → Int32 → Int32 → Int32 → Int32 → Int32 → Option Int32) (M : Mem) (v0 : Nat) (v1 : Nat) (v2 : Int32) (v3 : Int32) (v4 : Int32) (v5 : Int32) (v6 : Int32) (v7 : Int32) : Option Int32 :=
  if v7 = 0 then
    F_X14_find_b96 k6 M v0 v1 v2 v3 v4 v5 v6
  else
    F_X14_find_b96 k6 M v0 v1 v2 v3 v4 v6 v6
noncomputable def F_X14_find_b79 (k6 : Mem → Nat → Nat → Int32 → Int32 → Int32 → Int32 → Int32 → Option Int32) (k39 : Mem → Nat → Nat → Int32 → Int32 → Int32 → Int32 → Int32 → Int32 → Int32 → Option Int32) (M : Mem) (s0 : Int32) (v0 : Nat) (v1 : Nat) (v2 : Int32) (v3 : Int32) (v4 : Int32) (v5 : Int32) (v6 : Int32) (v8 : Int32) : Option Int32 :=
  let v8_4 : Int32 := v8 + (1 : Int32)
  k39 M v0 v1 v2 v3 v4 v5 v6 s0 v8_4
noncomputable def F_X14_find_b39_st (k6 : Mem → Nat → Nat → Int32 → Int32 → Int32 → Int32 → Int32 → Option Int32) (k39 : Mem → Nat → Nat → Int32 → Int32 → Int32 → Int32 → Int32 → Int32 → Int32 → Option Int32) (M : Mem) (v0 : Nat) (v1 : Nat) (v2 : Int32) (v3 : Int32) (v4 : Int32) (v5 : Int32) (v6 : Int32) (v7 : Int32) (v8 : Int32) : Option Int32 :=
  if v8 < v3 then
    if v7 = 0 then
      F_X14_find_b87 k6 M v0 v1 v2 v3 v4 v5 v6 v7
    else
      (gr M v0 960).bind fun t5 =>
      (gr M t5 1024).bind fun t6 =>
      (ab M t6 ((v6 + (5 : Int32)) + v8)).bind fun t7 =>
      (ab M v1 (v2 + v8)).bind fun t8 =>
      if t7 = t8 then
        F_X14_find_b79 k6 k39 M (1 : Int32) v0 v1 v2 v3 v4 v5 v6 v8
      else
        F_X14_find_b79 k6 k39 M (0 : Int32) v0 v1 v2 v3 v4 v5 v6 v8
  else
    F_X14_find_b87 k6 M v0 v1 v2 v3 v4 v5 v6 v7
noncomputable def F_X14_find_b39 (k6 : Mem → Nat → Nat → Int32 → Int32 → Int32 → Int32 → Int32 → Option Int32) (n : Nat) : Mem → Nat → Nat → Int32 → Int32 → Int32 → Int32 → Int32 → Int32 → Int32 → Option Int32 :=
  Nat.rec (motive := fun _ => Mem → Nat → Nat → Int32 → Int32 → Int32 → Int32 → Int32 → Int32 → Int32 → Option Int32) (fun _ _ _ _ _ _ _ _ _ _ => none) (fun _ ih => F_X14_find_b39_st k6 ih) n
noncomputable def F_X14_find_b34 (k6 : Mem → Nat → Nat → Int32 → Int32 → Int32 → Int32 → Int32 → Option Int32) (M : Mem) (s0 : Int32) (v0 : Nat) (v1 : Nat) (v2 : Int32) (v3 : Int32) (v4 : Int32) (v5 : Int32) (v6 : Int32) : Option Int32 :=
  F_X14_find_b39 k6 xN M v0 v1 v2 v3 v4 v5 v6 s0 (0 : Int32)
noncomputable def F_X14_find_b6_st (k6 : Mem → Nat → Nat → Int32 → Int32 → Int32 → Int32 → Int32 → Option Int32) (M : Mem) (v0 : Nat) (v1 : Nat) (v2 : Int32) (v3 : Int32) (v4 : Int32) (v5 : Int32) (v6 : Int32) : Option Int32 :=
  if v6 < v4 then
    (gr M v0 960).bind fun t9 =>
    (gr M t9 1024).bind fun t10 =>
    (ab M t10 (v6 + (4 : Int32))).bind fun t11 =>
    if t11 = v3 then
      F_X14_find_b34 k6 M (1 : Int32) v0 v1 v2 v3 v4 v5 v6
    else
      F_X14_find_b34 k6 M (0 : Int32) v0 v1 v2 v3 v4 v5 v6
  else
    some v5
noncomputable def F_X14_find_b6  (n : Nat) : Mem → Nat → Nat → Int32 → Int32 → Int32 → Int32 → Int32 → Option Int32 :=
  Nat.rec (motive := fun _ => Mem → Nat → Nat → Int32 → Int32 → Int32 → Int32 → Int32 → Option Int32) (fun _ _ _ _ _ _ _ _ => none) (fun _ ih => F_X14_find_b6_st ih) n
noncomputable def F_X14_find (M : Mem) (v0 : Nat) (v1 : Nat) (v2 : Int32) (v3 : Int32) (v4 : Int32) : Option Int32 :=
  F_X14_find_b6  xN M v0 v1 v2 v3 v4 (-1 : Int32) (0 : Int32)
noncomputable def F_X14_read (M : Mem) (v0 : Nat) (v1 : Nat) (v2 : Int32) (v3 : Nat) : Option ((Int32 × Mem) ⊕ (Nat × Mem)) :=
  (gr M v0 960).bind fun t1 =>
  (gi M t1 1025).bind fun t2 =>
  (vg M v0 15).bind fun _ =>
  (F_X14_find M v0 v1 (0 : Int32) v2 t2).bind fun z4 =>
  if z4 < 0 then
    some (.inl ((-1 : Int32), M))
  else
    (gr M v0 960).bind fun t5 =>
    (gr M t5 1024).bind fun t6 =>
    (vg M v0 15).bind fun _ =>
    (F_X14_four M v0 z4).bind fun z8 =>
    (vg M v3 14).bind fun _ =>
    tb (F_X13_read M v3 t6 ((z4 + (5 : Int32)) + v2) ((z4 + z8) - (8 : Int32))) fun z10 =>
    some (.inl (z10.1, z10.2))
noncomputable def F_X0_open_b45  (M : Mem) (s0 : Int32) : Option ((Int32 × Mem) ⊕ (Nat × Mem)) :=
  some (.inl (s0, M))
noncomputable def F_X0_open (M : Mem) (v0 : Nat) : Option ((Int32 × Mem) ⊕ (Nat × Mem)) :=
  (gi M v0 97).bind fun t1 =>
  if t1 = 0 then
    (vg M v0 1).bind fun _ =>
    (F_X0_used M v0).bind fun z3 =>
    (gr z3.2 v0 79).bind fun t4 =>
    (gr z3.2 v0 64).bind fun t5 =>
    (gr z3.2 v0 78).bind fun t6 =>
    (vg z3.2 t4 15).bind fun _ =>
    tb (F_X14_read z3.2 t4 t5 z3.1 t6) fun z8 =>
    if z8.1 < 0 then
      F_X0_open_b45  z8.2 (-14 : Int32)
    else
      (vg z8.2 v0 1).bind fun _ =>
      (F_X0_readGrid z8.2 v0).bind fun z10 =>
      F_X0_open_b45  z10.2 z10.1
  else
    some (.inl ((-13 : Int32), M))
noncomputable def F_X0_logged (M : Mem) (v0 : Nat) : Option Int32 :=
  (gr M v0 79).bind fun t1 =>
  (vg M t1 15).bind fun _ =>
  (F_X14_size M t1).bind fun z3 =>
  some z3
noncomputable def F_X14_poke_b15  (M : Mem) : Option (Int32 × Mem) :=
  some ((0 : Int32), M)
noncomputable def F_X14_poke (M : Mem) (v0 : Nat) (v1 : Int32) (v2 : Int32) : Option (Int32 × Mem) :=
  if v1 < 0 then
    F_X14_poke_b15  M
  else
    (gr M v0 960).bind fun t1 =>
    (gi M t1 1025).bind fun t2 =>
    if v1 < t2 then
      (gr M v0 960).bind fun t3 =>
      (gr M t3 1024).bind fun t4 =>
      (ab M t4 v1).bind fun t5 =>
      (sb M t4 v1 (j_i2b (t5 ^^^ (j_i2b v2)))).bind fun M6 =>
      some ((1 : Int32), M6)
    else
      F_X14_poke_b15  M
noncomputable def F_X0_poke_b28  (M : Mem) (s0 : Int32) : Option (Int32 × Mem) :=
  some ((s0 &&& 1), M)
noncomputable def F_X0_poke_b27  (M : Mem) : Option (Int32 × Mem) :=
  F_X0_poke_b28  M (0 : Int32)
noncomputable def F_X0_poke (M : Mem) (v0 : Nat) (v1 : Int32) (v2 : Int32) : Option (Int32 × Mem) :=
  (gi M v0 97).bind fun t1 =>
  if t1 = 0 then
    F_X0_poke_b27  M
  else
    (gr M v0 79).bind fun t2 =>
    (vg M t2 15).bind fun _ =>
    (F_X14_poke M t2 v1 (v2 &&& (255 : Int32))).bind fun z4 =>
    if z4.1 = 0 then
      F_X0_poke_b27  z4.2
    else
      F_X0_poke_b28  z4.2 (1 : Int32)
noncomputable def F_X14_crash_b37  (M : Mem) : Option Mem :=
  some M
noncomputable def F_X14_crash (M : Mem) (v0 : Nat) (v1 : Int32) : Option Mem :=
  (gr M v0 960).bind fun t1 =>
  (gi M t1 1025).bind fun t2 =>
  if 0 < t2 then
    (gr M v0 960).bind fun t3 =>
    (gr M v0 960).bind fun t4 =>
    (gi M t4 1025).bind fun t5 =>
    (gi M v0 962).bind fun t6 =>
    (F_J7_min (t5.toInt64) (t6.toInt64 + v1.toInt64)).bind fun z7 =>
    (pi M t3 1025 (z7.toInt32)).bind fun M8 =>
    F_X14_crash_b37  M8
  else
    F_X14_crash_b37  M
noncomputable def F_X2_clear_b2_st (k2 : Mem → Nat → Int32 → Option Mem) (M : Mem) (v0 : Nat) (v1 : Int32) : Option Mem :=
  (gi M v0 193).bind fun t1 =>
  if t1 < v1 then
    some M
  else
    (gr M v0 192).bind fun t2 =>
    (sr M t2 v1 0).bind fun M3 =>
    let v1_4 : Int32 := v1 + (1 : Int32)
    k2 M3 v0 v1_4
noncomputable def F_X2_clear_b2  (n : Nat) : Mem → Nat → Int32 → Option Mem :=
  Nat.rec (motive := fun _ => Mem → Nat → Int32 → Option Mem) (fun _ _ _ => none) (fun _ ih => F_X2_clear_b2_st ih) n
noncomputable def F_X2_clear (M : Mem) (v0 : Nat) : Option Mem :=
  F_X2_clear_b2  xN M v0 (1 : Int32)
noncomputable def F_X11_clear_b2_st (k2 : Mem → Nat → Int32 → Option Mem) (M : Mem) (v0 : Nat) (v1 : Int32) : Option Mem :=
  (gi M v0 771).bind fun t1 =>
  if t1 < v1 then
    some M
  else
    (gr M v0 770).bind fun t2 =>
    (sr M t2 v1 0).bind fun M3 =>
    let v1_4 : Int32 := v1 + (1 : Int32)
    k2 M3 v0 v1_4
noncomputable def F_X11_clear_b2  (n : Nat) : Mem → Nat → Int32 → Option Mem :=
  Nat.rec (motive := fun _ => Mem → Nat → Int32 → Option Mem) (fun _ _ _ => none) (fun _ ih => F_X11_clear_b2_st ih) n
noncomputable def F_X11_clear (M : Mem) (v0 : Nat) : Option Mem :=
  F_X11_clear_b2  xN M v0 (1 : Int32)
noncomputable def F_X0_crash_b11  (M : Mem) : Option (Int32 × Mem) :=
  some ((0 : Int32), M)
noncomputable def F_X0_crash_b50_st (k50 : Mem → Nat → Int32 → Option (Int32 × Mem)) (M : Mem) (v0 : Nat) (v2 : Int32) : Option (Int32 × Mem) :=
  if v2 < (8 : Int32) then
    (gr M v0 80).bind fun t1 =>
    (sr M t1 v2 0).bind fun M2 =>
    let v2_3 : Int32 := v2 + (1 : Int32)
    k50 M2 v0 v2_3
  else
    (pi M v0 85 (0 : Int32)).bind fun M4 =>
    (pi M4 v0 87 (0 : Int32)).bind fun M5 =>
    (gr M5 v0 92).bind fun t6 =>
    (pi M5 t6 1025 (0 : Int32)).bind fun M7 =>
    (pi M7 v0 94 (0 : Int32)).bind fun M8 =>
    (pi M8 v0 95 (-1 : Int32)).bind fun M9 =>
    (pi M9 v0 96 (0 : Int32)).bind fun M10 =>
    (pi M10 v0 91 (0 : Int32)).bind fun M11 =>
    some ((1 : Int32), M11)
noncomputable def F_X0_crash_b50  (n : Nat) : Mem → Nat → Int32 → Option (Int32 × Mem) :=
  Nat.rec (motive := fun _ => Mem → Nat → Int32 → Option (Int32 × Mem)) (fun _ _ _ => none) (fun _ ih => F_X0_crash_b50_st ih) n
noncomputable def F_X0_crash (M : Mem) (v0 : Nat) (v1 : Int32) : Option (Int32 × Mem) :=
  (gi M v0 97).bind fun t12 =>
  if t12 = 0 then
    if v1 < 0 then
      F_X0_crash_b11  M
    else
      (pi M v0 97 (1 : Int32)).bind fun M13 =>
      (gr M13 v0 79).bind fun t14 =>
      (vg M13 t14 15).bind fun _ =>
      (F_X14_crash M13 t14 v1).bind fun z16 =>
      (gr z16 v0 68).bind fun t17 =>
      (vg z16 t17 3).bind fun _ =>
      (F_X2_clear z16 t17).bind fun z19 =>
      (gr z19 v0 77).bind fun t20 =>
      (vg z19 t20 12).bind fun _ =>
      (F_X11_clear z19 t20).bind fun z22 =>
      (gr z22 v0 70).bind fun t23 =>
      (vg z22 t23 5).bind fun _ =>
      (F_X4_cut z22 t23 (0 : Int32)).bind fun z25 =>
      F_X0_crash_b50  xN z25 v0 (0 : Int32)
  else
    F_X0_crash_b11  M
noncomputable def F_X14_behind_b40  (M : Mem) : Option Int32 :=
  some (-1 : Int32)
noncomputable def F_X14_behind_b44_st (k44 : Mem → Nat → Int32 → Int32 → Int32 → Option Int32) (M : Mem) (v0 : Nat) (v1 : Int32) (v2 : Int32) (v3 : Int32) : Option Int32 :=
  if v3 < (v1 + v2) then
    (gr M v0 960).bind fun t1 =>
    (gr M t1 1024).bind fun t2 =>
    (ab M t2 v3).bind fun t3 =>
    (gr M v0 961).bind fun t4 =>
    (gr M t4 1024).bind fun t5 =>
    (ab M t5 v3).bind fun t6 =>
    if t3 = t6 then
      let v3_7 : Int32 := v3 + (1 : Int32)
      k44 M v0 v1 v2 v3_7
    else
      some (-1 : Int32)
  else
    some (v1 + v2)
noncomputable def F_X14_behind_b44  (n : Nat) : Mem → Nat → Int32 → Int32 → Int32 → Option Int32 :=
  Nat.rec (motive := fun _ => Mem → Nat → Int32 → Int32 → Int32 → Option Int32) (fun _ _ _ _ _ => none) (fun _ ih => F_X14_behind_b44_st ih) n
noncomputable def F_X14_behind (M : Mem) (v0 : Nat) (v1 : Int32) : Option Int32 :=
  (gr M v0 960).bind fun t8 =>
  (gi M t8 1025).bind fun t9 =>
  if t9 < (v1 + (4 : Int32)) then
    some (-1 : Int32)
  else
    (vg M v0 15).bind fun _ =>
    (F_X14_four M v0 v1).bind fun z11 =>
    if z11 < (13 : Int32) then
      F_X14_behind_b40  M
    else
      (gr M v0 960).bind fun t12 =>
      (gi M t12 1025).bind fun t13 =>
      if (t13 - v1) < z11 then
        F_X14_behind_b40  M
      else
        F_X14_behind_b44  xN M v0 v1 z11 v1
noncomputable def F_X14_open_b51 (k10 : Mem → Nat → Int32 → Int32 → Int32 → Option (Int32 × Mem)) (M : Mem) (v0 : Nat) (v2 : Int32) (v3 : Int32) : Option (Int32 × Mem) :=
  (vg M v0 15).bind fun _ =>
  (F_X14_behind M v0 v3).bind fun z2 =>
  k10 M v0 v3 v2 z2
noncomputable def F_X14_open_b10_st (k10 : Mem → Nat → Int32 → Int32 → Int32 → Option (Int32 × Mem)) (M : Mem) (v0 : Nat) (v1 : Int32) (v2 : Int32) (v3 : Int32) : Option (Int32 × Mem) :=
  if v3 < 0 then
    (gr M v0 960).bind fun t3 =>
    (pi M t3 1025 v1).bind fun M4 =>
    some (v2, M4)
  else
    (pi M v0 962 v1).bind fun M5 =>
    (gr M5 v0 960).bind fun t6 =>
    (gr M5 t6 1024).bind fun t7 =>
    (gr M5 v0 960).bind fun t8 =>
    (gr M5 t8 1024).bind fun t9 =>
    (ab M5 t9 (v1 + (4 : Int32))).bind fun t10 =>
    (vg M5 v0 15).bind fun _ =>
    (F_X14_find M5 v0 t7 (v1 + (5 : Int32)) t10 v1).bind fun z12 =>
    if z12 < 0 then
      let v2_13 : Int32 := v2 + (1 : Int32)
      F_X14_open_b51 k10 M5 v0 v2_13 v3
    else
      F_X14_open_b51 k10 M5 v0 v2 v3
noncomputable def F_X14_open_b10  (n : Nat) : Mem → Nat → Int32 → Int32 → Int32 → Option (Int32 × Mem) :=
  Nat.rec (motive := fun _ => Mem → Nat → Int32 → Int32 → Int32 → Option (Int32 × Mem)) (fun _ _ _ _ _ => none) (fun _ ih => F_X14_open_b10_st ih) n
noncomputable def F_X14_open (M : Mem) (v0 : Nat) : Option (Int32 × Mem) :=
  (vg M v0 15).bind fun _ =>
  (F_X14_behind M v0 (0 : Int32)).bind fun z15 =>
  F_X14_open_b10  xN M v0 (0 : Int32) (0 : Int32) z15
noncomputable def F_X0_reopen (M : Mem) (v0 : Nat) : Option (Int32 × Mem) :=
  (gi M v0 97).bind fun t1 =>
  if t1 = 0 then
    some ((-13 : Int32), M)
  else
    (gi M v0 98).bind fun t2 =>
    if t2 = (10 : Int32) then
      some ((-12 : Int32), M)
    else
      (gi M v0 98).bind fun t3 =>
      (pi M v0 98 (t3 + (1 : Int32))).bind fun M4 =>
      (pi M4 v0 97 (0 : Int32)).bind fun M5 =>
      (gr M5 v0 79).bind fun t6 =>
      (vg M5 t6 15).bind fun _ =>
      (F_X14_open M5 t6).bind fun z8 =>
      some (z8.1, z8.2)
noncomputable def F_X17_init (M : Mem) (v0 : Nat) : Option Unit :=
  (ng M v0).bind fun _ =>
  some ()
noncomputable def F_X18_init (M : Mem) (v0 : Nat) : Option Mem :=
  (ng M v0).bind fun _ =>
  (mk M 1005 (40 : Int32)).bind fun M3 =>
  (pr M3 v0 1216 (m_nx M)).bind fun M4 =>
  some M4
noncomputable def F_X16_greats_b7_st (k7 : Mem → Int32 → Nat → Int32 → Option (Nat × Mem)) (M : Mem) (v0 : Int32) (v1 : Nat) (v2 : Int32) : Option (Nat × Mem) :=
  if v2 < v0 then
    let t2 : Nat := m_nx M
    let M1 : Mem := mo M 19
    (ng M1 t2).bind fun _ =>
    (F_X18_init M1 t2).bind fun z4 =>
    (sr z4 v1 v2 t2).bind fun M5 =>
    let v2_6 : Int32 := v2 + (1 : Int32)
    k7 M5 v0 v1 v2_6
  else
    some (v1, M)
noncomputable def F_X16_greats_b7  (n : Nat) : Mem → Int32 → Nat → Int32 → Option (Nat × Mem) :=
  Nat.rec (motive := fun _ => Mem → Int32 → Nat → Int32 → Option (Nat × Mem)) (fun _ _ _ _ => none) (fun _ ih => F_X16_greats_b7_st ih) n
noncomputable def F_X16_greats (M : Mem) (v0 : Int32) : Option (Nat × Mem) :=
  (mk M 1016 v0).bind fun M7 =>
  let v1_8 : Nat := (m_nx M)
  F_X16_greats_b7  xN M7 v0 v1_8 (0 : Int32)
noncomputable def F_X19_init (M : Mem) (v0 : Nat) : Option Mem :=
  (ng M v0).bind fun _ =>
  (mk M 1002 (30000 : Int32)).bind fun M3 =>
  (pr M3 v0 1280 (m_nx M)).bind fun M4 =>
  some M4
noncomputable def F_X16_init (M : Mem) (v0 : Nat) : Option Mem :=
  (ng M v0).bind fun _ =>
  (mk M 1002 (16000 : Int32)).bind fun M3 =>
  (pr M3 v0 1088 (m_nx M)).bind fun M4 =>
  (pi M4 v0 1091 (-1 : Int32)).bind fun M5 =>
  (mk M5 1014 (401 : Int32)).bind fun M6 =>
  (pr M6 v0 1092 (m_nx M5)).bind fun M7 =>
  (mk M7 1005 (4 : Int32)).bind fun M8 =>
  (pr M8 v0 1096 (m_nx M7)).bind fun M9 =>
  (mk M9 1005 (4 : Int32)).bind fun M10 =>
  (pr M10 v0 1097 (m_nx M9)).bind fun M11 =>
  (mk M11 1006 (100000 : Int32)).bind fun M12 =>
  (pr M12 v0 1100 (m_nx M11)).bind fun M13 =>
  (mk M13 1006 (100000 : Int32)).bind fun M14 =>
  (pr M14 v0 1101 (m_nx M13)).bind fun M15 =>
  let t17 : Nat := m_nx M15
  let M16 : Mem := mo M15 18
  (ng M16 t17).bind fun _ =>
  (F_X17_init M16 t17).bind fun z19 =>
  (pr M16 v0 1103 t17).bind fun M20 =>
  (mk M20 1001 (100000 : Int32)).bind fun M21 =>
  (pr M21 v0 1104 (m_nx M20)).bind fun M22 =>
  let t24 : Nat := m_nx M22
  let M23 : Mem := mo M22 67
  (ng M23 t24).bind fun _ =>
  (F_J6_init_2 M23 t24).bind fun z26 =>
  (pr z26 v0 1105 t24).bind fun M27 =>
  (mk M27 1005 (8 : Int32)).bind fun M28 =>
  (pr M28 v0 1107 (m_nx M27)).bind fun M29 =>
  (mk M29 1015 (42 : Int32)).bind fun M30 =>
  (pr M30 v0 1108 (m_nx M29)).bind fun M31 =>
  (mk M31 1006 (16384 : Int32)).bind fun M32 =>
  (pr M32 v0 1110 (m_nx M31)).bind fun M33 =>
  (mk M33 1006 (252 : Int32)).bind fun M34 =>
  (pr M34 v0 1112 (m_nx M33)).bind fun M35 =>
  (mk M35 1005 (4 : Int32)).bind fun M36 =>
  (pr M36 v0 1114 (m_nx M35)).bind fun M37 =>
  (mk M37 1005 (4 : Int32)).bind fun M38 =>
  (pr M38 v0 1116 (m_nx M37)).bind fun M39 =>
  (pi M39 v0 1117 (-1 : Int32)).bind fun M40 =>
  (mk M40 1005 (100000 : Int32)).bind fun M41 =>
  (pr M41 v0 1118 (m_nx M40)).bind fun M42 =>
  (mk M42 1005 (100000 : Int32)).bind fun M43 =>
  (pr M43 v0 1119 (m_nx M42)).bind fun M44 =>
  (F_X16_greats M44 (110 : Int32)).bind fun z45 =>
  (pr z45.2 v0 1120 z45.1).bind fun M46 =>
  (F_X16_greats M46 (8 : Int32)).bind fun z47 =>
  (pr z47.2 v0 1121 z47.1).bind fun M48 =>
  (mk M48 1017 (41 : Int32)).bind fun M49 =>
  (pr M49 v0 1122 (m_nx M48)).bind fun M50 =>
  let t52 : Nat := m_nx M50
  let M51 : Mem := mo M50 20
  (ng M51 t52).bind fun _ =>
  (F_X19_init M51 t52).bind fun z54 =>
  (pr z54 v0 1125 t52).bind fun M55 =>
  let t57 : Nat := m_nx M55
  let M56 : Mem := mo M55 20
  (ng M56 t57).bind fun _ =>
  (F_X19_init M56 t57).bind fun z59 =>
  (pr z59 v0 1126 t57).bind fun M60 =>
  (mk M60 1002 (60000 : Int32)).bind fun M61 =>
  (pr M61 v0 1129 (m_nx M60)).bind fun M62 =>
  (mk M62 1002 (60000 : Int32)).bind fun M63 =>
  (pr M63 v0 1130 (m_nx M62)).bind fun M64 =>
  let t66 : Nat := m_nx M64
  let M65 : Mem := mo M64 67
  (ng M65 t66).bind fun _ =>
  (F_J6_init_2 M65 t66).bind fun z68 =>
  (pr z68 v0 1133 t66).bind fun M69 =>
  let t71 : Nat := m_nx M69
  let M70 : Mem := mo M69 67
  (ng M70 t71).bind fun _ =>
  (F_J6_init_2 M70 t71).bind fun z73 =>
  (pr z73 v0 1134 t71).bind fun M74 =>
  (mk M74 1002 (30000 : Int32)).bind fun M75 =>
  (pr M75 v0 1135 (m_nx M74)).bind fun M76 =>
  some M76
noncomputable def F_X16_word_b2_st (k2 : Mem → Nat → Int32 → Int32 → Option Mem) (M : Mem) (v0 : Nat) (v1 : Int32) (v2 : Int32) : Option Mem :=
  if v2 < (4 : Int32) then
    (gr M v0 1088).bind fun t1 =>
    (gi M v0 1089).bind fun t2 =>
    (sb M t1 t2 (j_i2b (j_ishr v1 ((24 : Int32) - ((8 : Int32) * v2))))).bind fun M3 =>
    (gi M3 v0 1089).bind fun t4 =>
    (pi M3 v0 1089 (t4 + (1 : Int32))).bind fun M5 =>
    let v2_6 : Int32 := v2 + (1 : Int32)
    k2 M5 v0 v1 v2_6
  else
    some M
noncomputable def F_X16_word_b2  (n : Nat) : Mem → Nat → Int32 → Int32 → Option Mem :=
  Nat.rec (motive := fun _ => Mem → Nat → Int32 → Int32 → Option Mem) (fun _ _ _ _ => none) (fun _ ih => F_X16_word_b2_st ih) n
noncomputable def F_X16_word (M : Mem) (v0 : Nat) (v1 : Int32) : Option Mem :=
  F_X16_word_b2  xN M v0 v1 (0 : Int32)
noncomputable def F_X16_feed_b25  (M : Mem) : Option (Int32 × Mem) :=
  some ((-1 : Int32), M)
noncomputable def F_X16_feed (M : Mem) (v0 : Nat) (v1 : Int32) (v2 : Int32) (v3 : Int32) (v4 : Int32) (v5 : Int32) : Option (Int32 × Mem) :=
  (gi M v0 1089).bind fun t1 =>
  if (16000 : Int32) < (t1 + (20 : Int32)) then
    F_X16_feed_b25  M
  else
    (gi M v0 1090).bind fun t2 =>
    if (65536 : Int32) < (t2 + (20 : Int32)) then
      F_X16_feed_b25  M
    else
      (vg M v0 17).bind fun _ =>
      (F_X16_word M v0 v1).bind fun z4 =>
      (vg z4 v0 17).bind fun _ =>
      (F_X16_word z4 v0 v2).bind fun z6 =>
      (vg z6 v0 17).bind fun _ =>
      (F_X16_word z6 v0 v3).bind fun z8 =>
      (vg z8 v0 17).bind fun _ =>
      (F_X16_word z8 v0 v4).bind fun z10 =>
      (vg z10 v0 17).bind fun _ =>
      (F_X16_word z10 v0 v5).bind fun z12 =>
      (gi z12 v0 1090).bind fun t13 =>
      (pi z12 v0 1090 (t13 + (20 : Int32))).bind fun M14 =>
      (gi M14 v0 1089).bind fun t15 =>
      some (t15, M14)
noncomputable def F_X16_end_b12  (M : Mem) : Option (Int32 × Mem) :=
  some ((-1 : Int32), M)
noncomputable def F_X16_end (M : Mem) (v0 : Nat) (v1 : Int32) : Option (Int32 × Mem) :=
  if v1 < 0 then
    F_X16_end_b12  M
  else
    (gi M v0 1089).bind fun t1 =>
    if t1 < v1 then
      F_X16_end_b12  M
    else
      (pi M v0 1089 v1).bind fun M2 =>
      some (v1, M2)
noncomputable def F_X16_place (M : Mem) (v0 : Nat) : Option Int32 :=
  (gi M v0 1091).bind fun t1 =>
  some t1
noncomputable def F_X16_axis_b19  (M : Mem) : Option (Int32 × Mem) :=
  some ((-1 : Int32), M)
noncomputable def F_X16_axis (M : Mem) (v0 : Nat) (v1 : Int32) : Option (Int32 × Mem) :=
  if v1 < 0 then
    F_X16_axis_b19  M
  else
    if (4096 : Int32) < v1 then
      F_X16_axis_b19  M
    else
      (gi M v0 1098).bind fun t1 =>
      if t1 = (4 : Int32) then
        F_X16_axis_b19  M
      else
        (gr M v0 1096).bind fun t2 =>
        (gi M v0 1098).bind fun t3 =>
        (si M t2 t3 v1).bind fun M4 =>
        (gi M4 v0 1098).bind fun t5 =>
        (pi M4 v0 1098 (t5 + (1 : Int32))).bind fun M6 =>
        (gi M6 v0 1098).bind fun t7 =>
        some (t7, M6)
noncomputable def F_X16_at (M : Mem) (v0 : Nat) (v1 : Int32) : Option (Int32 × Mem) :=
  (gi M v0 1099).bind fun t1 =>
  if t1 = (4 : Int32) then
    some ((-1 : Int32), M)
  else
    (gr M v0 1097).bind fun t2 =>
    (gi M v0 1099).bind fun t3 =>
    (si M t2 t3 v1).bind fun M4 =>
    (gi M4 v0 1099).bind fun t5 =>
    (pi M4 v0 1099 (t5 + (1 : Int32))).bind fun M6 =>
    (gi M6 v0 1099).bind fun t7 =>
    some (t7, M6)
noncomputable def F_X16_usedSizes (M : Mem) (v0 : Nat) : Option (Int32 × Mem) :=
  (gi M v0 1098).bind fun t1 =>
  (pi M v0 1098 (0 : Int32)).bind fun M2 =>
  some (t1, M2)
noncomputable def F_X16_isLane_b15  (s0 : Int32) : Option Int32 :=
  some (s0 &&& 1)
noncomputable def F_X16_isLane_b14   : Option Int32 :=
  F_X16_isLane_b15  (0 : Int32)
noncomputable def F_X16_isLane (v0 : Int32) : Option Int32 :=
  if v0 < 0 then
    F_X16_isLane_b14  
  else
    if (7 : Int32) < v0 then
      F_X16_isLane_b14  
    else
      F_X16_isLane_b15  (1 : Int32)
noncomputable def F_X16_count_b5_st (k5 : Mem → Nat → Int32 → Int64 → Int32 → Option Int64) (M : Mem) (v0 : Nat) (v1 : Int32) (v2 : Int64) (v4 : Int32) : Option Int64 :=
  if v4 < v1 then
    (ai M v0 v4).bind fun t1 =>
    let v2_2 : Int64 := (v2 * t1.toInt64)
    let v4_3 : Int32 := v4 + (1 : Int32)
    k5 M v0 v1 v2_2 v4_3
  else
    some v2
noncomputable def F_X16_count_b5  (n : Nat) : Mem → Nat → Int32 → Int64 → Int32 → Option Int64 :=
  Nat.rec (motive := fun _ => Mem → Nat → Int32 → Int64 → Int32 → Option Int64) (fun _ _ _ _ _ => none) (fun _ ih => F_X16_count_b5_st ih) n
noncomputable def F_X16_count (M : Mem) (v0 : Nat) (v1 : Int32) : Option Int64 :=
  F_X16_count_b5  xN M v0 v1 (1 : Int64) (0 : Int32)
noncomputable def F_X16_isRoom_b39  (M : Mem) (s0 : Int32) : Option Int32 :=
  some (s0 &&& 1)
noncomputable def F_X16_isRoom_b38  (M : Mem) : Option Int32 :=
  F_X16_isRoom_b39  M (0 : Int32)
noncomputable def F_X16_isRoom (M : Mem) (v0 : Nat) (v1 : Int64) (v3 : Int32) : Option Int32 :=
  (gi M v0 1093).bind fun t1 =>
  if (400 : Int32) < (t1 + v3) then
    F_X16_isRoom_b38  M
  else
    if (100000 : Int64) < v1 then
      F_X16_isRoom_b38  M
    else
      (gi M v0 1094).bind fun t2 =>
      if (100000 : Int64) < (t2.toInt64 + v1) then
        F_X16_isRoom_b38  M
      else
        F_X16_isRoom_b39  M (1 : Int32)
noncomputable def F_X16_first_b6_st (k6 : Mem → Nat → Int32 → Nat → Int32 → Option (Nat × Mem)) (M : Mem) (v0 : Nat) (v1 : Int32) (v2 : Nat) (v3 : Int32) : Option (Nat × Mem) :=
  if v3 < v1 then
    (ai M v0 v3).bind fun t1 =>
    (si M v2 v3 t1).bind fun M2 =>
    let v3_3 : Int32 := v3 + (1 : Int32)
    k6 M2 v0 v1 v2 v3_3
  else
    some (v2, M)
noncomputable def F_X16_first_b6  (n : Nat) : Mem → Nat → Int32 → Nat → Int32 → Option (Nat × Mem) :=
  Nat.rec (motive := fun _ => Mem → Nat → Int32 → Nat → Int32 → Option (Nat × Mem)) (fun _ _ _ _ _ => none) (fun _ ih => F_X16_first_b6_st ih) n
noncomputable def F_X16_first (M : Mem) (v0 : Nat) (v1 : Int32) : Option (Nat × Mem) :=
  (mk M 1005 v1).bind fun M4 =>
  let v2_5 : Nat := (m_nx M)
  F_X16_first_b6  xN M4 v0 v1 v2_5 (0 : Int32)
noncomputable def F_X16_stridesOf_b47 (k12 : Mem → Nat → Nat → Int32 → Int32 → Option (Nat × Mem)) (M : Mem) (s0 : Int32) (v0 : Nat) (v1 : Nat) (v3 : Int32) : Option (Nat × Mem) :=
  let v3_1 : Int32 := v3 + (-1 : Int32)
  k12 M v0 v1 s0 v3_1
noncomputable def F_X16_stridesOf_b12_st (k12 : Mem → Nat → Nat → Int32 → Int32 → Option (Nat × Mem)) (M : Mem) (v0 : Nat) (v1 : Nat) (v2 : Int32) (v3 : Int32) : Option (Nat × Mem) :=
  if v3 < 0 then
    some (v1, M)
  else
    (si M v1 v3 v2).bind fun M2 =>
    (ai M2 v0 v3).bind fun t3 =>
    (F_J7_max t3 (1 : Int32)).bind fun z4 =>
    if (100000 : Int32) < (v2 * z4) then
      F_X16_stridesOf_b47 k12 M2 (1 : Int32) v0 v1 v3
    else
      (ai M2 v0 v3).bind fun t5 =>
      (F_J7_max t5 (1 : Int32)).bind fun z6 =>
      F_X16_stridesOf_b47 k12 M2 (v2 * z6) v0 v1 v3
noncomputable def F_X16_stridesOf_b12  (n : Nat) : Mem → Nat → Nat → Int32 → Int32 → Option (Nat × Mem) :=
  Nat.rec (motive := fun _ => Mem → Nat → Nat → Int32 → Int32 → Option (Nat × Mem)) (fun _ _ _ _ _ => none) (fun _ ih => F_X16_stridesOf_b12_st ih) n
noncomputable def F_X16_stridesOf (M : Mem) (v0 : Nat) : Option (Nat × Mem) :=
  (an M v0).bind fun t7 =>
  (mk M 1005 t7).bind fun M8 =>
  let v1_9 : Nat := (m_nx M)
  (an M8 v0).bind fun t10 =>
  let v3_11 : Int32 := (t10 - (1 : Int32))
  F_X16_stridesOf_b12  xN M8 v0 v1_9 (1 : Int32) v3_11
noncomputable def F_X22_init (M : Mem) (v0 : Nat) (v1 : Int32) (v2 : Nat) (v3 : Nat) (v4 : Int32) (v5 : Nat) (v6 : Int32) : Option Mem :=
  (ng M v0).bind fun _ =>
  (pi M v0 1472 v1).bind fun M3 =>
  (pr M3 v0 1473 v2).bind fun M4 =>
  (pr M4 v0 1474 v3).bind fun M5 =>
  (pi M5 v0 1475 v4).bind fun M6 =>
  (pr M6 v0 1476 v5).bind fun M7 =>
  (pi M7 v0 1477 v6).bind fun M8 =>
  some M8
noncomputable def F_X16_numbered (M : Mem) (v0 : Nat) (v1 : Nat) : Option (Int32 × Mem) :=
  (gi M v0 1093).bind fun t1 =>
  (pi M v0 1093 (t1 + (1 : Int32))).bind fun M2 =>
  (gr M2 v0 1092).bind fun t3 =>
  (gi M2 v0 1093).bind fun t4 =>
  (sr M2 t3 t4 v1).bind fun M5 =>
  (gi M5 v0 1093).bind fun t6 =>
  some (t6, M5)
noncomputable def F_X16_made_b44  (M : Mem) (v0 : Nat) (v1 : Int32) (v2 : Nat) (v4 : Int32) (v5 : Nat) : Option (Int32 × Mem) :=
  (gi M v0 1094).bind fun t1 =>
  (pi M v0 1094 (t1 + v4)).bind fun M2 =>
  let t4 : Nat := m_nx M2
  let M3 : Mem := mo M2 23
  (F_X16_stridesOf M3 v2).bind fun z5 =>
  (ng z5.2 t4).bind fun _ =>
  (F_X22_init z5.2 t4 v1 v2 z5.1 (0 : Int32) v5 (0 : Int32)).bind fun z7 =>
  (vg z7 v0 17).bind fun _ =>
  (F_X16_numbered z7 v0 t4).bind fun z9 =>
  some (z9.1, z9.2)
noncomputable def F_X16_made_b18_st (k18 : Mem → Nat → Int32 → Nat → Nat → Int32 → Nat → Int32 → Option (Int32 × Mem)) (M : Mem) (v0 : Nat) (v1 : Int32) (v2 : Nat) (v3 : Nat) (v4 : Int32) (v5 : Nat) (v6 : Int32) : Option (Int32 × Mem) :=
  if v6 < v4 then
    if v3 = 6 then
      none
    else
      if v3 = 0 then
        F_X16_made_b44  M v0 v1 v2 v4 v5
      else
        (al M v3 v6).bind fun t10 =>
        (sj M v5 v6 t10).bind fun M11 =>
        let v6_12 : Int32 := v6 + (1 : Int32)
        k18 M11 v0 v1 v2 v3 v4 v5 v6_12
  else
    F_X16_made_b44  M v0 v1 v2 v4 v5
noncomputable def F_X16_made_b18  (n : Nat) : Mem → Nat → Int32 → Nat → Nat → Int32 → Nat → Int32 → Option (Int32 × Mem) :=
  Nat.rec (motive := fun _ => Mem → Nat → Int32 → Nat → Nat → Int32 → Nat → Int32 → Option (Int32 × Mem)) (fun _ _ _ _ _ _ _ _ => none) (fun _ ih => F_X16_made_b18_st ih) n
noncomputable def F_X16_made (M : Mem) (v0 : Nat) (v1 : Int32) (v2 : Nat) (v3 : Nat) : Option (Int32 × Mem) :=
  (an M v2).bind fun t13 =>
  (F_X16_count M v2 t13).bind fun z14 =>
  let v4_15 : Int32 := z14.toInt32
  (mk M 1006 v4_15).bind fun M16 =>
  let v5_17 : Nat := (m_nx M)
  F_X16_made_b18  xN M16 v0 v1 v2 v3 v4_15 v5_17 (0 : Int32)
noncomputable def F_X16_grid (M : Mem) (v0 : Nat) (v1 : Int32) : Option (Int32 × Mem) :=
  (vg M v0 17).bind fun _ =>
  (F_X16_usedSizes M v0).bind fun z2 =>
  (gi z2.2 v0 1095).bind fun t3 =>
  if t3 = 0 then
    (F_X16_isLane v1).bind fun z4 =>
    if z4 = 0 then
      some ((-14 : Int32), z2.2)
    else
      (gr z2.2 v0 1096).bind fun t5 =>
      (F_X16_count z2.2 t5 z2.1).bind fun z6 =>
      (vg z2.2 v0 17).bind fun _ =>
      (F_X16_isRoom z2.2 v0 z6 (1 : Int32)).bind fun z8 =>
      if z8 = 0 then
        some ((-12 : Int32), z2.2)
      else
        (gr z2.2 v0 1096).bind fun t9 =>
        (F_X16_first z2.2 t9 z2.1).bind fun z10 =>
        (vg z10.2 v0 17).bind fun _ =>
        (F_X16_made z10.2 v0 v1 z10.1 0).bind fun z12 =>
        some (z12.1, z12.2)
  else
    some ((-13 : Int32), z2.2)
noncomputable def F_X16_isGrid_b27  (M : Mem) (s0 : Int32) : Option Int32 :=
  some (s0 &&& 1)
noncomputable def F_X16_isGrid_b26  (M : Mem) : Option Int32 :=
  F_X16_isGrid_b27  M (0 : Int32)
noncomputable def F_X16_isGrid (M : Mem) (v0 : Nat) (v1 : Int32) : Option Int32 :=
  if v1 < (1 : Int32) then
    F_X16_isGrid_b26  M
  else
    (gi M v0 1093).bind fun t1 =>
    if t1 < v1 then
      F_X16_isGrid_b26  M
    else
      (gr M v0 1092).bind fun t2 =>
      (ar M t2 v1).bind fun t3 =>
      if t3 = 6 then
        none
      else
        if t3 = 0 then
          F_X16_isGrid_b26  M
        else
          F_X16_isGrid_b27  M (1 : Int32)
noncomputable def F_X22_axes (M : Mem) (v0 : Nat) : Option Int32 :=
  (gr M v0 1473).bind fun t1 =>
  (an M t1).bind fun t2 =>
  some t2
noncomputable def F_X16_spotIn_b51  (M : Mem) : Option Int32 :=
  some (-2 : Int32)
noncomputable def F_X16_spotIn_b18_st (k18 : Mem → Nat → Nat → Int32 → Int32 → Int32 → Option Int32) (M : Mem) (v0 : Nat) (v1 : Nat) (v2 : Int32) (v3 : Int32) (v4 : Int32) : Option Int32 :=
  if v4 < v2 then
    (gr M v0 1097).bind fun t1 =>
    (ai M t1 v4).bind fun t2 =>
    if t2 < 0 then
      F_X16_spotIn_b51  M
    else
      (gr M v0 1097).bind fun t3 =>
      (ai M t3 v4).bind fun t4 =>
      (gr M v1 1473).bind fun t5 =>
      (ai M t5 v4).bind fun t6 =>
      if t4 < t6 then
        (gr M v0 1097).bind fun t7 =>
        (ai M t7 v4).bind fun t8 =>
        (gr M v1 1474).bind fun t9 =>
        (ai M t9 v4).bind fun t10 =>
        let v3_11 : Int32 := (v3 + (t8 * t10))
        let v4_12 : Int32 := v4 + (1 : Int32)
        k18 M v0 v1 v2 v3_11 v4_12
      else
        F_X16_spotIn_b51  M
  else
    some v3
noncomputable def F_X16_spotIn_b18  (n : Nat) : Mem → Nat → Nat → Int32 → Int32 → Int32 → Option Int32 :=
  Nat.rec (motive := fun _ => Mem → Nat → Nat → Int32 → Int32 → Int32 → Option Int32) (fun _ _ _ _ _ _ => none) (fun _ ih => F_X16_spotIn_b18_st ih) n
noncomputable def F_X16_spotIn (M : Mem) (v0 : Nat) (v1 : Nat) (v2 : Int32) : Option Int32 :=
  (vg M v1 23).bind fun _ =>
  (F_X22_axes M v1).bind fun z14 =>
  if v2 = z14 then
    (gi M v1 1475).bind fun t15 =>
    F_X16_spotIn_b18  xN M v0 v1 v2 t15 (0 : Int32)
  else
    some (-1 : Int32)
noncomputable def F_X24_rounded_b175  (s0 : Int64) : Option Int64 :=
  some s0
noncomputable def F_X24_rounded_b152  (v4 : Int32) (v9 : Int32) (v12 : Int64) : Option Int64 :=
  if 0 < v9 then
    F_X24_rounded_b175  ((j_lshl ((v9 - (1 : Int32)).toInt64) (v4 - (1 : Int32))) + v12)
  else
    F_X24_rounded_b175  v12
noncomputable def F_X24_rounded_b146  (v4 : Int32) (v9 : Int32) (v12 : Int64) : Option Int64 :=
  let v12_1 : Int64 := (v12 + (1 : Int64))
  F_X24_rounded_b152  v4 v9 v12_1
noncomputable def F_X24_rounded_b82  (v3 : Int32) (v4 : Int32) (v6 : Int64) (v9 : Int32) (v11 : Int32) : Option Int64 :=
  if (62 : Int32) < v11 then
    some (0 : Int64)
  else
    let v12_2 : Int64 := (j_lushr v6 v11)
    let v14_3 : Int64 := (v6 &&& ((j_lshl (1 : Int64) v11) - (1 : Int64)))
    let v16_4 : Int64 := (j_lshl (1 : Int64) (v11 - (1 : Int32)))
    if v16_4 < v14_3 then
      F_X24_rounded_b146  v4 v9 v12_2
    else
      if v14_3 = v16_4 then
        if v3 = 0 then
          if (v12_2 &&& (1 : Int64)) = (1 : Int64) then
            F_X24_rounded_b146  v4 v9 v12_2
          else
            F_X24_rounded_b152  v4 v9 v12_2
        else
          F_X24_rounded_b146  v4 v9 v12_2
      else
        F_X24_rounded_b152  v4 v9 v12_2
noncomputable def F_X24_rounded_b6_st (k6 : Int32 → Int32 → Int32 → Int64 → Int32 → Option Int64) (v3 : Int32) (v4 : Int32) (v5 : Int32) (v6 : Int64) (v8 : Int32) : Option Int64 :=
  if v6 < (2305843009213693952 : Int64) then
    let v6_5 : Int64 := (j_lshl v6 (1 : Int32))
    let v8_6 : Int32 := v8 + (-1 : Int32)
    k6 v3 v4 v5 v6_5 v8_6
  else
    let v9_7 : Int32 := ((v8 + (61 : Int32)) + v5)
    let v10_8 : Int32 := (((2 : Int32) * v5) + (1 : Int32))
    if v9_7 < v10_8 then
      let v11_9 : Int32 := ((62 : Int32) - v4)
      if 0 < v9_7 then
        F_X24_rounded_b82  v3 v4 v6 v9_7 v11_9
      else
        let v11_10 : Int32 := ((v11_9 + (1 : Int32)) - v9_7)
        F_X24_rounded_b82  v3 v4 v6 v9_7 v11_10
    else
      some (j_lshl (v10_8.toInt64) (v4 - (1 : Int32)))
noncomputable def F_X24_rounded_b6  (n : Nat) : Int32 → Int32 → Int32 → Int64 → Int32 → Option Int64 :=
  Nat.rec (motive := fun _ => Int32 → Int32 → Int32 → Int64 → Int32 → Option Int64) (fun _ _ _ _ _ => none) (fun _ ih => F_X24_rounded_b6_st ih) n
noncomputable def F_X24_rounded (v0 : Int64) (v2 : Int32) (v3 : Int32) (v4 : Int32) (v5 : Int32) : Option Int64 :=
  F_X24_rounded_b6  xN v3 v4 v5 v0 v2
noncomputable def F_X24_wide_b81  (s0 : Int64) (s1 : Int32) (v1 : Int64) : Option Int64 :=
  (F_X24_rounded s0 (s1 - (150 : Int32)) (0 : Int32) (53 : Int32) (1023 : Int32)).bind fun z1 =>
  some (v1 ||| z1)
noncomputable def F_X24_wide_b72  (s0 : Int64) (v1 : Int64) (v3 : Int32) : Option Int64 :=
  if v3 = 0 then
    F_X24_wide_b81  s0 (1 : Int32) v1
  else
    F_X24_wide_b81  s0 v3 v1
noncomputable def F_X24_wide_b57  (v1 : Int64) (v3 : Int32) (v4 : Int64) : Option Int64 :=
  if v3 = 0 then
    F_X24_wide_b72  v4 v1 v3
  else
    F_X24_wide_b72  (v4 ||| (8388608 : Int64)) v1 v3
noncomputable def F_X24_wide_b11  (s0 : Int64) (v0 : Int32) : Option Int64 :=
  let v3_2 : Int32 := ((j_ishr v0 (23 : Int32)) &&& (255 : Int32))
  let v4_3 : Int64 := (v0 &&& (8388607 : Int32)).toInt64
  if v3_2 = (255 : Int32) then
    some ((s0 ||| (9218868437227405312 : Int64)) ||| v4_3)
  else
    if v3_2 = 0 then
      if v4_3 = (0 : Int64) then
        some s0
      else
        F_X24_wide_b57  s0 v3_2 v4_3
    else
      F_X24_wide_b57  s0 v3_2 v4_3
noncomputable def F_X24_wide (v0 : Int32) : Option Int64 :=
  if v0 < 0 then
    F_X24_wide_b11  (-9223372036854775808 : Int64) v0
  else
    F_X24_wide_b11  (0 : Int64) v0
noncomputable def F_X24_isNone_b17  (s0 : Int32) : Option Int32 :=
  some (s0 &&& 1)
noncomputable def F_X24_isNone (v0 : Int64) : Option Int32 :=
  if (9218868437227405312 : Int64) < (v0 &&& (9223372036854775807 : Int64)) then
    F_X24_isNone_b17  (1 : Int32)
  else
    F_X24_isNone_b17  (0 : Int32)
noncomputable def F_X16_hasBits_b65  (s0 : Int32) : Option Int32 :=
  some (s0 &&& 1)
noncomputable def F_X16_hasBits_b60   : Option Int32 :=
  F_X16_hasBits_b65  (1 : Int32)
noncomputable def F_X16_hasBits_b87  (s0 : Int32) : Option Int32 :=
  some (s0 &&& 1)
noncomputable def F_X16_hasBits_b86   : Option Int32 :=
  F_X16_hasBits_b87  (0 : Int32)
noncomputable def F_X16_hasBits_b109  (s0 : Int32) : Option Int32 :=
  some (s0 &&& 1)
noncomputable def F_X16_hasBits_b108   : Option Int32 :=
  F_X16_hasBits_b109  (0 : Int32)
noncomputable def F_X16_hasBits_b129  (s0 : Int32) : Option Int32 :=
  some (s0 &&& 1)
noncomputable def F_X16_hasBits_b128   : Option Int32 :=
  F_X16_hasBits_b129  (0 : Int32)
noncomputable def F_X16_hasBits_b151  (s0 : Int32) : Option Int32 :=
  some (s0 &&& 1)
noncomputable def F_X16_hasBits_b150   : Option Int32 :=
  F_X16_hasBits_b151  (0 : Int32)
noncomputable def F_X16_hasBits_b184  (s0 : Int32) : Option Int32 :=
  some (s0 &&& 1)
noncomputable def F_X16_hasBits_b183   : Option Int32 :=
  F_X16_hasBits_b184  (0 : Int32)
noncomputable def F_X16_hasBits_b197  (s0 : Int32) : Option Int32 :=
  some (s0 &&& 1)
noncomputable def F_X16_hasBits (v0 : Int32) (v1 : Int64) : Option Int32 :=
  if v0 = (0 : Int32) then
    if v1 = (0 : Int64) then
      F_X16_hasBits_b60  
    else
      if v1 = (1 : Int64) then
        F_X16_hasBits_b60  
      else
        F_X16_hasBits_b65  (0 : Int32)
  else
    if v0 = (1 : Int32) then
      if v1 < (-128 : Int64) then
        F_X16_hasBits_b86  
      else
        if (127 : Int64) < v1 then
          F_X16_hasBits_b86  
        else
          F_X16_hasBits_b87  (1 : Int32)
    else
      if v0 = (2 : Int32) then
        if v1 < (-32768 : Int64) then
          F_X16_hasBits_b108  
        else
          if (32767 : Int64) < v1 then
            F_X16_hasBits_b108  
          else
            F_X16_hasBits_b109  (1 : Int32)
      else
        if v0 = (3 : Int32) then
          if v1 < (0 : Int64) then
            F_X16_hasBits_b128  
          else
            if (65535 : Int64) < v1 then
              F_X16_hasBits_b128  
            else
              F_X16_hasBits_b129  (1 : Int32)
        else
          if v0 = (4 : Int32) then
            if v1 < (-2147483648 : Int64) then
              F_X16_hasBits_b150  
            else
              if (2147483647 : Int64) < v1 then
                F_X16_hasBits_b150  
              else
                F_X16_hasBits_b151  (1 : Int32)
          else
            if v0 = (5 : Int32) then
              some (1 : Int32)
            else
              if v0 = (6 : Int32) then
                if v1 < (0 : Int64) then
                  F_X16_hasBits_b183  
                else
                  if (4294967295 : Int64) < v1 then
                    F_X16_hasBits_b183  
                  else
                    (F_X24_wide (v1.toInt32)).bind fun z1 =>
                    (F_X24_isNone z1).bind fun z2 =>
                    if z2 = 0 then
                      F_X16_hasBits_b184  (1 : Int32)
                    else
                      F_X16_hasBits_b183  
              else
                if v0 = (7 : Int32) then
                  (F_X24_isNone v1).bind fun z3 =>
                  if z3 = 0 then
                    F_X16_hasBits_b197  (1 : Int32)
                  else
                    F_X16_hasBits_b197  (0 : Int32)
                else
                  some (0 : Int32)
noncomputable def F_X16_isWider_b61  (s0 : Int32) : Option Int32 :=
  some (s0 &&& 1)
noncomputable def F_X16_isWider_b56   : Option Int32 :=
  F_X16_isWider_b61  (1 : Int32)
noncomputable def F_X16_isWider_b60   : Option Int32 :=
  F_X16_isWider_b61  (0 : Int32)
noncomputable def F_X16_isWider_b78  (s0 : Int32) : Option Int32 :=
  some (s0 &&& 1)
noncomputable def F_X16_isWider_b77   : Option Int32 :=
  F_X16_isWider_b78  (0 : Int32)
noncomputable def F_X16_isWider_b62  (v1 : Int32) : Option Int32 :=
  if v1 < (4 : Int32) then
    F_X16_isWider_b77  
  else
    if (7 : Int32) < v1 then
      F_X16_isWider_b77  
    else
      F_X16_isWider_b78  (1 : Int32)
noncomputable def F_X16_isWider_b95  (s0 : Int32) : Option Int32 :=
  some (s0 &&& 1)
noncomputable def F_X16_isWider_b94   : Option Int32 :=
  F_X16_isWider_b95  (0 : Int32)
noncomputable def F_X16_isWider_b113  (s0 : Int32) : Option Int32 :=
  some (s0 &&& 1)
noncomputable def F_X16_isWider_b108   : Option Int32 :=
  F_X16_isWider_b113  (1 : Int32)
noncomputable def F_X16_isWider_b125  (s0 : Int32) : Option Int32 :=
  some (s0 &&& 1)
noncomputable def F_X16_isWider (v0 : Int32) (v1 : Int32) : Option Int32 :=
  if v0 = (1 : Int32) then
    if v1 = (2 : Int32) then
      F_X16_isWider_b56  
    else
      if v1 < (4 : Int32) then
        F_X16_isWider_b60  
      else
        if (7 : Int32) < v1 then
          F_X16_isWider_b60  
        else
          F_X16_isWider_b56  
  else
    if v0 = (2 : Int32) then
      F_X16_isWider_b62  v1
    else
      if v0 = (3 : Int32) then
        F_X16_isWider_b62  v1
      else
        if v0 = (4 : Int32) then
          if v1 < (5 : Int32) then
            F_X16_isWider_b94  
          else
            if (7 : Int32) < v1 then
              F_X16_isWider_b94  
            else
              F_X16_isWider_b95  (1 : Int32)
        else
          if v0 = (5 : Int32) then
            if v1 = (6 : Int32) then
              F_X16_isWider_b108  
            else
              if v1 = (7 : Int32) then
                F_X16_isWider_b108  
              else
                F_X16_isWider_b113  (0 : Int32)
          else
            if v0 = (6 : Int32) then
              if v1 = (7 : Int32) then
                F_X16_isWider_b125  (1 : Int32)
              else
                F_X16_isWider_b125  (0 : Int32)
            else
              some (0 : Int32)
noncomputable def F_X16_isFitting_b18  (s0 : Int32) : Option Int32 :=
  some (s0 &&& 1)
noncomputable def F_X16_isFitting_b13   : Option Int32 :=
  F_X16_isFitting_b18  (1 : Int32)
noncomputable def F_X16_isFitting (v0 : Int32) (v1 : Int32) : Option Int32 :=
  if v0 = v1 then
    F_X16_isFitting_b13  
  else
    (F_X16_isWider v0 v1).bind fun z1 =>
    if z1 = 0 then
      F_X16_isFitting_b18  (0 : Int32)
    else
      F_X16_isFitting_b13  
noncomputable def F_X24_made_b29  (s0 : Int64) : Option Int64 :=
  some s0
noncomputable def F_X24_made (v0 : Int32) (v1 : Int64) (v3 : Int32) (v4 : Int32) : Option Int64 :=
  (F_X24_rounded v1 v3 v4 (53 : Int32) (1023 : Int32)).bind fun z1 =>
  if v0 = 0 then
    F_X24_made_b29  z1
  else
    F_X24_made_b29  (z1 ||| (-9223372036854775808 : Int64))
noncomputable def F_X24_of_b83  (s0 : Int32) (s1 : Int64) (s2 : Int32) (s3 : Int32) : Option Int64 :=
  (F_X24_made s0 s1 s2 s3).bind fun z1 =>
  some z1
noncomputable def F_X24_of_b61  (v3 : Int32) (v4 : Int64) : Option Int64 :=
  if (v4 &&& (3 : Int64)) = (0 : Int64) then
    F_X24_of_b83  v3 (j_lushr v4 (2 : Int32)) (2 : Int32) (0 : Int32)
  else
    F_X24_of_b83  v3 (j_lushr v4 (2 : Int32)) (2 : Int32) (1 : Int32)
noncomputable def F_X24_of_b34  (s0 : Int64) (v3 : Int32) : Option Int64 :=
  if (0 : Int64) < s0 then
    if s0 < (4611686018427387904 : Int64) then
      (F_X24_made v3 s0 (0 : Int32) (0 : Int32)).bind fun z2 =>
      some z2
    else
      F_X24_of_b61  v3 s0
  else
    F_X24_of_b61  v3 s0
noncomputable def F_X24_of_b23  (s0 : Int32) (v0 : Int64) : Option Int64 :=
  if s0 = 0 then
    F_X24_of_b34  v0 s0
  else
    F_X24_of_b34  (-v0) s0
noncomputable def F_X24_of_b22  (v0 : Int64) : Option Int64 :=
  F_X24_of_b23  (0 : Int32) v0
noncomputable def F_X24_of (v0 : Int64) (v2 : Int32) : Option Int64 :=
  if v0 = (0 : Int64) then
    some (0 : Int64)
  else
    if v0 < (0 : Int64) then
      if v2 = 0 then
        F_X24_of_b23  (1 : Int32) v0
      else
        F_X24_of_b22  v0
    else
      F_X24_of_b22  v0
noncomputable def F_X24_floatOf_b126  (s0 : Int32) (s1 : Int32) : Option Int64 :=
  (F_X24_wide (s0 ||| s1)).bind fun z1 =>
  some z1
noncomputable def F_X24_floatOf_b104  (s0 : Int64) (s1 : Int32) (s2 : Int32) (v3 : Int32) : Option Int64 :=
  (F_X24_rounded s0 s1 s2 (24 : Int32) (127 : Int32)).bind fun z2 =>
  if v3 = 0 then
    F_X24_floatOf_b126  (z2.toInt32) (0 : Int32)
  else
    F_X24_floatOf_b126  (z2.toInt32) (-2147483648 : Int32)
noncomputable def F_X24_floatOf_b103  (s0 : Int64) (s1 : Int32) (v3 : Int32) : Option Int64 :=
  F_X24_floatOf_b104  s0 s1 (0 : Int32) v3
noncomputable def F_X24_floatOf_b83  (s0 : Int64) (s1 : Int32) (v3 : Int32) (v4 : Int64) (v6 : Int32) : Option Int64 :=
  if v6 = 0 then
    if (v4 &&& (3 : Int64)) = (0 : Int64) then
      F_X24_floatOf_b103  s0 s1 v3
    else
      F_X24_floatOf_b104  s0 s1 (1 : Int32) v3
  else
    F_X24_floatOf_b103  s0 s1 v3
noncomputable def F_X24_floatOf_b73  (s0 : Int64) (v3 : Int32) (v4 : Int64) (v6 : Int32) : Option Int64 :=
  if v6 = 0 then
    F_X24_floatOf_b83  s0 (2 : Int32) v3 v4 v6
  else
    F_X24_floatOf_b83  s0 (0 : Int32) v3 v4 v6
noncomputable def F_X24_floatOf_b57  (s0 : Int32) (v3 : Int32) (v4 : Int64) : Option Int64 :=
  if s0 = 0 then
    F_X24_floatOf_b73  (j_lushr v4 (2 : Int32)) v3 v4 s0
  else
    F_X24_floatOf_b73  v4 v3 v4 s0
noncomputable def F_X24_floatOf_b56  (v3 : Int32) (v4 : Int64) : Option Int64 :=
  F_X24_floatOf_b57  (0 : Int32) v3 v4
noncomputable def F_X24_floatOf_b34  (s0 : Int64) (v3 : Int32) : Option Int64 :=
  if (0 : Int64) < s0 then
    if s0 < (4611686018427387904 : Int64) then
      F_X24_floatOf_b57  (1 : Int32) v3 s0
    else
      F_X24_floatOf_b56  v3 s0
  else
    F_X24_floatOf_b56  v3 s0
noncomputable def F_X24_floatOf_b23  (s0 : Int32) (v0 : Int64) : Option Int64 :=
  if s0 = 0 then
    F_X24_floatOf_b34  v0 s0
  else
    F_X24_floatOf_b34  (-v0) s0
noncomputable def F_X24_floatOf_b22  (v0 : Int64) : Option Int64 :=
  F_X24_floatOf_b23  (0 : Int32) v0
noncomputable def F_X24_floatOf (v0 : Int64) (v2 : Int32) : Option Int64 :=
  if v0 = (0 : Int64) then
    some (0 : Int64)
  else
    if v0 < (0 : Int64) then
      if v2 = 0 then
        F_X24_floatOf_b23  (1 : Int32) v0
      else
        F_X24_floatOf_b22  v0
    else
      F_X24_floatOf_b22  v0
noncomputable def F_X24_isInfinite_b17  (s0 : Int32) : Option Int32 :=
  some (s0 &&& 1)
noncomputable def F_X24_isInfinite (v0 : Int64) : Option Int32 :=
  if (v0 &&& (9223372036854775807 : Int64)) = (9218868437227405312 : Int64) then
    F_X24_isInfinite_b17  (1 : Int32)
  else
    F_X24_isInfinite_b17  (0 : Int32)
noncomputable def F_X24_isZero_b15  (s0 : Int32) : Option Int32 :=
  some (s0 &&& 1)
noncomputable def F_X24_isZero (v0 : Int64) : Option Int32 :=
  if (v0 &&& (9223372036854775807 : Int64)) = (0 : Int64) then
    F_X24_isZero_b15  (1 : Int32)
  else
    F_X24_isZero_b15  (0 : Int32)
noncomputable def F_X24_significand_b25_st (k25 : Int64 → Option Int64) (v2 : Int64) : Option Int64 :=
  if v2 < (4503599627370496 : Int64) then
    let v2_1 : Int64 := (j_lshl v2 (1 : Int32))
    k25 v2_1
  else
    some v2
noncomputable def F_X24_significand_b25  (n : Nat) : Int64 → Option Int64 :=
  Nat.rec (motive := fun _ => Int64 → Option Int64) (fun _ => none) (fun _ ih => F_X24_significand_b25_st ih) n
noncomputable def F_X24_significand (v0 : Int64) : Option Int64 :=
  let v2_2 : Int64 := (v0 &&& (4503599627370495 : Int64))
  if (0 : Int64) < ((j_lshr v0 (52 : Int32)) &&& (2047 : Int64)) then
    some (v2_2 ||| (4503599627370496 : Int64))
  else
    F_X24_significand_b25  xN v2_2
noncomputable def F_X24_exponent_b31_st (k31 : Int32 → Int64 → Option Int32) (v3 : Int32) (v4 : Int64) : Option Int32 :=
  if v4 < (4503599627370496 : Int64) then
    let v3_1 : Int32 := v3 + (-1 : Int32)
    let v4_2 : Int64 := (j_lshl v4 (1 : Int32))
    k31 v3_1 v4_2
  else
    some v3
noncomputable def F_X24_exponent_b31  (n : Nat) : Int32 → Int64 → Option Int32 :=
  Nat.rec (motive := fun _ => Int32 → Int64 → Option Int32) (fun _ _ => none) (fun _ ih => F_X24_exponent_b31_st ih) n
noncomputable def F_X24_exponent (v0 : Int64) : Option Int32 :=
  let v2_3 : Int32 := ((j_lshr v0 (52 : Int32)) &&& (2047 : Int64)).toInt32
  if 0 < v2_3 then
    some (v2_3 - (1075 : Int32))
  else
    let v4_4 : Int64 := (v0 &&& (4503599627370495 : Int64))
    F_X24_exponent_b31  xN (-1074 : Int32) v4_4
noncomputable def F_X24_narrow_b12  (s0 : Int32) (v0 : Int64) : Option Int32 :=
  (F_X24_isInfinite v0).bind fun z1 =>
  if z1 = 0 then
    (F_X24_isZero v0).bind fun z2 =>
    if z2 = 0 then
      (F_X24_significand v0).bind fun z3 =>
      (F_X24_exponent v0).bind fun z4 =>
      (F_X24_rounded z3 z4 (0 : Int32) (24 : Int32) (127 : Int32)).bind fun z5 =>
      some (z5.toInt32 ||| s0)
    else
      some s0
  else
    some (s0 ||| (2139095040 : Int32))
noncomputable def F_X24_narrow (v0 : Int64) : Option Int32 :=
  if v0 < (0 : Int64) then
    F_X24_narrow_b12  (-2147483648 : Int32) v0
  else
    F_X24_narrow_b12  (0 : Int32) v0
noncomputable def F_X16_widened_b16  (v0 : Int64) : Option Int64 :=
  some v0
noncomputable def F_X16_widened_b43  (s0 : Int64) : Option Int64 :=
  some s0
noncomputable def F_X16_widened (v0 : Int64) (v2 : Int32) (v3 : Int32) : Option Int64 :=
  if v2 = v3 then
    F_X16_widened_b16  v0
  else
    if v2 < (1 : Int32) then
      F_X16_widened_b16  v0
    else
      if (7 : Int32) < v2 then
        F_X16_widened_b16  v0
      else
        if v3 = (7 : Int32) then
          if v2 = (6 : Int32) then
            (F_X24_wide (v0.toInt32)).bind fun z1 =>
            F_X16_widened_b43  z1
          else
            (F_X24_of v0 (0 : Int32)).bind fun z2 =>
            F_X16_widened_b43  z2
        else
          if v3 = (6 : Int32) then
            (F_X24_floatOf v0 (0 : Int32)).bind fun z3 =>
            (F_X24_narrow z3).bind fun z4 =>
            some (z4.toInt64 &&& (4294967295 : Int64))
          else
            some v0
noncomputable def F_X16_put_b36  (M : Mem) : Option (Int32 × Mem) :=
  some ((-14 : Int32), M)
noncomputable def F_X16_put_b83  (M : Mem) : Option (Int32 × Mem) :=
  some ((-1 : Int32), M)
noncomputable def F_X16_put (M : Mem) (v0 : Nat) (v1 : Int32) (v2 : Int32) (v3 : Int64) : Option (Int32 × Mem) :=
  (gi M v0 1099).bind fun t1 =>
  (pi M v0 1099 (0 : Int32)).bind fun M2 =>
  (gi M2 v0 1095).bind fun t3 =>
  if t3 = 0 then
    (vg M2 v0 17).bind fun _ =>
    (F_X16_isGrid M2 v0 v1).bind fun z5 =>
    if z5 = 0 then
      F_X16_put_b36  M2
    else
      (F_X16_isLane v2).bind fun z6 =>
      if z6 = 0 then
        F_X16_put_b36  M2
      else
        (gr M2 v0 1092).bind fun t7 =>
        (ar M2 t7 v1).bind fun t8 =>
        (vg M2 v0 17).bind fun _ =>
        (F_X16_spotIn M2 v0 t8 t1).bind fun z10 =>
        if z10 = (-1 : Int32) then
          F_X16_put_b83  M2
        else
          (F_X16_hasBits v2 v3).bind fun z11 =>
          if z11 = 0 then
            F_X16_put_b83  M2
          else
            (gi M2 t8 1472).bind fun t12 =>
            (F_X16_isFitting v2 t12).bind fun z13 =>
            if z13 = 0 then
              F_X16_put_b83  M2
            else
              (gi M2 t8 1477).bind fun t14 =>
              if t14 = 0 then
                if z10 = (-2 : Int32) then
                  some ((-2 : Int32), M2)
                else
                  (gr M2 t8 1476).bind fun t15 =>
                  (gi M2 t8 1472).bind fun t16 =>
                  (F_X16_widened v3 v2 t16).bind fun z17 =>
                  (sj M2 t15 z10 z17).bind fun M18 =>
                  some ((0 : Int32), M18)
              else
                some ((-5 : Int32), M2)
  else
    some ((-13 : Int32), M2)
noncomputable def F_X16_code (M : Mem) (v0 : Nat) : Option Int32 :=
  (gi M v0 1102).bind fun t1 =>
  some t1
noncomputable def F_X16_get_b90  (M : Mem) (s0 : Int64) : Option (Int64 × Mem) :=
  some (s0, M)
noncomputable def F_X16_get_b71  (M : Mem) (v0 : Nat) (v1 : Int32) (v3 : Int32) : Option (Int64 × Mem) :=
  if v3 < 0 then
    F_X16_get_b90  M (0 : Int64)
  else
    (gr M v0 1092).bind fun t1 =>
    (ar M t1 v1).bind fun t2 =>
    (gr M t2 1476).bind fun t3 =>
    (al M t3 v3).bind fun t4 =>
    F_X16_get_b90  M t4
noncomputable def F_X16_get_b37  (M : Mem) (s0 : Nat) (s1 : Int32) (v0 : Nat) (v1 : Int32) (v2 : Int32) : Option (Int64 × Mem) :=
  (pi M s0 1102 s1).bind fun M5 =>
  (gi M5 v0 1102).bind fun t6 =>
  if 0 < t6 then
    some ((0 : Int64), M5)
  else
    (gr M5 v0 1092).bind fun t7 =>
    (ar M5 t7 v1).bind fun t8 =>
    (vg M5 v0 17).bind fun _ =>
    (F_X16_spotIn M5 v0 t8 v2).bind fun z10 =>
    if z10 < 0 then
      (pi M5 v0 1102 (-z10)).bind fun M11 =>
      F_X16_get_b71  M11 v0 v1 z10
    else
      F_X16_get_b71  M5 v0 v1 z10
noncomputable def F_X16_get (M : Mem) (v0 : Nat) (v1 : Int32) : Option (Int64 × Mem) :=
  (gi M v0 1099).bind fun t12 =>
  (pi M v0 1099 (0 : Int32)).bind fun M13 =>
  (gi M13 v0 1095).bind fun t14 =>
  if t14 = 0 then
    (vg M13 v0 17).bind fun _ =>
    (F_X16_isGrid M13 v0 v1).bind fun z16 =>
    if z16 = 0 then
      F_X16_get_b37  M13 v0 (14 : Int32) v0 v1 t12
    else
      F_X16_get_b37  M13 v0 (0 : Int32) v0 v1 t12
  else
    F_X16_get_b37  M13 v0 (13 : Int32) v0 v1 t12
noncomputable def F_X22_count (M : Mem) (v0 : Nat) : Option Int32 :=
  (gr M v0 1473).bind fun t1 =>
  (gr M v0 1473).bind fun t2 =>
  (an M t2).bind fun t3 =>
  (F_X16_count M t1 t3).bind fun z4 =>
  some (z4.toInt32)
noncomputable def F_X22_place_b16_st (k16 : Mem → Nat → Int32 → Int32 → Int32 → Option Int32) (M : Mem) (v0 : Nat) (v2 : Int32) (v3 : Int32) (v4 : Int32) : Option Int32 :=
  if v4 < 0 then
    some v2
  else
    (gr M v0 1473).bind fun t1 =>
    (ai M t1 v4).bind fun t2 =>
    if t2 = 0 then none else
    (gr M v0 1474).bind fun t3 =>
    (ai M t3 v4).bind fun t4 =>
    let v2_5 : Int32 := (v2 + ((j_irem v3 t2) * t4))
    (gr M v0 1473).bind fun t6 =>
    (ai M t6 v4).bind fun t7 =>
    if t7 = 0 then none else
    let v3_8 : Int32 := (v3 / t7)
    let v4_9 : Int32 := v4 + (-1 : Int32)
    k16 M v0 v2_5 v3_8 v4_9
noncomputable def F_X22_place_b16  (n : Nat) : Mem → Nat → Int32 → Int32 → Int32 → Option Int32 :=
  Nat.rec (motive := fun _ => Mem → Nat → Int32 → Int32 → Int32 → Option Int32) (fun _ _ _ _ _ => none) (fun _ ih => F_X22_place_b16_st ih) n
noncomputable def F_X22_place (M : Mem) (v0 : Nat) (v1 : Int32) : Option Int32 :=
  (gi M v0 1475).bind fun t10 =>
  (gr M v0 1473).bind fun t11 =>
  (an M t11).bind fun t12 =>
  let v4_13 : Int32 := (t12 - (1 : Int32))
  F_X22_place_b16  xN M v0 t10 v1 v4_13
noncomputable def F_X22_cell (M : Mem) (v0 : Nat) (v1 : Int32) : Option Int64 :=
  (gr M v0 1476).bind fun t1 =>
  (vg M v0 23).bind fun _ =>
  (F_X22_place M v0 v1).bind fun z3 =>
  (al M t1 z3).bind fun t4 =>
  some t4
noncomputable def F_X16_cell_b72  (M : Mem) (s0 : Int64) : Option (Int64 × Mem) :=
  some (s0, M)
noncomputable def F_X16_cell_b48  (M : Mem) (s0 : Nat) (s1 : Int32) (v0 : Nat) (v1 : Int32) (v2 : Int32) : Option (Int64 × Mem) :=
  (pi M s0 1102 s1).bind fun M1 =>
  (gi M1 v0 1102).bind fun t2 =>
  if 0 < t2 then
    F_X16_cell_b72  M1 (0 : Int64)
  else
    (gr M1 v0 1092).bind fun t3 =>
    (ar M1 t3 v1).bind fun t4 =>
    (vg M1 t4 23).bind fun _ =>
    (F_X22_cell M1 t4 v2).bind fun z6 =>
    F_X16_cell_b72  M1 z6
noncomputable def F_X16_cell_b43  (M : Mem) (s0 : Nat) (v0 : Nat) (v1 : Int32) (v2 : Int32) : Option (Int64 × Mem) :=
  F_X16_cell_b48  M s0 (2 : Int32) v0 v1 v2
noncomputable def F_X16_cell (M : Mem) (v0 : Nat) (v1 : Int32) (v2 : Int32) : Option (Int64 × Mem) :=
  (gi M v0 1095).bind fun t7 =>
  if t7 = 0 then
    (vg M v0 17).bind fun _ =>
    (F_X16_isGrid M v0 v1).bind fun z9 =>
    if z9 = 0 then
      F_X16_cell_b48  M v0 (14 : Int32) v0 v1 v2
    else
      if v2 < 0 then
        F_X16_cell_b43  M v0 v0 v1 v2
      else
        (gr M v0 1092).bind fun t10 =>
        (ar M t10 v1).bind fun t11 =>
        (vg M t11 23).bind fun _ =>
        (F_X22_count M t11).bind fun z13 =>
        if v2 < z13 then
          F_X16_cell_b48  M v0 (0 : Int32) v0 v1 v2
        else
          F_X16_cell_b43  M v0 v0 v1 v2
  else
    F_X16_cell_b48  M v0 (13 : Int32) v0 v1 v2
noncomputable def F_X16_codeOf_b26  (M : Mem) (s0 : Int32) : Option Int32 :=
  some s0
noncomputable def F_X16_codeOf (M : Mem) (v0 : Nat) (v1 : Int32) : Option Int32 :=
  (gi M v0 1095).bind fun t1 =>
  if t1 = 0 then
    (vg M v0 17).bind fun _ =>
    (F_X16_isGrid M v0 v1).bind fun z3 =>
    if z3 = 0 then
      F_X16_codeOf_b26  M (14 : Int32)
    else
      F_X16_codeOf_b26  M (0 : Int32)
  else
    F_X16_codeOf_b26  M (13 : Int32)
noncomputable def F_X16_lane_b26  (M : Mem) (s0 : Int32) : Option Int32 :=
  some s0
noncomputable def F_X16_lane (M : Mem) (v0 : Nat) (v1 : Int32) : Option Int32 :=
  (vg M v0 17).bind fun _ =>
  (F_X16_codeOf M v0 v1).bind fun z2 =>
  if 0 < z2 then
    (vg M v0 17).bind fun _ =>
    (F_X16_codeOf M v0 v1).bind fun z4 =>
    F_X16_lane_b26  M (-z4)
  else
    (gr M v0 1092).bind fun t5 =>
    (ar M t5 v1).bind fun t6 =>
    (gi M t6 1472).bind fun t7 =>
    F_X16_lane_b26  M t7
noncomputable def F_X16_axes_b26  (M : Mem) (s0 : Int32) : Option Int32 :=
  some s0
noncomputable def F_X16_axes (M : Mem) (v0 : Nat) (v1 : Int32) : Option Int32 :=
  (vg M v0 17).bind fun _ =>
  (F_X16_codeOf M v0 v1).bind fun z2 =>
  if 0 < z2 then
    (vg M v0 17).bind fun _ =>
    (F_X16_codeOf M v0 v1).bind fun z4 =>
    F_X16_axes_b26  M (-z4)
  else
    (gr M v0 1092).bind fun t5 =>
    (ar M t5 v1).bind fun t6 =>
    (vg M t6 23).bind fun _ =>
    (F_X22_axes M t6).bind fun z8 =>
    F_X16_axes_b26  M z8
noncomputable def F_X16_size_b48  (M : Mem) (s0 : Int32) : Option Int32 :=
  some s0
noncomputable def F_X16_size_b32  (M : Mem) : Option Int32 :=
  F_X16_size_b48  M (-2 : Int32)
noncomputable def F_X16_size (M : Mem) (v0 : Nat) (v1 : Int32) (v2 : Int32) : Option Int32 :=
  (vg M v0 17).bind fun _ =>
  (F_X16_codeOf M v0 v1).bind fun z2 =>
  if 0 < z2 then
    (vg M v0 17).bind fun _ =>
    (F_X16_codeOf M v0 v1).bind fun z4 =>
    some (-z4)
  else
    if v2 < 0 then
      F_X16_size_b32  M
    else
      (gr M v0 1092).bind fun t5 =>
      (ar M t5 v1).bind fun t6 =>
      (vg M t6 23).bind fun _ =>
      (F_X22_axes M t6).bind fun z8 =>
      if v2 < z8 then
        (gr M v0 1092).bind fun t9 =>
        (ar M t9 v1).bind fun t10 =>
        (gr M t10 1473).bind fun t11 =>
        (ai M t11 v2).bind fun t12 =>
        F_X16_size_b48  M t12
      else
        F_X16_size_b32  M
noncomputable def F_X16_cells_b26  (M : Mem) (s0 : Int32) : Option Int32 :=
  some s0
noncomputable def F_X16_cells (M : Mem) (v0 : Nat) (v1 : Int32) : Option Int32 :=
  (vg M v0 17).bind fun _ =>
  (F_X16_codeOf M v0 v1).bind fun z2 =>
  if 0 < z2 then
    (vg M v0 17).bind fun _ =>
    (F_X16_codeOf M v0 v1).bind fun z4 =>
    F_X16_cells_b26  M (-z4)
  else
    (gr M v0 1092).bind fun t5 =>
    (ar M t5 v1).bind fun t6 =>
    (vg M t6 23).bind fun _ =>
    (F_X22_count M t6).bind fun z8 =>
    F_X16_cells_b26  M z8
noncomputable def F_X16_used (M : Mem) (v0 : Nat) : Option (Int32 × Mem) :=
  (gi M v0 1089).bind fun t1 =>
  (pi M v0 1089 (0 : Int32)).bind fun M2 =>
  some (t1, M2)
noncomputable def F_X25_blanks_b38  (M : Mem) : Option Mem :=
  some M
noncomputable def F_X25_blanks_b0_st (k0 : Mem → Nat → Option Mem) (M : Mem) (v0 : Nat) : Option Mem :=
  (gi M v0 1667).bind fun t1 =>
  (gi M v0 1666).bind fun t2 =>
  if t1 < t2 then
    (gr M v0 1665).bind fun t3 =>
    (gi M v0 1667).bind fun t4 =>
    (ab M t3 t4).bind fun t5 =>
    if t5 = (32 : Int32) then
      (gi M v0 1667).bind fun t6 =>
      (pi M v0 1667 (t6 + (1 : Int32))).bind fun M7 =>
      k0 M7 v0
    else
      F_X25_blanks_b38  M
  else
    F_X25_blanks_b38  M
noncomputable def F_X25_blanks_b0  (n : Nat) : Mem → Nat → Option Mem :=
  Nat.rec (motive := fun _ => Mem → Nat → Option Mem) (fun _ _ => none) (fun _ ih => F_X25_blanks_b0_st ih) n
noncomputable def F_X25_blanks (M : Mem) (v0 : Nat) : Option Mem :=
  F_X25_blanks_b0  xN M v0
noncomputable def F_X25_is_b29  (M : Mem) (s0 : Int32) : Option Int32 :=
  some (s0 &&& 1)
noncomputable def F_X25_is_b28  (M : Mem) : Option Int32 :=
  F_X25_is_b29  M (0 : Int32)
noncomputable def F_X25_is (M : Mem) (v0 : Nat) (v1 : Int32) : Option Int32 :=
  (gi M v0 1667).bind fun t1 =>
  (gi M v0 1666).bind fun t2 =>
  if t1 < t2 then
    (gr M v0 1665).bind fun t3 =>
    (gi M v0 1667).bind fun t4 =>
    (ab M t3 t4).bind fun t5 =>
    if t5 = v1 then
      F_X25_is_b29  M (1 : Int32)
    else
      F_X25_is_b28  M
  else
    F_X25_is_b28  M
noncomputable def F_X25_isDigit_b44  (M : Mem) (s0 : Int32) : Option Int32 :=
  some (s0 &&& 1)
noncomputable def F_X25_isDigit_b43  (M : Mem) : Option Int32 :=
  F_X25_isDigit_b44  M (0 : Int32)
noncomputable def F_X25_isDigit (M : Mem) (v0 : Nat) : Option Int32 :=
  (gi M v0 1667).bind fun t1 =>
  (gi M v0 1666).bind fun t2 =>
  if t1 < t2 then
    (gr M v0 1665).bind fun t3 =>
    (gi M v0 1667).bind fun t4 =>
    (ab M t3 t4).bind fun t5 =>
    if t5 < (48 : Int32) then
      F_X25_isDigit_b43  M
    else
      (gr M v0 1665).bind fun t6 =>
      (gi M v0 1667).bind fun t7 =>
      (ab M t6 t7).bind fun t8 =>
      if (57 : Int32) < t8 then
        F_X25_isDigit_b43  M
      else
        F_X25_isDigit_b44  M (1 : Int32)
  else
    F_X25_isDigit_b43  M
noncomputable def F_X17_at (M : Mem) (v0 : Nat) (v1 : Int32) (v2 : Int32) : Option (Nat × Mem) :=
  (pi M v0 1152 v1).bind fun M1 =>
  (pi M1 v0 1153 v2).bind fun M2 =>
  let t4 : Nat := m_nx M2
  let M3 : Mem := mo M2 64
  (ng M3 t4).bind fun _ =>
  (ie M3 t4).bind fun _ =>
  some (t4, M3)
noncomputable def F_X25_number_b119  (M : Mem) (s0 : Int32) : Option ((Int32 × Mem) ⊕ (Nat × Mem)) :=
  some (.inl (s0, M))
noncomputable def F_X25_number_b45_st (k45 : Mem → Nat → Int32 → Int32 → Int32 → Option ((Int32 × Mem) ⊕ (Nat × Mem))) (M : Mem) (v0 : Nat) (v1 : Int32) (v2 : Int32) (v3 : Int32) : Option ((Int32 × Mem) ⊕ (Nat × Mem)) :=
  (vg M v0 26).bind fun _ =>
  (F_X25_isDigit M v0).bind fun z2 =>
  if z2 = 0 then
    (vg M v0 26).bind fun _ =>
    (F_X25_blanks M v0).bind fun z4 =>
    if v1 = 0 then
      F_X25_number_b119  z4 v2
    else
      F_X25_number_b119  z4 (-v2)
  else
    if v3 = (9 : Int32) then
      (gr M v0 1664).bind fun t5 =>
      (gi M v0 1667).bind fun t6 =>
      (vg M t5 18).bind fun _ =>
      (F_X17_at M t5 (1 : Int32) t6).bind fun z8 =>
      (ie z8.2 z8.1).bind fun _ => some (.inr (z8.1, z8.2))
    else
      (gr M v0 1665).bind fun t9 =>
      (gi M v0 1667).bind fun t10 =>
      (ab M t9 t10).bind fun t11 =>
      let v2_12 : Int32 := ((((10 : Int32) * v2) + t11) - (48 : Int32))
      let v3_13 : Int32 := v3 + (1 : Int32)
      (gi M v0 1667).bind fun t14 =>
      (pi M v0 1667 (t14 + (1 : Int32))).bind fun M15 =>
      k45 M15 v0 v1 v2_12 v3_13
noncomputable def F_X25_number_b45  (n : Nat) : Mem → Nat → Int32 → Int32 → Int32 → Option ((Int32 × Mem) ⊕ (Nat × Mem)) :=
  Nat.rec (motive := fun _ => Mem → Nat → Int32 → Int32 → Int32 → Option ((Int32 × Mem) ⊕ (Nat × Mem))) (fun _ _ _ _ _ => none) (fun _ ih => F_X25_number_b45_st ih) n
noncomputable def F_X25_number_b21  (M : Mem) (v0 : Nat) (v1 : Int32) : Option ((Int32 × Mem) ⊕ (Nat × Mem)) :=
  (vg M v0 26).bind fun _ =>
  (F_X25_isDigit M v0).bind fun z17 =>
  if z17 = 0 then
    (gr M v0 1664).bind fun t18 =>
    (gi M v0 1667).bind fun t19 =>
    (vg M t18 18).bind fun _ =>
    (F_X17_at M t18 (1 : Int32) t19).bind fun z21 =>
    (ie z21.2 z21.1).bind fun _ => some (.inr (z21.1, z21.2))
  else
    F_X25_number_b45  xN M v0 v1 (0 : Int32) (0 : Int32)
noncomputable def F_X25_number (M : Mem) (v0 : Nat) : Option ((Int32 × Mem) ⊕ (Nat × Mem)) :=
  (vg M v0 26).bind fun _ =>
  (F_X25_is M v0 (45 : Int32)).bind fun z23 =>
  if z23 = 0 then
    F_X25_number_b21  M v0 z23
  else
    (gi M v0 1667).bind fun t24 =>
    (pi M v0 1667 (t24 + (1 : Int32))).bind fun M25 =>
    F_X25_number_b21  M25 v0 z23
noncomputable def F_X25_item_b215  (M : Mem) : Option (Mem ⊕ (Nat × Mem)) :=
  some (.inl M)
noncomputable def F_X25_item_b202  (M : Mem) (v0 : Nat) (v1 : Nat) : Option (Mem ⊕ (Nat × Mem)) :=
  (si M v1 (6 : Int32) (1 : Int32)).bind fun M1 =>
  (vg M1 v0 26).bind fun _ =>
  tb (F_X25_number M1 v0) fun z3 =>
  (si z3.2 v1 (7 : Int32) z3.1).bind fun M4 =>
  F_X25_item_b215  M4
noncomputable def F_X25_item_b162  (M : Mem) (v0 : Nat) (v1 : Nat) : Option (Mem ⊕ (Nat × Mem)) :=
  (vg M v0 26).bind fun _ =>
  (F_X25_is M v0 (58 : Int32)).bind fun z6 =>
  if z6 = 0 then
    some (.inl M)
  else
    (gi M v0 1667).bind fun t7 =>
    (pi M v0 1667 (t7 + (1 : Int32))).bind fun M8 =>
    (vg M8 v0 26).bind fun _ =>
    (F_X25_blanks M8 v0).bind fun z10 =>
    (vg z10 v0 26).bind fun _ =>
    (F_X25_is z10 v0 (45 : Int32)).bind fun z12 =>
    if z12 = 0 then
      (vg z10 v0 26).bind fun _ =>
      (F_X25_isDigit z10 v0).bind fun z14 =>
      if z14 = 0 then
        F_X25_item_b215  z10
      else
        F_X25_item_b202  z10 v0 v1
    else
      F_X25_item_b202  z10 v0 v1
noncomputable def F_X25_item_b151  (M : Mem) (v0 : Nat) (v1 : Nat) : Option (Mem ⊕ (Nat × Mem)) :=
  (si M v1 (4 : Int32) (1 : Int32)).bind fun M15 =>
  (vg M15 v0 26).bind fun _ =>
  tb (F_X25_number M15 v0) fun z17 =>
  (si z17.2 v1 (5 : Int32) z17.1).bind fun M18 =>
  F_X25_item_b162  M18 v0 v1
noncomputable def F_X25_item_b90  (M : Mem) (v0 : Nat) (v1 : Nat) (v2 : Int32) : Option (Mem ⊕ (Nat × Mem)) :=
  (vg M v0 26).bind fun _ =>
  (F_X25_is M v0 (58 : Int32)).bind fun z20 =>
  if z20 = 0 then
    if v2 = 0 then
      (gr M v0 1664).bind fun t21 =>
      (gi M v0 1667).bind fun t22 =>
      (vg M t21 18).bind fun _ =>
      (F_X17_at M t21 (1 : Int32) t22).bind fun z24 =>
      (ie z24.2 z24.1).bind fun _ => some (.inr (z24.1, z24.2))
    else
      some (.inl M)
  else
    (si M v1 (1 : Int32) (2 : Int32)).bind fun M25 =>
    (gi M25 v0 1667).bind fun t26 =>
    (pi M25 v0 1667 (t26 + (1 : Int32))).bind fun M27 =>
    (vg M27 v0 26).bind fun _ =>
    (F_X25_blanks M27 v0).bind fun z29 =>
    (vg z29 v0 26).bind fun _ =>
    (F_X25_is z29 v0 (45 : Int32)).bind fun z31 =>
    if z31 = 0 then
      (vg z29 v0 26).bind fun _ =>
      (F_X25_isDigit z29 v0).bind fun z33 =>
      if z33 = 0 then
        F_X25_item_b162  z29 v0 v1
      else
        F_X25_item_b151  z29 v0 v1
    else
      F_X25_item_b151  z29 v0 v1
noncomputable def F_X25_item_b70  (M : Mem) (s0 : Int32) (v0 : Nat) (v1 : Nat) : Option (Mem ⊕ (Nat × Mem)) :=
  if s0 = 0 then
    F_X25_item_b90  M v0 v1 s0
  else
    (si M v1 (2 : Int32) (1 : Int32)).bind fun M34 =>
    (vg M34 v0 26).bind fun _ =>
    tb (F_X25_number M34 v0) fun z36 =>
    (si z36.2 v1 (3 : Int32) z36.1).bind fun M37 =>
    (si M37 v1 (1 : Int32) (1 : Int32)).bind fun M38 =>
    F_X25_item_b90  M38 v0 v1 s0
noncomputable def F_X25_item_b65  (M : Mem) (v0 : Nat) (v1 : Nat) : Option (Mem ⊕ (Nat × Mem)) :=
  F_X25_item_b70  M (1 : Int32) v0 v1
noncomputable def F_X25_item (M : Mem) (v0 : Nat) : Option (Mem ⊕ (Nat × Mem)) :=
  (mk M 1005 (8 : Int32)).bind fun M39 =>
  let v1_40 : Nat := (m_nx M)
  (gi M39 v0 1667).bind fun t41 =>
  (si M39 v1_40 (0 : Int32) t41).bind fun M42 =>
  (gr M42 v0 1668).bind fun t43 =>
  (vg M42 t43 67).bind fun _ =>
  (F_J6_add M42 t43 v1_40).bind fun z45 =>
  (vg z45.2 v0 26).bind fun _ =>
  (F_X25_is z45.2 v0 (42 : Int32)).bind fun z47 =>
  if z47 = 0 then
    (vg z45.2 v0 26).bind fun _ =>
    (F_X25_is z45.2 v0 (45 : Int32)).bind fun z49 =>
    if z49 = 0 then
      (vg z45.2 v0 26).bind fun _ =>
      (F_X25_isDigit z45.2 v0).bind fun z51 =>
      if z51 = 0 then
        F_X25_item_b70  z45.2 (0 : Int32) v0 v1_40
      else
        F_X25_item_b65  z45.2 v0 v1_40
    else
      F_X25_item_b65  z45.2 v0 v1_40
  else
    (si z45.2 v1_40 (1 : Int32) (3 : Int32)).bind fun M52 =>
    (gi M52 v0 1667).bind fun t53 =>
    (pi M52 v0 1667 (t53 + (1 : Int32))).bind fun M54 =>
    (vg M54 v0 26).bind fun _ =>
    (F_X25_blanks M54 v0).bind fun z56 =>
    some (.inl z56)
noncomputable def F_X25_init_b47_st (k47 : Mem → Nat → Nat → Nat → Int32 → Option (Mem ⊕ (Nat × Mem))) (M : Mem) (v0 : Nat) (v1 : Nat) (v2 : Nat) (v3 : Int32) : Option (Mem ⊕ (Nat × Mem)) :=
  (gi M v0 1667).bind fun t1 =>
  if t1 < v3 then
    (gi M v0 1667).bind fun t2 =>
    (ab M v2 t2).bind fun t3 =>
    if t3 = (44 : Int32) then
      (gi M v0 1667).bind fun t4 =>
      (pi M v0 1667 (t4 + (1 : Int32))).bind fun M5 =>
      (vg M5 v0 26).bind fun _ =>
      (F_X25_blanks M5 v0).bind fun z7 =>
      (vg z7 v0 26).bind fun _ =>
      tb (F_X25_item z7 v0) fun z9 =>
      k47 z9 v0 v1 v2 v3
    else
      (gi M v0 1667).bind fun t10 =>
      (vg M v1 18).bind fun _ =>
      (F_X17_at M v1 (1 : Int32) t10).bind fun z12 =>
      (ie z12.2 z12.1).bind fun _ => some (.inr (z12.1, z12.2))
  else
    some (.inl M)
noncomputable def F_X25_init_b47  (n : Nat) : Mem → Nat → Nat → Nat → Int32 → Option (Mem ⊕ (Nat × Mem)) :=
  Nat.rec (motive := fun _ => Mem → Nat → Nat → Nat → Int32 → Option (Mem ⊕ (Nat × Mem))) (fun _ _ _ _ _ => none) (fun _ ih => F_X25_init_b47_st ih) n
noncomputable def F_X25_init (M : Mem) (v0 : Nat) (v1 : Nat) (v2 : Nat) (v3 : Int32) : Option (Mem ⊕ (Nat × Mem)) :=
  (ng M v0).bind fun _ =>
  let t16 : Nat := m_nx M
  let M15 : Mem := mo M 67
  (ng M15 t16).bind fun _ =>
  (F_J6_init_2 M15 t16).bind fun z18 =>
  (pr z18 v0 1668 t16).bind fun M19 =>
  (pr M19 v0 1664 v1).bind fun M20 =>
  (pr M20 v0 1665 v2).bind fun M21 =>
  (pi M21 v0 1666 v3).bind fun M22 =>
  (vg M22 v0 26).bind fun _ =>
  (F_X25_blanks M22 v0).bind fun z24 =>
  (gi z24 v0 1667).bind fun t25 =>
  if t25 = v3 then
    some (.inl z24)
  else
    (vg z24 v0 26).bind fun _ =>
    tb (F_X25_item z24 v0) fun z27 =>
    F_X25_init_b47  xN z27 v0 v1 v2 v3
noncomputable def F_X16_bounded (v0 : Int32) (v1 : Int32) (v2 : Int32) : Option Int32 :=
  (F_J7_min_2 v0 v2).bind fun z1 =>
  (F_J7_max v1 z1).bind fun z2 =>
  some z2
noncomputable def F_X16_viewed_b461_st (k461 : Mem → Nat → Nat → Int32 → Nat → Nat → Int32 → Int32 → Int32 → Option ((Nat × Mem) ⊕ (Nat × Mem))) (M : Mem) (v0 : Nat) (v1 : Nat) (v3 : Int32) (v4 : Nat) (v5 : Nat) (v6 : Int32) (v7 : Int32) (v8 : Int32) : Option ((Nat × Mem) ⊕ (Nat × Mem)) :=
  (vg M v1 23).bind fun _ =>
  (F_X22_axes M v1).bind fun z2 =>
  if v7 < z2 then
    (gr M v1 1473).bind fun t3 =>
    (ai M t3 v7).bind fun t4 =>
    (si M v4 v6 t4).bind fun M5 =>
    (gr M5 v1 1474).bind fun t6 =>
    (ai M5 t6 v7).bind fun t7 =>
    (si M5 v5 v6 t7).bind fun M8 =>
    let v6_9 : Int32 := v6 + (1 : Int32)
    let v7_10 : Int32 := v7 + (1 : Int32)
    k461 M8 v0 v1 v3 v4 v5 v6_9 v7_10 v8
  else
    if (4 : Int32) < v6 then
      (gr M v0 1103).bind fun t11 =>
      (vg M t11 18).bind fun _ =>
      (F_X17_at M t11 (1 : Int32) v3).bind fun z13 =>
      (ie z13.2 z13.1).bind fun _ => some (.inr (z13.1, z13.2))
    else
      let t15 : Nat := m_nx M
      let M14 : Mem := mo M 23
      (gi M14 v1 1472).bind fun t16 =>
      (F_X16_first M14 v4 v6).bind fun z17 =>
      (F_X16_first z17.2 v5 v6).bind fun z18 =>
      (gr z18.2 v1 1476).bind fun t19 =>
      (gi z18.2 v1 1477).bind fun t20 =>
      (ng z18.2 t15).bind fun _ =>
      (F_X22_init z18.2 t15 t16 z17.1 z18.1 v8 t19 t20).bind fun z22 =>
      some (.inl (t15, z22))
noncomputable def F_X16_viewed_b461  (n : Nat) : Mem → Nat → Nat → Int32 → Nat → Nat → Int32 → Int32 → Int32 → Option ((Nat × Mem) ⊕ (Nat × Mem)) :=
  Nat.rec (motive := fun _ => Mem → Nat → Nat → Int32 → Nat → Nat → Int32 → Int32 → Int32 → Option ((Nat × Mem) ⊕ (Nat × Mem))) (fun _ _ _ _ _ _ _ _ _ => none) (fun _ ih => F_X16_viewed_b461_st ih) n
noncomputable def F_X16_viewed_b455 (k37 : Mem → Nat → Nat → Nat → Int32 → Nat → Nat → Int32 → Int32 → Int32 → Int32 → Option ((Nat × Mem) ⊕ (Nat × Mem))) (M : Mem) (v0 : Nat) (v1 : Nat) (v2 : Nat) (v3 : Int32) (v4 : Nat) (v5 : Nat) (v6 : Int32) (v7 : Int32) (v8 : Int32) (v9 : Int32) : Option ((Nat × Mem) ⊕ (Nat × Mem)) :=
  let v9_23 : Int32 := v9 + (1 : Int32)
  k37 M v0 v1 v2 v3 v4 v5 v6 v7 v8 v9_23
noncomputable def F_X16_viewed_b436 (k37 : Mem → Nat → Nat → Nat → Int32 → Nat → Nat → Int32 → Int32 → Int32 → Int32 → Option ((Nat × Mem) ⊕ (Nat × Mem))) (M : Mem) (s0 : Nat) (s1 : Int32) (s2 : Int32) (v0 : Nat) (v1 : Nat) (v2 : Nat) (v3 : Int32) (v4 : Nat) (v5 : Nat) (v6 : Int32) (v7 : Int32) (v8 : Int32) (v9 : Int32) (v12 : Int32) (v16 : Int32) (v18 : Int32) : Option ((Nat × Mem) ⊕ (Nat × Mem)) :=
  (si M s0 s1 s2).bind fun M24 =>
  let v6_25 : Int32 := v6 + (1 : Int32)
  if 0 < v18 then
    let v8_26 : Int32 := (v8 + (v16 * v12))
    F_X16_viewed_b455 k37 M24 v0 v1 v2 v3 v4 v5 v6_25 v7 v8_26 v9
  else
    F_X16_viewed_b455 k37 M24 v0 v1 v2 v3 v4 v5 v6_25 v7 v8 v9
noncomputable def F_X16_viewed_b410 (k37 : Mem → Nat → Nat → Nat → Int32 → Nat → Nat → Int32 → Int32 → Int32 → Int32 → Option ((Nat × Mem) ⊕ (Nat × Mem))) (M : Mem) (v0 : Nat) (v1 : Nat) (v2 : Nat) (v3 : Int32) (v4 : Nat) (v5 : Nat) (v6 : Int32) (v7 : Int32) (v8 : Int32) (v9 : Int32) (v12 : Int32) (v13 : Int32) (v16 : Int32) (v18 : Int32) : Option ((Nat × Mem) ⊕ (Nat × Mem)) :=
  (si M v4 v6 v18).bind fun M27 =>
  if (1 : Int32) < v18 then
    F_X16_viewed_b436 k37 M27 v5 v6 (v13 * v12) v0 v1 v2 v3 v4 v5 v6 v7 v8 v9 v12 v16 v18
  else
    F_X16_viewed_b436 k37 M27 v5 v6 (0 : Int32) v0 v1 v2 v3 v4 v5 v6 v7 v8 v9 v12 v16 v18
noncomputable def F_X16_viewed_b396 (k37 : Mem → Nat → Nat → Nat → Int32 → Nat → Nat → Int32 → Int32 → Int32 → Int32 → Option ((Nat × Mem) ⊕ (Nat × Mem))) (k370 : Mem → Nat → Nat → Nat → Int32 → Nat → Nat → Int32 → Int32 → Int32 → Int32 → Int32 → Int32 → Int32 → Int32 → Int32 → Int64 → Option ((Nat × Mem) ⊕ (Nat × Mem))) (M : Mem) (v0 : Nat) (v1 : Nat) (v2 : Nat) (v3 : Int32) (v4 : Nat) (v5 : Nat) (v6 : Int32) (v7 : Int32) (v8 : Int32) (v9 : Int32) (v12 : Int32) (v13 : Int32) (v16 : Int32) (v17 : Int32) (v18 : Int32) (v19 : Int64) : Option ((Nat × Mem) ⊕ (Nat × Mem)) :=
  let v18_28 : Int32 := v18 + (1 : Int32)
  let v19_29 : Int64 := (v19 + v13.toInt64)
  k370 M v0 v1 v2 v3 v4 v5 v6 v7 v8 v9 v12 v13 v16 v17 v18_28 v19_29
noncomputable def F_X16_viewed_b370_st (k37 : Mem → Nat → Nat → Nat → Int32 → Nat → Nat → Int32 → Int32 → Int32 → Int32 → Option ((Nat × Mem) ⊕ (Nat × Mem))) (k370 : Mem → Nat → Nat → Nat → Int32 → Nat → Nat → Int32 → Int32 → Int32 → Int32 → Int32 → Int32 → Int32 → Int32 → Int32 → Int64 → Option ((Nat × Mem) ⊕ (Nat × Mem))) (M : Mem) (v0 : Nat) (v1 : Nat) (v2 : Nat) (v3 : Int32) (v4 : Nat) (v5 : Nat) (v6 : Int32) (v7 : Int32) (v8 : Int32) (v9 : Int32) (v12 : Int32) (v13 : Int32) (v16 : Int32) (v17 : Int32) (v18 : Int32) (v19 : Int64) : Option ((Nat × Mem) ⊕ (Nat × Mem)) :=
  if 0 < v13 then
    if v19 < v17.toInt64 then
      F_X16_viewed_b396 k37 k370 M v0 v1 v2 v3 v4 v5 v6 v7 v8 v9 v12 v13 v16 v17 v18 v19
    else
      F_X16_viewed_b410 k37 M v0 v1 v2 v3 v4 v5 v6 v7 v8 v9 v12 v13 v16 v18
  else
    if v17.toInt64 < v19 then
      F_X16_viewed_b396 k37 k370 M v0 v1 v2 v3 v4 v5 v6 v7 v8 v9 v12 v13 v16 v17 v18 v19
    else
      F_X16_viewed_b410 k37 M v0 v1 v2 v3 v4 v5 v6 v7 v8 v9 v12 v13 v16 v18
noncomputable def F_X16_viewed_b370 (k37 : Mem → Nat → Nat → Nat → Int32 → Nat → Nat → Int32 → Int32 → Int32 → Int32 → Option ((Nat × Mem) ⊕ (Nat × Mem))) (n : Nat) : Mem → Nat → Nat → Nat → Int32 → Nat → Nat → Int32 → Int32 → Int32 → Int32 → Int32 → Int32 → Int32 → Int32 → Int32 → Int64 → Option ((Nat × Mem) ⊕ (Nat × Mem)) :=
  Nat.rec (motive := fun _ => Mem → Nat → Nat → Nat → Int32 → Nat → Nat → Int32 → Int32 → Int32 → Int32 → Int32 → Int32 → Int32 → Int32 → Int32 → Int64 → Option ((Nat × Mem) ⊕ (Nat × Mem))) (fun _ _ _ _ _ _ _ _ _ _ _ _ _ _ _ _ _ => none) (fun _ ih => F_X16_viewed_b370_st k37 ih) n
noncomputable def F_X16_viewed_b360 (k37 : Mem → Nat → Nat → Nat → Int32 → Nat → Nat → Int32 → Int32 → Int32 → Int32 → Option ((Nat × Mem) ⊕ (Nat × Mem))) (M : Mem) (s0 : Int32) (v0 : Nat) (v1 : Nat) (v2 : Nat) (v3 : Int32) (v4 : Nat) (v5 : Nat) (v6 : Int32) (v7 : Int32) (v8 : Int32) (v9 : Int32) (v12 : Int32) (v13 : Int32) (v16 : Int32) : Option ((Nat × Mem) ⊕ (Nat × Mem)) :=
  let v19_30 : Int64 := v16.toInt64
  F_X16_viewed_b370 k37 xN M v0 v1 v2 v3 v4 v5 v6 v7 v8 v9 v12 v13 v16 s0 (0 : Int32) v19_30
noncomputable def F_X16_viewed_b353 (k37 : Mem → Nat → Nat → Nat → Int32 → Nat → Nat → Int32 → Int32 → Int32 → Int32 → Option ((Nat × Mem) ⊕ (Nat × Mem))) (M : Mem) (s0 : Int32) (v0 : Nat) (v1 : Nat) (v2 : Nat) (v3 : Int32) (v4 : Nat) (v5 : Nat) (v6 : Int32) (v7 : Int32) (v8 : Int32) (v9 : Int32) (v12 : Int32) (v13 : Int32) (v14 : Int32) (v15 : Int32) (v16 : Int32) : Option ((Nat × Mem) ⊕ (Nat × Mem)) :=
  (F_X16_bounded s0 v14 v15).bind fun z31 =>
  F_X16_viewed_b360 k37 M z31 v0 v1 v2 v3 v4 v5 v6 v7 v8 v9 v12 v13 v16
noncomputable def F_X16_viewed_b309 (k37 : Mem → Nat → Nat → Nat → Int32 → Nat → Nat → Int32 → Int32 → Int32 → Int32 → Option ((Nat × Mem) ⊕ (Nat × Mem))) (M : Mem) (s0 : Int32) (v0 : Nat) (v1 : Nat) (v2 : Nat) (v3 : Int32) (v4 : Nat) (v5 : Nat) (v6 : Int32) (v7 : Int32) (v8 : Int32) (v9 : Int32) (v10 : Nat) (v11 : Int32) (v12 : Int32) (v13 : Int32) (v14 : Int32) (v15 : Int32) : Option ((Nat × Mem) ⊕ (Nat × Mem)) :=
  (ai M v10 (4 : Int32)).bind fun t32 =>
  if t32 = 0 then
    if 0 < v13 then
      F_X16_viewed_b360 k37 M v11 v0 v1 v2 v3 v4 v5 v6 v7 v8 v9 v12 v13 s0
    else
      F_X16_viewed_b360 k37 M (-1 : Int32) v0 v1 v2 v3 v4 v5 v6 v7 v8 v9 v12 v13 s0
  else
    (ai M v10 (5 : Int32)).bind fun t33 =>
    if t33 < 0 then
      (ai M v10 (5 : Int32)).bind fun t34 =>
      F_X16_viewed_b353 k37 M (t34 + v11) v0 v1 v2 v3 v4 v5 v6 v7 v8 v9 v12 v13 v14 v15 s0
    else
      (ai M v10 (5 : Int32)).bind fun t35 =>
      F_X16_viewed_b353 k37 M t35 v0 v1 v2 v3 v4 v5 v6 v7 v8 v9 v12 v13 v14 v15 s0
noncomputable def F_X16_viewed_b302 (k37 : Mem → Nat → Nat → Nat → Int32 → Nat → Nat → Int32 → Int32 → Int32 → Int32 → Option ((Nat × Mem) ⊕ (Nat × Mem))) (M : Mem) (s0 : Int32) (v0 : Nat) (v1 : Nat) (v2 : Nat) (v3 : Int32) (v4 : Nat) (v5 : Nat) (v6 : Int32) (v7 : Int32) (v8 : Int32) (v9 : Int32) (v10 : Nat) (v11 : Int32) (v12 : Int32) (v13 : Int32) (v14 : Int32) (v15 : Int32) : Option ((Nat × Mem) ⊕ (Nat × Mem)) :=
  (F_X16_bounded s0 v14 v15).bind fun z36 =>
  F_X16_viewed_b309 k37 M z36 v0 v1 v2 v3 v4 v5 v6 v7 v8 v9 v10 v11 v12 v13 v14 v15
noncomputable def F_X16_viewed_b256 (k37 : Mem → Nat → Nat → Nat → Int32 → Nat → Nat → Int32 → Int32 → Int32 → Int32 → Option ((Nat × Mem) ⊕ (Nat × Mem))) (M : Mem) (s0 : Int32) (v0 : Nat) (v1 : Nat) (v2 : Nat) (v3 : Int32) (v4 : Nat) (v5 : Nat) (v6 : Int32) (v7 : Int32) (v8 : Int32) (v9 : Int32) (v10 : Nat) (v11 : Int32) (v12 : Int32) (v13 : Int32) (v14 : Int32) : Option ((Nat × Mem) ⊕ (Nat × Mem)) :=
  (ai M v10 (2 : Int32)).bind fun t37 =>
  if t37 = 0 then
    if 0 < v13 then
      F_X16_viewed_b309 k37 M (0 : Int32) v0 v1 v2 v3 v4 v5 v6 v7 v8 v9 v10 v11 v12 v13 v14 s0
    else
      F_X16_viewed_b309 k37 M (v11 - (1 : Int32)) v0 v1 v2 v3 v4 v5 v6 v7 v8 v9 v10 v11 v12 v13 v14 s0
  else
    (ai M v10 (3 : Int32)).bind fun t38 =>
    if t38 < 0 then
      (ai M v10 (3 : Int32)).bind fun t39 =>
      F_X16_viewed_b302 k37 M (t39 + v11) v0 v1 v2 v3 v4 v5 v6 v7 v8 v9 v10 v11 v12 v13 v14 s0
    else
      (ai M v10 (3 : Int32)).bind fun t40 =>
      F_X16_viewed_b302 k37 M t40 v0 v1 v2 v3 v4 v5 v6 v7 v8 v9 v10 v11 v12 v13 v14 s0
noncomputable def F_X16_viewed_b240 (k37 : Mem → Nat → Nat → Nat → Int32 → Nat → Nat → Int32 → Int32 → Int32 → Int32 → Option ((Nat × Mem) ⊕ (Nat × Mem))) (M : Mem) (s0 : Int32) (v0 : Nat) (v1 : Nat) (v2 : Nat) (v3 : Int32) (v4 : Nat) (v5 : Nat) (v6 : Int32) (v7 : Int32) (v8 : Int32) (v9 : Int32) (v10 : Nat) (v11 : Int32) (v12 : Int32) (v13 : Int32) : Option ((Nat × Mem) ⊕ (Nat × Mem)) :=
  if 0 < v13 then
    F_X16_viewed_b256 k37 M v11 v0 v1 v2 v3 v4 v5 v6 v7 v8 v9 v10 v11 v12 v13 s0
  else
    F_X16_viewed_b256 k37 M (v11 - (1 : Int32)) v0 v1 v2 v3 v4 v5 v6 v7 v8 v9 v10 v11 v12 v13 s0
noncomputable def F_X16_viewed_b210 (k37 : Mem → Nat → Nat → Nat → Int32 → Nat → Nat → Int32 → Int32 → Int32 → Int32 → Option ((Nat × Mem) ⊕ (Nat × Mem))) (M : Mem) (s0 : Int32) (v0 : Nat) (v1 : Nat) (v2 : Nat) (v3 : Int32) (v4 : Nat) (v5 : Nat) (v6 : Int32) (v7 : Int32) (v8 : Int32) (v9 : Int32) (v10 : Nat) (v11 : Int32) (v12 : Int32) : Option ((Nat × Mem) ⊕ (Nat × Mem)) :=
  if s0 = 0 then
    (gr M v0 1103).bind fun t41 =>
    (ai M v10 (0 : Int32)).bind fun t42 =>
    (vg M t41 18).bind fun _ =>
    (F_X17_at M t41 (1 : Int32) t42).bind fun z44 =>
    (ie z44.2 z44.1).bind fun _ => some (.inr (z44.1, z44.2))
  else
    if 0 < s0 then
      F_X16_viewed_b240 k37 M (0 : Int32) v0 v1 v2 v3 v4 v5 v6 v7 v8 v9 v10 v11 v12 s0
    else
      F_X16_viewed_b240 k37 M (-1 : Int32) v0 v1 v2 v3 v4 v5 v6 v7 v8 v9 v10 v11 v12 s0
noncomputable def F_X16_viewed_b147  (M : Mem) (v0 : Nat) (v10 : Nat) : Option ((Nat × Mem) ⊕ (Nat × Mem)) :=
  (gr M v0 1103).bind fun t45 =>
  (ai M v10 (0 : Int32)).bind fun t46 =>
  (vg M t45 18).bind fun _ =>
  (F_X17_at M t45 (1 : Int32) t46).bind fun z48 =>
  (ie z48.2 z48.1).bind fun _ => some (.inr (z48.1, z48.2))
noncomputable def F_X16_viewed_b183 (k37 : Mem → Nat → Nat → Nat → Int32 → Nat → Nat → Int32 → Int32 → Int32 → Int32 → Option ((Nat × Mem) ⊕ (Nat × Mem))) (M : Mem) (s0 : Int32) (s1 : Int32) (v0 : Nat) (v1 : Nat) (v2 : Nat) (v3 : Int32) (v4 : Nat) (v5 : Nat) (v6 : Int32) (v7 : Int32) (v9 : Int32) (v12 : Int32) : Option ((Nat × Mem) ⊕ (Nat × Mem)) :=
  let v8_49 : Int32 := (s0 + (s1 * v12))
  F_X16_viewed_b455 k37 M v0 v1 v2 v3 v4 v5 v6 v7 v8_49 v9
noncomputable def F_X16_viewed_b37_st (k37 : Mem → Nat → Nat → Nat → Int32 → Nat → Nat → Int32 → Int32 → Int32 → Int32 → Option ((Nat × Mem) ⊕ (Nat × Mem))) (M : Mem) (v0 : Nat) (v1 : Nat) (v2 : Nat) (v3 : Int32) (v4 : Nat) (v5 : Nat) (v6 : Int32) (v7 : Int32) (v8 : Int32) (v9 : Int32) : Option ((Nat × Mem) ⊕ (Nat × Mem)) :=
  (vg M v2 67).bind fun _ =>
  (F_J6_size M v2).bind fun z51 =>
  if v9 < z51 then
    (vg M v2 67).bind fun _ =>
    (F_J6_get M v2 v9).bind fun z53 =>
    (cc M z53 1005).bind fun _ =>
    (ai M z53 (1 : Int32)).bind fun t54 =>
    if t54 = (3 : Int32) then
      (si M v4 v6 (1 : Int32)).bind fun M55 =>
      let v6_56 : Int32 := v6 + (1 : Int32)
      F_X16_viewed_b455 k37 M55 v0 v1 v2 v3 v4 v5 v6_56 v7 v8 v9
    else
      (vg M v1 23).bind fun _ =>
      (F_X22_axes M v1).bind fun z58 =>
      if v7 = z58 then
        (gr M v0 1103).bind fun t59 =>
        (ai M z53 (0 : Int32)).bind fun t60 =>
        (vg M t59 18).bind fun _ =>
        (F_X17_at M t59 (1 : Int32) t60).bind fun z62 =>
        (ie z62.2 z62.1).bind fun _ => some (.inr (z62.1, z62.2))
      else
        (gr M v1 1473).bind fun t63 =>
        (ai M t63 v7).bind fun t64 =>
        (gr M v1 1474).bind fun t65 =>
        (ai M t65 v7).bind fun t66 =>
        let v7_67 : Int32 := v7 + (1 : Int32)
        (ai M z53 (1 : Int32)).bind fun t68 =>
        if t68 = (1 : Int32) then
          (ai M z53 (3 : Int32)).bind fun t69 =>
          if t69 < (-t64) then
            F_X16_viewed_b147  M v0 z53
          else
            (ai M z53 (3 : Int32)).bind fun t70 =>
            if t70 < t64 then
              (ai M z53 (3 : Int32)).bind fun t71 =>
              if t71 < 0 then
                (ai M z53 (3 : Int32)).bind fun t72 =>
                F_X16_viewed_b183 k37 M v8 (t72 + t64) v0 v1 v2 v3 v4 v5 v6 v7_67 v9 t66
              else
                (ai M z53 (3 : Int32)).bind fun t73 =>
                F_X16_viewed_b183 k37 M v8 t73 v0 v1 v2 v3 v4 v5 v6 v7_67 v9 t66
            else
              F_X16_viewed_b147  M v0 z53
        else
          (ai M z53 (6 : Int32)).bind fun t74 =>
          if t74 = (1 : Int32) then
            (ai M z53 (7 : Int32)).bind fun t75 =>
            F_X16_viewed_b210 k37 M t75 v0 v1 v2 v3 v4 v5 v6 v7_67 v8 v9 z53 t64 t66
          else
            F_X16_viewed_b210 k37 M (1 : Int32) v0 v1 v2 v3 v4 v5 v6 v7_67 v8 v9 z53 t64 t66
  else
    F_X16_viewed_b461  xN M v0 v1 v3 v4 v5 v6 v7 v8
noncomputable def F_X16_viewed_b37  (n : Nat) : Mem → Nat → Nat → Nat → Int32 → Nat → Nat → Int32 → Int32 → Int32 → Int32 → Option ((Nat × Mem) ⊕ (Nat × Mem)) :=
  Nat.rec (motive := fun _ => Mem → Nat → Nat → Nat → Int32 → Nat → Nat → Int32 → Int32 → Int32 → Int32 → Option ((Nat × Mem) ⊕ (Nat × Mem))) (fun _ _ _ _ _ _ _ _ _ _ _ => none) (fun _ ih => F_X16_viewed_b37_st ih) n
noncomputable def F_X16_viewed (M : Mem) (v0 : Nat) (v1 : Nat) (v2 : Nat) (v3 : Int32) : Option ((Nat × Mem) ⊕ (Nat × Mem)) :=
  (vg M v2 67).bind fun _ =>
  (F_J6_size M v2).bind fun z77 =>
  (mk M 1005 ((8 : Int32) + z77)).bind fun M78 =>
  let v4_79 : Nat := (m_nx M)
  (vg M78 v2 67).bind fun _ =>
  (F_J6_size M78 v2).bind fun z81 =>
  (mk M78 1005 ((8 : Int32) + z81)).bind fun M82 =>
  let v5_83 : Nat := (m_nx M78)
  (gi M82 v1 1475).bind fun t84 =>
  F_X16_viewed_b37  xN M82 v0 v1 v2 v3 v4_79 v5_83 (0 : Int32) (0 : Int32) t84 (0 : Int32)
noncomputable def F_X16_view_b65  (M : Mem) (s0 : Nat) (v0 : Nat) : Option (Int32 × Mem) :=
  (gr M v0 1103).bind fun t1 =>
  (gi M t1 1153).bind fun t2 =>
  (pi M v0 1091 t2).bind fun M3 =>
  some ((-20 : Int32), M3)
noncomputable def F_X16_view_b101  (M : Mem) (s0 : Int32) : Option (Int32 × Mem) :=
  some (s0, M)
noncomputable def F_X16_view (M : Mem) (v0 : Nat) (v1 : Int32) : Option (Int32 × Mem) :=
  (pi M v0 1091 (-1 : Int32)).bind fun M4 =>
  (gi M4 v0 1095).bind fun t5 =>
  if t5 = 0 then
    (vg M4 v0 17).bind fun _ =>
    (F_X16_used M4 v0).bind fun z7 =>
    (vg z7.2 v0 17).bind fun _ =>
    (F_X16_isGrid z7.2 v0 v1).bind fun z9 =>
    if z9 = 0 then
      some ((-14 : Int32), z7.2)
    else
      (gr z7.2 v0 1092).bind fun t10 =>
      (ar z7.2 t10 v1).bind fun t11 =>
      let t13 : Nat := m_nx z7.2
      let M12 : Mem := mo z7.2 26
      (gr M12 v0 1103).bind fun t14 =>
      (gr M12 v0 1088).bind fun t15 =>
      (ng M12 t13).bind fun _ =>
      tc (F_X25_init M12 t13 t14 t15 z7.1) (fun z17 =>
        (gr z17 t13 1668).bind fun t19 =>
        (vg z17 v0 17).bind fun _ =>
        tc (F_X16_viewed z17 v0 t11 t19 z7.1) (fun z21 =>
          (gi z21.2 v0 1093).bind fun t23 =>
          if t23 = (400 : Int32) then
            F_X16_view_b101  z21.2 (-12 : Int32)
          else
            (vg z21.2 v0 17).bind fun _ =>
            (F_X16_numbered z21.2 v0 z21.1).bind fun z25 =>
            F_X16_view_b101  z25.2 z25.1)
          (fun z22 =>
            F_X16_view_b65  z22.2 z22.1 v0))
        (fun z18 =>
          F_X16_view_b65  z18.2 z18.1 v0)
  else
    some ((-13 : Int32), M4)
noncomputable def F_X16_turned_b49  (M : Mem) : Option (Int32 × Mem) :=
  some ((-2 : Int32), M)
noncomputable def F_X16_turned (M : Mem) (v0 : Nat) (v1 : Int32) (v2 : Int32) (v3 : Int32) : Option (Int32 × Mem) :=
  (vg M v0 17).bind fun _ =>
  (F_X16_codeOf M v0 v1).bind fun z2 =>
  if 0 < z2 then
    (vg M v0 17).bind fun _ =>
    (F_X16_codeOf M v0 v1).bind fun z4 =>
    some ((-z4), M)
  else
    (gr M v0 1092).bind fun t5 =>
    (ar M t5 v1).bind fun t6 =>
    if v2 < 0 then
      F_X16_turned_b49  M
    else
      (vg M t6 23).bind fun _ =>
      (F_X22_axes M t6).bind fun z8 =>
      if v2 < z8 then
        if v3 < 0 then
          F_X16_turned_b49  M
        else
          (vg M t6 23).bind fun _ =>
          (F_X22_axes M t6).bind fun z10 =>
          if v3 < z10 then
            (gi M v0 1093).bind fun t11 =>
            if t11 = (400 : Int32) then
              some ((-12 : Int32), M)
            else
              (gr M t6 1473).bind fun t12 =>
              (vg M t6 23).bind fun _ =>
              (F_X22_axes M t6).bind fun z14 =>
              (F_X16_first M t12 z14).bind fun z15 =>
              (gr z15.2 t6 1474).bind fun t16 =>
              (vg z15.2 t6 23).bind fun _ =>
              (F_X22_axes z15.2 t6).bind fun z18 =>
              (F_X16_first z15.2 t16 z18).bind fun z19 =>
              (gr z19.2 t6 1473).bind fun t20 =>
              (ai z19.2 t20 v3).bind fun t21 =>
              (si z19.2 z15.1 v2 t21).bind fun M22 =>
              (gr M22 t6 1473).bind fun t23 =>
              (ai M22 t23 v2).bind fun t24 =>
              (si M22 z15.1 v3 t24).bind fun M25 =>
              (gr M25 t6 1474).bind fun t26 =>
              (ai M25 t26 v3).bind fun t27 =>
              (si M25 z19.1 v2 t27).bind fun M28 =>
              (gr M28 t6 1474).bind fun t29 =>
              (ai M28 t29 v2).bind fun t30 =>
              (si M28 z19.1 v3 t30).bind fun M31 =>
              let t33 : Nat := m_nx M31
              let M32 : Mem := mo M31 23
              (gi M32 t6 1472).bind fun t34 =>
              (gi M32 t6 1475).bind fun t35 =>
              (gr M32 t6 1476).bind fun t36 =>
              (gi M32 t6 1477).bind fun t37 =>
              (ng M32 t33).bind fun _ =>
              (F_X22_init M32 t33 t34 z15.1 z19.1 t35 t36 t37).bind fun z39 =>
              (vg z39 v0 17).bind fun _ =>
              (F_X16_numbered z39 v0 t33).bind fun z41 =>
              some (z41.1, z41.2)
          else
            F_X16_turned_b49  M
      else
        F_X16_turned_b49  M
noncomputable def F_X16_spread_b124  (M : Mem) : Option (Int32 × Mem) :=
  some ((-12 : Int32), M)
noncomputable def F_X16_spread_b182 (k135 : Mem → Nat → Int32 → Nat → Nat → Int32 → Option (Int32 × Mem)) (M : Mem) (s0 : Nat) (s1 : Int32) (s2 : Int32) (v0 : Nat) (v2 : Int32) (v3 : Nat) (v4 : Nat) (v5 : Int32) : Option (Int32 × Mem) :=
  (si M s0 s1 s2).bind fun M1 =>
  let v5_2 : Int32 := v5 + (1 : Int32)
  k135 M1 v0 v2 v3 v4 v5_2
noncomputable def F_X16_spread_b135_st (k135 : Mem → Nat → Int32 → Nat → Nat → Int32 → Option (Int32 × Mem)) (M : Mem) (v0 : Nat) (v2 : Int32) (v3 : Nat) (v4 : Nat) (v5 : Int32) : Option (Int32 × Mem) :=
  (vg M v3 23).bind fun _ =>
  (F_X22_axes M v3).bind fun z4 =>
  if z4 < v5 then
    let t6 : Nat := m_nx M
    let M5 : Mem := mo M 23
    (gi M5 v3 1472).bind fun t7 =>
    (gr M5 v0 1096).bind fun t8 =>
    (F_X16_first M5 t8 v2).bind fun z9 =>
    (gi z9.2 v3 1475).bind fun t10 =>
    (gr z9.2 v3 1476).bind fun t11 =>
    (ng z9.2 t6).bind fun _ =>
    (F_X22_init z9.2 t6 t7 z9.1 v4 t10 t11 (1 : Int32)).bind fun z13 =>
    (vg z13 v0 17).bind fun _ =>
    (F_X16_numbered z13 v0 t6).bind fun z15 =>
    some (z15.1, z15.2)
  else
    (gr M v3 1473).bind fun t16 =>
    (vg M v3 23).bind fun _ =>
    (F_X22_axes M v3).bind fun z18 =>
    (ai M t16 (z18 - v5)).bind fun t19 =>
    if t19 = (1 : Int32) then
      F_X16_spread_b182 k135 M v4 (v2 - v5) (0 : Int32) v0 v2 v3 v4 v5
    else
      (gr M v3 1474).bind fun t20 =>
      (vg M v3 23).bind fun _ =>
      (F_X22_axes M v3).bind fun z22 =>
      (ai M t20 (z22 - v5)).bind fun t23 =>
      F_X16_spread_b182 k135 M v4 (v2 - v5) t23 v0 v2 v3 v4 v5
noncomputable def F_X16_spread_b135  (n : Nat) : Mem → Nat → Int32 → Nat → Nat → Int32 → Option (Int32 × Mem) :=
  Nat.rec (motive := fun _ => Mem → Nat → Int32 → Nat → Nat → Int32 → Option (Int32 × Mem)) (fun _ _ _ _ _ _ => none) (fun _ ih => F_X16_spread_b135_st ih) n
noncomputable def F_X16_spread_b93 (k41 : Mem → Nat → Int32 → Nat → Int32 → Option (Int32 × Mem)) (M : Mem) (v0 : Nat) (v2 : Int32) (v3 : Nat) (v4 : Int32) : Option (Int32 × Mem) :=
  let v4_24 : Int32 := v4 + (1 : Int32)
  k41 M v0 v2 v3 v4_24
noncomputable def F_X16_spread_b41_st (k41 : Mem → Nat → Int32 → Nat → Int32 → Option (Int32 × Mem)) (M : Mem) (v0 : Nat) (v2 : Int32) (v3 : Nat) (v4 : Int32) : Option (Int32 × Mem) :=
  (vg M v3 23).bind fun _ =>
  (F_X22_axes M v3).bind fun z26 =>
  if z26 < v4 then
    (gi M v0 1093).bind fun t27 =>
    if t27 = (400 : Int32) then
      F_X16_spread_b124  M
    else
      (gr M v0 1096).bind fun t28 =>
      (F_X16_count M t28 v2).bind fun z29 =>
      if (100000 : Int64) < z29 then
        F_X16_spread_b124  M
      else
        (mk M 1005 v2).bind fun M30 =>
        let v4_31 : Nat := (m_nx M)
        F_X16_spread_b135  xN M30 v0 v2 v3 v4_31 (1 : Int32)
  else
    (gr M v3 1473).bind fun t32 =>
    (vg M v3 23).bind fun _ =>
    (F_X22_axes M v3).bind fun z34 =>
    (ai M t32 (z34 - v4)).bind fun t35 =>
    if t35 = (1 : Int32) then
      F_X16_spread_b93 k41 M v0 v2 v3 v4
    else
      (gr M v3 1473).bind fun t36 =>
      (vg M v3 23).bind fun _ =>
      (F_X22_axes M v3).bind fun z38 =>
      (ai M t36 (z38 - v4)).bind fun t39 =>
      (gr M v0 1096).bind fun t40 =>
      (ai M t40 (v2 - v4)).bind fun t41 =>
      if t39 = t41 then
        F_X16_spread_b93 k41 M v0 v2 v3 v4
      else
        some ((-3 : Int32), M)
noncomputable def F_X16_spread_b41  (n : Nat) : Mem → Nat → Int32 → Nat → Int32 → Option (Int32 × Mem) :=
  Nat.rec (motive := fun _ => Mem → Nat → Int32 → Nat → Int32 → Option (Int32 × Mem)) (fun _ _ _ _ _ => none) (fun _ ih => F_X16_spread_b41_st ih) n
noncomputable def F_X16_spread (M : Mem) (v0 : Nat) (v1 : Int32) : Option (Int32 × Mem) :=
  (vg M v0 17).bind fun _ =>
  (F_X16_usedSizes M v0).bind fun z43 =>
  (vg z43.2 v0 17).bind fun _ =>
  (F_X16_codeOf z43.2 v0 v1).bind fun z45 =>
  if 0 < z45 then
    (vg z43.2 v0 17).bind fun _ =>
    (F_X16_codeOf z43.2 v0 v1).bind fun z47 =>
    some ((-z47), z43.2)
  else
    (gr z43.2 v0 1092).bind fun t48 =>
    (ar z43.2 t48 v1).bind fun t49 =>
    (vg z43.2 t49 23).bind fun _ =>
    (F_X22_axes z43.2 t49).bind fun z51 =>
    if z43.1 < z51 then
      some ((-3 : Int32), z43.2)
    else
      F_X16_spread_b41  xN z43.2 v0 z43.1 t49 (1 : Int32)
noncomputable def F_X16_listed_b7_st (k7 : Mem → Nat → Nat → Int32 → Int32 → Option Mem) (M : Mem) (v0 : Nat) (v1 : Nat) (v2 : Int32) (v3 : Int32) : Option Mem :=
  if v3 < v2 then
    (vg M v0 23).bind fun _ =>
    (F_X22_cell M v0 v3).bind fun z2 =>
    (sj M v1 v3 z2).bind fun M3 =>
    let v3_4 : Int32 := v3 + (1 : Int32)
    k7 M3 v0 v1 v2 v3_4
  else
    some M
noncomputable def F_X16_listed_b7  (n : Nat) : Mem → Nat → Nat → Int32 → Int32 → Option Mem :=
  Nat.rec (motive := fun _ => Mem → Nat → Nat → Int32 → Int32 → Option Mem) (fun _ _ _ _ _ => none) (fun _ ih => F_X16_listed_b7_st ih) n
noncomputable def F_X16_listed (M : Mem) (v0 : Nat) (v1 : Nat) : Option Mem :=
  (vg M v0 23).bind fun _ =>
  (F_X22_count M v0).bind fun z6 =>
  F_X16_listed_b7  xN M v0 v1 z6 (0 : Int32)
noncomputable def F_X16_shaped (M : Mem) (v0 : Nat) (v1 : Int32) : Option (Int32 × Mem) :=
  (vg M v0 17).bind fun _ =>
  (F_X16_usedSizes M v0).bind fun z2 =>
  (vg z2.2 v0 17).bind fun _ =>
  (F_X16_codeOf z2.2 v0 v1).bind fun z4 =>
  if 0 < z4 then
    (vg z2.2 v0 17).bind fun _ =>
    (F_X16_codeOf z2.2 v0 v1).bind fun z6 =>
    some ((-z6), z2.2)
  else
    (gr z2.2 v0 1092).bind fun t7 =>
    (ar z2.2 t7 v1).bind fun t8 =>
    (gr z2.2 v0 1096).bind fun t9 =>
    (F_X16_count z2.2 t9 z2.1).bind fun z10 =>
    (vg z2.2 t8 23).bind fun _ =>
    (F_X22_count z2.2 t8).bind fun z12 =>
    if z10 = z12.toInt64 then
      (vg z2.2 t8 23).bind fun _ =>
      (F_X22_count z2.2 t8).bind fun z14 =>
      (vg z2.2 v0 17).bind fun _ =>
      (F_X16_isRoom z2.2 v0 (z14.toInt64) (1 : Int32)).bind fun z16 =>
      if z16 = 0 then
        some ((-12 : Int32), z2.2)
      else
        (gr z2.2 v0 1100).bind fun t17 =>
        (F_X16_listed z2.2 t8 t17).bind fun z18 =>
        (gi z18 t8 1472).bind fun t19 =>
        (gr z18 v0 1096).bind fun t20 =>
        (F_X16_first z18 t20 z2.1).bind fun z21 =>
        (gr z21.2 v0 1100).bind fun t22 =>
        (vg z21.2 v0 17).bind fun _ =>
        (F_X16_made z21.2 v0 t19 z21.1 t22).bind fun z24 =>
        some (z24.1, z24.2)
    else
      some ((-3 : Int32), z2.2)
noncomputable def F_X16_shares_b26  (M : Mem) : Option (Int32 × Mem) :=
  some ((-14 : Int32), M)
noncomputable def F_X16_shares_b118_st (k118 : Mem → Nat → Nat → Int32 → Option (Int32 × Mem)) (M : Mem) (v0 : Nat) (v4 : Nat) (v5 : Int32) : Option (Int32 × Mem) :=
  (vg M v4 23).bind fun _ =>
  (F_X22_count M v4).bind fun z2 =>
  if v5 < z2 then
    (gr M v0 1104).bind fun t3 =>
    (vg M v4 23).bind fun _ =>
    (F_X22_place M v4 v5).bind fun z5 =>
    (ab M t3 z5).bind fun t6 =>
    if t6 = 0 then
      let v5_7 : Int32 := v5 + (1 : Int32)
      k118 M v0 v4 v5_7
    else
      some ((1 : Int32), M)
  else
    some ((0 : Int32), M)
noncomputable def F_X16_shares_b118  (n : Nat) : Mem → Nat → Nat → Int32 → Option (Int32 × Mem) :=
  Nat.rec (motive := fun _ => Mem → Nat → Nat → Int32 → Option (Int32 × Mem)) (fun _ _ _ _ => none) (fun _ ih => F_X16_shares_b118_st ih) n
noncomputable def F_X16_shares_b88_st (k88 : Mem → Nat → Nat → Nat → Int32 → Option (Int32 × Mem)) (M : Mem) (v0 : Nat) (v3 : Nat) (v4 : Nat) (v5 : Int32) : Option (Int32 × Mem) :=
  (vg M v3 23).bind fun _ =>
  (F_X22_count M v3).bind fun z9 =>
  if v5 < z9 then
    (gr M v0 1104).bind fun t10 =>
    (vg M v3 23).bind fun _ =>
    (F_X22_place M v3 v5).bind fun z12 =>
    (sb M t10 z12 (1 : Int32)).bind fun M13 =>
    let v5_14 : Int32 := v5 + (1 : Int32)
    k88 M13 v0 v3 v4 v5_14
  else
    F_X16_shares_b118  xN M v0 v4 (0 : Int32)
noncomputable def F_X16_shares_b88  (n : Nat) : Mem → Nat → Nat → Nat → Int32 → Option (Int32 × Mem) :=
  Nat.rec (motive := fun _ => Mem → Nat → Nat → Nat → Int32 → Option (Int32 × Mem)) (fun _ _ _ _ _ => none) (fun _ ih => F_X16_shares_b88_st ih) n
noncomputable def F_X16_shares_b61_st (k61 : Mem → Nat → Nat → Nat → Int32 → Option (Int32 × Mem)) (M : Mem) (v0 : Nat) (v3 : Nat) (v4 : Nat) (v5 : Int32) : Option (Int32 × Mem) :=
  (gr M v3 1476).bind fun t15 =>
  (an M t15).bind fun t16 =>
  if v5 < t16 then
    (gr M v0 1104).bind fun t17 =>
    (sb M t17 v5 (0 : Int32)).bind fun M18 =>
    let v5_19 : Int32 := v5 + (1 : Int32)
    k61 M18 v0 v3 v4 v5_19
  else
    F_X16_shares_b88  xN M v0 v3 v4 (0 : Int32)
noncomputable def F_X16_shares_b61  (n : Nat) : Mem → Nat → Nat → Nat → Int32 → Option (Int32 × Mem) :=
  Nat.rec (motive := fun _ => Mem → Nat → Nat → Nat → Int32 → Option (Int32 × Mem)) (fun _ _ _ _ _ => none) (fun _ ih => F_X16_shares_b61_st ih) n
noncomputable def F_X16_shares (M : Mem) (v0 : Nat) (v1 : Int32) (v2 : Int32) : Option (Int32 × Mem) :=
  (gi M v0 1095).bind fun t20 =>
  if t20 = 0 then
    (vg M v0 17).bind fun _ =>
    (F_X16_isGrid M v0 v1).bind fun z22 =>
    if z22 = 0 then
      F_X16_shares_b26  M
    else
      (vg M v0 17).bind fun _ =>
      (F_X16_isGrid M v0 v2).bind fun z24 =>
      if z24 = 0 then
        F_X16_shares_b26  M
      else
        (gr M v0 1092).bind fun t25 =>
        (ar M t25 v1).bind fun t26 =>
        (gr M v0 1092).bind fun t27 =>
        (ar M t27 v2).bind fun t28 =>
        (gr M t26 1476).bind fun t29 =>
        (gr M t28 1476).bind fun t30 =>
        if ac t29 t30 = true then
          if t29 = t30 then
            F_X16_shares_b61  xN M v0 t26 t28 (0 : Int32)
          else
            some ((0 : Int32), M)
        else
          none
  else
    some ((-13 : Int32), M)
noncomputable def F_X41_code_b22  (M : Mem) (s0 : Int32) : Option Int32 :=
  some s0
noncomputable def F_X41_code (M : Mem) (v0 : Nat) (v1 : Int32) : Option Int32 :=
  (gi M v0 2689).bind fun t1 =>
  if v1 < t1 then
    (gr M v0 2688).bind fun t2 =>
    (ab M t2 v1).bind fun t3 =>
    F_X41_code_b22  M (t3 &&& (255 : Int32))
  else
    F_X41_code_b22  M (-1 : Int32)
noncomputable def F_X42_init (M : Mem) (v0 : Nat) (v1 : Int32) (v2 : Int32) (v3 : Nat) (v4 : Int32) (v5 : Int64) : Option Mem :=
  (ng M v0).bind fun _ =>
  (pi M v0 2752 v1).bind fun M3 =>
  (pi M3 v0 2753 v2).bind fun M4 =>
  (pr M4 v0 2754 v3).bind fun M5 =>
  (pi M5 v0 2755 v4).bind fun M6 =>
  (pj M6 v0 2756 v5).bind fun M7 =>
  some M7
noncomputable def F_X41_add (M : Mem) (v0 : Nat) (v1 : Int32) (v2 : Int32) (v3 : Int32) (v4 : Nat) (v5 : Int32) (v6 : Int64) : Option (Int32 × Mem) :=
  (gr M v0 2690).bind fun t1 =>
  let t3 : Nat := m_nx M
  let M2 : Mem := mo M 43
  (ng M2 t3).bind fun _ =>
  (F_X42_init M2 t3 v1 v2 v4 v5 v6).bind fun z5 =>
  (vg z5 t1 67).bind fun _ =>
  (F_J6_add z5 t1 t3).bind fun z7 =>
  some (v3, z7.2)
noncomputable def F_X16_isLetter_b17  (s0 : Int32) : Option Int32 :=
  some (s0 &&& 1)
noncomputable def F_X16_isLetter_b16   : Option Int32 :=
  F_X16_isLetter_b17  (0 : Int32)
noncomputable def F_X16_isLetter (v0 : Int32) : Option Int32 :=
  if v0 < (97 : Int32) then
    F_X16_isLetter_b16  
  else
    if (122 : Int32) < v0 then
      F_X16_isLetter_b16  
    else
      F_X16_isLetter_b17  (1 : Int32)
noncomputable def F_X16_isDigit_b17  (s0 : Int32) : Option Int32 :=
  some (s0 &&& 1)
noncomputable def F_X16_isDigit_b16   : Option Int32 :=
  F_X16_isDigit_b17  (0 : Int32)
noncomputable def F_X16_isDigit (v0 : Int32) : Option Int32 :=
  if v0 < (48 : Int32) then
    F_X16_isDigit_b16  
  else
    if (57 : Int32) < v0 then
      F_X16_isDigit_b16  
    else
      F_X16_isDigit_b17  (1 : Int32)
noncomputable def F_X41_none (M : Mem) (v0 : Nat) (v1 : Int32) : Option (Int32 × Mem) :=
  (vg M v0 42).bind fun _ =>
  (F_X41_add M v0 (5 : Int32) v1 (-1 : Int32) 20 (0 : Int32) (0 : Int64)).bind fun z2 =>
  some (z2.1, z2.2)
noncomputable def F_X41_spelled_b114_st (k114 : Mem → Nat → Int32 → Nat → Int32 → Option (Nat × Mem)) (M : Mem) (v0 : Nat) (v2 : Int32) (v3 : Nat) (v4 : Int32) : Option (Nat × Mem) :=
  if v4 < v2 then
    (vg M v0 42).bind fun _ =>
    (F_X41_code M v0 v4).bind fun z2 =>
    (vg M v3 75).bind fun _ =>
    (F_J14_append M v3 (j_i2c z2)).bind fun z4 =>
    let v4_5 : Int32 := v4 + (1 : Int32)
    k114 z4.2 v0 v2 v3 v4_5
  else
    (gr M v0 2691).bind fun t6 =>
    (vg M v3 75).bind fun _ =>
    (F_J14_toString M v3).bind fun z8 =>
    (vg z8.2 t6 67).bind fun _ =>
    (F_J6_add z8.2 t6 z8.1).bind fun z10 =>
    (gr z10.2 v0 2691).bind fun t11 =>
    (gr z10.2 v0 2691).bind fun t12 =>
    (vg z10.2 t12 67).bind fun _ =>
    (F_J6_size z10.2 t12).bind fun z14 =>
    (vg z10.2 t11 67).bind fun _ =>
    (F_J6_get z10.2 t11 (z14 - (1 : Int32))).bind fun z16 =>
    (cc z10.2 z16 76).bind fun _ =>
    some (z16, z10.2)
noncomputable def F_X41_spelled_b114  (n : Nat) : Mem → Nat → Int32 → Nat → Int32 → Option (Nat × Mem) :=
  Nat.rec (motive := fun _ => Mem → Nat → Int32 → Nat → Int32 → Option (Nat × Mem)) (fun _ _ _ _ _ => none) (fun _ ih => F_X41_spelled_b114_st ih) n
noncomputable def F_X41_spelled_b89 (k2 : Mem → Nat → Int32 → Int32 → Int32 → Option (Nat × Mem)) (M : Mem) (v0 : Nat) (v1 : Int32) (v2 : Int32) (v3 : Int32) (v4 : Nat) (v5 : Int32) : Option (Nat × Mem) :=
  if v5 = 0 then
    let v3_17 : Int32 := v3 + (1 : Int32)
    k2 M v0 v1 v2 v3_17
  else
    some (v4, M)
noncomputable def F_X41_spelled_b81 (k2 : Mem → Nat → Int32 → Int32 → Int32 → Option (Nat × Mem)) (k47 : Mem → Nat → Int32 → Int32 → Int32 → Nat → Int32 → Int32 → Option (Nat × Mem)) (M : Mem) (s0 : Int32) (v0 : Nat) (v1 : Int32) (v2 : Int32) (v3 : Int32) (v4 : Nat) (v6 : Int32) : Option (Nat × Mem) :=
  let v6_18 : Int32 := v6 + (1 : Int32)
  k47 M v0 v1 v2 v3 v4 s0 v6_18
noncomputable def F_X41_spelled_b47_st (k2 : Mem → Nat → Int32 → Int32 → Int32 → Option (Nat × Mem)) (k47 : Mem → Nat → Int32 → Int32 → Int32 → Nat → Int32 → Int32 → Option (Nat × Mem)) (M : Mem) (v0 : Nat) (v1 : Int32) (v2 : Int32) (v3 : Int32) (v4 : Nat) (v5 : Int32) (v6 : Int32) : Option (Nat × Mem) :=
  if v5 = 0 then
    F_X41_spelled_b89 k2 M v0 v1 v2 v3 v4 v5
  else
    if v6 < v2 then
      (vg M v4 76).bind fun _ =>
      (F_J15_charAt M v4 (v6 - v1)).bind fun z20 =>
      (vg M v0 42).bind fun _ =>
      (F_X41_code M v0 v6).bind fun z22 =>
      if z20 = z22 then
        F_X41_spelled_b81 k2 k47 M (1 : Int32) v0 v1 v2 v3 v4 v6
      else
        F_X41_spelled_b81 k2 k47 M (0 : Int32) v0 v1 v2 v3 v4 v6
    else
      F_X41_spelled_b89 k2 M v0 v1 v2 v3 v4 v5
noncomputable def F_X41_spelled_b47 (k2 : Mem → Nat → Int32 → Int32 → Int32 → Option (Nat × Mem)) (n : Nat) : Mem → Nat → Int32 → Int32 → Int32 → Nat → Int32 → Int32 → Option (Nat × Mem) :=
  Nat.rec (motive := fun _ => Mem → Nat → Int32 → Int32 → Int32 → Nat → Int32 → Int32 → Option (Nat × Mem)) (fun _ _ _ _ _ _ _ _ => none) (fun _ ih => F_X41_spelled_b47_st k2 ih) n
noncomputable def F_X41_spelled_b42 (k2 : Mem → Nat → Int32 → Int32 → Int32 → Option (Nat × Mem)) (M : Mem) (s0 : Int32) (v0 : Nat) (v1 : Int32) (v2 : Int32) (v3 : Int32) (v4 : Nat) : Option (Nat × Mem) :=
  F_X41_spelled_b47 k2 xN M v0 v1 v2 v3 v4 s0 v1
noncomputable def F_X41_spelled_b2_st (k2 : Mem → Nat → Int32 → Int32 → Int32 → Option (Nat × Mem)) (M : Mem) (v0 : Nat) (v1 : Int32) (v2 : Int32) (v3 : Int32) : Option (Nat × Mem) :=
  (gr M v0 2691).bind fun t23 =>
  (vg M t23 67).bind fun _ =>
  (F_J6_size M t23).bind fun z25 =>
  if v3 < z25 then
    (gr M v0 2691).bind fun t26 =>
    (vg M t26 67).bind fun _ =>
    (F_J6_get M t26 v3).bind fun z28 =>
    (cc M z28 76).bind fun _ =>
    (vg M z28 76).bind fun _ =>
    (F_J15_length M z28).bind fun z30 =>
    if z30 = (v2 - v1) then
      F_X41_spelled_b42 k2 M (1 : Int32) v0 v1 v2 v3 z28
    else
      F_X41_spelled_b42 k2 M (0 : Int32) v0 v1 v2 v3 z28
  else
    let t32 : Nat := m_nx M
    let M31 : Mem := mo M 75
    (ng M31 t32).bind fun _ =>
    (F_J14_init_2 M31 t32).bind fun z34 =>
    F_X41_spelled_b114  xN z34 v0 v2 t32 v1
noncomputable def F_X41_spelled_b2  (n : Nat) : Mem → Nat → Int32 → Int32 → Int32 → Option (Nat × Mem) :=
  Nat.rec (motive := fun _ => Mem → Nat → Int32 → Int32 → Int32 → Option (Nat × Mem)) (fun _ _ _ _ _ => none) (fun _ ih => F_X41_spelled_b2_st ih) n
noncomputable def F_X41_spelled (M : Mem) (v0 : Nat) (v1 : Int32) (v2 : Int32) : Option (Nat × Mem) :=
  F_X41_spelled_b2  xN M v0 v1 v2 (0 : Int32)
noncomputable def F_X16_laneOf_b203  (M : Mem) (v2 : Int32) : Option (Int32 × Mem) :=
  if v2 = (0 : Int32) then
    some ((0 : Int32), M)
  else
    if v2 = (1 : Int32) then
      some ((1 : Int32), M)
    else
      if v2 = (2 : Int32) then
        some ((2 : Int32), M)
      else
        if v2 = (3 : Int32) then
          some ((3 : Int32), M)
        else
          if v2 = (4 : Int32) then
            some ((4 : Int32), M)
          else
            if v2 = (5 : Int32) then
              some ((5 : Int32), M)
            else
              if v2 = (6 : Int32) then
                some ((6 : Int32), M)
              else
                if v2 = (7 : Int32) then
                  some ((7 : Int32), M)
                else
                  some ((-1 : Int32), M)
noncomputable def F_X16_laneOf (M : Mem) (v0 : Nat) : Option (Int32 × Mem) :=
  (vg M v0 76).bind fun _ =>
  (F_J15_hashCode M v0).bind fun z2 =>
  if z2.1 = (-1325958191 : Int32) then
    (vg z2.2 v0 76).bind fun _ =>
    (F_J15_equals z2.2 v0 55).bind fun z4 =>
    if z4 = 0 then
      F_X16_laneOf_b203  z2.2 (-1 : Int32)
    else
      F_X16_laneOf_b203  z2.2 (7 : Int32)
  else
    if z2.1 = (104431 : Int32) then
      (vg z2.2 v0 76).bind fun _ =>
      (F_J15_equals z2.2 v0 58).bind fun z6 =>
      if z6 = 0 then
        F_X16_laneOf_b203  z2.2 (-1 : Int32)
      else
        F_X16_laneOf_b203  z2.2 (4 : Int32)
    else
      if z2.1 = (3039496 : Int32) then
        (vg z2.2 v0 76).bind fun _ =>
        (F_J15_equals z2.2 v0 53).bind fun z8 =>
        if z8 = 0 then
          F_X16_laneOf_b203  z2.2 (-1 : Int32)
        else
          F_X16_laneOf_b203  z2.2 (1 : Int32)
      else
        if z2.1 = (3052374 : Int32) then
          (vg z2.2 v0 76).bind fun _ =>
          (F_J15_equals z2.2 v0 54).bind fun z10 =>
          if z10 = 0 then
            F_X16_laneOf_b203  z2.2 (-1 : Int32)
          else
            F_X16_laneOf_b203  z2.2 (3 : Int32)
        else
          if z2.1 = (3327612 : Int32) then
            (vg z2.2 v0 76).bind fun _ =>
            (F_J15_equals z2.2 v0 59).bind fun z12 =>
            if z12 = 0 then
              F_X16_laneOf_b203  z2.2 (-1 : Int32)
            else
              F_X16_laneOf_b203  z2.2 (5 : Int32)
          else
            if z2.1 = (64711720 : Int32) then
              (vg z2.2 v0 76).bind fun _ =>
              (F_J15_equals z2.2 v0 51).bind fun z14 =>
              if z14 = 0 then
                F_X16_laneOf_b203  z2.2 (-1 : Int32)
              else
                F_X16_laneOf_b203  z2.2 (0 : Int32)
            else
              if z2.1 = (97526364 : Int32) then
                (vg z2.2 v0 76).bind fun _ =>
                (F_J15_equals z2.2 v0 57).bind fun z16 =>
                if z16 = 0 then
                  F_X16_laneOf_b203  z2.2 (-1 : Int32)
                else
                  F_X16_laneOf_b203  z2.2 (6 : Int32)
              else
                if z2.1 = (109413500 : Int32) then
                  (vg z2.2 v0 76).bind fun _ =>
                  (F_J15_equals z2.2 v0 60).bind fun z18 =>
                  if z18 = 0 then
                    F_X16_laneOf_b203  z2.2 (-1 : Int32)
                  else
                    F_X16_laneOf_b203  z2.2 (2 : Int32)
                else
                  F_X16_laneOf_b203  z2.2 (-1 : Int32)
noncomputable def F_X24_divide_b23  (v4 : Int64) : Option Int64 :=
  some (v4 ||| (9218868437227405312 : Int64))
noncomputable def F_X24_divide_b44  (v4 : Int64) : Option Int64 :=
  some v4
noncomputable def F_X24_divide_b149  (s0 : Int32) (s1 : Int64) (s2 : Int32) (s3 : Int32) : Option Int64 :=
  (F_X24_made s0 s1 s2 s3).bind fun z1 =>
  some z1
noncomputable def F_X24_divide_b123  (s0 : Int32) (v0 : Int64) (v2 : Int64) (v6 : Int64) (v10 : Int64) : Option Int64 :=
  (F_X24_exponent v0).bind fun z2 =>
  (F_X24_exponent v2).bind fun z3 =>
  if v6 = (0 : Int64) then
    F_X24_divide_b149  s0 v10 ((z2 - z3) - (56 : Int32)) (0 : Int32)
  else
    F_X24_divide_b149  s0 v10 ((z2 - z3) - (56 : Int32)) (1 : Int32)
noncomputable def F_X24_divide_b99 (k65 : Int64 → Int64 → Int64 → Int64 → Int64 → Int64 → Int32 → Option Int64) (v0 : Int64) (v2 : Int64) (v4 : Int64) (v6 : Int64) (v8 : Int64) (v10 : Int64) (v12 : Int32) : Option Int64 :=
  let v6_4 : Int64 := (j_lshl v6 (1 : Int32))
  let v12_5 : Int32 := v12 + (1 : Int32)
  k65 v0 v2 v4 v6_4 v8 v10 v12_5
noncomputable def F_X24_divide_b65_st (k65 : Int64 → Int64 → Int64 → Int64 → Int64 → Int64 → Int32 → Option Int64) (v0 : Int64) (v2 : Int64) (v4 : Int64) (v6 : Int64) (v8 : Int64) (v10 : Int64) (v12 : Int32) : Option Int64 :=
  if v12 < (57 : Int32) then
    let v10_6 : Int64 := (j_lshl v10 (1 : Int32))
    if v6 < v8 then
      F_X24_divide_b99 k65 v0 v2 v4 v6 v8 v10_6 v12
    else
      let v6_7 : Int64 := (v6 - v8)
      let v10_8 : Int64 := (v10_6 ||| (1 : Int64))
      F_X24_divide_b99 k65 v0 v2 v4 v6_7 v8 v10_8 v12
  else
    if v4 = (0 : Int64) then
      F_X24_divide_b123  (0 : Int32) v0 v2 v6 v10
    else
      F_X24_divide_b123  (1 : Int32) v0 v2 v6 v10
noncomputable def F_X24_divide_b65  (n : Nat) : Int64 → Int64 → Int64 → Int64 → Int64 → Int64 → Int32 → Option Int64 :=
  Nat.rec (motive := fun _ => Int64 → Int64 → Int64 → Int64 → Int64 → Int64 → Int32 → Option Int64) (fun _ _ _ _ _ _ _ => none) (fun _ ih => F_X24_divide_b65_st ih) n
noncomputable def F_X24_divide (v0 : Int64) (v2 : Int64) : Option Int64 :=
  let v4_9 : Int64 := ((v0 ^^^ v2) &&& (-9223372036854775808 : Int64))
  (F_X24_isInfinite v0).bind fun z10 =>
  if z10 = 0 then
    (F_X24_isZero v2).bind fun z11 =>
    if z11 = 0 then
      (F_X24_isZero v0).bind fun z12 =>
      if z12 = 0 then
        (F_X24_isInfinite v2).bind fun z13 =>
        if z13 = 0 then
          (F_X24_significand v0).bind fun z14 =>
          (F_X24_significand v2).bind fun z15 =>
          F_X24_divide_b65  xN v0 v2 v4_9 z14 z15 (0 : Int64) (0 : Int32)
        else
          F_X24_divide_b44  v4_9
      else
        F_X24_divide_b44  v4_9
    else
      F_X24_divide_b23  v4_9
  else
    F_X24_divide_b23  v4_9
noncomputable def F_X16_decimal_b46  (s0 : Int64) : Option Int64 :=
  some s0
noncomputable def F_X16_decimal_b5_st (k5 : Int64 → Int32 → Int64 → Int32 → Option Int64) (v0 : Int64) (v2 : Int32) (v3 : Int64) (v5 : Int32) : Option Int64 :=
  if v5 < v2 then
    let v3_1 : Int64 := ((10 : Int64) * v3)
    let v5_2 : Int32 := v5 + (1 : Int32)
    k5 v0 v2 v3_1 v5_2
  else
    if v0 = (0 : Int64) then
      F_X16_decimal_b46  (0 : Int64)
    else
      (F_X24_of v0 (0 : Int32)).bind fun z3 =>
      (F_X24_of v3 (0 : Int32)).bind fun z4 =>
      (F_X24_divide z3 z4).bind fun z5 =>
      F_X16_decimal_b46  z5
noncomputable def F_X16_decimal_b5  (n : Nat) : Int64 → Int32 → Int64 → Int32 → Option Int64 :=
  Nat.rec (motive := fun _ => Int64 → Int32 → Int64 → Int32 → Option Int64) (fun _ _ _ _ => none) (fun _ ih => F_X16_decimal_b5_st ih) n
noncomputable def F_X16_decimal (v0 : Int64) (v2 : Int32) : Option Int64 :=
  F_X16_decimal_b5  xN v0 v2 (1 : Int64) (0 : Int32)
noncomputable def F_X41_number_b173  (M : Mem) (s0 : Int32) : Option (Int32 × Mem) :=
  some (s0, M)
noncomputable def F_X41_number_b154  (M : Mem) (v0 : Nat) (v1 : Int32) : Option (Int32 × Mem) :=
  (vg M v0 42).bind fun _ =>
  (F_X41_none M v0 v1).bind fun z2 =>
  F_X41_number_b173  z2.2 z2.1
noncomputable def F_X41_number_b141  (M : Mem) (v0 : Nat) (v1 : Int32) (v2 : Int32) (v3 : Int64) (v5 : Int32) : Option (Int32 × Mem) :=
  if v5 = 0 then
    if (2147483647 : Int64) < v3 then
      F_X41_number_b154  M v0 v1
    else
      (vg M v0 42).bind fun _ =>
      (F_X41_add M v0 (3 : Int32) v1 v2 20 (4 : Int32) v3).bind fun z4 =>
      F_X41_number_b173  z4.2 z4.1
  else
    F_X41_number_b154  M v0 v1
noncomputable def F_X41_number_b252 (k219 : Mem → Nat → Int32 → Int32 → Int32 → Int64 → Int32 → Option (Int32 × Mem)) (M : Mem) (v0 : Nat) (v1 : Int32) (v2 : Int32) (v6 : Int32) (v7 : Int64) (v9 : Int32) : Option (Int32 × Mem) :=
  let v9_5 : Int32 := v9 + (1 : Int32)
  k219 M v0 v1 v2 v6 v7 v9_5
noncomputable def F_X41_number_b219_st (k219 : Mem → Nat → Int32 → Int32 → Int32 → Int64 → Int32 → Option (Int32 × Mem)) (M : Mem) (v0 : Nat) (v1 : Int32) (v2 : Int32) (v6 : Int32) (v7 : Int64) (v9 : Int32) : Option (Int32 × Mem) :=
  if v9 < v2 then
    if v9 = v6 then
      F_X41_number_b252 k219 M v0 v1 v2 v6 v7 v9
    else
      (vg M v0 42).bind fun _ =>
      (F_X41_code M v0 v9).bind fun z7 =>
      let v7_8 : Int64 := ((((10 : Int64) * v7) + z7.toInt64) - (48 : Int64))
      F_X41_number_b252 k219 M v0 v1 v2 v6 v7_8 v9
  else
    (F_X16_decimal v7 ((v2 - v6) - (1 : Int32))).bind fun z9 =>
    (vg M v0 42).bind fun _ =>
    (F_X41_code M v0 v2).bind fun z11 =>
    if z11 = (70 : Int32) then
      (F_X24_narrow z9).bind fun z12 =>
      (vg M v0 42).bind fun _ =>
      (F_X41_add M v0 (3 : Int32) v1 (v2 + (1 : Int32)) 20 (6 : Int32) (z12.toInt64 &&& (4294967295 : Int64))).bind fun z14 =>
      some (z14.1, z14.2)
    else
      (vg M v0 42).bind fun _ =>
      (F_X41_add M v0 (3 : Int32) v1 v2 20 (7 : Int32) z9).bind fun z16 =>
      some (z16.1, z16.2)
noncomputable def F_X41_number_b219  (n : Nat) : Mem → Nat → Int32 → Int32 → Int32 → Int64 → Int32 → Option (Int32 × Mem) :=
  Nat.rec (motive := fun _ => Mem → Nat → Int32 → Int32 → Int32 → Int64 → Int32 → Option (Int32 × Mem)) (fun _ _ _ _ _ _ _ => none) (fun _ ih => F_X41_number_b219_st ih) n
noncomputable def F_X41_number_b180_st (k180 : Mem → Nat → Int32 → Int32 → Int32 → Option (Int32 × Mem)) (M : Mem) (v0 : Nat) (v1 : Int32) (v2 : Int32) (v6 : Int32) : Option (Int32 × Mem) :=
  (vg M v0 42).bind fun _ =>
  (F_X41_code M v0 v2).bind fun z18 =>
  (F_X16_isDigit z18).bind fun z19 =>
  if z19 = 0 then
    if (15 : Int32) < ((v2 - v1) - (1 : Int32)) then
      (vg M v0 42).bind fun _ =>
      (F_X41_none M v0 v1).bind fun z21 =>
      some (z21.1, z21.2)
    else
      F_X41_number_b219  xN M v0 v1 v2 v6 (0 : Int64) v1
  else
    let v2_22 : Int32 := v2 + (1 : Int32)
    k180 M v0 v1 v2_22 v6
noncomputable def F_X41_number_b180  (n : Nat) : Mem → Nat → Int32 → Int32 → Int32 → Option (Int32 × Mem) :=
  Nat.rec (motive := fun _ => Mem → Nat → Int32 → Int32 → Int32 → Option (Int32 × Mem)) (fun _ _ _ _ _ => none) (fun _ ih => F_X41_number_b180_st ih) n
noncomputable def F_X41_number_b117  (M : Mem) (s0 : Int32) : Option (Int32 × Mem) :=
  some (s0, M)
noncomputable def F_X41_number_b74 (k7 : Mem → Nat → Int32 → Int32 → Int64 → Int32 → Option (Int32 × Mem)) (M : Mem) (s0 : Int64) (v0 : Nat) (v1 : Int32) (v2 : Int32) (v5 : Int32) : Option (Int32 × Mem) :=
  let v2_23 : Int32 := v2 + (1 : Int32)
  k7 M v0 v1 v2_23 s0 v5
noncomputable def F_X41_number_b54 (k7 : Mem → Nat → Int32 → Int32 → Int64 → Int32 → Option (Int32 × Mem)) (M : Mem) (s0 : Int32) (v0 : Nat) (v1 : Int32) (v2 : Int32) (v3 : Int64) (v6 : Int32) : Option (Int32 × Mem) :=
  if s0 = 0 then
    F_X41_number_b74 k7 M (((10 : Int64) * v3) + v6.toInt64) v0 v1 v2 s0
  else
    F_X41_number_b74 k7 M (0 : Int64) v0 v1 v2 s0
noncomputable def F_X41_number_b49 (k7 : Mem → Nat → Int32 → Int32 → Int64 → Int32 → Option (Int32 × Mem)) (M : Mem) (v0 : Nat) (v1 : Int32) (v2 : Int32) (v3 : Int64) (v6 : Int32) : Option (Int32 × Mem) :=
  F_X41_number_b54 k7 M (1 : Int32) v0 v1 v2 v3 v6
noncomputable def F_X41_number_b7_st (k7 : Mem → Nat → Int32 → Int32 → Int64 → Int32 → Option (Int32 × Mem)) (M : Mem) (v0 : Nat) (v1 : Int32) (v2 : Int32) (v3 : Int64) (v5 : Int32) : Option (Int32 × Mem) :=
  (vg M v0 42).bind fun _ =>
  (F_X41_code M v0 v2).bind fun z25 =>
  (F_X16_isDigit z25).bind fun z26 =>
  if z26 = 0 then
    (vg M v0 42).bind fun _ =>
    (F_X41_code M v0 v2).bind fun z28 =>
    if z28 = (76 : Int32) then
      if v5 = 0 then
        (vg M v0 42).bind fun _ =>
        (F_X41_add M v0 (3 : Int32) v1 (v2 + (1 : Int32)) 20 (5 : Int32) v3).bind fun z30 =>
        F_X41_number_b117  z30.2 z30.1
      else
        (vg M v0 42).bind fun _ =>
        (F_X41_none M v0 v1).bind fun z32 =>
        F_X41_number_b117  z32.2 z32.1
    else
      (vg M v0 42).bind fun _ =>
      (F_X41_code M v0 v2).bind fun z34 =>
      if z34 = (46 : Int32) then
        (vg M v0 42).bind fun _ =>
        (F_X41_code M v0 (v2 + (1 : Int32))).bind fun z36 =>
        (F_X16_isDigit z36).bind fun z37 =>
        if z37 = 0 then
          F_X41_number_b141  M v0 v1 v2 v3 v5
        else
          let v2_38 : Int32 := v2 + (1 : Int32)
          F_X41_number_b180  xN M v0 v1 v2_38 v2
      else
        F_X41_number_b141  M v0 v1 v2 v3 v5
  else
    (vg M v0 42).bind fun _ =>
    (F_X41_code M v0 v2).bind fun z40 =>
    let v6_41 : Int32 := (z40 - (48 : Int32))
    if v5 = 0 then
      if (10 : Int64) = 0 then none else
      if (((9223372036854775807 : Int64) - v6_41.toInt64) / (10 : Int64)) < v3 then
        F_X41_number_b49 k7 M v0 v1 v2 v3 v6_41
      else
        F_X41_number_b54 k7 M (0 : Int32) v0 v1 v2 v3 v6_41
    else
      F_X41_number_b49 k7 M v0 v1 v2 v3 v6_41
noncomputable def F_X41_number_b7  (n : Nat) : Mem → Nat → Int32 → Int32 → Int64 → Int32 → Option (Int32 × Mem) :=
  Nat.rec (motive := fun _ => Mem → Nat → Int32 → Int32 → Int64 → Int32 → Option (Int32 × Mem)) (fun _ _ _ _ _ _ => none) (fun _ ih => F_X41_number_b7_st ih) n
noncomputable def F_X41_number (M : Mem) (v0 : Nat) (v1 : Int32) : Option (Int32 × Mem) :=
  F_X41_number_b7  xN M v0 v1 v1 (0 : Int64) (0 : Int32)
noncomputable def F_X41_sign_b210  (s0 : Int32) : Option Int32 :=
  some s0
noncomputable def F_X41_sign_b200  (s0 : Int32) : Option Int32 :=
  if s0 = 0 then
    F_X41_sign_b210  (0 : Int32)
  else
    F_X41_sign_b210  (1 : Int32)
noncomputable def F_X41_sign_b195   : Option Int32 :=
  F_X41_sign_b200  (1 : Int32)
noncomputable def F_X41_sign_b81  (v0 : Int32) : Option Int32 :=
  if v0 = (40 : Int32) then
    F_X41_sign_b195  
  else
    if v0 = (41 : Int32) then
      F_X41_sign_b195  
    else
      if v0 = (44 : Int32) then
        F_X41_sign_b195  
      else
        if v0 = (59 : Int32) then
          F_X41_sign_b195  
        else
          if v0 = (63 : Int32) then
            F_X41_sign_b195  
          else
            if v0 = (58 : Int32) then
              F_X41_sign_b195  
            else
              if v0 = (61 : Int32) then
                F_X41_sign_b195  
              else
                if v0 = (43 : Int32) then
                  F_X41_sign_b195  
                else
                  if v0 = (45 : Int32) then
                    F_X41_sign_b195  
                  else
                    if v0 = (42 : Int32) then
                      F_X41_sign_b195  
                    else
                      if v0 = (47 : Int32) then
                        F_X41_sign_b195  
                      else
                        if v0 = (37 : Int32) then
                          F_X41_sign_b195  
                        else
                          if v0 = (60 : Int32) then
                            F_X41_sign_b195  
                          else
                            if v0 = (62 : Int32) then
                              F_X41_sign_b195  
                            else
                              if v0 = (33 : Int32) then
                                F_X41_sign_b195  
                              else
                                if v0 = (126 : Int32) then
                                  F_X41_sign_b195  
                                else
                                  if v0 = (38 : Int32) then
                                    F_X41_sign_b195  
                                  else
                                    if v0 = (94 : Int32) then
                                      F_X41_sign_b195  
                                    else
                                      if v0 = (124 : Int32) then
                                        F_X41_sign_b195  
                                      else
                                        F_X41_sign_b200  (0 : Int32)
noncomputable def F_X41_sign_b79   : Option Int32 :=
  some (2 : Int32)
noncomputable def F_X41_sign_b56  (v0 : Int32) (v1 : Int32) : Option Int32 :=
  if v1 = v0 then
    if v0 = (60 : Int32) then
      F_X41_sign_b79  
    else
      if v0 = (38 : Int32) then
        F_X41_sign_b79  
      else
        if v0 = (124 : Int32) then
          F_X41_sign_b79  
        else
          F_X41_sign_b81  v0
  else
    F_X41_sign_b81  v0
noncomputable def F_X41_sign_b54   : Option Int32 :=
  some (2 : Int32)
noncomputable def F_X41_sign_b24  (v0 : Int32) (v1 : Int32) : Option Int32 :=
  if v1 = (61 : Int32) then
    if v0 = (60 : Int32) then
      F_X41_sign_b54  
    else
      if v0 = (62 : Int32) then
        F_X41_sign_b54  
      else
        if v0 = (61 : Int32) then
          F_X41_sign_b54  
        else
          if v0 = (33 : Int32) then
            F_X41_sign_b54  
          else
            F_X41_sign_b56  v0 v1
  else
    F_X41_sign_b56  v0 v1
noncomputable def F_X41_sign_b23  (s0 : Int32) : Option Int32 :=
  some s0
noncomputable def F_X41_sign (v0 : Int32) (v1 : Int32) (v2 : Int32) : Option Int32 :=
  if v0 = (62 : Int32) then
    if v1 = (62 : Int32) then
      if v2 = (62 : Int32) then
        F_X41_sign_b23  (3 : Int32)
      else
        F_X41_sign_b23  (2 : Int32)
    else
      F_X41_sign_b24  v0 v1
  else
    F_X41_sign_b24  v0 v1
noncomputable def F_X41_signOf (v0 : Int32) : Option Nat :=
  if v0 = (33 : Int32) then
    some 23
  else
    if v0 = (37 : Int32) then
      some 25
    else
      if v0 = (38 : Int32) then
        some 26
      else
        if v0 = (40 : Int32) then
          some 28
        else
          if v0 = (41 : Int32) then
            some 30
          else
            if v0 = (42 : Int32) then
              some 31
            else
              if v0 = (43 : Int32) then
                some 32
              else
                if v0 = (44 : Int32) then
                  some 33
                else
                  if v0 = (45 : Int32) then
                    some 34
                  else
                    if v0 = (47 : Int32) then
                      some 35
                    else
                      if v0 = (58 : Int32) then
                        some 37
                      else
                        if v0 = (59 : Int32) then
                          some 38
                        else
                          if v0 = (60 : Int32) then
                            some 39
                          else
                            if v0 = (61 : Int32) then
                              some 42
                            else
                              if v0 = (62 : Int32) then
                                some 44
                              else
                                if v0 = (63 : Int32) then
                                  some 48
                                else
                                  if v0 = (94 : Int32) then
                                    some 49
                                  else
                                    if v0 = (126 : Int32) then
                                      some 64
                                    else
                                      some 62
noncomputable def F_X41_longSignOf_b83  (s0 : Nat) : Option Nat :=
  some s0
noncomputable def F_X41_longSignOf_b47  (s0 : Nat) : Option Nat :=
  some s0
noncomputable def F_X41_longSignOf_b27  (s0 : Nat) : Option Nat :=
  some s0
noncomputable def F_X41_longSignOf (v0 : Int32) (v1 : Int32) (v2 : Int32) : Option Nat :=
  if v2 = (3 : Int32) then
    some 47
  else
    if v0 = (62 : Int32) then
      if v1 = (62 : Int32) then
        F_X41_longSignOf_b27  46
      else
        F_X41_longSignOf_b27  45
    else
      if v0 = (60 : Int32) then
        if v1 = (60 : Int32) then
          F_X41_longSignOf_b47  40
        else
          F_X41_longSignOf_b47  41
      else
        if v0 = (61 : Int32) then
          F_X41_longSignOf_b83  43
        else
          if v0 = (33 : Int32) then
            F_X41_longSignOf_b83  24
          else
            if v0 = (38 : Int32) then
              F_X41_longSignOf_b83  27
            else
              F_X41_longSignOf_b83  63
noncomputable def F_X41_one_b42 (k2 : Mem → Nat → Int32 → Option (Int32 × Mem)) (M : Mem) (v0 : Nat) (v2 : Int32) : Option (Int32 × Mem) :=
  let v2_1 : Int32 := v2 + (1 : Int32)
  k2 M v0 v2_1
noncomputable def F_X41_one_b285  (M : Mem) (s0 : Int32) : Option (Int32 × Mem) :=
  some (s0, M)
noncomputable def F_X41_one_b280  (M : Mem) (s0 : Nat) (s1 : Int32) (s2 : Int32) (s3 : Int32) (s4 : Nat) : Option (Int32 × Mem) :=
  (vg M s0 42).bind fun _ =>
  (F_X41_add M s0 s1 s2 s3 s4 (0 : Int32) (0 : Int64)).bind fun z3 =>
  F_X41_one_b285  z3.2 z3.1
noncomputable def F_X41_one_b126 (k80 : Mem → Nat → Int32 → Int32 → Option (Int32 × Mem)) (M : Mem) (v0 : Nat) (v2 : Int32) (v4 : Int32) : Option (Int32 × Mem) :=
  let v4_4 : Int32 := v4 + (1 : Int32)
  k80 M v0 v2 v4_4
noncomputable def F_X41_one_b190  (M : Mem) (s0 : Nat) (s1 : Int32) (v2 : Int32) (v4 : Int32) (v5 : Nat) : Option (Int32 × Mem) :=
  (vg M s0 42).bind fun _ =>
  (F_X41_add M s0 s1 v2 v4 v5 (0 : Int32) (0 : Int64)).bind fun z6 =>
  some (z6.1, z6.2)
noncomputable def F_X41_one_b185  (M : Mem) (s0 : Nat) (v2 : Int32) (v4 : Int32) (v5 : Nat) : Option (Int32 × Mem) :=
  F_X41_one_b190  M s0 (2 : Int32) v2 v4 v5
noncomputable def F_X41_one_b132  (M : Mem) (v0 : Nat) (v2 : Int32) (v4 : Int32) : Option (Int32 × Mem) :=
  if (12 : Int32) < (v4 - v2) then
    (vg M v0 42).bind fun _ =>
    (F_X41_none M v0 v2).bind fun z8 =>
    some (z8.1, z8.2)
  else
    (vg M v0 42).bind fun _ =>
    (F_X41_spelled M v0 v2 v4).bind fun z10 =>
    (F_X16_laneOf z10.2 z10.1).bind fun z11 =>
    if z11.1 < 0 then
      (vg z11.2 z10.1 76).bind fun _ =>
      (F_J15_equals z11.2 z10.1 61).bind fun z13 =>
      if z13 = 0 then
        (vg z11.2 z10.1 76).bind fun _ =>
        (F_J15_equals z11.2 z10.1 56).bind fun z15 =>
        if z15 = 0 then
          F_X41_one_b190  z11.2 v0 (1 : Int32) v2 v4 z10.1
        else
          F_X41_one_b185  z11.2 v0 v2 v4 z10.1
      else
        F_X41_one_b185  z11.2 v0 v2 v4 z10.1
    else
      F_X41_one_b185  z11.2 v0 v2 v4 z10.1
noncomputable def F_X41_one_b80_st (k80 : Mem → Nat → Int32 → Int32 → Option (Int32 × Mem)) (M : Mem) (v0 : Nat) (v2 : Int32) (v4 : Int32) : Option (Int32 × Mem) :=
  (vg M v0 42).bind fun _ =>
  (F_X41_code M v0 v4).bind fun z17 =>
  (F_X16_isLetter z17).bind fun z18 =>
  if z18 = 0 then
    (vg M v0 42).bind fun _ =>
    (F_X41_code M v0 v4).bind fun z20 =>
    (F_X16_isDigit z20).bind fun z21 =>
    if z21 = 0 then
      (vg M v0 42).bind fun _ =>
      (F_X41_code M v0 v4).bind fun z23 =>
      if z23 < (65 : Int32) then
        F_X41_one_b132  M v0 v2 v4
      else
        (vg M v0 42).bind fun _ =>
        (F_X41_code M v0 v4).bind fun z25 =>
        if (90 : Int32) < z25 then
          F_X41_one_b132  M v0 v2 v4
        else
          F_X41_one_b126 k80 M v0 v2 v4
    else
      F_X41_one_b126 k80 M v0 v2 v4
  else
    F_X41_one_b126 k80 M v0 v2 v4
noncomputable def F_X41_one_b80  (n : Nat) : Mem → Nat → Int32 → Int32 → Option (Int32 × Mem) :=
  Nat.rec (motive := fun _ => Mem → Nat → Int32 → Int32 → Option (Int32 × Mem)) (fun _ _ _ _ => none) (fun _ ih => F_X41_one_b80_st ih) n
noncomputable def F_X41_one_b2_st (k2 : Mem → Nat → Int32 → Option (Int32 × Mem)) (M : Mem) (v0 : Nat) (v2 : Int32) : Option (Int32 × Mem) :=
  (vg M v0 42).bind fun _ =>
  (F_X41_code M v0 v2).bind fun z27 =>
  if z27 = (9 : Int32) then
    F_X41_one_b42 k2 M v0 v2
  else
    (vg M v0 42).bind fun _ =>
    (F_X41_code M v0 v2).bind fun z29 =>
    if z29 = (10 : Int32) then
      F_X41_one_b42 k2 M v0 v2
    else
      (vg M v0 42).bind fun _ =>
      (F_X41_code M v0 v2).bind fun z31 =>
      if z31 = (13 : Int32) then
        F_X41_one_b42 k2 M v0 v2
      else
        (vg M v0 42).bind fun _ =>
        (F_X41_code M v0 v2).bind fun z33 =>
        if z33 = (32 : Int32) then
          F_X41_one_b42 k2 M v0 v2
        else
          (vg M v0 42).bind fun _ =>
          (F_X41_code M v0 v2).bind fun z35 =>
          if z35 < 0 then
            (vg M v0 42).bind fun _ =>
            (F_X41_add M v0 (0 : Int32) v2 (-1 : Int32) 20 (0 : Int32) (0 : Int64)).bind fun z37 =>
            some (z37.1, z37.2)
          else
            (F_X16_isLetter z35).bind fun z38 =>
            if z38 = 0 then
              (F_X16_isDigit z35).bind fun z39 =>
              if z39 = 0 then
                (vg M v0 42).bind fun _ =>
                (F_X41_code M v0 (v2 + (1 : Int32))).bind fun z41 =>
                (vg M v0 42).bind fun _ =>
                (F_X41_code M v0 (v2 + (2 : Int32))).bind fun z43 =>
                (F_X41_sign z35 z41 z43).bind fun z44 =>
                if z44 = 0 then
                  (vg M v0 42).bind fun _ =>
                  (F_X41_none M v0 v2).bind fun z46 =>
                  F_X41_one_b285  z46.2 z46.1
                else
                  if z44 = (1 : Int32) then
                    (F_X41_signOf z35).bind fun z47 =>
                    F_X41_one_b280  M v0 (4 : Int32) v2 (v2 + z44) z47
                  else
                    (vg M v0 42).bind fun _ =>
                    (F_X41_code M v0 (v2 + (1 : Int32))).bind fun z49 =>
                    (F_X41_longSignOf z35 z49 z44).bind fun z50 =>
                    F_X41_one_b280  M v0 (4 : Int32) v2 (v2 + z44) z50
              else
                (vg M v0 42).bind fun _ =>
                (F_X41_number M v0 v2).bind fun z52 =>
                some (z52.1, z52.2)
            else
              F_X41_one_b80  xN M v0 v2 v2
noncomputable def F_X41_one_b2  (n : Nat) : Mem → Nat → Int32 → Option (Int32 × Mem) :=
  Nat.rec (motive := fun _ => Mem → Nat → Int32 → Option (Int32 × Mem)) (fun _ _ _ => none) (fun _ ih => F_X41_one_b2_st ih) n
noncomputable def F_X41_one (M : Mem) (v0 : Nat) (v1 : Int32) : Option (Int32 × Mem) :=
  F_X41_one_b2  xN M v0 v1
noncomputable def F_X41_init_b38_st (k38 : Mem → Nat → Int32 → Option Mem) (M : Mem) (v0 : Nat) (v3 : Int32) : Option Mem :=
  if v3 < 0 then
    some M
  else
    (vg M v0 42).bind fun _ =>
    (F_X41_one M v0 v3).bind fun z2 =>
    k38 z2.2 v0 z2.1
noncomputable def F_X41_init_b38  (n : Nat) : Mem → Nat → Int32 → Option Mem :=
  Nat.rec (motive := fun _ => Mem → Nat → Int32 → Option Mem) (fun _ _ _ => none) (fun _ ih => F_X41_init_b38_st ih) n
noncomputable def F_X41_init (M : Mem) (v0 : Nat) (v1 : Nat) (v2 : Int32) : Option Mem :=
  (ng M v0).bind fun _ =>
  let t6 : Nat := m_nx M
  let M5 : Mem := mo M 67
  (ng M5 t6).bind fun _ =>
  (F_J6_init_2 M5 t6).bind fun z8 =>
  (pr z8 v0 2690 t6).bind fun M9 =>
  let t11 : Nat := m_nx M9
  let M10 : Mem := mo M9 67
  (ng M10 t11).bind fun _ =>
  (F_J6_init_2 M10 t11).bind fun z13 =>
  (pr z13 v0 2691 t11).bind fun M14 =>
  (pr M14 v0 2688 v1).bind fun M15 =>
  (pi M15 v0 2689 v2).bind fun M16 =>
  F_X41_init_b38  xN M16 v0 (0 : Int32)
noncomputable def F_X40_init (M : Mem) (v0 : Nat) (v1 : Nat) (v2 : Nat) : Option Mem :=
  (ng M v0).bind fun _ =>
  (pr M v0 2624 v1).bind fun M3 =>
  (pr M3 v0 2625 v2).bind fun M4 =>
  some M4
noncomputable def F_X40_token (M : Mem) (v0 : Nat) : Option Nat :=
  (gr M v0 2625).bind fun t1 =>
  (gi M v0 2626).bind fun t2 =>
  (vg M t1 67).bind fun _ =>
  (F_J6_get M t1 t2).bind fun z4 =>
  (cc M z4 43).bind fun _ =>
  some z4
noncomputable def F_X40_wrong (M : Mem) (v0 : Nat) : Option (Nat × Mem) :=
  (gr M v0 2624).bind fun t1 =>
  (vg M v0 41).bind fun _ =>
  (F_X40_token M v0).bind fun z3 =>
  (gi M z3 2753).bind fun t4 =>
  (vg M t1 18).bind fun _ =>
  (F_X17_at M t1 (1 : Int32) t4).bind fun z6 =>
  some (z6.1, z6.2)
noncomputable def F_X43_init (M : Mem) (v0 : Nat) : Option Mem :=
  (ng M v0).bind fun _ =>
  let t4 : Nat := m_nx M
  let M3 : Mem := mo M 67
  (ng M3 t4).bind fun _ =>
  (F_J6_init_2 M3 t4).bind fun z6 =>
  (pr z6 v0 2819 t4).bind fun M7 =>
  let t9 : Nat := m_nx M7
  let M8 : Mem := mo M7 67
  (ng M8 t9).bind fun _ =>
  (F_J6_init_2 M8 t9).bind fun z11 =>
  (pr z11 v0 2820 t9).bind fun M12 =>
  let t14 : Nat := m_nx M12
  let M13 : Mem := mo M12 67
  (ng M13 t14).bind fun _ =>
  (F_J6_init_2 M13 t14).bind fun z16 =>
  (pr z16 v0 2821 t14).bind fun M17 =>
  let t19 : Nat := m_nx M17
  let M18 : Mem := mo M17 67
  (ng M18 t19).bind fun _ =>
  (F_J6_init_2 M18 t19).bind fun z21 =>
  (pr z21 v0 2822 t19).bind fun M22 =>
  some M22
noncomputable def F_X40_isLaneWord_b29  (M : Mem) (s0 : Int32) : Option (Int32 × Mem) :=
  some ((s0 &&& 1), M)
noncomputable def F_X40_isLaneWord_b28  (M : Mem) : Option (Int32 × Mem) :=
  F_X40_isLaneWord_b29  M (0 : Int32)
noncomputable def F_X40_isLaneWord (M : Mem) (v0 : Nat) : Option (Int32 × Mem) :=
  (vg M v0 41).bind fun _ =>
  (F_X40_token M v0).bind fun z2 =>
  (gi M z2 2752).bind fun t3 =>
  if t3 = (2 : Int32) then
    (vg M v0 41).bind fun _ =>
    (F_X40_token M v0).bind fun z5 =>
    (gr M z5 2754).bind fun t6 =>
    (F_X16_laneOf M t6).bind fun z7 =>
    if z7.1 < 0 then
      F_X40_isLaneWord_b28  z7.2
    else
      F_X40_isLaneWord_b29  z7.2 (1 : Int32)
  else
    F_X40_isLaneWord_b28  M
noncomputable def F_X40_lane (M : Mem) (v0 : Nat) : Option ((Int32 × Mem) ⊕ (Nat × Mem)) :=
  (vg M v0 41).bind fun _ =>
  (F_X40_isLaneWord M v0).bind fun z2 =>
  if z2.1 = 0 then
    (vg z2.2 v0 41).bind fun _ =>
    (F_X40_wrong z2.2 v0).bind fun z4 =>
    (ie z4.2 z4.1).bind fun _ => some (.inr (z4.1, z4.2))
  else
    (gi z2.2 v0 2626).bind fun t5 =>
    (pi z2.2 v0 2626 (t5 + (1 : Int32))).bind fun M6 =>
    (gr M6 v0 2625).bind fun t7 =>
    (gi M6 v0 2626).bind fun t8 =>
    (vg M6 t7 67).bind fun _ =>
    (F_J6_get M6 t7 (t8 - (1 : Int32))).bind fun z10 =>
    (cc M6 z10 43).bind fun _ =>
    (gr M6 z10 2754).bind fun t11 =>
    (F_X16_laneOf M6 t11).bind fun z12 =>
    some (.inl (z12.1, z12.2))
noncomputable def F_X40_name (M : Mem) (v0 : Nat) : Option ((Nat × Mem) ⊕ (Nat × Mem)) :=
  (vg M v0 41).bind fun _ =>
  (F_X40_token M v0).bind fun z2 =>
  (gi M z2 2752).bind fun t3 =>
  if t3 = (1 : Int32) then
    (gi M v0 2626).bind fun t4 =>
    (pi M v0 2626 (t4 + (1 : Int32))).bind fun M5 =>
    (gr M5 v0 2625).bind fun t6 =>
    (gi M5 v0 2626).bind fun t7 =>
    (vg M5 t6 67).bind fun _ =>
    (F_J6_get M5 t6 (t7 - (1 : Int32))).bind fun z9 =>
    (cc M5 z9 43).bind fun _ =>
    some (.inl (z9, M5))
  else
    (vg M v0 41).bind fun _ =>
    (F_X40_wrong M v0).bind fun z11 =>
    (ie z11.2 z11.1).bind fun _ => some (.inr (z11.1, z11.2))
noncomputable def F_X40_isSign_b30  (M : Mem) (s0 : Int32) : Option Int32 :=
  some (s0 &&& 1)
noncomputable def F_X40_isSign_b29  (M : Mem) : Option Int32 :=
  F_X40_isSign_b30  M (0 : Int32)
noncomputable def F_X40_isSign (M : Mem) (v0 : Nat) (v1 : Nat) : Option Int32 :=
  (vg M v0 41).bind fun _ =>
  (F_X40_token M v0).bind fun z2 =>
  (gi M z2 2752).bind fun t3 =>
  if t3 = (4 : Int32) then
    (vg M v0 41).bind fun _ =>
    (F_X40_token M v0).bind fun z5 =>
    (gr M z5 2754).bind fun t6 =>
    (vg M t6 76).bind fun _ =>
    (F_J15_equals M t6 v1).bind fun z8 =>
    if z8 = 0 then
      F_X40_isSign_b29  M
    else
      F_X40_isSign_b30  M (1 : Int32)
  else
    F_X40_isSign_b29  M
noncomputable def F_X40_sign (M : Mem) (v0 : Nat) (v1 : Nat) : Option (Mem ⊕ (Nat × Mem)) :=
  (vg M v0 41).bind fun _ =>
  (F_X40_isSign M v0 v1).bind fun z2 =>
  if z2 = 0 then
    (vg M v0 41).bind fun _ =>
    (F_X40_wrong M v0).bind fun z4 =>
    (ie z4.2 z4.1).bind fun _ => some (.inr (z4.1, z4.2))
  else
    (gi M v0 2626).bind fun t5 =>
    (pi M v0 2626 (t5 + (1 : Int32))).bind fun M6 =>
    some (.inl M6)
noncomputable def F_X40_gone_b20  (M : Mem) (v2 : Int32) : Option (Int32 × Mem) :=
  some ((v2 &&& 1), M)
noncomputable def F_X40_gone (M : Mem) (v0 : Nat) (v1 : Nat) : Option (Int32 × Mem) :=
  (vg M v0 41).bind fun _ =>
  (F_X40_isSign M v0 v1).bind fun z2 =>
  if z2 = 0 then
    F_X40_gone_b20  M z2
  else
    (gi M v0 2626).bind fun t3 =>
    (pi M v0 2626 (t3 + (1 : Int32))).bind fun M4 =>
    F_X40_gone_b20  M4 z2
noncomputable def F_X40_deeper (M : Mem) (v0 : Nat) (v1 : Int32) : Option ((Int32 × Mem) ⊕ (Nat × Mem)) :=
  if v1 = (25 : Int32) then
    (vg M v0 41).bind fun _ =>
    (F_X40_wrong M v0).bind fun z2 =>
    (ie z2.2 z2.1).bind fun _ => some (.inr (z2.1, z2.2))
  else
    some (.inl ((v1 + (1 : Int32)), M))
noncomputable def F_X44_init (M : Mem) (v0 : Nat) (v1 : Int32) (v2 : Int32) (v3 : Nat) (v4 : Int32) (v5 : Int64) : Option Mem :=
  (ng M v0).bind fun _ =>
  (pi M v0 2880 v1).bind fun M3 =>
  (pi M3 v0 2881 v2).bind fun M4 =>
  (pr M4 v0 2882 v3).bind fun M5 =>
  (pi M5 v0 2883 v4).bind fun M6 =>
  (pj M6 v0 2884 v5).bind fun M7 =>
  some M7
noncomputable def F_X40_item (M : Mem) (v0 : Nat) (v1 : Int32) (v2 : Int32) (v3 : Nat) (v4 : Int32) (v5 : Int64) : Option Mem :=
  (gr M v0 2627).bind fun t1 =>
  let t3 : Nat := m_nx M
  let M2 : Mem := mo M 45
  (ng M2 t3).bind fun _ =>
  (F_X44_init M2 t3 v1 v2 v3 v4 v5).bind fun z5 =>
  (vg z5 t1 67).bind fun _ =>
  (F_J6_add z5 t1 t3).bind fun z7 =>
  some z7.2
noncomputable def F_X16_rankOf_b570  (M : Mem) : Option (Int32 × Mem) :=
  some ((5 : Int32), M)
noncomputable def F_X16_rankOf_b572  (M : Mem) : Option (Int32 × Mem) :=
  some ((6 : Int32), M)
noncomputable def F_X16_rankOf_b575  (M : Mem) : Option (Int32 × Mem) :=
  some ((7 : Int32), M)
noncomputable def F_X16_rankOf_b578  (M : Mem) : Option (Int32 × Mem) :=
  some ((8 : Int32), M)
noncomputable def F_X16_rankOf_b581  (M : Mem) : Option (Int32 × Mem) :=
  some ((9 : Int32), M)
noncomputable def F_X16_rankOf_b467  (M : Mem) (v2 : Int32) : Option (Int32 × Mem) :=
  if v2 = (0 : Int32) then
    some ((0 : Int32), M)
  else
    if v2 = (1 : Int32) then
      some ((1 : Int32), M)
    else
      if v2 = (2 : Int32) then
        some ((2 : Int32), M)
      else
        if v2 = (3 : Int32) then
          some ((3 : Int32), M)
        else
          if v2 = (4 : Int32) then
            some ((4 : Int32), M)
          else
            if v2 = (5 : Int32) then
              F_X16_rankOf_b570  M
            else
              if v2 = (6 : Int32) then
                F_X16_rankOf_b570  M
              else
                if v2 = (7 : Int32) then
                  F_X16_rankOf_b572  M
                else
                  if v2 = (8 : Int32) then
                    F_X16_rankOf_b572  M
                  else
                    if v2 = (9 : Int32) then
                      F_X16_rankOf_b572  M
                    else
                      if v2 = (10 : Int32) then
                        F_X16_rankOf_b572  M
                      else
                        if v2 = (11 : Int32) then
                          F_X16_rankOf_b575  M
                        else
                          if v2 = (12 : Int32) then
                            F_X16_rankOf_b575  M
                          else
                            if v2 = (13 : Int32) then
                              F_X16_rankOf_b575  M
                            else
                              if v2 = (14 : Int32) then
                                F_X16_rankOf_b578  M
                              else
                                if v2 = (15 : Int32) then
                                  F_X16_rankOf_b578  M
                                else
                                  if v2 = (16 : Int32) then
                                    F_X16_rankOf_b581  M
                                  else
                                    if v2 = (17 : Int32) then
                                      F_X16_rankOf_b581  M
                                    else
                                      if v2 = (18 : Int32) then
                                        F_X16_rankOf_b581  M
                                      else
                                        some ((-1 : Int32), M)
noncomputable def F_X16_rankOf (M : Mem) (v0 : Nat) : Option (Int32 × Mem) :=
  (vg M v0 76).bind fun _ =>
  (F_J15_hashCode M v0).bind fun z2 =>
  if z2.1 = (37 : Int32) then
    (vg z2.2 v0 76).bind fun _ =>
    (F_J15_equals z2.2 v0 25).bind fun z4 =>
    if z4 = 0 then
      F_X16_rankOf_b467  z2.2 (-1 : Int32)
    else
      F_X16_rankOf_b467  z2.2 (18 : Int32)
  else
    if z2.1 = (38 : Int32) then
      (vg z2.2 v0 76).bind fun _ =>
      (F_J15_equals z2.2 v0 26).bind fun z6 =>
      if z6 = 0 then
        F_X16_rankOf_b467  z2.2 (-1 : Int32)
      else
        F_X16_rankOf_b467  z2.2 (4 : Int32)
    else
      if z2.1 = (42 : Int32) then
        (vg z2.2 v0 76).bind fun _ =>
        (F_J15_equals z2.2 v0 31).bind fun z8 =>
        if z8 = 0 then
          F_X16_rankOf_b467  z2.2 (-1 : Int32)
        else
          F_X16_rankOf_b467  z2.2 (16 : Int32)
      else
        if z2.1 = (43 : Int32) then
          (vg z2.2 v0 76).bind fun _ =>
          (F_J15_equals z2.2 v0 32).bind fun z10 =>
          if z10 = 0 then
            F_X16_rankOf_b467  z2.2 (-1 : Int32)
          else
            F_X16_rankOf_b467  z2.2 (14 : Int32)
        else
          if z2.1 = (45 : Int32) then
            (vg z2.2 v0 76).bind fun _ =>
            (F_J15_equals z2.2 v0 34).bind fun z12 =>
            if z12 = 0 then
              F_X16_rankOf_b467  z2.2 (-1 : Int32)
            else
              F_X16_rankOf_b467  z2.2 (15 : Int32)
          else
            if z2.1 = (47 : Int32) then
              (vg z2.2 v0 76).bind fun _ =>
              (F_J15_equals z2.2 v0 35).bind fun z14 =>
              if z14 = 0 then
                F_X16_rankOf_b467  z2.2 (-1 : Int32)
              else
                F_X16_rankOf_b467  z2.2 (17 : Int32)
            else
              if z2.1 = (60 : Int32) then
                (vg z2.2 v0 76).bind fun _ =>
                (F_J15_equals z2.2 v0 39).bind fun z16 =>
                if z16 = 0 then
                  F_X16_rankOf_b467  z2.2 (-1 : Int32)
                else
                  F_X16_rankOf_b467  z2.2 (7 : Int32)
              else
                if z2.1 = (62 : Int32) then
                  (vg z2.2 v0 76).bind fun _ =>
                  (F_J15_equals z2.2 v0 44).bind fun z18 =>
                  if z18 = 0 then
                    F_X16_rankOf_b467  z2.2 (-1 : Int32)
                  else
                    F_X16_rankOf_b467  z2.2 (8 : Int32)
                else
                  if z2.1 = (94 : Int32) then
                    (vg z2.2 v0 76).bind fun _ =>
                    (F_J15_equals z2.2 v0 49).bind fun z20 =>
                    if z20 = 0 then
                      F_X16_rankOf_b467  z2.2 (-1 : Int32)
                    else
                      F_X16_rankOf_b467  z2.2 (3 : Int32)
                  else
                    if z2.1 = (124 : Int32) then
                      (vg z2.2 v0 76).bind fun _ =>
                      (F_J15_equals z2.2 v0 62).bind fun z22 =>
                      if z22 = 0 then
                        F_X16_rankOf_b467  z2.2 (-1 : Int32)
                      else
                        F_X16_rankOf_b467  z2.2 (2 : Int32)
                    else
                      if z2.1 = (1084 : Int32) then
                        (vg z2.2 v0 76).bind fun _ =>
                        (F_J15_equals z2.2 v0 24).bind fun z24 =>
                        if z24 = 0 then
                          F_X16_rankOf_b467  z2.2 (-1 : Int32)
                        else
                          F_X16_rankOf_b467  z2.2 (6 : Int32)
                      else
                        if z2.1 = (1216 : Int32) then
                          (vg z2.2 v0 76).bind fun _ =>
                          (F_J15_equals z2.2 v0 27).bind fun z26 =>
                          if z26 = 0 then
                            F_X16_rankOf_b467  z2.2 (-1 : Int32)
                          else
                            F_X16_rankOf_b467  z2.2 (1 : Int32)
                        else
                          if z2.1 = (1920 : Int32) then
                            (vg z2.2 v0 76).bind fun _ =>
                            (F_J15_equals z2.2 v0 40).bind fun z28 =>
                            if z28 = 0 then
                              F_X16_rankOf_b467  z2.2 (-1 : Int32)
                            else
                              F_X16_rankOf_b467  z2.2 (11 : Int32)
                          else
                            if z2.1 = (1921 : Int32) then
                              (vg z2.2 v0 76).bind fun _ =>
                              (F_J15_equals z2.2 v0 41).bind fun z30 =>
                              if z30 = 0 then
                                F_X16_rankOf_b467  z2.2 (-1 : Int32)
                              else
                                F_X16_rankOf_b467  z2.2 (9 : Int32)
                            else
                              if z2.1 = (1952 : Int32) then
                                (vg z2.2 v0 76).bind fun _ =>
                                (F_J15_equals z2.2 v0 43).bind fun z32 =>
                                if z32 = 0 then
                                  F_X16_rankOf_b467  z2.2 (-1 : Int32)
                                else
                                  F_X16_rankOf_b467  z2.2 (5 : Int32)
                              else
                                if z2.1 = (1983 : Int32) then
                                  (vg z2.2 v0 76).bind fun _ =>
                                  (F_J15_equals z2.2 v0 45).bind fun z34 =>
                                  if z34 = 0 then
                                    F_X16_rankOf_b467  z2.2 (-1 : Int32)
                                  else
                                    F_X16_rankOf_b467  z2.2 (10 : Int32)
                                else
                                  if z2.1 = (1984 : Int32) then
                                    (vg z2.2 v0 76).bind fun _ =>
                                    (F_J15_equals z2.2 v0 46).bind fun z36 =>
                                    if z36 = 0 then
                                      F_X16_rankOf_b467  z2.2 (-1 : Int32)
                                    else
                                      F_X16_rankOf_b467  z2.2 (12 : Int32)
                                  else
                                    if z2.1 = (3968 : Int32) then
                                      (vg z2.2 v0 76).bind fun _ =>
                                      (F_J15_equals z2.2 v0 63).bind fun z38 =>
                                      if z38 = 0 then
                                        F_X16_rankOf_b467  z2.2 (-1 : Int32)
                                      else
                                        F_X16_rankOf_b467  z2.2 (0 : Int32)
                                    else
                                      if z2.1 = (61566 : Int32) then
                                        (vg z2.2 v0 76).bind fun _ =>
                                        (F_J15_equals z2.2 v0 47).bind fun z40 =>
                                        if z40 = 0 then
                                          F_X16_rankOf_b467  z2.2 (-1 : Int32)
                                        else
                                          F_X16_rankOf_b467  z2.2 (13 : Int32)
                                      else
                                        F_X16_rankOf_b467  z2.2 (-1 : Int32)
noncomputable def F_X40_primary_b253 (r_X40_primary : Mem → Nat → Int32 → Option (Mem ⊕ (Nat × Mem))) (r_X40_unary : Mem → Nat → Int32 → Option (Mem ⊕ (Nat × Mem))) (r_X40_ranked : Mem → Nat → Int32 → Int32 → Option (Mem ⊕ (Nat × Mem))) (r_X40_expression : Mem → Nat → Int32 → Option (Mem ⊕ (Nat × Mem)))  (M : Mem) : Option (Mem ⊕ (Nat × Mem)) :=
  some (.inl M)
noncomputable def F_X40_primary_b167_st (r_X40_primary : Mem → Nat → Int32 → Option (Mem ⊕ (Nat × Mem))) (r_X40_unary : Mem → Nat → Int32 → Option (Mem ⊕ (Nat × Mem))) (r_X40_ranked : Mem → Nat → Int32 → Int32 → Option (Mem ⊕ (Nat × Mem))) (r_X40_expression : Mem → Nat → Int32 → Option (Mem ⊕ (Nat × Mem))) (k167 : Mem → Nat → Nat → Int32 → Int32 → Option (Mem ⊕ (Nat × Mem))) (M : Mem) (v0 : Nat) (v2 : Nat) (v3 : Int32) (v4 : Int32) : Option (Mem ⊕ (Nat × Mem)) :=
  (vg M v0 41).bind fun _ =>
  tb (r_X40_expression M v0 v3) fun z2 =>
  let v4_3 : Int32 := v4 + (1 : Int32)
  (vg z2 v0 41).bind fun _ =>
  (F_X40_gone z2 v0 33).bind fun z5 =>
  if z5.1 = 0 then
    (vg z5.2 v0 41).bind fun _ =>
    tb (F_X40_sign z5.2 v0 30) fun z7 =>
    (gi z7 v2 2753).bind fun t8 =>
    (gr z7 v2 2754).bind fun t9 =>
    (vg z7 v0 41).bind fun _ =>
    (F_X40_item z7 v0 (3 : Int32) t8 t9 v4_3 (0 : Int64)).bind fun z11 =>
    F_X40_primary_b253 r_X40_primary r_X40_unary r_X40_ranked r_X40_expression  z11
  else
    k167 z5.2 v0 v2 v3 v4_3
noncomputable def F_X40_primary_b167 (r_X40_primary : Mem → Nat → Int32 → Option (Mem ⊕ (Nat × Mem))) (r_X40_unary : Mem → Nat → Int32 → Option (Mem ⊕ (Nat × Mem))) (r_X40_ranked : Mem → Nat → Int32 → Int32 → Option (Mem ⊕ (Nat × Mem))) (r_X40_expression : Mem → Nat → Int32 → Option (Mem ⊕ (Nat × Mem)))  (n : Nat) : Mem → Nat → Nat → Int32 → Int32 → Option (Mem ⊕ (Nat × Mem)) :=
  Nat.rec (motive := fun _ => Mem → Nat → Nat → Int32 → Int32 → Option (Mem ⊕ (Nat × Mem))) (fun _ _ _ _ _ => none) (fun _ ih => F_X40_primary_b167_st r_X40_primary r_X40_unary r_X40_ranked r_X40_expression ih) n
noncomputable def F_X40_primary_b105 (r_X40_primary : Mem → Nat → Int32 → Option (Mem ⊕ (Nat × Mem))) (r_X40_unary : Mem → Nat → Int32 → Option (Mem ⊕ (Nat × Mem))) (r_X40_ranked : Mem → Nat → Int32 → Int32 → Option (Mem ⊕ (Nat × Mem))) (r_X40_expression : Mem → Nat → Int32 → Option (Mem ⊕ (Nat × Mem)))  (M : Mem) (v0 : Nat) (v1 : Int32) (v2 : Nat) : Option (Mem ⊕ (Nat × Mem)) :=
  (gi M v2 2752).bind fun t12 =>
  if t12 = (1 : Int32) then
    (gi M v0 2626).bind fun t13 =>
    (pi M v0 2626 (t13 + (1 : Int32))).bind fun M14 =>
    (vg M14 v0 41).bind fun _ =>
    (F_X40_isSign M14 v0 28).bind fun z16 =>
    if z16 = 0 then
      (gi M14 v2 2753).bind fun t17 =>
      (gr M14 v2 2754).bind fun t18 =>
      (vg M14 v0 41).bind fun _ =>
      (F_X40_item M14 v0 (2 : Int32) t17 t18 (0 : Int32) (0 : Int64)).bind fun z20 =>
      some (.inl z20)
    else
      (vg M14 v0 41).bind fun _ =>
      tb (F_X40_deeper M14 v0 v1) fun z22 =>
      (gi z22.2 v0 2626).bind fun t23 =>
      (pi z22.2 v0 2626 (t23 + (1 : Int32))).bind fun M24 =>
      F_X40_primary_b167 r_X40_primary r_X40_unary r_X40_ranked r_X40_expression  xN M24 v0 v2 z22.1 (0 : Int32)
  else
    (vg M v0 41).bind fun _ =>
    (F_X40_isSign M v0 28).bind fun z26 =>
    if z26 = 0 then
      (vg M v0 41).bind fun _ =>
      (F_X40_wrong M v0).bind fun z28 =>
      (ie z28.2 z28.1).bind fun _ => some (.inr (z28.1, z28.2))
    else
      (vg M v0 41).bind fun _ =>
      tb (F_X40_deeper M v0 v1) fun z30 =>
      (gi z30.2 v0 2626).bind fun t31 =>
      (pi z30.2 v0 2626 (t31 + (1 : Int32))).bind fun M32 =>
      (vg M32 v0 41).bind fun _ =>
      tb (r_X40_expression M32 v0 z30.1) fun z34 =>
      (vg z34 v0 41).bind fun _ =>
      tb (F_X40_sign z34 v0 30) fun z36 =>
      F_X40_primary_b253 r_X40_primary r_X40_unary r_X40_ranked r_X40_expression  z36
noncomputable def F_X40_primary_b99 (r_X40_primary : Mem → Nat → Int32 → Option (Mem ⊕ (Nat × Mem))) (r_X40_unary : Mem → Nat → Int32 → Option (Mem ⊕ (Nat × Mem))) (r_X40_ranked : Mem → Nat → Int32 → Int32 → Option (Mem ⊕ (Nat × Mem))) (r_X40_expression : Mem → Nat → Int32 → Option (Mem ⊕ (Nat × Mem)))  (M : Mem) (s0 : Nat) (s1 : Int32) (s2 : Int32) (s3 : Nat) (s4 : Int32) (s5 : Int64) : Option (Mem ⊕ (Nat × Mem)) :=
  (vg M s0 41).bind fun _ =>
  (F_X40_item M s0 s1 s2 s3 s4 s5).bind fun z38 =>
  F_X40_primary_b253 r_X40_primary r_X40_unary r_X40_ranked r_X40_expression  z38
noncomputable def F_X40_primary_o (r_X40_primary : Mem → Nat → Int32 → Option (Mem ⊕ (Nat × Mem))) (r_X40_unary : Mem → Nat → Int32 → Option (Mem ⊕ (Nat × Mem))) (r_X40_ranked : Mem → Nat → Int32 → Int32 → Option (Mem ⊕ (Nat × Mem))) (r_X40_expression : Mem → Nat → Int32 → Option (Mem ⊕ (Nat × Mem))) (M : Mem) (v0 : Nat) (v1 : Int32) : Option (Mem ⊕ (Nat × Mem)) :=
  (vg M v0 41).bind fun _ =>
  (F_X40_token M v0).bind fun z40 =>
  (gi M z40 2752).bind fun t41 =>
  if t41 = (3 : Int32) then
    (gi M v0 2626).bind fun t42 =>
    (pi M v0 2626 (t42 + (1 : Int32))).bind fun M43 =>
    (gi M43 z40 2753).bind fun t44 =>
    (gi M43 z40 2755).bind fun t45 =>
    (gl M43 z40 2756).bind fun t46 =>
    (vg M43 v0 41).bind fun _ =>
    (F_X40_item M43 v0 (1 : Int32) t44 20 t45 t46).bind fun z48 =>
    F_X40_primary_b253 r_X40_primary r_X40_unary r_X40_ranked r_X40_expression  z48
  else
    (gi M z40 2752).bind fun t49 =>
    if t49 = (2 : Int32) then
      (gr M z40 2754).bind fun t50 =>
      (F_X16_laneOf M t50).bind fun z51 =>
      if z51.1 < 0 then
        (gi z51.2 v0 2626).bind fun t52 =>
        (pi z51.2 v0 2626 (t52 + (1 : Int32))).bind fun M53 =>
        (gi M53 z40 2753).bind fun t54 =>
        (gr M53 z40 2754).bind fun t55 =>
        (vg M53 t55 76).bind fun _ =>
        (F_J15_equals M53 t55 61).bind fun z57 =>
        if z57 = 0 then
          F_X40_primary_b99 r_X40_primary r_X40_unary r_X40_ranked r_X40_expression  M53 v0 (1 : Int32) t54 20 (0 : Int32) (0 : Int64)
        else
          F_X40_primary_b99 r_X40_primary r_X40_unary r_X40_ranked r_X40_expression  M53 v0 (1 : Int32) t54 20 (0 : Int32) (1 : Int64)
      else
        F_X40_primary_b105 r_X40_primary r_X40_unary r_X40_ranked r_X40_expression  z51.2 v0 v1 z40
    else
      F_X40_primary_b105 r_X40_primary r_X40_unary r_X40_ranked r_X40_expression  M v0 v1 z40
noncomputable def F_X40_unary_b183 (r_X40_primary : Mem → Nat → Int32 → Option (Mem ⊕ (Nat × Mem))) (r_X40_unary : Mem → Nat → Int32 → Option (Mem ⊕ (Nat × Mem))) (r_X40_ranked : Mem → Nat → Int32 → Int32 → Option (Mem ⊕ (Nat × Mem))) (r_X40_expression : Mem → Nat → Int32 → Option (Mem ⊕ (Nat × Mem)))  (M : Mem) : Option (Mem ⊕ (Nat × Mem)) :=
  some (.inl M)
noncomputable def F_X40_unary_b32 (r_X40_primary : Mem → Nat → Int32 → Option (Mem ⊕ (Nat × Mem))) (r_X40_unary : Mem → Nat → Int32 → Option (Mem ⊕ (Nat × Mem))) (r_X40_ranked : Mem → Nat → Int32 → Int32 → Option (Mem ⊕ (Nat × Mem))) (r_X40_expression : Mem → Nat → Int32 → Option (Mem ⊕ (Nat × Mem)))  (M : Mem) (v0 : Nat) (v1 : Int32) (v2 : Nat) : Option (Mem ⊕ (Nat × Mem)) :=
  (vg M v0 41).bind fun _ =>
  tb (F_X40_deeper M v0 v1) fun z2 =>
  (gi z2.2 v0 2626).bind fun t3 =>
  (pi z2.2 v0 2626 (t3 + (1 : Int32))).bind fun M4 =>
  (vg M4 v0 41).bind fun _ =>
  tb (r_X40_unary M4 v0 z2.1) fun z6 =>
  (gi z6 v2 2753).bind fun t7 =>
  (gr z6 v2 2754).bind fun t8 =>
  (vg z6 v0 41).bind fun _ =>
  (F_X40_item z6 v0 (4 : Int32) t7 t8 (0 : Int32) (0 : Int64)).bind fun z10 =>
  F_X40_unary_b183 r_X40_primary r_X40_unary r_X40_ranked r_X40_expression  z10
noncomputable def F_X40_unary_b178 (r_X40_primary : Mem → Nat → Int32 → Option (Mem ⊕ (Nat × Mem))) (r_X40_unary : Mem → Nat → Int32 → Option (Mem ⊕ (Nat × Mem))) (r_X40_ranked : Mem → Nat → Int32 → Int32 → Option (Mem ⊕ (Nat × Mem))) (r_X40_expression : Mem → Nat → Int32 → Option (Mem ⊕ (Nat × Mem)))  (M : Mem) (v0 : Nat) (v1 : Int32) : Option (Mem ⊕ (Nat × Mem)) :=
  (vg M v0 41).bind fun _ =>
  tb (r_X40_primary M v0 v1) fun z12 =>
  F_X40_unary_b183 r_X40_primary r_X40_unary r_X40_ranked r_X40_expression  z12
noncomputable def F_X40_unary_o (r_X40_primary : Mem → Nat → Int32 → Option (Mem ⊕ (Nat × Mem))) (r_X40_unary : Mem → Nat → Int32 → Option (Mem ⊕ (Nat × Mem))) (r_X40_ranked : Mem → Nat → Int32 → Int32 → Option (Mem ⊕ (Nat × Mem))) (r_X40_expression : Mem → Nat → Int32 → Option (Mem ⊕ (Nat × Mem))) (M : Mem) (v0 : Nat) (v1 : Int32) : Option (Mem ⊕ (Nat × Mem)) :=
  (vg M v0 41).bind fun _ =>
  (F_X40_token M v0).bind fun z14 =>
  (vg M v0 41).bind fun _ =>
  (F_X40_isSign M v0 34).bind fun z16 =>
  if z16 = 0 then
    (vg M v0 41).bind fun _ =>
    (F_X40_isSign M v0 23).bind fun z18 =>
    if z18 = 0 then
      (vg M v0 41).bind fun _ =>
      (F_X40_isSign M v0 64).bind fun z20 =>
      if z20 = 0 then
        (vg M v0 41).bind fun _ =>
        (F_X40_isSign M v0 28).bind fun z22 =>
        if z22 = 0 then
          F_X40_unary_b178 r_X40_primary r_X40_unary r_X40_ranked r_X40_expression  M v0 v1
        else
          (gr M v0 2625).bind fun t23 =>
          (gi M v0 2626).bind fun t24 =>
          (vg M t23 67).bind fun _ =>
          (F_J6_get M t23 (t24 + (1 : Int32))).bind fun z26 =>
          (cc M z26 43).bind fun _ =>
          (gi M z26 2752).bind fun t27 =>
          if t27 = (2 : Int32) then
            (gr M v0 2625).bind fun t28 =>
            (gi M v0 2626).bind fun t29 =>
            (vg M t28 67).bind fun _ =>
            (F_J6_get M t28 (t29 + (1 : Int32))).bind fun z31 =>
            (cc M z31 43).bind fun _ =>
            (gr M z31 2754).bind fun t32 =>
            (F_X16_laneOf M t32).bind fun z33 =>
            if z33.1 < 0 then
              F_X40_unary_b178 r_X40_primary r_X40_unary r_X40_ranked r_X40_expression  z33.2 v0 v1
            else
              (vg z33.2 v0 41).bind fun _ =>
              tb (F_X40_deeper z33.2 v0 v1) fun z35 =>
              (gi z35.2 v0 2626).bind fun t36 =>
              (pi z35.2 v0 2626 (t36 + (1 : Int32))).bind fun M37 =>
              (vg M37 v0 41).bind fun _ =>
              tb (F_X40_lane M37 v0) fun z39 =>
              (vg z39.2 v0 41).bind fun _ =>
              tb (F_X40_sign z39.2 v0 30) fun z41 =>
              (vg z41 v0 41).bind fun _ =>
              tb (r_X40_unary z41 v0 z35.1) fun z43 =>
              (gi z43 z14 2753).bind fun t44 =>
              (vg z43 v0 41).bind fun _ =>
              (F_X40_item z43 v0 (5 : Int32) t44 20 z39.1 (0 : Int64)).bind fun z46 =>
              F_X40_unary_b183 r_X40_primary r_X40_unary r_X40_ranked r_X40_expression  z46
          else
            F_X40_unary_b178 r_X40_primary r_X40_unary r_X40_ranked r_X40_expression  M v0 v1
      else
        F_X40_unary_b32 r_X40_primary r_X40_unary r_X40_ranked r_X40_expression  M v0 v1 z14
    else
      F_X40_unary_b32 r_X40_primary r_X40_unary r_X40_ranked r_X40_expression  M v0 v1 z14
  else
    F_X40_unary_b32 r_X40_primary r_X40_unary r_X40_ranked r_X40_expression  M v0 v1 z14
noncomputable def F_X40_ranked_b118 (r_X40_primary : Mem → Nat → Int32 → Option (Mem ⊕ (Nat × Mem))) (r_X40_unary : Mem → Nat → Int32 → Option (Mem ⊕ (Nat × Mem))) (r_X40_ranked : Mem → Nat → Int32 → Int32 → Option (Mem ⊕ (Nat × Mem))) (r_X40_expression : Mem → Nat → Int32 → Option (Mem ⊕ (Nat × Mem)))  (M : Mem) : Option (Mem ⊕ (Nat × Mem)) :=
  some (.inl M)
noncomputable def F_X40_ranked_b102 (r_X40_primary : Mem → Nat → Int32 → Option (Mem ⊕ (Nat × Mem))) (r_X40_unary : Mem → Nat → Int32 → Option (Mem ⊕ (Nat × Mem))) (r_X40_ranked : Mem → Nat → Int32 → Int32 → Option (Mem ⊕ (Nat × Mem))) (r_X40_expression : Mem → Nat → Int32 → Option (Mem ⊕ (Nat × Mem))) (k20 : Mem → Nat → Int32 → Int32 → Option (Mem ⊕ (Nat × Mem))) (M : Mem) (s0 : Nat) (s1 : Int32) (v0 : Nat) (v1 : Int32) (v2 : Int32) (v3 : Nat) : Option (Mem ⊕ (Nat × Mem)) :=
  (gi M v3 2753).bind fun t1 =>
  (gr M v3 2754).bind fun t2 =>
  (vg M s0 41).bind fun _ =>
  (F_X40_item M s0 s1 t1 t2 (0 : Int32) (0 : Int64)).bind fun z4 =>
  k20 z4 v0 v1 v2
noncomputable def F_X40_ranked_b81 (r_X40_primary : Mem → Nat → Int32 → Option (Mem ⊕ (Nat × Mem))) (r_X40_unary : Mem → Nat → Int32 → Option (Mem ⊕ (Nat × Mem))) (r_X40_ranked : Mem → Nat → Int32 → Int32 → Option (Mem ⊕ (Nat × Mem))) (r_X40_expression : Mem → Nat → Int32 → Option (Mem ⊕ (Nat × Mem))) (k20 : Mem → Nat → Int32 → Int32 → Option (Mem ⊕ (Nat × Mem))) (M : Mem) (v0 : Nat) (v1 : Int32) (v2 : Int32) (v3 : Nat) : Option (Mem ⊕ (Nat × Mem)) :=
  (vg M v0 41).bind fun _ =>
  tb (r_X40_ranked M v0 (v1 + (1 : Int32)) v2) fun z6 =>
  if v1 < (2 : Int32) then
    F_X40_ranked_b102 r_X40_primary r_X40_unary r_X40_ranked r_X40_expression k20 z6 v0 (8 : Int32) v0 v1 v2 v3
  else
    F_X40_ranked_b102 r_X40_primary r_X40_unary r_X40_ranked r_X40_expression k20 z6 v0 (6 : Int32) v0 v1 v2 v3
noncomputable def F_X40_ranked_b20_st (r_X40_primary : Mem → Nat → Int32 → Option (Mem ⊕ (Nat × Mem))) (r_X40_unary : Mem → Nat → Int32 → Option (Mem ⊕ (Nat × Mem))) (r_X40_ranked : Mem → Nat → Int32 → Int32 → Option (Mem ⊕ (Nat × Mem))) (r_X40_expression : Mem → Nat → Int32 → Option (Mem ⊕ (Nat × Mem))) (k20 : Mem → Nat → Int32 → Int32 → Option (Mem ⊕ (Nat × Mem))) (M : Mem) (v0 : Nat) (v1 : Int32) (v2 : Int32) : Option (Mem ⊕ (Nat × Mem)) :=
  (vg M v0 41).bind fun _ =>
  (F_X40_token M v0).bind fun z8 =>
  (gi M z8 2752).bind fun t9 =>
  if t9 = (4 : Int32) then
    (vg M v0 41).bind fun _ =>
    (F_X40_token M v0).bind fun z11 =>
    (gr M z11 2754).bind fun t12 =>
    (F_X16_rankOf M t12).bind fun z13 =>
    if z13.1 = v1 then
      (vg z13.2 v0 41).bind fun _ =>
      (F_X40_token z13.2 v0).bind fun z15 =>
      (gi z13.2 v0 2626).bind fun t16 =>
      (pi z13.2 v0 2626 (t16 + (1 : Int32))).bind fun M17 =>
      if v1 < (2 : Int32) then
        (gi M17 z15 2753).bind fun t18 =>
        (gr M17 z15 2754).bind fun t19 =>
        (vg M17 v0 41).bind fun _ =>
        (F_X40_item M17 v0 (7 : Int32) t18 t19 (0 : Int32) (0 : Int64)).bind fun z21 =>
        F_X40_ranked_b81 r_X40_primary r_X40_unary r_X40_ranked r_X40_expression k20 z21 v0 v1 v2 z15
      else
        F_X40_ranked_b81 r_X40_primary r_X40_unary r_X40_ranked r_X40_expression k20 M17 v0 v1 v2 z15
    else
      F_X40_ranked_b118 r_X40_primary r_X40_unary r_X40_ranked r_X40_expression  z13.2
  else
    F_X40_ranked_b118 r_X40_primary r_X40_unary r_X40_ranked r_X40_expression  M
noncomputable def F_X40_ranked_b20 (r_X40_primary : Mem → Nat → Int32 → Option (Mem ⊕ (Nat × Mem))) (r_X40_unary : Mem → Nat → Int32 → Option (Mem ⊕ (Nat × Mem))) (r_X40_ranked : Mem → Nat → Int32 → Int32 → Option (Mem ⊕ (Nat × Mem))) (r_X40_expression : Mem → Nat → Int32 → Option (Mem ⊕ (Nat × Mem)))  (n : Nat) : Mem → Nat → Int32 → Int32 → Option (Mem ⊕ (Nat × Mem)) :=
  Nat.rec (motive := fun _ => Mem → Nat → Int32 → Int32 → Option (Mem ⊕ (Nat × Mem))) (fun _ _ _ _ => none) (fun _ ih => F_X40_ranked_b20_st r_X40_primary r_X40_unary r_X40_ranked r_X40_expression ih) n
noncomputable def F_X40_ranked_o (r_X40_primary : Mem → Nat → Int32 → Option (Mem ⊕ (Nat × Mem))) (r_X40_unary : Mem → Nat → Int32 → Option (Mem ⊕ (Nat × Mem))) (r_X40_ranked : Mem → Nat → Int32 → Int32 → Option (Mem ⊕ (Nat × Mem))) (r_X40_expression : Mem → Nat → Int32 → Option (Mem ⊕ (Nat × Mem))) (M : Mem) (v0 : Nat) (v1 : Int32) (v2 : Int32) : Option (Mem ⊕ (Nat × Mem)) :=
  if (9 : Int32) < v1 then
    (vg M v0 41).bind fun _ =>
    tb (r_X40_unary M v0 v2) fun z23 =>
    some (.inl z23)
  else
    (vg M v0 41).bind fun _ =>
    tb (r_X40_ranked M v0 (v1 + (1 : Int32)) v2) fun z25 =>
    F_X40_ranked_b20 r_X40_primary r_X40_unary r_X40_ranked r_X40_expression  xN z25 v0 v1 v2
noncomputable def F_X40_expression_o (r_X40_primary : Mem → Nat → Int32 → Option (Mem ⊕ (Nat × Mem))) (r_X40_unary : Mem → Nat → Int32 → Option (Mem ⊕ (Nat × Mem))) (r_X40_ranked : Mem → Nat → Int32 → Int32 → Option (Mem ⊕ (Nat × Mem))) (r_X40_expression : Mem → Nat → Int32 → Option (Mem ⊕ (Nat × Mem))) (M : Mem) (v0 : Nat) (v1 : Int32) : Option (Mem ⊕ (Nat × Mem)) :=
  (vg M v0 41).bind fun _ =>
  tb (r_X40_ranked M v0 (0 : Int32) v1) fun z2 =>
  (vg z2 v0 41).bind fun _ =>
  (F_X40_isSign z2 v0 48).bind fun z4 =>
  if z4 = 0 then
    some (.inl z2)
  else
    (vg z2 v0 41).bind fun _ =>
    tb (F_X40_deeper z2 v0 v1) fun z6 =>
    (vg z6.2 v0 41).bind fun _ =>
    (F_X40_token z6.2 v0).bind fun z8 =>
    (gi z6.2 z8 2753).bind fun t9 =>
    (gi z6.2 v0 2626).bind fun t10 =>
    (pi z6.2 v0 2626 (t10 + (1 : Int32))).bind fun M11 =>
    (vg M11 v0 41).bind fun _ =>
    (F_X40_item M11 v0 (9 : Int32) t9 20 (0 : Int32) (0 : Int64)).bind fun z13 =>
    (vg z13 v0 41).bind fun _ =>
    tb (r_X40_expression z13 v0 z6.1) fun z15 =>
    (vg z15 v0 41).bind fun _ =>
    (F_X40_isSign z15 v0 37).bind fun z17 =>
    if z17 = 0 then
      (vg z15 v0 41).bind fun _ =>
      (F_X40_wrong z15 v0).bind fun z19 =>
      (ie z19.2 z19.1).bind fun _ => some (.inr (z19.1, z19.2))
    else
      (vg z15 v0 41).bind fun _ =>
      tb (F_X40_deeper z15 v0 v1) fun z21 =>
      (gi z21.2 v0 2626).bind fun t22 =>
      (pi z21.2 v0 2626 (t22 + (1 : Int32))).bind fun M23 =>
      (vg M23 v0 41).bind fun _ =>
      (F_X40_item M23 v0 (10 : Int32) t9 20 (0 : Int32) (0 : Int64)).bind fun z25 =>
      (vg z25 v0 41).bind fun _ =>
      tb (r_X40_expression z25 v0 z21.1) fun z27 =>
      (vg z27 v0 41).bind fun _ =>
      (F_X40_item z27 v0 (11 : Int32) t9 20 (0 : Int32) (0 : Int64)).bind fun z29 =>
      some (.inl z29)
noncomputable def R_4 (n : Nat) : ((Mem → Nat → Int32 → Option (Mem ⊕ (Nat × Mem))) × (Mem → Nat → Int32 → Option (Mem ⊕ (Nat × Mem))) × (Mem → Nat → Int32 → Int32 → Option (Mem ⊕ (Nat × Mem))) × (Mem → Nat → Int32 → Option (Mem ⊕ (Nat × Mem)))) :=
  Nat.rec (motive := fun _ => ((Mem → Nat → Int32 → Option (Mem ⊕ (Nat × Mem))) × (Mem → Nat → Int32 → Option (Mem ⊕ (Nat × Mem))) × (Mem → Nat → Int32 → Int32 → Option (Mem ⊕ (Nat × Mem))) × (Mem → Nat → Int32 → Option (Mem ⊕ (Nat × Mem))))) ((fun _ _ _ => none), (fun _ _ _ => none), (fun _ _ _ _ => none), (fun _ _ _ => none)) (fun _ ih => ((F_X40_primary_o ih.1 ih.2.1 ih.2.2.1 ih.2.2.2), (F_X40_unary_o ih.1 ih.2.1 ih.2.2.1 ih.2.2.2), (F_X40_ranked_o ih.1 ih.2.1 ih.2.2.1 ih.2.2.2), (F_X40_expression_o ih.1 ih.2.1 ih.2.2.1 ih.2.2.2))) n
noncomputable def F_X40_primary (M : Mem) (a0 : Nat) (a1 : Int32) : Option (Mem ⊕ (Nat × Mem)) := (R_4 xR).1 M a0 a1
noncomputable def F_X40_unary (M : Mem) (a0 : Nat) (a1 : Int32) : Option (Mem ⊕ (Nat × Mem)) := (R_4 xR).2.1 M a0 a1
noncomputable def F_X40_ranked (M : Mem) (a0 : Nat) (a1 : Int32) (a2 : Int32) : Option (Mem ⊕ (Nat × Mem)) := (R_4 xR).2.2.1 M a0 a1 a2
noncomputable def F_X40_expression (M : Mem) (a0 : Nat) (a1 : Int32) : Option (Mem ⊕ (Nat × Mem)) := (R_4 xR).2.2.2 M a0 a1
noncomputable def F_X40_functions_b93 (k0 : Mem → Nat → Nat → Int32 → Option (Mem ⊕ (Nat × Mem))) (k69 : Mem → Nat → Nat → Int32 → Nat → Option (Mem ⊕ (Nat × Mem))) (M : Mem) (v0 : Nat) (v1 : Nat) (v2 : Int32) (v3 : Nat) : Option (Mem ⊕ (Nat × Mem)) :=
  (gr M v3 2821).bind fun t1 =>
  (vg M v0 41).bind fun _ =>
  tb (F_X40_lane M v0) fun z3 =>
  (F_J19_valueOf z3.2 z3.1).bind fun z4 =>
  (vg z4.2 t1 67).bind fun _ =>
  (F_J6_add z4.2 t1 z4.1).bind fun z6 =>
  (vg z6.2 v0 41).bind fun _ =>
  tb (F_X40_name z6.2 v0) fun z8 =>
  (gr z8.2 v3 2819).bind fun t9 =>
  (gr z8.2 z8.1 2754).bind fun t10 =>
  (vg z8.2 t9 67).bind fun _ =>
  (F_J6_add z8.2 t9 t10).bind fun z12 =>
  (gr z12.2 v3 2820).bind fun t13 =>
  (gi z12.2 z8.1 2753).bind fun t14 =>
  (F_J19_valueOf z12.2 t14).bind fun z15 =>
  (vg z15.2 t13 67).bind fun _ =>
  (F_J6_add z15.2 t13 z15.1).bind fun z17 =>
  (vg z17.2 v0 41).bind fun _ =>
  (F_X40_gone z17.2 v0 33).bind fun z19 =>
  if z19.1 = 0 then
    (vg z19.2 v0 41).bind fun _ =>
    tb (F_X40_sign z19.2 v0 30) fun z21 =>
    (vg z21 v0 41).bind fun _ =>
    tb (F_X40_sign z21 v0 42) fun z23 =>
    (gr z23 v3 2822).bind fun t24 =>
    (pr z23 v0 2627 t24).bind fun M25 =>
    (vg M25 v0 41).bind fun _ =>
    tb (F_X40_expression M25 v0 (1 : Int32)) fun z27 =>
    (vg z27 v0 41).bind fun _ =>
    tb (F_X40_sign z27 v0 38) fun z29 =>
    (vg z29 v1 67).bind fun _ =>
    (F_J6_add z29 v1 v3).bind fun z31 =>
    k0 z31.2 v0 v1 v2
  else
    k69 z19.2 v0 v1 v2 v3
noncomputable def F_X40_functions_b69_st (k0 : Mem → Nat → Nat → Int32 → Option (Mem ⊕ (Nat × Mem))) (k69 : Mem → Nat → Nat → Int32 → Nat → Option (Mem ⊕ (Nat × Mem))) (M : Mem) (v0 : Nat) (v1 : Nat) (v2 : Int32) (v3 : Nat) : Option (Mem ⊕ (Nat × Mem)) :=
  (gr M v3 2819).bind fun t32 =>
  (vg M t32 67).bind fun _ =>
  (F_J6_size M t32).bind fun z34 =>
  if z34 = (6 : Int32) then
    (vg M v0 41).bind fun _ =>
    (F_X40_isLaneWord M v0).bind fun z36 =>
    if z36.1 = 0 then
      F_X40_functions_b93 k0 k69 z36.2 v0 v1 v2 v3
    else
      (vg z36.2 v0 41).bind fun _ =>
      (F_X40_wrong z36.2 v0).bind fun z38 =>
      (ie z38.2 z38.1).bind fun _ => some (.inr (z38.1, z38.2))
  else
    F_X40_functions_b93 k0 k69 M v0 v1 v2 v3
noncomputable def F_X40_functions_b69 (k0 : Mem → Nat → Nat → Int32 → Option (Mem ⊕ (Nat × Mem))) (n : Nat) : Mem → Nat → Nat → Int32 → Nat → Option (Mem ⊕ (Nat × Mem)) :=
  Nat.rec (motive := fun _ => Mem → Nat → Nat → Int32 → Nat → Option (Mem ⊕ (Nat × Mem))) (fun _ _ _ _ _ => none) (fun _ ih => F_X40_functions_b69_st k0 ih) n
noncomputable def F_X40_functions_b0_st (k0 : Mem → Nat → Nat → Int32 → Option (Mem ⊕ (Nat × Mem))) (M : Mem) (v0 : Nat) (v1 : Nat) (v2 : Int32) : Option (Mem ⊕ (Nat × Mem)) :=
  (vg M v0 41).bind fun _ =>
  (F_X40_token M v0).bind fun z40 =>
  (gi M z40 2752).bind fun t41 =>
  if t41 = 0 then
    some (.inl M)
  else
    (vg M v1 67).bind fun _ =>
    (F_J6_size M v1).bind fun z43 =>
    if z43 = v2 then
      (vg M v0 41).bind fun _ =>
      (F_X40_wrong M v0).bind fun z45 =>
      (ie z45.2 z45.1).bind fun _ => some (.inr (z45.1, z45.2))
    else
      let t47 : Nat := m_nx M
      let M46 : Mem := mo M 44
      (ng M46 t47).bind fun _ =>
      (F_X43_init M46 t47).bind fun z49 =>
      (vg z49 v0 41).bind fun _ =>
      tb (F_X40_lane z49 v0) fun z51 =>
      (pi z51.2 t47 2816 z51.1).bind fun M52 =>
      (vg M52 v0 41).bind fun _ =>
      tb (F_X40_name M52 v0) fun z54 =>
      (gr z54.2 z54.1 2754).bind fun t55 =>
      (pr z54.2 t47 2817 t55).bind fun M56 =>
      (gi M56 z54.1 2753).bind fun t57 =>
      (pi M56 t47 2818 t57).bind fun M58 =>
      (vg M58 v0 41).bind fun _ =>
      tb (F_X40_sign M58 v0 28) fun z60 =>
      F_X40_functions_b69 k0 xN z60 v0 v1 v2 t47
noncomputable def F_X40_functions_b0  (n : Nat) : Mem → Nat → Nat → Int32 → Option (Mem ⊕ (Nat × Mem)) :=
  Nat.rec (motive := fun _ => Mem → Nat → Nat → Int32 → Option (Mem ⊕ (Nat × Mem))) (fun _ _ _ _ => none) (fun _ ih => F_X40_functions_b0_st ih) n
noncomputable def F_X40_functions (M : Mem) (v0 : Nat) (v1 : Nat) (v2 : Int32) : Option (Mem ⊕ (Nat × Mem)) :=
  F_X40_functions_b0  xN M v0 v1 v2
noncomputable def F_X16_builtOf_b97 (k4 : Mem → Nat → Int32 → Int32 → Option Int32) (M : Mem) (v0 : Nat) (v1 : Int32) (v3 : Int32) (v4 : Int32) : Option Int32 :=
  if v4 = 0 then
    let v1_1 : Int32 := v1 + (1 : Int32)
    let v2_2 : Int32 := (v3 + (1 : Int32))
    k4 M v0 v1_1 v2_2
  else
    some v1
noncomputable def F_X16_builtOf_b89 (k4 : Mem → Nat → Int32 → Int32 → Option Int32) (k54 : Mem → Nat → Int32 → Int32 → Int32 → Int32 → Int32 → Option Int32) (M : Mem) (s0 : Int32) (v0 : Nat) (v1 : Int32) (v2 : Int32) (v3 : Int32) (v5 : Int32) : Option Int32 :=
  let v5_3 : Int32 := v5 + (1 : Int32)
  k54 M v0 v1 v2 v3 s0 v5_3
noncomputable def F_X16_builtOf_b54_st (k4 : Mem → Nat → Int32 → Int32 → Option Int32) (k54 : Mem → Nat → Int32 → Int32 → Int32 → Int32 → Int32 → Option Int32) (M : Mem) (v0 : Nat) (v1 : Int32) (v2 : Int32) (v3 : Int32) (v4 : Int32) (v5 : Int32) : Option Int32 :=
  if v5 < v3 then
    if v4 = 0 then
      F_X16_builtOf_b97 k4 M v0 v1 v3 v4
    else
      (vg M 21 76).bind fun _ =>
      (F_J15_charAt M 21 v5).bind fun z5 =>
      (vg M v0 76).bind fun _ =>
      (F_J15_charAt M v0 (v5 - v2)).bind fun z7 =>
      if z5 = z7 then
        F_X16_builtOf_b89 k4 k54 M (1 : Int32) v0 v1 v2 v3 v5
      else
        F_X16_builtOf_b89 k4 k54 M (0 : Int32) v0 v1 v2 v3 v5
  else
    F_X16_builtOf_b97 k4 M v0 v1 v3 v4
noncomputable def F_X16_builtOf_b54 (k4 : Mem → Nat → Int32 → Int32 → Option Int32) (n : Nat) : Mem → Nat → Int32 → Int32 → Int32 → Int32 → Int32 → Option Int32 :=
  Nat.rec (motive := fun _ => Mem → Nat → Int32 → Int32 → Int32 → Int32 → Int32 → Option Int32) (fun _ _ _ _ _ _ _ => none) (fun _ ih => F_X16_builtOf_b54_st k4 ih) n
noncomputable def F_X16_builtOf_b49 (k4 : Mem → Nat → Int32 → Int32 → Option Int32) (M : Mem) (s0 : Int32) (v0 : Nat) (v1 : Int32) (v2 : Int32) (v3 : Int32) : Option Int32 :=
  F_X16_builtOf_b54 k4 xN M v0 v1 v2 v3 s0 v2
noncomputable def F_X16_builtOf_b16_st (k4 : Mem → Nat → Int32 → Int32 → Option Int32) (k16 : Mem → Nat → Int32 → Int32 → Int32 → Option Int32) (M : Mem) (v0 : Nat) (v1 : Int32) (v2 : Int32) (v3 : Int32) : Option Int32 :=
  (vg M 21 76).bind fun _ =>
  (F_J15_charAt M 21 v3).bind fun z9 =>
  if z9 = (32 : Int32) then
    (vg M v0 76).bind fun _ =>
    (F_J15_length M v0).bind fun z11 =>
    if (v3 - v2) = z11 then
      F_X16_builtOf_b49 k4 M (1 : Int32) v0 v1 v2 v3
    else
      F_X16_builtOf_b49 k4 M (0 : Int32) v0 v1 v2 v3
  else
    let v3_12 : Int32 := v3 + (1 : Int32)
    k16 M v0 v1 v2 v3_12
noncomputable def F_X16_builtOf_b16 (k4 : Mem → Nat → Int32 → Int32 → Option Int32) (n : Nat) : Mem → Nat → Int32 → Int32 → Int32 → Option Int32 :=
  Nat.rec (motive := fun _ => Mem → Nat → Int32 → Int32 → Int32 → Option Int32) (fun _ _ _ _ _ => none) (fun _ ih => F_X16_builtOf_b16_st k4 ih) n
noncomputable def F_X16_builtOf_b4_st (k4 : Mem → Nat → Int32 → Int32 → Option Int32) (M : Mem) (v0 : Nat) (v1 : Int32) (v2 : Int32) : Option Int32 :=
  (vg M 21 76).bind fun _ =>
  (F_J15_length M 21).bind fun z14 =>
  if v2 < z14 then
    F_X16_builtOf_b16 k4 xN M v0 v1 v2 v2
  else
    some (-1 : Int32)
noncomputable def F_X16_builtOf_b4  (n : Nat) : Mem → Nat → Int32 → Int32 → Option Int32 :=
  Nat.rec (motive := fun _ => Mem → Nat → Int32 → Int32 → Option Int32) (fun _ _ _ _ => none) (fun _ ih => F_X16_builtOf_b4_st ih) n
noncomputable def F_X16_builtOf (M : Mem) (v0 : Nat) : Option Int32 :=
  F_X16_builtOf_b4  xN M v0 (0 : Int32) (1 : Int32)
noncomputable def F_X17_must (M : Mem) (v0 : Nat) (v1 : Int32) (v2 : Int32) : Option (Mem ⊕ (Nat × Mem)) :=
  if v1 = 0 then
    (vg M v0 18).bind fun _ =>
    (F_X17_at M v0 (2 : Int32) v2).bind fun z2 =>
    (ie z2.2 z2.1).bind fun _ => some (.inr (z2.1, z2.2))
  else
    some (.inl M)
noncomputable def F_X16_indexOf_b2_st (k2 : Mem → Nat → Nat → Int32 → Option Int32) (M : Mem) (v0 : Nat) (v1 : Nat) (v2 : Int32) : Option Int32 :=
  (vg M v0 67).bind fun _ =>
  (F_J6_size M v0).bind fun z2 =>
  if v2 < z2 then
    (vg M v0 67).bind fun _ =>
    (F_J6_get M v0 v2).bind fun z4 =>
    (cc M z4 76).bind fun _ =>
    (vg M z4 76).bind fun _ =>
    (F_J15_equals M z4 v1).bind fun z6 =>
    if z6 = 0 then
      let v2_7 : Int32 := v2 + (1 : Int32)
      k2 M v0 v1 v2_7
    else
      some v2
  else
    some (-1 : Int32)
noncomputable def F_X16_indexOf_b2  (n : Nat) : Mem → Nat → Nat → Int32 → Option Int32 :=
  Nat.rec (motive := fun _ => Mem → Nat → Nat → Int32 → Option Int32) (fun _ _ _ _ => none) (fun _ ih => F_X16_indexOf_b2_st ih) n
noncomputable def F_X16_indexOf (M : Mem) (v0 : Nat) (v1 : Nat) : Option Int32 :=
  F_X16_indexOf_b2  xN M v0 v1 (0 : Int32)
noncomputable def F_X16_heightOf_b189 (k10 : Mem → Nat → Nat → Int32 → Option (Int32 × Mem)) (M : Mem) (v0 : Nat) (v1 : Nat) (v2 : Int32) : Option (Int32 × Mem) :=
  let v2_1 : Int32 := v2 + (1 : Int32)
  k10 M v0 v1 v2_1
noncomputable def F_X16_heightOf_b136_st (k10 : Mem → Nat → Nat → Int32 → Option (Int32 × Mem)) (k136 : Mem → Nat → Nat → Int32 → Int32 → Int32 → Int32 → Option (Int32 × Mem)) (M : Mem) (v0 : Nat) (v1 : Nat) (v2 : Int32) (v4 : Int32) (v5 : Int32) (v6 : Int32) : Option (Int32 × Mem) :=
  if v6 < v4 then
    (vg M v1 67).bind fun _ =>
    (F_J6_size M v1).bind fun z3 =>
    (vg M v1 67).bind fun _ =>
    (F_J6_remove M v1 (z3 - (1 : Int32))).bind fun z5 =>
    (cc z5.2 z5.1 80).bind fun _ =>
    (vg z5.2 z5.1 80).bind fun _ =>
    (F_J19_intValue z5.2 z5.1).bind fun z7 =>
    (F_J7_max v5 z7).bind fun z8 =>
    let v6_9 : Int32 := v6 + (1 : Int32)
    k136 z5.2 v0 v1 v2 v4 z8 v6_9
  else
    (F_J7_min_2 (v5 + (1 : Int32)) (31 : Int32)).bind fun z10 =>
    (F_J19_valueOf M z10).bind fun z11 =>
    (vg z11.2 v1 67).bind fun _ =>
    (F_J6_add z11.2 v1 z11.1).bind fun z13 =>
    F_X16_heightOf_b189 k10 z13.2 v0 v1 v2
noncomputable def F_X16_heightOf_b136 (k10 : Mem → Nat → Nat → Int32 → Option (Int32 × Mem)) (n : Nat) : Mem → Nat → Nat → Int32 → Int32 → Int32 → Int32 → Option (Int32 × Mem) :=
  Nat.rec (motive := fun _ => Mem → Nat → Nat → Int32 → Int32 → Int32 → Int32 → Option (Int32 × Mem)) (fun _ _ _ _ _ _ _ => none) (fun _ ih => F_X16_heightOf_b136_st k10 ih) n
noncomputable def F_X16_heightOf_b128 (k10 : Mem → Nat → Nat → Int32 → Option (Int32 × Mem)) (M : Mem) (s0 : Int32) (v0 : Nat) (v1 : Nat) (v2 : Int32) : Option (Int32 × Mem) :=
  F_X16_heightOf_b136 k10 xN M v0 v1 v2 s0 (0 : Int32) (0 : Int32)
noncomputable def F_X16_heightOf_b73 (k10 : Mem → Nat → Nat → Int32 → Option (Int32 × Mem)) (M : Mem) (v0 : Nat) (v1 : Nat) (v2 : Int32) : Option (Int32 × Mem) :=
  F_X16_heightOf_b128 k10 M (1 : Int32) v0 v1 v2
noncomputable def F_X16_heightOf_b95 (k10 : Mem → Nat → Nat → Int32 → Option (Int32 × Mem)) (M : Mem) (v0 : Nat) (v1 : Nat) (v2 : Int32) : Option (Int32 × Mem) :=
  F_X16_heightOf_b128 k10 M (2 : Int32) v0 v1 v2
noncomputable def F_X16_heightOf_b10_st (k10 : Mem → Nat → Nat → Int32 → Option (Int32 × Mem)) (M : Mem) (v0 : Nat) (v1 : Nat) (v2 : Int32) : Option (Int32 × Mem) :=
  (vg M v0 67).bind fun _ =>
  (F_J6_size M v0).bind fun z15 =>
  if v2 < z15 then
    (vg M v0 67).bind fun _ =>
    (F_J6_get M v0 v2).bind fun z17 =>
    (cc M z17 45).bind fun _ =>
    (gi M z17 2880).bind fun t18 =>
    if t18 = (7 : Int32) then
      F_X16_heightOf_b189 k10 M v0 v1 v2
    else
      (gi M z17 2880).bind fun t19 =>
      if t19 = (9 : Int32) then
        F_X16_heightOf_b189 k10 M v0 v1 v2
      else
        (gi M z17 2880).bind fun t20 =>
        if t20 = (10 : Int32) then
          F_X16_heightOf_b189 k10 M v0 v1 v2
        else
          (gi M z17 2880).bind fun t21 =>
          if t21 = (4 : Int32) then
            F_X16_heightOf_b73 k10 M v0 v1 v2
          else
            (gi M z17 2880).bind fun t22 =>
            if t22 = (5 : Int32) then
              F_X16_heightOf_b73 k10 M v0 v1 v2
            else
              (gi M z17 2880).bind fun t23 =>
              if t23 = (6 : Int32) then
                F_X16_heightOf_b95 k10 M v0 v1 v2
              else
                (gi M z17 2880).bind fun t24 =>
                if t24 = (8 : Int32) then
                  F_X16_heightOf_b95 k10 M v0 v1 v2
                else
                  (gi M z17 2880).bind fun t25 =>
                  if t25 = (11 : Int32) then
                    F_X16_heightOf_b128 k10 M (3 : Int32) v0 v1 v2
                  else
                    (gi M z17 2880).bind fun t26 =>
                    if t26 = (3 : Int32) then
                      (gi M z17 2883).bind fun t27 =>
                      F_X16_heightOf_b128 k10 M t27 v0 v1 v2
                    else
                      F_X16_heightOf_b128 k10 M (0 : Int32) v0 v1 v2
  else
    (vg M v1 67).bind fun _ =>
    (F_J6_get M v1 (0 : Int32)).bind fun z29 =>
    (cc M z29 80).bind fun _ =>
    (vg M z29 80).bind fun _ =>
    (F_J19_intValue M z29).bind fun z31 =>
    some (z31, M)
noncomputable def F_X16_heightOf_b10  (n : Nat) : Mem → Nat → Nat → Int32 → Option (Int32 × Mem) :=
  Nat.rec (motive := fun _ => Mem → Nat → Nat → Int32 → Option (Int32 × Mem)) (fun _ _ _ _ => none) (fun _ ih => F_X16_heightOf_b10_st ih) n
noncomputable def F_X16_heightOf (M : Mem) (v0 : Nat) : Option (Int32 × Mem) :=
  let t33 : Nat := m_nx M
  let M32 : Mem := mo M 67
  (ng M32 t33).bind fun _ =>
  (F_J6_init_2 M32 t33).bind fun z35 =>
  F_X16_heightOf_b10  xN z35 v0 t33 (0 : Int32)
noncomputable def F_X46_init (M : Mem) (v0 : Nat) : Option Mem :=
  (ng M v0).bind fun _ =>
  let t4 : Nat := m_nx M
  let M3 : Mem := mo M 67
  (ng M3 t4).bind fun _ =>
  (F_J6_init_2 M3 t4).bind fun z6 =>
  (pr z6 v0 3008 t4).bind fun M7 =>
  some M7
noncomputable def F_X45_init (M : Mem) (v0 : Nat) (v1 : Nat) (v2 : Nat) : Option Mem :=
  (ng M v0).bind fun _ =>
  let t4 : Nat := m_nx M
  let M3 : Mem := mo M 67
  (ng M3 t4).bind fun _ =>
  (F_J6_init_2 M3 t4).bind fun z6 =>
  (pr z6 v0 2946 t4).bind fun M7 =>
  let t9 : Nat := m_nx M7
  let M8 : Mem := mo M7 67
  (ng M8 t9).bind fun _ =>
  (F_J6_init_2 M8 t9).bind fun z11 =>
  (pr z11 v0 2947 t9).bind fun M12 =>
  let t14 : Nat := m_nx M12
  let M13 : Mem := mo M12 47
  (ng M13 t14).bind fun _ =>
  (F_X46_init M13 t14).bind fun z16 =>
  (pr z16 v0 2948 t14).bind fun M17 =>
  (pr M17 v0 2944 v1).bind fun M18 =>
  (pr M18 v0 2945 v2).bind fun M19 =>
  some M19
noncomputable def F_X47_init (M : Mem) (v0 : Nat) (v1 : Int32) : Option Mem :=
  (ng M v0).bind fun _ =>
  (pr M v0 3073 20).bind fun M3 =>
  (pi M3 v0 3072 v1).bind fun M4 =>
  some M4
noncomputable def F_X45_op (M : Mem) (v0 : Nat) (v1 : Int32) : Option (Nat × Mem) :=
  let t2 : Nat := m_nx M
  let M1 : Mem := mo M 48
  (ng M1 t2).bind fun _ =>
  (F_X47_init M1 t2 v1).bind fun z4 =>
  (gr z4 v0 2948).bind fun t5 =>
  (gr z4 t5 3008).bind fun t6 =>
  (vg z4 t6 67).bind fun _ =>
  (F_J6_add z4 t6 t2).bind fun z8 =>
  some (t2, z8.2)
noncomputable def F_X45_give (M : Mem) (v0 : Nat) (v1 : Int32) : Option Mem :=
  (gr M v0 2946).bind fun t1 =>
  (F_J19_valueOf M v1).bind fun z2 =>
  (vg z2.2 t1 67).bind fun _ =>
  (F_J6_add z2.2 t1 z2.1).bind fun z4 =>
  some z4.2
noncomputable def F_X45_must (M : Mem) (v0 : Nat) (v1 : Int32) (v2 : Int32) : Option (Mem ⊕ (Nat × Mem)) :=
  (gr M v0 2944).bind fun t1 =>
  (gr M t1 1103).bind fun t2 =>
  (vg M t2 18).bind fun _ =>
  tb (F_X17_must M t2 v1 v2) fun z4 =>
  some (.inl z4)
noncomputable def F_X45_name_b164  (M : Mem) (s0 : Nat) (s1 : Int32) (v0 : Nat) (v1 : Nat) (v2 : Int32) : Option (Mem ⊕ (Nat × Mem)) :=
  (gi M v1 2881).bind fun t1 =>
  (vg M s0 46).bind fun _ =>
  tb (F_X45_must M s0 s1 t1) fun z3 =>
  (vg z3 v0 46).bind fun _ =>
  (F_X45_op z3 v0 (3 : Int32)).bind fun z5 =>
  (pi z5.2 z5.1 3077 (v2 - (97 : Int32))).bind fun M6 =>
  (gr M6 v0 2944).bind fun t7 =>
  (gr M6 t7 1092).bind fun t8 =>
  (gr M6 v0 2944).bind fun t9 =>
  (gr M6 t9 1107).bind fun t10 =>
  (ai M6 t10 (v2 - (97 : Int32))).bind fun t11 =>
  (ar M6 t8 t11).bind fun t12 =>
  (gi M6 t12 1472).bind fun t13 =>
  (vg M6 v0 46).bind fun _ =>
  (F_X45_give M6 v0 t13).bind fun z15 =>
  some (.inl z15)
noncomputable def F_X45_name_b112  (M : Mem) (s0 : Nat) (s1 : Int32) (v0 : Nat) (v1 : Nat) (v2 : Int32) : Option (Mem ⊕ (Nat × Mem)) :=
  (gi M v1 2881).bind fun t16 =>
  (vg M s0 46).bind fun _ =>
  tb (F_X45_must M s0 s1 t16) fun z18 =>
  if (104 : Int32) < v2 then
    (vg z18 v0 46).bind fun _ =>
    (F_X45_op z18 v0 (4 : Int32)).bind fun z20 =>
    (pi z20.2 z20.1 3077 (v2 - (105 : Int32))).bind fun M21 =>
    (vg M21 v0 46).bind fun _ =>
    (F_X45_give M21 v0 (4 : Int32)).bind fun z23 =>
    some (.inl z23)
  else
    (gr z18 v0 2944).bind fun t24 =>
    (gr z18 t24 1107).bind fun t25 =>
    (ai z18 t25 (v2 - (97 : Int32))).bind fun t26 =>
    if 0 < t26 then
      F_X45_name_b164  z18 v0 (1 : Int32) v0 v1 v2
    else
      F_X45_name_b164  z18 v0 (0 : Int32) v0 v1 v2
noncomputable def F_X45_name_b111  (M : Mem) (s0 : Nat) (v0 : Nat) (v1 : Nat) (v2 : Int32) : Option (Mem ⊕ (Nat × Mem)) :=
  F_X45_name_b112  M s0 (0 : Int32) v0 v1 v2
noncomputable def F_X45_name_b93  (M : Mem) (s0 : Int32) (v0 : Nat) (v1 : Nat) : Option (Mem ⊕ (Nat × Mem)) :=
  if s0 < (97 : Int32) then
    F_X45_name_b111  M v0 v0 v1 s0
  else
    if (108 : Int32) < s0 then
      F_X45_name_b111  M v0 v0 v1 s0
    else
      F_X45_name_b112  M v0 (1 : Int32) v0 v1 s0
noncomputable def F_X45_name_b32  (M : Mem) (s0 : Nat) (s1 : Int32) (v0 : Nat) (v1 : Nat) (v2 : Int32) : Option (Mem ⊕ (Nat × Mem)) :=
  (gi M v1 2881).bind fun t27 =>
  (vg M s0 46).bind fun _ =>
  tb (F_X45_must M s0 s1 t27) fun z29 =>
  (vg z29 v0 46).bind fun _ =>
  (F_X45_op z29 v0 (2 : Int32)).bind fun z31 =>
  (pi z31.2 z31.1 3077 v2).bind fun M32 =>
  (gr M32 v0 2945).bind fun t33 =>
  (gr M32 t33 2821).bind fun t34 =>
  (vg M32 t34 67).bind fun _ =>
  (F_J6_get M32 t34 v2).bind fun z36 =>
  (cc M32 z36 80).bind fun _ =>
  (vg M32 z36 80).bind fun _ =>
  (F_J19_intValue M32 z36).bind fun z38 =>
  (vg M32 v0 46).bind fun _ =>
  (F_X45_give M32 v0 z38).bind fun z40 =>
  some (.inl z40)
noncomputable def F_X45_name (M : Mem) (v0 : Nat) (v1 : Nat) : Option (Mem ⊕ (Nat × Mem)) :=
  (gr M v0 2945).bind fun t41 =>
  if t41 = 6 then
    none
  else
    if t41 = 0 then
      (gr M v1 2882).bind fun t42 =>
      (vg M t42 76).bind fun _ =>
      (F_J15_length M t42).bind fun z44 =>
      if z44 = (1 : Int32) then
        (gr M v1 2882).bind fun t45 =>
        (vg M t45 76).bind fun _ =>
        (F_J15_charAt M t45 (0 : Int32)).bind fun z47 =>
        F_X45_name_b93  M z47 v0 v1
      else
        F_X45_name_b93  M (0 : Int32) v0 v1
    else
      (gr M v0 2945).bind fun t48 =>
      (gr M t48 2819).bind fun t49 =>
      (gr M v1 2882).bind fun t50 =>
      (F_X16_indexOf M t49 t50).bind fun z51 =>
      if z51 < 0 then
        F_X45_name_b32  M v0 (0 : Int32) v0 v1 z51
      else
        F_X45_name_b32  M v0 (1 : Int32) v0 v1 z51
noncomputable def F_X45_take (M : Mem) (v0 : Nat) : Option (Int32 × Mem) :=
  (gr M v0 2946).bind fun t1 =>
  (gr M v0 2946).bind fun t2 =>
  (vg M t2 67).bind fun _ =>
  (F_J6_size M t2).bind fun z4 =>
  (vg M t1 67).bind fun _ =>
  (F_J6_remove M t1 (z4 - (1 : Int32))).bind fun z6 =>
  (cc z6.2 z6.1 80).bind fun _ =>
  (vg z6.2 z6.1 80).bind fun _ =>
  (F_J19_intValue z6.2 z6.1).bind fun z8 =>
  some (z8, z6.2)
noncomputable def F_X16_isWhole_b15  (s0 : Int32) : Option Int32 :=
  some (s0 &&& 1)
noncomputable def F_X16_isWhole_b14   : Option Int32 :=
  F_X16_isWhole_b15  (0 : Int32)
noncomputable def F_X16_isWhole (v0 : Int32) : Option Int32 :=
  if v0 < (1 : Int32) then
    F_X16_isWhole_b14  
  else
    if (5 : Int32) < v0 then
      F_X16_isWhole_b14  
    else
      F_X16_isWhole_b15  (1 : Int32)
noncomputable def F_X16_isNumber_b16  (s0 : Int32) : Option Int32 :=
  some (s0 &&& 1)
noncomputable def F_X16_isNumber_b15   : Option Int32 :=
  F_X16_isNumber_b16  (0 : Int32)
noncomputable def F_X16_isNumber (v0 : Int32) : Option Int32 :=
  if v0 < (1 : Int32) then
    F_X16_isNumber_b15  
  else
    if (7 : Int32) < v0 then
      F_X16_isNumber_b15  
    else
      F_X16_isNumber_b16  (1 : Int32)
noncomputable def F_X16_wider (v0 : Int32) (v1 : Int32) : Option Int32 :=
  (F_J7_max v0 v1).bind fun z1 =>
  (F_J7_max (4 : Int32) z1).bind fun z2 =>
  some z2
noncomputable def F_X45_built_b177  (M : Mem) (s0 : Nat) (s1 : Int32) (v0 : Nat) (v6 : Nat) : Option (Mem ⊕ (Nat × Mem)) :=
  (pi M s0 3076 s1).bind fun M1 =>
  (gi M1 v6 3076).bind fun t2 =>
  (vg M1 v0 46).bind fun _ =>
  (F_X45_give M1 v0 t2).bind fun z4 =>
  some (.inl z4)
noncomputable def F_X45_built_b148  (M : Mem) (s0 : Nat) (s1 : Int32) (v0 : Nat) (v2 : Int32) (v6 : Nat) : Option (Mem ⊕ (Nat × Mem)) :=
  (pi M s0 3075 s1).bind fun M5 =>
  if (10 : Int32) < v2 then
    F_X45_built_b177  M5 v6 (7 : Int32) v0 v6
  else
    (gi M5 v6 3074).bind fun t6 =>
    (gi M5 v6 3075).bind fun t7 =>
    (F_X16_wider t6 t7).bind fun z8 =>
    F_X45_built_b177  M5 v6 z8 v0 v6
noncomputable def F_X45_built_b97 (k67 : Mem → Nat → Nat → Int32 → Nat → Int32 → Int32 → Int32 → Option (Mem ⊕ (Nat × Mem))) (M : Mem) (s0 : Nat) (s1 : Int32) (v0 : Nat) (v1 : Nat) (v2 : Int32) (v3 : Nat) (v4 : Int32) (v5 : Int32) (v6 : Int32) : Option (Mem ⊕ (Nat × Mem)) :=
  (gi M v1 2881).bind fun t9 =>
  (vg M s0 46).bind fun _ =>
  tb (F_X45_must M s0 s1 t9) fun z11 =>
  let v6_12 : Int32 := v6 + (1 : Int32)
  k67 z11 v0 v1 v2 v3 v4 v5 v6_12
noncomputable def F_X45_built_b67_st (k67 : Mem → Nat → Nat → Int32 → Nat → Int32 → Int32 → Int32 → Option (Mem ⊕ (Nat × Mem))) (M : Mem) (v0 : Nat) (v1 : Nat) (v2 : Int32) (v3 : Nat) (v4 : Int32) (v5 : Int32) (v6 : Int32) : Option (Mem ⊕ (Nat × Mem)) :=
  (an M v3).bind fun t13 =>
  if v6 < t13 then
    if v5 = 0 then
      (ai M v3 v6).bind fun t14 =>
      (F_X16_isNumber t14).bind fun z15 =>
      F_X45_built_b97 k67 M v0 z15 v0 v1 v2 v3 v4 v5 v6
    else
      (ai M v3 v6).bind fun t16 =>
      (F_X16_isWhole t16).bind fun z17 =>
      F_X45_built_b97 k67 M v0 z17 v0 v1 v2 v3 v4 v5 v6
  else
    (vg M v0 46).bind fun _ =>
    (F_X45_op M v0 (17 : Int32)).bind fun z19 =>
    (pi z19.2 z19.1 3077 v2).bind fun M20 =>
    (ai M20 v3 (0 : Int32)).bind fun t21 =>
    (pi M20 z19.1 3074 t21).bind fun M22 =>
    if v4 = 0 then
      (ai M22 v3 (0 : Int32)).bind fun t23 =>
      F_X45_built_b148  M22 z19.1 t23 v0 v2 z19.1
    else
      (ai M22 v3 (1 : Int32)).bind fun t24 =>
      F_X45_built_b148  M22 z19.1 t24 v0 v2 z19.1
noncomputable def F_X45_built_b67  (n : Nat) : Mem → Nat → Nat → Int32 → Nat → Int32 → Int32 → Int32 → Option (Mem ⊕ (Nat × Mem)) :=
  Nat.rec (motive := fun _ => Mem → Nat → Nat → Int32 → Nat → Int32 → Int32 → Int32 → Option (Mem ⊕ (Nat × Mem))) (fun _ _ _ _ _ _ _ _ => none) (fun _ ih => F_X45_built_b67_st ih) n
noncomputable def F_X45_built_b57  (M : Mem) (s0 : Nat) (s1 : Int32) (v0 : Nat) (v1 : Nat) (v2 : Int32) (v3 : Nat) (v4 : Int32) (v5 : Int32) : Option (Mem ⊕ (Nat × Mem)) :=
  (gi M v1 2881).bind fun t25 =>
  (vg M s0 46).bind fun _ =>
  tb (F_X45_must M s0 s1 t25) fun z27 =>
  F_X45_built_b67  xN z27 v0 v1 v2 v3 v4 v5 (0 : Int32)
noncomputable def F_X45_built_b49  (M : Mem) (s0 : Nat) (s1 : Int32) (s2 : Int32) (v0 : Nat) (v1 : Nat) (v2 : Int32) (v3 : Nat) (v4 : Int32) (v5 : Int32) : Option (Mem ⊕ (Nat × Mem)) :=
  if s1 = s2 then
    F_X45_built_b57  M s0 (1 : Int32) v0 v1 v2 v3 v4 v5
  else
    F_X45_built_b57  M s0 (0 : Int32) v0 v1 v2 v3 v4 v5
noncomputable def F_X45_built_b34  (M : Mem) (s0 : Int32) (v0 : Nat) (v1 : Nat) (v2 : Int32) (v3 : Nat) (v4 : Int32) : Option (Mem ⊕ (Nat × Mem)) :=
  (an M v3).bind fun t28 =>
  if v4 = 0 then
    F_X45_built_b49  M v0 t28 (1 : Int32) v0 v1 v2 v3 v4 s0
  else
    F_X45_built_b49  M v0 t28 (2 : Int32) v0 v1 v2 v3 v4 s0
noncomputable def F_X45_built_b33  (M : Mem) (v0 : Nat) (v1 : Nat) (v2 : Int32) (v3 : Nat) (v4 : Int32) : Option (Mem ⊕ (Nat × Mem)) :=
  F_X45_built_b34  M (0 : Int32) v0 v1 v2 v3 v4
noncomputable def F_X45_built_b16  (M : Mem) (s0 : Int32) (v0 : Nat) (v1 : Nat) (v2 : Int32) (v3 : Nat) : Option (Mem ⊕ (Nat × Mem)) :=
  if v2 < (4 : Int32) then
    F_X45_built_b33  M v0 v1 v2 v3 s0
  else
    if (10 : Int32) < v2 then
      F_X45_built_b33  M v0 v1 v2 v3 s0
    else
      F_X45_built_b34  M (1 : Int32) v0 v1 v2 v3 s0
noncomputable def F_X45_built_b15  (M : Mem) (v0 : Nat) (v1 : Nat) (v2 : Int32) (v3 : Nat) : Option (Mem ⊕ (Nat × Mem)) :=
  F_X45_built_b16  M (0 : Int32) v0 v1 v2 v3
noncomputable def F_X45_built (M : Mem) (v0 : Nat) (v1 : Nat) (v2 : Int32) (v3 : Nat) : Option (Mem ⊕ (Nat × Mem)) :=
  if v2 < (2 : Int32) then
    F_X45_built_b15  M v0 v1 v2 v3
  else
    if (8 : Int32) < v2 then
      F_X45_built_b15  M v0 v1 v2 v3
    else
      F_X45_built_b16  M (1 : Int32) v0 v1 v2 v3
noncomputable def F_X16_isTaking_b23  (M : Mem) : Option Int32 :=
  some (0 : Int32)
noncomputable def F_X16_isTaking_b27_st (k27 : Mem → Nat → Nat → Int32 → Option Int32) (M : Mem) (v0 : Nat) (v2 : Nat) (v3 : Int32) : Option Int32 :=
  (an M v2).bind fun t1 =>
  if v3 < t1 then
    (ai M v2 v3).bind fun t2 =>
    (gr M v0 2821).bind fun t3 =>
    (vg M t3 67).bind fun _ =>
    (F_J6_get M t3 v3).bind fun z5 =>
    (cc M z5 80).bind fun _ =>
    (vg M z5 80).bind fun _ =>
    (F_J19_intValue M z5).bind fun z7 =>
    (F_X16_isFitting t2 z7).bind fun z8 =>
    if z8 = 0 then
      some (0 : Int32)
    else
      let v3_9 : Int32 := v3 + (1 : Int32)
      k27 M v0 v2 v3_9
  else
    some (1 : Int32)
noncomputable def F_X16_isTaking_b27  (n : Nat) : Mem → Nat → Nat → Int32 → Option Int32 :=
  Nat.rec (motive := fun _ => Mem → Nat → Nat → Int32 → Option Int32) (fun _ _ _ _ => none) (fun _ ih => F_X16_isTaking_b27_st ih) n
noncomputable def F_X16_isTaking (M : Mem) (v0 : Nat) (v1 : Nat) (v2 : Nat) : Option Int32 :=
  (gr M v0 2817).bind fun t10 =>
  (vg M t10 76).bind fun _ =>
  (F_J15_equals M t10 v1).bind fun z12 =>
  if z12 = 0 then
    F_X16_isTaking_b23  M
  else
    (gr M v0 2821).bind fun t13 =>
    (vg M t13 67).bind fun _ =>
    (F_J6_size M t13).bind fun z15 =>
    (an M v2).bind fun t16 =>
    if z15 = t16 then
      F_X16_isTaking_b27  xN M v0 v2 (0 : Int32)
    else
      F_X16_isTaking_b23  M
noncomputable def F_X16_isNearer_b2_st (k2 : Mem → Nat → Nat → Int32 → Option Int32) (M : Mem) (v0 : Nat) (v1 : Nat) (v2 : Int32) : Option Int32 :=
  (gr M v0 2821).bind fun t1 =>
  (vg M t1 67).bind fun _ =>
  (F_J6_size M t1).bind fun z3 =>
  if v2 < z3 then
    (gr M v0 2821).bind fun t4 =>
    (vg M t4 67).bind fun _ =>
    (F_J6_get M t4 v2).bind fun z6 =>
    (cc M z6 80).bind fun _ =>
    (vg M z6 80).bind fun _ =>
    (F_J19_intValue M z6).bind fun z8 =>
    (gr M v1 2821).bind fun t9 =>
    (vg M t9 67).bind fun _ =>
    (F_J6_get M t9 v2).bind fun z11 =>
    (cc M z11 80).bind fun _ =>
    (vg M z11 80).bind fun _ =>
    (F_J19_intValue M z11).bind fun z13 =>
    (F_X16_isFitting z8 z13).bind fun z14 =>
    if z14 = 0 then
      some (0 : Int32)
    else
      let v2_15 : Int32 := v2 + (1 : Int32)
      k2 M v0 v1 v2_15
  else
    some (1 : Int32)
noncomputable def F_X16_isNearer_b2  (n : Nat) : Mem → Nat → Nat → Int32 → Option Int32 :=
  Nat.rec (motive := fun _ => Mem → Nat → Nat → Int32 → Option Int32) (fun _ _ _ _ => none) (fun _ ih => F_X16_isNearer_b2_st ih) n
noncomputable def F_X16_isNearer (M : Mem) (v0 : Nat) (v1 : Nat) : Option Int32 :=
  F_X16_isNearer_b2  xN M v0 v1 (0 : Int32)
noncomputable def F_X16_chosen_b137 (k6 : Mem → Nat → Nat → Nat → Int32 → Int32 → Option Int32) (M : Mem) (v0 : Nat) (v1 : Nat) (v2 : Nat) (v3 : Int32) (v4 : Int32) : Option Int32 :=
  let v4_1 : Int32 := v4 + (1 : Int32)
  k6 M v0 v1 v2 v3 v4_1
noncomputable def F_X16_chosen_b126 (k6 : Mem → Nat → Nat → Nat → Int32 → Int32 → Option Int32) (M : Mem) (v0 : Nat) (v1 : Nat) (v2 : Nat) (v4 : Int32) (v5 : Int32) : Option Int32 :=
  if v5 = 0 then
    F_X16_chosen_b137 k6 M v0 v1 v2 (-16 : Int32) v4
  else
    some v4
noncomputable def F_X16_chosen_b120 (k6 : Mem → Nat → Nat → Nat → Int32 → Int32 → Option Int32) (k47 : Mem → Nat → Nat → Nat → Int32 → Int32 → Int32 → Option Int32) (M : Mem) (v0 : Nat) (v1 : Nat) (v2 : Nat) (v4 : Int32) (v5 : Int32) (v6 : Int32) : Option Int32 :=
  let v6_2 : Int32 := v6 + (1 : Int32)
  k47 M v0 v1 v2 v4 v5 v6_2
noncomputable def F_X16_chosen_b47_st (k6 : Mem → Nat → Nat → Nat → Int32 → Int32 → Option Int32) (k47 : Mem → Nat → Nat → Nat → Int32 → Int32 → Int32 → Option Int32) (M : Mem) (v0 : Nat) (v1 : Nat) (v2 : Nat) (v4 : Int32) (v5 : Int32) (v6 : Int32) : Option Int32 :=
  (gr M v0 1105).bind fun t3 =>
  (vg M t3 67).bind fun _ =>
  (F_J6_size M t3).bind fun z5 =>
  if v6 < z5 then
    if v5 = 0 then
      F_X16_chosen_b126 k6 M v0 v1 v2 v4 v5
    else
      if v6 = v4 then
        F_X16_chosen_b120 k6 k47 M v0 v1 v2 v4 v5 v6
      else
        (gr M v0 1105).bind fun t6 =>
        (vg M t6 67).bind fun _ =>
        (F_J6_get M t6 v6).bind fun z8 =>
        (cc M z8 44).bind fun _ =>
        (F_X16_isTaking M z8 v1 v2).bind fun z9 =>
        if z9 = 0 then
          F_X16_chosen_b120 k6 k47 M v0 v1 v2 v4 v5 v6
        else
          (gr M v0 1105).bind fun t10 =>
          (vg M t10 67).bind fun _ =>
          (F_J6_get M t10 v4).bind fun z12 =>
          (cc M z12 44).bind fun _ =>
          (gr M v0 1105).bind fun t13 =>
          (vg M t13 67).bind fun _ =>
          (F_J6_get M t13 v6).bind fun z15 =>
          (cc M z15 44).bind fun _ =>
          (F_X16_isNearer M z12 z15).bind fun z16 =>
          F_X16_chosen_b120 k6 k47 M v0 v1 v2 v4 z16 v6
  else
    F_X16_chosen_b126 k6 M v0 v1 v2 v4 v5
noncomputable def F_X16_chosen_b47 (k6 : Mem → Nat → Nat → Nat → Int32 → Int32 → Option Int32) (n : Nat) : Mem → Nat → Nat → Nat → Int32 → Int32 → Int32 → Option Int32 :=
  Nat.rec (motive := fun _ => Mem → Nat → Nat → Nat → Int32 → Int32 → Int32 → Option Int32) (fun _ _ _ _ _ _ _ => none) (fun _ ih => F_X16_chosen_b47_st k6 ih) n
noncomputable def F_X16_chosen_b6_st (k6 : Mem → Nat → Nat → Nat → Int32 → Int32 → Option Int32) (M : Mem) (v0 : Nat) (v1 : Nat) (v2 : Nat) (v3 : Int32) (v4 : Int32) : Option Int32 :=
  (gr M v0 1105).bind fun t17 =>
  (vg M t17 67).bind fun _ =>
  (F_J6_size M t17).bind fun z19 =>
  if v4 < z19 then
    (gr M v0 1105).bind fun t20 =>
    (vg M t20 67).bind fun _ =>
    (F_J6_get M t20 v4).bind fun z22 =>
    (cc M z22 44).bind fun _ =>
    (F_X16_isTaking M z22 v1 v2).bind fun z23 =>
    if z23 = 0 then
      F_X16_chosen_b137 k6 M v0 v1 v2 v3 v4
    else
      F_X16_chosen_b47 k6 xN M v0 v1 v2 v4 (1 : Int32) (0 : Int32)
  else
    some v3
noncomputable def F_X16_chosen_b6  (n : Nat) : Mem → Nat → Nat → Nat → Int32 → Int32 → Option Int32 :=
  Nat.rec (motive := fun _ => Mem → Nat → Nat → Nat → Int32 → Int32 → Option Int32) (fun _ _ _ _ _ _ => none) (fun _ ih => F_X16_chosen_b6_st ih) n
noncomputable def F_X16_chosen (M : Mem) (v0 : Nat) (v1 : Nat) (v2 : Nat) : Option Int32 :=
  F_X16_chosen_b6  xN M v0 v1 v2 (-15 : Int32) (0 : Int32)
noncomputable def F_X45_call_b127_st (k127 : Mem → Nat → Nat → Nat → Nat → Int32 → Option (Mem ⊕ (Nat × Mem))) (M : Mem) (v0 : Nat) (v1 : Nat) (v2 : Nat) (v5 : Nat) (v7 : Int32) : Option (Mem ⊕ (Nat × Mem)) :=
  (gi M v1 2883).bind fun t1 =>
  if v7 < t1 then
    (vg M v0 46).bind fun _ =>
    (F_X45_op M v0 (5 : Int32)).bind fun z3 =>
    (ai z3.2 v2 v7).bind fun t4 =>
    (pi z3.2 z3.1 3074 t4).bind fun M5 =>
    (gr M5 v5 2821).bind fun t6 =>
    (vg M5 t6 67).bind fun _ =>
    (F_J6_get M5 t6 v7).bind fun z8 =>
    (cc M5 z8 80).bind fun _ =>
    (vg M5 z8 80).bind fun _ =>
    (F_J19_intValue M5 z8).bind fun z10 =>
    (pi M5 z3.1 3076 z10).bind fun M11 =>
    let v7_12 : Int32 := v7 + (1 : Int32)
    k127 M11 v0 v1 v2 v5 v7_12
  else
    (gi M v5 2816).bind fun t13 =>
    (vg M v0 46).bind fun _ =>
    (F_X45_give M v0 t13).bind fun z15 =>
    some (.inl z15)
noncomputable def F_X45_call_b127  (n : Nat) : Mem → Nat → Nat → Nat → Nat → Int32 → Option (Mem ⊕ (Nat × Mem)) :=
  Nat.rec (motive := fun _ => Mem → Nat → Nat → Nat → Nat → Int32 → Option (Mem ⊕ (Nat × Mem))) (fun _ _ _ _ _ _ => none) (fun _ ih => F_X45_call_b127_st ih) n
noncomputable def F_X45_call_b76  (M : Mem) (s0 : Nat) (s1 : Int32) (v0 : Nat) (v1 : Nat) (v2 : Nat) (v4 : Int32) : Option (Mem ⊕ (Nat × Mem)) :=
  (gi M v1 2881).bind fun t16 =>
  (vg M s0 46).bind fun _ =>
  tb (F_X45_must M s0 s1 t16) fun z18 =>
  (gr z18 v0 2944).bind fun t19 =>
  (gr z18 t19 1105).bind fun t20 =>
  (vg z18 t20 67).bind fun _ =>
  (F_J6_get z18 t20 v4).bind fun z22 =>
  (cc z18 z22 44).bind fun _ =>
  (vg z18 v0 46).bind fun _ =>
  (F_X45_op z18 v0 (18 : Int32)).bind fun z24 =>
  (pr z24.2 z24.1 3080 z22).bind fun M25 =>
  (gi M25 v1 2883).bind fun t26 =>
  (pi M25 z24.1 3077 t26).bind fun M27 =>
  F_X45_call_b127  xN M27 v0 v1 v2 z22 (0 : Int32)
noncomputable def F_X45_call_b14_st (k14 : Mem → Nat → Nat → Nat → Int32 → Option (Mem ⊕ (Nat × Mem))) (M : Mem) (v0 : Nat) (v1 : Nat) (v2 : Nat) (v3 : Int32) : Option (Mem ⊕ (Nat × Mem)) :=
  if v3 < 0 then
    (gr M v1 2882).bind fun t28 =>
    (F_X16_builtOf M t28).bind fun z29 =>
    if z29 < 0 then
      (gr M v0 2944).bind fun t30 =>
      (gr M v1 2882).bind fun t31 =>
      (vg M t30 17).bind fun _ =>
      (F_X16_chosen M t30 t31 v2).bind fun z33 =>
      if z33 < 0 then
        F_X45_call_b76  M v0 (0 : Int32) v0 v1 v2 z33
      else
        F_X45_call_b76  M v0 (1 : Int32) v0 v1 v2 z33
    else
      (vg M v0 46).bind fun _ =>
      tb (F_X45_built M v0 v1 z29 v2) fun z35 =>
      some (.inl z35)
  else
    (vg M v0 46).bind fun _ =>
    (F_X45_take M v0).bind fun z37 =>
    (si z37.2 v2 v3 z37.1).bind fun M38 =>
    let v3_39 : Int32 := v3 + (-1 : Int32)
    k14 M38 v0 v1 v2 v3_39
noncomputable def F_X45_call_b14  (n : Nat) : Mem → Nat → Nat → Nat → Int32 → Option (Mem ⊕ (Nat × Mem)) :=
  Nat.rec (motive := fun _ => Mem → Nat → Nat → Nat → Int32 → Option (Mem ⊕ (Nat × Mem))) (fun _ _ _ _ _ => none) (fun _ ih => F_X45_call_b14_st ih) n
noncomputable def F_X45_call (M : Mem) (v0 : Nat) (v1 : Nat) : Option (Mem ⊕ (Nat × Mem)) :=
  (gi M v1 2883).bind fun t40 =>
  (mk M 1005 t40).bind fun M41 =>
  let v2_42 : Nat := (m_nx M)
  (gi M41 v1 2883).bind fun t43 =>
  let v3_44 : Int32 := (t43 - (1 : Int32))
  F_X45_call_b14  xN M41 v0 v1 v2_42 v3_44
noncomputable def F_X45_widen (M : Mem) (v0 : Nat) (v1 : Int32) (v2 : Int32) : Option Mem :=
  if v1 = v2 then
    some M
  else
    (vg M v0 46).bind fun _ =>
    (F_X45_op M v0 (5 : Int32)).bind fun z2 =>
    (pi z2.2 z2.1 3074 v1).bind fun M3 =>
    (pi M3 z2.1 3076 v2).bind fun M4 =>
    some M4
noncomputable def F_X45_unary_b110  (M : Mem) (s0 : Nat) (s1 : Int32) (v0 : Nat) (v3 : Int32) : Option (Mem ⊕ (Nat × Mem)) :=
  (vg M s0 46).bind fun _ =>
  (F_X45_op M s0 s1).bind fun z2 =>
  (pi z2.2 z2.1 3074 v3).bind fun M3 =>
  (vg M3 v0 46).bind fun _ =>
  (F_X45_give M3 v0 v3).bind fun z5 =>
  some (.inl z5)
noncomputable def F_X45_unary_b71  (M : Mem) (s0 : Nat) (s1 : Int32) (v0 : Nat) (v1 : Nat) (v2 : Int32) : Option (Mem ⊕ (Nat × Mem)) :=
  (gi M v1 2881).bind fun t6 =>
  (vg M s0 46).bind fun _ =>
  tb (F_X45_must M s0 s1 t6) fun z8 =>
  (F_X16_wider v2 v2).bind fun z9 =>
  (vg z8 v0 46).bind fun _ =>
  (F_X45_widen z8 v0 v2 z9).bind fun z11 =>
  (gr z11 v1 2882).bind fun t12 =>
  (vg z11 t12 76).bind fun _ =>
  (F_J15_equals z11 t12 34).bind fun z14 =>
  if z14 = 0 then
    F_X45_unary_b110  z11 v0 (9 : Int32) v0 z9
  else
    F_X45_unary_b110  z11 v0 (7 : Int32) v0 z9
noncomputable def F_X45_unary_b27  (M : Mem) (s0 : Nat) (s1 : Int32) (v0 : Nat) (v1 : Nat) : Option (Mem ⊕ (Nat × Mem)) :=
  (gi M v1 2881).bind fun t15 =>
  (vg M s0 46).bind fun _ =>
  tb (F_X45_must M s0 s1 t15) fun z17 =>
  (vg z17 v0 46).bind fun _ =>
  (F_X45_op z17 v0 (8 : Int32)).bind fun z19 =>
  (vg z19.2 v0 46).bind fun _ =>
  (F_X45_give z19.2 v0 (0 : Int32)).bind fun z21 =>
  some (.inl z21)
noncomputable def F_X45_unary (M : Mem) (v0 : Nat) (v1 : Nat) : Option (Mem ⊕ (Nat × Mem)) :=
  (vg M v0 46).bind fun _ =>
  (F_X45_take M v0).bind fun z23 =>
  (gr z23.2 v1 2882).bind fun t24 =>
  (vg z23.2 t24 76).bind fun _ =>
  (F_J15_equals z23.2 t24 23).bind fun z26 =>
  if z26 = 0 then
    (gr z23.2 v1 2882).bind fun t27 =>
    (vg z23.2 t27 76).bind fun _ =>
    (F_J15_equals z23.2 t27 34).bind fun z29 =>
    if z29 = 0 then
      (F_X16_isWhole z23.1).bind fun z30 =>
      F_X45_unary_b71  z23.2 v0 z30 v0 v1 z23.1
    else
      (F_X16_isNumber z23.1).bind fun z31 =>
      F_X45_unary_b71  z23.2 v0 z31 v0 v1 z23.1
  else
    if z23.1 = 0 then
      F_X45_unary_b27  z23.2 v0 (1 : Int32) v0 v1
    else
      F_X45_unary_b27  z23.2 v0 (0 : Int32) v0 v1
noncomputable def F_X45_binary_b279  (M : Mem) (s0 : Nat) (s1 : Int32) : Option (Mem ⊕ (Nat × Mem)) :=
  (vg M s0 46).bind fun _ =>
  (F_X45_give M s0 s1).bind fun z2 =>
  some (.inl z2)
noncomputable def F_X45_binary_b270  (M : Mem) (s0 : Nat) : Option (Mem ⊕ (Nat × Mem)) :=
  F_X45_binary_b279  M s0 (0 : Int32)
noncomputable def F_X45_binary_b253  (M : Mem) (s0 : Nat) (s1 : Int32) (v0 : Nat) (v7 : Int32) (v9 : Nat) : Option (Mem ⊕ (Nat × Mem)) :=
  (pi M s0 3076 s1).bind fun M3 =>
  if v7 = (5 : Int32) then
    F_X45_binary_b270  M3 v0
  else
    if v7 = (6 : Int32) then
      F_X45_binary_b270  M3 v0
    else
      (gi M3 v9 3076).bind fun t4 =>
      F_X45_binary_b279  M3 v0 t4
noncomputable def F_X45_binary_b196  (M : Mem) (s0 : Nat) (s1 : Int32) (v0 : Nat) (v1 : Nat) (v2 : Int32) (v3 : Int32) (v6 : Int32) (v7 : Int32) : Option (Mem ⊕ (Nat × Mem)) :=
  (vg M s0 46).bind fun _ =>
  (F_X45_op M s0 s1).bind fun z6 =>
  (gr z6.2 v1 2882).bind fun t7 =>
  (pr z6.2 z6.1 3073 t7).bind fun M8 =>
  (pi M8 z6.1 3074 v3).bind fun M9 =>
  (pi M9 z6.1 3075 v2).bind fun M10 =>
  if v6 = 0 then
    if v7 = (7 : Int32) then
      (F_X16_wider v3 v3).bind fun z11 =>
      F_X45_binary_b253  M10 z6.1 z11 v0 v7 z6.1
    else
      (F_X16_wider v3 v2).bind fun z12 =>
      F_X45_binary_b253  M10 z6.1 z12 v0 v7 z6.1
  else
    F_X45_binary_b253  M10 z6.1 (0 : Int32) v0 v7 z6.1
noncomputable def F_X45_binary_b146  (M : Mem) (s0 : Int32) (v0 : Nat) (v1 : Nat) (v2 : Int32) (v3 : Int32) (v6 : Int32) (v7 : Int32) : Option (Mem ⊕ (Nat × Mem)) :=
  (gi M v1 2881).bind fun t13 =>
  (vg M v0 46).bind fun _ =>
  tb (F_X45_must M v0 s0 t13) fun z15 =>
  if (7 : Int32) < v7 then
    F_X45_binary_b196  z15 v0 (10 : Int32) v0 v1 v2 v3 v6 v7
  else
    if v7 = (7 : Int32) then
      F_X45_binary_b196  z15 v0 (11 : Int32) v0 v1 v2 v3 v6 v7
    else
      if (4 : Int32) < v7 then
        F_X45_binary_b196  z15 v0 (12 : Int32) v0 v1 v2 v3 v6 v7
      else
        F_X45_binary_b196  z15 v0 (13 : Int32) v0 v1 v2 v3 v6 v7
noncomputable def F_X45_binary_b90  (M : Mem) (v0 : Nat) (v1 : Nat) (v2 : Int32) (v3 : Int32) (v4 : Int32) (v6 : Int32) (v7 : Int32) : Option (Mem ⊕ (Nat × Mem)) :=
  F_X45_binary_b146  M v4 v0 v1 v2 v3 v6 v7
noncomputable def F_X45_binary_b141  (M : Mem) (v0 : Nat) (v1 : Nat) (v2 : Int32) (v3 : Int32) (v6 : Int32) (v7 : Int32) : Option (Mem ⊕ (Nat × Mem)) :=
  F_X45_binary_b146  M (1 : Int32) v0 v1 v2 v3 v6 v7
noncomputable def F_X45_binary_b123  (M : Mem) (v0 : Nat) (v1 : Nat) (v2 : Int32) (v3 : Int32) (v6 : Int32) (v7 : Int32) : Option (Mem ⊕ (Nat × Mem)) :=
  F_X45_binary_b146  M (1 : Int32) v0 v1 v2 v3 v6 v7
noncomputable def F_X45_binary_b65  (M : Mem) (s0 : Int32) (v0 : Nat) (v1 : Nat) (v2 : Int32) (v3 : Int32) (v4 : Int32) (v5 : Int32) : Option (Mem ⊕ (Nat × Mem)) :=
  (gr M v1 2882).bind fun t16 =>
  (F_X16_rankOf M t16).bind fun z17 =>
  if (7 : Int32) < z17.1 then
    F_X45_binary_b90  z17.2 v0 v1 v2 v3 v4 s0 z17.1
  else
    if z17.1 = (6 : Int32) then
      F_X45_binary_b90  z17.2 v0 v1 v2 v3 v4 s0 z17.1
    else
      if z17.1 = (7 : Int32) then
        F_X45_binary_b146  z17.2 v5 v0 v1 v2 v3 s0 z17.1
      else
        if z17.1 = (5 : Int32) then
          if v4 = 0 then
            if s0 = 0 then
              F_X45_binary_b146  z17.2 (0 : Int32) v0 v1 v2 v3 s0 z17.1
            else
              F_X45_binary_b123  z17.2 v0 v1 v2 v3 s0 z17.1
          else
            F_X45_binary_b123  z17.2 v0 v1 v2 v3 s0 z17.1
        else
          if v5 = 0 then
            if s0 = 0 then
              F_X45_binary_b146  z17.2 (0 : Int32) v0 v1 v2 v3 s0 z17.1
            else
              F_X45_binary_b141  z17.2 v0 v1 v2 v3 s0 z17.1
          else
            F_X45_binary_b141  z17.2 v0 v1 v2 v3 s0 z17.1
noncomputable def F_X45_binary_b64  (M : Mem) (v0 : Nat) (v1 : Nat) (v2 : Int32) (v3 : Int32) (v4 : Int32) (v5 : Int32) : Option (Mem ⊕ (Nat × Mem)) :=
  F_X45_binary_b65  M (0 : Int32) v0 v1 v2 v3 v4 v5
noncomputable def F_X45_binary_b50  (M : Mem) (s0 : Int32) (v0 : Nat) (v1 : Nat) (v2 : Int32) (v3 : Int32) (v4 : Int32) : Option (Mem ⊕ (Nat × Mem)) :=
  if v3 = 0 then
    if v2 = 0 then
      F_X45_binary_b65  M (1 : Int32) v0 v1 v2 v3 v4 s0
    else
      F_X45_binary_b64  M v0 v1 v2 v3 v4 s0
  else
    F_X45_binary_b64  M v0 v1 v2 v3 v4 s0
noncomputable def F_X45_binary_b49  (M : Mem) (v0 : Nat) (v1 : Nat) (v2 : Int32) (v3 : Int32) (v4 : Int32) : Option (Mem ⊕ (Nat × Mem)) :=
  F_X45_binary_b50  M (0 : Int32) v0 v1 v2 v3 v4
noncomputable def F_X45_binary_b29  (M : Mem) (s0 : Int32) (v0 : Nat) (v1 : Nat) (v2 : Int32) (v3 : Int32) : Option (Mem ⊕ (Nat × Mem)) :=
  (F_X16_isWhole v3).bind fun z18 =>
  if z18 = 0 then
    F_X45_binary_b49  M v0 v1 v2 v3 s0
  else
    (F_X16_isWhole v2).bind fun z19 =>
    if z19 = 0 then
      F_X45_binary_b49  M v0 v1 v2 v3 s0
    else
      F_X45_binary_b50  M (1 : Int32) v0 v1 v2 v3 s0
noncomputable def F_X45_binary_b28  (M : Mem) (v0 : Nat) (v1 : Nat) (v2 : Int32) (v3 : Int32) : Option (Mem ⊕ (Nat × Mem)) :=
  F_X45_binary_b29  M (0 : Int32) v0 v1 v2 v3
noncomputable def F_X45_binary (M : Mem) (v0 : Nat) (v1 : Nat) : Option (Mem ⊕ (Nat × Mem)) :=
  (vg M v0 46).bind fun _ =>
  (F_X45_take M v0).bind fun z21 =>
  (vg z21.2 v0 46).bind fun _ =>
  (F_X45_take z21.2 v0).bind fun z23 =>
  (F_X16_isNumber z23.1).bind fun z24 =>
  if z24 = 0 then
    F_X45_binary_b28  z23.2 v0 v1 z21.1 z23.1
  else
    (F_X16_isNumber z21.1).bind fun z25 =>
    if z25 = 0 then
      F_X45_binary_b28  z23.2 v0 v1 z21.1 z23.1
    else
      F_X45_binary_b29  z23.2 (1 : Int32) v0 v1 z21.1 z23.1
noncomputable def F_X48_init (M : Mem) (v0 : Nat) (v1 : Nat) (v2 : Int32) : Option Mem :=
  (ng M v0).bind fun _ =>
  (pr M v0 3136 v1).bind fun M3 =>
  (pi M3 v0 3138 v2).bind fun M4 =>
  some M4
noncomputable def F_X45_ended (M : Mem) (v0 : Nat) : Option (Nat × Mem) :=
  (gr M v0 2947).bind fun t1 =>
  (gr M v0 2947).bind fun t2 =>
  (vg M t2 67).bind fun _ =>
  (F_J6_size M t2).bind fun z4 =>
  (vg M t1 67).bind fun _ =>
  (F_J6_remove M t1 (z4 - (1 : Int32))).bind fun z6 =>
  (cc z6.2 z6.1 49).bind fun _ =>
  some (z6.1, z6.2)
noncomputable def F_X45_choice_b86  (M : Mem) (s0 : Int32) (v0 : Nat) (v2 : Int32) (v3 : Nat) : Option (Mem ⊕ (Nat × Mem)) :=
  (gr M v3 3136).bind fun t1 =>
  (gi M v3 3138).bind fun t2 =>
  (pi M t1 3074 t2).bind fun M3 =>
  (gr M3 v3 3136).bind fun t4 =>
  (pi M3 t4 3076 s0).bind fun M5 =>
  (vg M5 v0 46).bind fun _ =>
  (F_X45_widen M5 v0 v2 s0).bind fun z7 =>
  (gr z7 v3 3137).bind fun t8 =>
  (gr z7 v0 2948).bind fun t9 =>
  (gr z7 t9 3008).bind fun t10 =>
  (vg z7 t10 67).bind fun _ =>
  (F_J6_size z7 t10).bind fun z12 =>
  (pi z7 t8 3078 z12).bind fun M13 =>
  (vg M13 v0 46).bind fun _ =>
  (F_X45_give M13 v0 s0).bind fun z15 =>
  some (.inl z15)
noncomputable def F_X45_choice_b54  (M : Mem) (s0 : Int32) (v0 : Nat) (v1 : Nat) (v2 : Int32) (v3 : Nat) : Option (Mem ⊕ (Nat × Mem)) :=
  (gi M v1 2881).bind fun t16 =>
  (vg M v0 46).bind fun _ =>
  tb (F_X45_must M v0 s0 t16) fun z18 =>
  (gi z18 v3 3138).bind fun t19 =>
  if t19 = v2 then
    F_X45_choice_b86  z18 v2 v0 v2 v3
  else
    (gi z18 v3 3138).bind fun t20 =>
    (F_X16_wider t20 v2).bind fun z21 =>
    F_X45_choice_b86  z18 z21 v0 v2 v3
noncomputable def F_X45_choice_b53  (M : Mem) (v0 : Nat) (v1 : Nat) (v2 : Int32) (v3 : Nat) : Option (Mem ⊕ (Nat × Mem)) :=
  F_X45_choice_b54  M (0 : Int32) v0 v1 v2 v3
noncomputable def F_X45_choice_b49  (M : Mem) (v0 : Nat) (v1 : Nat) (v2 : Int32) (v3 : Nat) : Option (Mem ⊕ (Nat × Mem)) :=
  F_X45_choice_b54  M (1 : Int32) v0 v1 v2 v3
noncomputable def F_X45_choice (M : Mem) (v0 : Nat) (v1 : Nat) : Option (Mem ⊕ (Nat × Mem)) :=
  (vg M v0 46).bind fun _ =>
  (F_X45_take M v0).bind fun z23 =>
  (vg z23.2 v0 46).bind fun _ =>
  (F_X45_ended z23.2 v0).bind fun z25 =>
  (vg z25.2 v0 46).bind fun _ =>
  (F_X45_ended z25.2 v0).bind fun z27 =>
  (gi z27.2 z27.1 3138).bind fun t28 =>
  if t28 = 0 then
    (gi z27.2 z25.1 3138).bind fun t29 =>
    if t29 = z23.1 then
      F_X45_choice_b49  z27.2 v0 v1 z23.1 z25.1
    else
      (gi z27.2 z25.1 3138).bind fun t30 =>
      (F_X16_isNumber t30).bind fun z31 =>
      if z31 = 0 then
        F_X45_choice_b53  z27.2 v0 v1 z23.1 z25.1
      else
        (F_X16_isNumber z23.1).bind fun z32 =>
        if z32 = 0 then
          F_X45_choice_b53  z27.2 v0 v1 z23.1 z25.1
        else
          F_X45_choice_b49  z27.2 v0 v1 z23.1 z25.1
  else
    F_X45_choice_b53  z27.2 v0 v1 z23.1 z25.1
noncomputable def F_X45_one_b135  (M : Mem) (s0 : Nat) (s1 : Int32) (v0 : Nat) (v1 : Nat) (v2 : Int32) : Option (Mem ⊕ (Nat × Mem)) :=
  (gi M v1 2881).bind fun t1 =>
  (vg M s0 46).bind fun _ =>
  tb (F_X45_must M s0 s1 t1) fun z3 =>
  (vg z3 v0 46).bind fun _ =>
  (F_X45_op z3 v0 (6 : Int32)).bind fun z5 =>
  (pi z5.2 z5.1 3074 v2).bind fun M6 =>
  (gi M6 v1 2883).bind fun t7 =>
  (pi M6 z5.1 3076 t7).bind fun M8 =>
  (gi M8 v1 2883).bind fun t9 =>
  (vg M8 v0 46).bind fun _ =>
  (F_X45_give M8 v0 t9).bind fun z11 =>
  some (.inl z11)
noncomputable def F_X45_one_b130  (M : Mem) (s0 : Nat) (v0 : Nat) (v1 : Nat) (v2 : Int32) : Option (Mem ⊕ (Nat × Mem)) :=
  F_X45_one_b135  M s0 (1 : Int32) v0 v1 v2
noncomputable def F_X45_one_b134  (M : Mem) (s0 : Nat) (v0 : Nat) (v1 : Nat) (v2 : Int32) : Option (Mem ⊕ (Nat × Mem)) :=
  F_X45_one_b135  M s0 (0 : Int32) v0 v1 v2
noncomputable def F_X45_one_b204  (M : Mem) (s0 : Nat) (s1 : Int32) (v0 : Nat) (v4 : Nat) : Option (Mem ⊕ (Nat × Mem)) :=
  (pi M s0 3077 s1).bind fun M12 =>
  (gr M12 v0 2947).bind fun t13 =>
  let t15 : Nat := m_nx M12
  let M14 : Mem := mo M12 49
  (vg M14 v0 46).bind fun _ =>
  (F_X45_take M14 v0).bind fun z17 =>
  (ng z17.2 t15).bind fun _ =>
  (F_X48_init z17.2 t15 v4 z17.1).bind fun z19 =>
  (vg z19 t13 67).bind fun _ =>
  (F_J6_add z19 t13 t15).bind fun z21 =>
  some (.inl z21.2)
noncomputable def F_X45_one_b256  (M : Mem) (s0 : Nat) (s1 : Int32) (v0 : Nat) (v1 : Nat) (v5 : Nat) : Option (Mem ⊕ (Nat × Mem)) :=
  (gi M v1 2881).bind fun t22 =>
  (vg M s0 46).bind fun _ =>
  tb (F_X45_must M s0 s1 t22) fun z24 =>
  (gr z24 v5 3136).bind fun t25 =>
  (gr z24 v0 2948).bind fun t26 =>
  (gr z24 t26 3008).bind fun t27 =>
  (vg z24 t27 67).bind fun _ =>
  (F_J6_size z24 t27).bind fun z29 =>
  (pi z24 t25 3078 z29).bind fun M30 =>
  (vg M30 v0 46).bind fun _ =>
  (F_X45_give M30 v0 (0 : Int32)).bind fun z32 =>
  some (.inl z32)
noncomputable def F_X45_one_b255  (M : Mem) (s0 : Nat) (v0 : Nat) (v1 : Nat) (v5 : Nat) : Option (Mem ⊕ (Nat × Mem)) :=
  F_X45_one_b256  M s0 (0 : Int32) v0 v1 v5
noncomputable def F_X45_one (M : Mem) (v0 : Nat) (v1 : Nat) : Option (Mem ⊕ (Nat × Mem)) :=
  (gi M v1 2880).bind fun t33 =>
  if t33 = (1 : Int32) then
    (vg M v0 46).bind fun _ =>
    (F_X45_op M v0 (1 : Int32)).bind fun z35 =>
    (gl z35.2 v1 2884).bind fun t36 =>
    (pj z35.2 z35.1 3079 t36).bind fun M37 =>
    (gi M37 v1 2883).bind fun t38 =>
    (vg M37 v0 46).bind fun _ =>
    (F_X45_give M37 v0 t38).bind fun z40 =>
    some (.inl z40)
  else
    if t33 = (2 : Int32) then
      (vg M v0 46).bind fun _ =>
      tb (F_X45_name M v0 v1) fun z42 =>
      some (.inl z42)
    else
      if t33 = (3 : Int32) then
        (vg M v0 46).bind fun _ =>
        tb (F_X45_call M v0 v1) fun z44 =>
        some (.inl z44)
      else
        if t33 = (4 : Int32) then
          (vg M v0 46).bind fun _ =>
          tb (F_X45_unary M v0 v1) fun z46 =>
          some (.inl z46)
        else
          if t33 = (5 : Int32) then
            (vg M v0 46).bind fun _ =>
            (F_X45_take M v0).bind fun z48 =>
            (gi z48.2 v1 2883).bind fun t49 =>
            if z48.1 = t49 then
              F_X45_one_b130  z48.2 v0 v0 v1 z48.1
            else
              (F_X16_isNumber z48.1).bind fun z50 =>
              if z50 = 0 then
                F_X45_one_b134  z48.2 v0 v0 v1 z48.1
              else
                (gi z48.2 v1 2883).bind fun t51 =>
                (F_X16_isNumber t51).bind fun z52 =>
                if z52 = 0 then
                  F_X45_one_b134  z48.2 v0 v0 v1 z48.1
                else
                  F_X45_one_b130  z48.2 v0 v0 v1 z48.1
          else
            if t33 = (6 : Int32) then
              (vg M v0 46).bind fun _ =>
              tb (F_X45_binary M v0 v1) fun z54 =>
              some (.inl z54)
            else
              if t33 = (7 : Int32) then
                (vg M v0 46).bind fun _ =>
                (F_X45_op M v0 (14 : Int32)).bind fun z56 =>
                (gr z56.2 v1 2882).bind fun t57 =>
                (vg z56.2 t57 76).bind fun _ =>
                (F_J15_equals z56.2 t57 27).bind fun z59 =>
                if z59 = 0 then
                  F_X45_one_b204  z56.2 z56.1 (1 : Int32) v0 z56.1
                else
                  F_X45_one_b204  z56.2 z56.1 (0 : Int32) v0 z56.1
              else
                if t33 = (8 : Int32) then
                  (vg M v0 46).bind fun _ =>
                  (F_X45_ended M v0).bind fun z61 =>
                  (vg z61.2 v0 46).bind fun _ =>
                  (F_X45_take z61.2 v0).bind fun z63 =>
                  if z63.1 = 0 then
                    (gi z63.2 z61.1 3138).bind fun t64 =>
                    if t64 = 0 then
                      F_X45_one_b256  z63.2 v0 (1 : Int32) v0 v1 z61.1
                    else
                      F_X45_one_b255  z63.2 v0 v0 v1 z61.1
                  else
                    F_X45_one_b255  z63.2 v0 v0 v1 z61.1
                else
                  if t33 = (9 : Int32) then
                    (vg M v0 46).bind fun _ =>
                    (F_X45_op M v0 (15 : Int32)).bind fun z66 =>
                    (gr z66.2 v0 2947).bind fun t67 =>
                    let t69 : Nat := m_nx z66.2
                    let M68 : Mem := mo z66.2 49
                    (vg M68 v0 46).bind fun _ =>
                    (F_X45_take M68 v0).bind fun z71 =>
                    (ng z71.2 t69).bind fun _ =>
                    (F_X48_init z71.2 t69 z66.1 z71.1).bind fun z73 =>
                    (vg z73 t67 67).bind fun _ =>
                    (F_J6_add z73 t67 t69).bind fun z75 =>
                    some (.inl z75.2)
                  else
                    if t33 = (10 : Int32) then
                      (vg M v0 46).bind fun _ =>
                      (F_X45_op M v0 (5 : Int32)).bind fun z77 =>
                      let t79 : Nat := m_nx z77.2
                      let M78 : Mem := mo z77.2 49
                      (vg M78 v0 46).bind fun _ =>
                      (F_X45_take M78 v0).bind fun z81 =>
                      (ng z81.2 t79).bind fun _ =>
                      (F_X48_init z81.2 t79 z77.1 z81.1).bind fun z83 =>
                      (vg z83 v0 46).bind fun _ =>
                      (F_X45_op z83 v0 (16 : Int32)).bind fun z85 =>
                      (pr z85.2 t79 3137 z85.1).bind fun M86 =>
                      (gr M86 v0 2947).bind fun t87 =>
                      (gr M86 v0 2947).bind fun t88 =>
                      (vg M86 t88 67).bind fun _ =>
                      (F_J6_size M86 t88).bind fun z90 =>
                      (vg M86 t87 67).bind fun _ =>
                      (F_J6_get M86 t87 (z90 - (1 : Int32))).bind fun z92 =>
                      (cc M86 z92 49).bind fun _ =>
                      (gr M86 z92 3136).bind fun t93 =>
                      (gr M86 v0 2948).bind fun t94 =>
                      (gr M86 t94 3008).bind fun t95 =>
                      (vg M86 t95 67).bind fun _ =>
                      (F_J6_size M86 t95).bind fun z97 =>
                      (pi M86 t93 3078 z97).bind fun M98 =>
                      (gr M98 v0 2947).bind fun t99 =>
                      (vg M98 t99 67).bind fun _ =>
                      (F_J6_add M98 t99 t79).bind fun z101 =>
                      some (.inl z101.2)
                    else
                      (vg M v0 46).bind fun _ =>
                      tb (F_X45_choice M v0 v1) fun z103 =>
                      some (.inl z103)
noncomputable def F_X45_all_b2_st (k2 : Mem → Nat → Nat → Int32 → Option (Mem ⊕ (Nat × Mem))) (M : Mem) (v0 : Nat) (v1 : Nat) (v2 : Int32) : Option (Mem ⊕ (Nat × Mem)) :=
  (vg M v1 67).bind fun _ =>
  (F_J6_size M v1).bind fun z2 =>
  if v2 < z2 then
    (vg M v1 67).bind fun _ =>
    (F_J6_get M v1 v2).bind fun z4 =>
    (cc M z4 45).bind fun _ =>
    (vg M v0 46).bind fun _ =>
    tb (F_X45_one M v0 z4) fun z6 =>
    let v2_7 : Int32 := v2 + (1 : Int32)
    k2 z6 v0 v1 v2_7
  else
    some (.inl M)
noncomputable def F_X45_all_b2  (n : Nat) : Mem → Nat → Nat → Int32 → Option (Mem ⊕ (Nat × Mem)) :=
  Nat.rec (motive := fun _ => Mem → Nat → Nat → Int32 → Option (Mem ⊕ (Nat × Mem))) (fun _ _ _ _ => none) (fun _ ih => F_X45_all_b2_st ih) n
noncomputable def F_X45_all (M : Mem) (v0 : Nat) (v1 : Nat) : Option (Mem ⊕ (Nat × Mem)) :=
  F_X45_all_b2  xN M v0 v1 (0 : Int32)
noncomputable def F_X16_tell_b270  (M : Mem) (s0 : Nat) (s1 : Int32) (v0 : Nat) (v1 : Nat) : Option (Mem ⊕ (Nat × Mem)) :=
  (gi M v1 2818).bind fun t1 =>
  (vg M s0 18).bind fun _ =>
  tb (F_X17_must M s0 s1 t1) fun z3 =>
  let t5 : Nat := m_nx z3
  let M4 : Mem := mo z3 46
  (ng M4 t5).bind fun _ =>
  (F_X45_init M4 t5 v0 v1).bind fun z7 =>
  (gr z7 v1 2822).bind fun t8 =>
  (vg z7 t5 46).bind fun _ =>
  tb (F_X45_all z7 t5 t8) fun z10 =>
  (vg z10 t5 46).bind fun _ =>
  (F_X45_take z10 t5).bind fun z12 =>
  (gr z12.2 v0 1103).bind fun t13 =>
  (gi z12.2 v1 2816).bind fun t14 =>
  (F_X16_isFitting z12.1 t14).bind fun z15 =>
  (gi z12.2 v1 2818).bind fun t16 =>
  (vg z12.2 t13 18).bind fun _ =>
  tb (F_X17_must z12.2 t13 z15 t16) fun z18 =>
  (gi z18 v1 2816).bind fun t19 =>
  (vg z18 t5 46).bind fun _ =>
  (F_X45_widen z18 t5 z12.1 t19).bind fun z21 =>
  (gr z21 t5 2948).bind fun t22 =>
  (pr z21 v1 2823 t22).bind fun M23 =>
  (gr M23 v0 1105).bind fun t24 =>
  (vg M23 t24 67).bind fun _ =>
  (F_J6_add M23 t24 v1).bind fun z26 =>
  some (.inl z26.2)
noncomputable def F_X16_tell_b226 (k184 : Mem → Nat → Nat → Int32 → Option (Mem ⊕ (Nat × Mem))) (M : Mem) (s0 : Nat) (s1 : Int32) (v0 : Nat) (v1 : Nat) (v2 : Int32) : Option (Mem ⊕ (Nat × Mem)) :=
  (gr M v1 2820).bind fun t27 =>
  (vg M t27 67).bind fun _ =>
  (F_J6_get M t27 v2).bind fun z29 =>
  (cc M z29 80).bind fun _ =>
  (vg M z29 80).bind fun _ =>
  (F_J19_intValue M z29).bind fun z31 =>
  (vg M s0 18).bind fun _ =>
  tb (F_X17_must M s0 s1 z31) fun z33 =>
  let v2_34 : Int32 := v2 + (1 : Int32)
  k184 z33 v0 v1 v2_34
noncomputable def F_X16_tell_b184_st (k184 : Mem → Nat → Nat → Int32 → Option (Mem ⊕ (Nat × Mem))) (M : Mem) (v0 : Nat) (v1 : Nat) (v2 : Int32) : Option (Mem ⊕ (Nat × Mem)) :=
  (gr M v1 2819).bind fun t35 =>
  (vg M t35 67).bind fun _ =>
  (F_J6_size M t35).bind fun z37 =>
  if v2 < z37 then
    (gr M v0 1103).bind fun t38 =>
    (gr M v1 2819).bind fun t39 =>
    (gr M v1 2819).bind fun t40 =>
    (vg M t40 67).bind fun _ =>
    (F_J6_get M t40 v2).bind fun z42 =>
    (cc M z42 76).bind fun _ =>
    (F_X16_indexOf M t39 z42).bind fun z43 =>
    if z43 = v2 then
      F_X16_tell_b226 k184 M t38 (1 : Int32) v0 v1 v2
    else
      F_X16_tell_b226 k184 M t38 (0 : Int32) v0 v1 v2
  else
    (gr M v0 1103).bind fun t44 =>
    (gr M v1 2822).bind fun t45 =>
    (F_X16_heightOf M t45).bind fun z46 =>
    if (30 : Int32) < z46.1 then
      F_X16_tell_b270  z46.2 t44 (0 : Int32) v0 v1
    else
      F_X16_tell_b270  z46.2 t44 (1 : Int32) v0 v1
noncomputable def F_X16_tell_b184  (n : Nat) : Mem → Nat → Nat → Int32 → Option (Mem ⊕ (Nat × Mem)) :=
  Nat.rec (motive := fun _ => Mem → Nat → Nat → Int32 → Option (Mem ⊕ (Nat × Mem))) (fun _ _ _ _ => none) (fun _ ih => F_X16_tell_b184_st ih) n
noncomputable def F_X16_tell_b169 (k28 : Mem → Nat → Nat → Int32 → Option (Mem ⊕ (Nat × Mem))) (M : Mem) (s0 : Nat) (s1 : Int32) (v0 : Nat) (v1 : Nat) (v2 : Int32) : Option (Mem ⊕ (Nat × Mem)) :=
  (gi M v1 2818).bind fun t47 =>
  (vg M s0 18).bind fun _ =>
  tb (F_X17_must M s0 s1 t47) fun z49 =>
  let v2_50 : Int32 := v2 + (1 : Int32)
  k28 z49 v0 v1 v2_50
noncomputable def F_X16_tell_b155 (k28 : Mem → Nat → Nat → Int32 → Option (Mem ⊕ (Nat × Mem))) (M : Mem) (v0 : Nat) (v1 : Nat) (v2 : Int32) (v4 : Int32) : Option (Mem ⊕ (Nat × Mem)) :=
  (gr M v0 1103).bind fun t51 =>
  if v4 = 0 then
    F_X16_tell_b169 k28 M t51 (1 : Int32) v0 v1 v2
  else
    F_X16_tell_b169 k28 M t51 (0 : Int32) v0 v1 v2
noncomputable def F_X16_tell_b147 (k28 : Mem → Nat → Nat → Int32 → Option (Mem ⊕ (Nat × Mem))) (k92 : Mem → Nat → Nat → Int32 → Nat → Int32 → Int32 → Option (Mem ⊕ (Nat × Mem))) (M : Mem) (s0 : Int32) (v0 : Nat) (v1 : Nat) (v2 : Int32) (v3 : Nat) (v5 : Int32) : Option (Mem ⊕ (Nat × Mem)) :=
  let v5_52 : Int32 := v5 + (1 : Int32)
  k92 M v0 v1 v2 v3 s0 v5_52
noncomputable def F_X16_tell_b92_st (k28 : Mem → Nat → Nat → Int32 → Option (Mem ⊕ (Nat × Mem))) (k92 : Mem → Nat → Nat → Int32 → Nat → Int32 → Int32 → Option (Mem ⊕ (Nat × Mem))) (M : Mem) (v0 : Nat) (v1 : Nat) (v2 : Int32) (v3 : Nat) (v4 : Int32) (v5 : Int32) : Option (Mem ⊕ (Nat × Mem)) :=
  (gr M v1 2821).bind fun t53 =>
  (vg M t53 67).bind fun _ =>
  (F_J6_size M t53).bind fun z55 =>
  if v5 < z55 then
    if v4 = 0 then
      F_X16_tell_b155 k28 M v0 v1 v2 v4
    else
      (gr M v3 2821).bind fun t56 =>
      (vg M t56 67).bind fun _ =>
      (F_J6_get M t56 v5).bind fun z58 =>
      (cc M z58 80).bind fun _ =>
      (vg M z58 80).bind fun _ =>
      (F_J19_intValue M z58).bind fun z60 =>
      (gr M v1 2821).bind fun t61 =>
      (vg M t61 67).bind fun _ =>
      (F_J6_get M t61 v5).bind fun z63 =>
      (cc M z63 80).bind fun _ =>
      (vg M z63 80).bind fun _ =>
      (F_J19_intValue M z63).bind fun z65 =>
      if z60 = z65 then
        F_X16_tell_b147 k28 k92 M (1 : Int32) v0 v1 v2 v3 v5
      else
        F_X16_tell_b147 k28 k92 M (0 : Int32) v0 v1 v2 v3 v5
  else
    F_X16_tell_b155 k28 M v0 v1 v2 v4
noncomputable def F_X16_tell_b92 (k28 : Mem → Nat → Nat → Int32 → Option (Mem ⊕ (Nat × Mem))) (n : Nat) : Mem → Nat → Nat → Int32 → Nat → Int32 → Int32 → Option (Mem ⊕ (Nat × Mem)) :=
  Nat.rec (motive := fun _ => Mem → Nat → Nat → Int32 → Nat → Int32 → Int32 → Option (Mem ⊕ (Nat × Mem))) (fun _ _ _ _ _ _ _ => none) (fun _ ih => F_X16_tell_b92_st k28 ih) n
noncomputable def F_X16_tell_b87 (k28 : Mem → Nat → Nat → Int32 → Option (Mem ⊕ (Nat × Mem))) (M : Mem) (s0 : Int32) (v0 : Nat) (v1 : Nat) (v2 : Int32) (v3 : Nat) : Option (Mem ⊕ (Nat × Mem)) :=
  F_X16_tell_b92 k28 xN M v0 v1 v2 v3 s0 (0 : Int32)
noncomputable def F_X16_tell_b86 (k28 : Mem → Nat → Nat → Int32 → Option (Mem ⊕ (Nat × Mem))) (M : Mem) (v0 : Nat) (v1 : Nat) (v2 : Int32) (v3 : Nat) : Option (Mem ⊕ (Nat × Mem)) :=
  F_X16_tell_b87 k28 M (0 : Int32) v0 v1 v2 v3
noncomputable def F_X16_tell_b28_st (k28 : Mem → Nat → Nat → Int32 → Option (Mem ⊕ (Nat × Mem))) (M : Mem) (v0 : Nat) (v1 : Nat) (v2 : Int32) : Option (Mem ⊕ (Nat × Mem)) :=
  (gr M v0 1105).bind fun t66 =>
  (vg M t66 67).bind fun _ =>
  (F_J6_size M t66).bind fun z68 =>
  if v2 < z68 then
    (gr M v0 1105).bind fun t69 =>
    (vg M t69 67).bind fun _ =>
    (F_J6_get M t69 v2).bind fun z71 =>
    (cc M z71 44).bind fun _ =>
    (gr M z71 2817).bind fun t72 =>
    (gr M v1 2817).bind fun t73 =>
    (vg M t72 76).bind fun _ =>
    (F_J15_equals M t72 t73).bind fun z75 =>
    if z75 = 0 then
      F_X16_tell_b86 k28 M v0 v1 v2 z71
    else
      (gr M z71 2821).bind fun t76 =>
      (vg M t76 67).bind fun _ =>
      (F_J6_size M t76).bind fun z78 =>
      (gr M v1 2821).bind fun t79 =>
      (vg M t79 67).bind fun _ =>
      (F_J6_size M t79).bind fun z81 =>
      if z78 = z81 then
        F_X16_tell_b87 k28 M (1 : Int32) v0 v1 v2 z71
      else
        F_X16_tell_b86 k28 M v0 v1 v2 z71
  else
    F_X16_tell_b184  xN M v0 v1 (0 : Int32)
noncomputable def F_X16_tell_b28  (n : Nat) : Mem → Nat → Nat → Int32 → Option (Mem ⊕ (Nat × Mem)) :=
  Nat.rec (motive := fun _ => Mem → Nat → Nat → Int32 → Option (Mem ⊕ (Nat × Mem))) (fun _ _ _ _ => none) (fun _ ih => F_X16_tell_b28_st ih) n
noncomputable def F_X16_tell_b19  (M : Mem) (s0 : Nat) (s1 : Int32) (v0 : Nat) (v1 : Nat) : Option (Mem ⊕ (Nat × Mem)) :=
  (gi M v1 2818).bind fun t82 =>
  (vg M s0 18).bind fun _ =>
  tb (F_X17_must M s0 s1 t82) fun z84 =>
  F_X16_tell_b28  xN z84 v0 v1 (0 : Int32)
noncomputable def F_X16_tell (M : Mem) (v0 : Nat) (v1 : Nat) : Option (Mem ⊕ (Nat × Mem)) :=
  (gr M v0 1103).bind fun t85 =>
  (gr M v1 2817).bind fun t86 =>
  (F_X16_builtOf M t86).bind fun z87 =>
  if z87 < 0 then
    F_X16_tell_b19  M t85 (1 : Int32) v0 v1
  else
    F_X16_tell_b19  M t85 (0 : Int32) v0 v1
noncomputable def F_X16_functions_b138_st (k138 : Mem → Nat → Int32 → Option (Int32 × Mem)) (M : Mem) (v0 : Nat) (v2 : Int32) : Option (Int32 × Mem) :=
  (gr M v0 1105).bind fun t1 =>
  (vg M t1 67).bind fun _ =>
  (F_J6_size M t1).bind fun z3 =>
  if v2 < z3 then
    (gr M v0 1105).bind fun t4 =>
    (gr M v0 1105).bind fun t5 =>
    (vg M t5 67).bind fun _ =>
    (F_J6_size M t5).bind fun z7 =>
    (vg M t4 67).bind fun _ =>
    (F_J6_remove M t4 (z7 - (1 : Int32))).bind fun z9 =>
    (cc z9.2 z9.1 44).bind fun _ =>
    k138 z9.2 v0 v2
  else
    (gr M v0 1103).bind fun t10 =>
    (gi M t10 1152).bind fun t11 =>
    some (((-20 : Int32) - t11), M)
noncomputable def F_X16_functions_b138  (n : Nat) : Mem → Nat → Int32 → Option (Int32 × Mem) :=
  Nat.rec (motive := fun _ => Mem → Nat → Int32 → Option (Int32 × Mem)) (fun _ _ _ => none) (fun _ ih => F_X16_functions_b138_st ih) n
noncomputable def F_X16_functions_b126  (M : Mem) (s0 : Nat) (v0 : Nat) (v2 : Int32) : Option (Int32 × Mem) :=
  (gr M v0 1103).bind fun t12 =>
  (gi M t12 1153).bind fun t13 =>
  (pi M v0 1091 t13).bind fun M14 =>
  F_X16_functions_b138  xN M14 v0 v2
noncomputable def F_X16_functions_b95_st (k95 : Mem → Nat → Int32 → Nat → Int32 → Option (Int32 × Mem)) (M : Mem) (v0 : Nat) (v2 : Int32) (v3 : Nat) (v4 : Int32) : Option (Int32 × Mem) :=
  (vg M v3 67).bind fun _ =>
  (F_J6_size M v3).bind fun z16 =>
  if v4 < z16 then
    (vg M v3 67).bind fun _ =>
    (F_J6_get M v3 v4).bind fun z18 =>
    (cc M z18 44).bind fun _ =>
    (vg M v0 17).bind fun _ =>
    tc (F_X16_tell M v0 z18) (fun z20 =>
      let v4_22 : Int32 := v4 + (1 : Int32)
      k95 z20 v0 v2 v3 v4_22)
      (fun z21 =>
        F_X16_functions_b126  z21.2 z21.1 v0 v2)
  else
    (gi M v0 1106).bind fun t23 =>
    (gr M v0 1105).bind fun t24 =>
    (vg M t24 67).bind fun _ =>
    (F_J6_size M t24).bind fun z26 =>
    (pi M v0 1106 (t23 + (z26 - v2))).bind fun M27 =>
    (gr M27 v0 1105).bind fun t28 =>
    (vg M27 t28 67).bind fun _ =>
    (F_J6_size M27 t28).bind fun z30 =>
    some (z30, M27)
noncomputable def F_X16_functions_b95  (n : Nat) : Mem → Nat → Int32 → Nat → Int32 → Option (Int32 × Mem) :=
  Nat.rec (motive := fun _ => Mem → Nat → Int32 → Nat → Int32 → Option (Int32 × Mem)) (fun _ _ _ _ _ => none) (fun _ ih => F_X16_functions_b95_st ih) n
noncomputable def F_X16_functions (M : Mem) (v0 : Nat) : Option (Int32 × Mem) :=
  (pi M v0 1091 (-1 : Int32)).bind fun M31 =>
  (gi M31 v0 1095).bind fun t32 =>
  if t32 = 0 then
    (vg M31 v0 17).bind fun _ =>
    (F_X16_used M31 v0).bind fun z34 =>
    (gr z34.2 v0 1105).bind fun t35 =>
    (vg z34.2 t35 67).bind fun _ =>
    (F_J6_size z34.2 t35).bind fun z37 =>
    if (4000 : Int32) < z34.1 then
      (gr z34.2 v0 1103).bind fun t38 =>
      (vg z34.2 t38 18).bind fun _ =>
      (F_X17_at z34.2 t38 (1 : Int32) (4000 : Int32)).bind fun z40 =>
      (ie z40.2 z40.1).bind fun _ =>
      F_X16_functions_b126  z40.2 z40.1 v0 z37
    else
      let t42 : Nat := m_nx z34.2
      let M41 : Mem := mo z34.2 67
      (ng M41 t42).bind fun _ =>
      (F_J6_init_2 M41 t42).bind fun z44 =>
      let t46 : Nat := m_nx z44
      let M45 : Mem := mo z44 41
      (gr M45 v0 1103).bind fun t47 =>
      let t49 : Nat := m_nx M45
      let M48 : Mem := mo M45 42
      (gr M48 v0 1088).bind fun t50 =>
      (ng M48 t49).bind fun _ =>
      (F_X41_init M48 t49 t50 z34.1).bind fun z52 =>
      (gr z52 t49 2690).bind fun t53 =>
      (ng z52 t46).bind fun _ =>
      (F_X40_init z52 t46 t47 t53).bind fun z55 =>
      (gi z55 v0 1106).bind fun t56 =>
      (vg z55 t46 41).bind fun _ =>
      tc (F_X40_functions z55 t46 t42 ((40 : Int32) - t56)) (fun z58 =>
        F_X16_functions_b95  xN z58 v0 z37 t42 (0 : Int32))
        (fun z59 =>
          F_X16_functions_b126  z59.2 z59.1 v0 z37)
  else
    some ((-13 : Int32), M31)
noncomputable def F_X16_bind_b35  (M : Mem) : Option (Int32 × Mem) :=
  some ((-2 : Int32), M)
noncomputable def F_X16_bind_b25  (M : Mem) (v0 : Nat) (v1 : Int32) (v2 : Int32) : Option (Int32 × Mem) :=
  if v1 < 0 then
    F_X16_bind_b35  M
  else
    if (7 : Int32) < v1 then
      F_X16_bind_b35  M
    else
      (gr M v0 1107).bind fun t1 =>
      (si M t1 v1 v2).bind fun M2 =>
      some ((0 : Int32), M2)
noncomputable def F_X16_bind (M : Mem) (v0 : Nat) (v1 : Int32) (v2 : Int32) : Option (Int32 × Mem) :=
  (gi M v0 1095).bind fun t3 =>
  if t3 = 0 then
    if v2 = 0 then
      F_X16_bind_b25  M v0 v1 v2
    else
      (vg M v0 17).bind fun _ =>
      (F_X16_isGrid M v0 v2).bind fun z5 =>
      if z5 = 0 then
        some ((-14 : Int32), M)
      else
        F_X16_bind_b25  M v0 v1 v2
  else
    some ((-13 : Int32), M)
noncomputable def F_X16_choose_b71_st (k71 : Mem → Nat → Int32 → Int32 → Nat → Int32 → Option (Int32 × Mem)) (M : Mem) (v0 : Nat) (v1 : Int32) (v2 : Int32) (v3 : Nat) (v4 : Int32) : Option (Int32 × Mem) :=
  if v4 < v1 then
    (gr M v0 1088).bind fun t1 =>
    (ab M t1 v4).bind fun t2 =>
    (vg M v3 75).bind fun _ =>
    (F_J14_append M v3 (j_i2c (t2 &&& (255 : Int32)))).bind fun z4 =>
    let v4_5 : Int32 := v4 + (1 : Int32)
    k71 z4.2 v0 v1 v2 v3 v4_5
  else
    (vg M v3 75).bind fun _ =>
    (F_J14_toString M v3).bind fun z7 =>
    (gr z7.2 v0 1096).bind fun t8 =>
    (F_X16_first z7.2 t8 v2).bind fun z9 =>
    (vg z9.2 v0 17).bind fun _ =>
    (F_X16_chosen z9.2 v0 z7.1 z9.1).bind fun z11 =>
    some (z11, z9.2)
noncomputable def F_X16_choose_b71  (n : Nat) : Mem → Nat → Int32 → Int32 → Nat → Int32 → Option (Int32 × Mem) :=
  Nat.rec (motive := fun _ => Mem → Nat → Int32 → Int32 → Nat → Int32 → Option (Int32 × Mem)) (fun _ _ _ _ _ _ => none) (fun _ ih => F_X16_choose_b71_st ih) n
noncomputable def F_X16_choose_b27_st (k27 : Mem → Nat → Int32 → Int32 → Int32 → Option (Int32 × Mem)) (M : Mem) (v0 : Nat) (v1 : Int32) (v2 : Int32) (v3 : Int32) : Option (Int32 × Mem) :=
  if v3 < v2 then
    (gr M v0 1096).bind fun t12 =>
    (ai M t12 v3).bind fun t13 =>
    (F_X16_isLane t13).bind fun z14 =>
    if z14 = 0 then
      some ((-14 : Int32), M)
    else
      let v3_15 : Int32 := v3 + (1 : Int32)
      k27 M v0 v1 v2 v3_15
  else
    if v2 = 0 then
      some ((-14 : Int32), M)
    else
      let t17 : Nat := m_nx M
      let M16 : Mem := mo M 75
      (ng M16 t17).bind fun _ =>
      (F_J14_init_2 M16 t17).bind fun z19 =>
      F_X16_choose_b71  xN z19 v0 v1 v2 t17 (0 : Int32)
noncomputable def F_X16_choose_b27  (n : Nat) : Mem → Nat → Int32 → Int32 → Int32 → Option (Int32 × Mem) :=
  Nat.rec (motive := fun _ => Mem → Nat → Int32 → Int32 → Int32 → Option (Int32 × Mem)) (fun _ _ _ _ _ => none) (fun _ ih => F_X16_choose_b27_st ih) n
noncomputable def F_X16_choose (M : Mem) (v0 : Nat) : Option (Int32 × Mem) :=
  (gi M v0 1095).bind fun t20 =>
  if t20 = 0 then
    (vg M v0 17).bind fun _ =>
    (F_X16_used M v0).bind fun z22 =>
    (vg z22.2 v0 17).bind fun _ =>
    (F_X16_usedSizes z22.2 v0).bind fun z24 =>
    F_X16_choose_b27  xN z24.2 v0 z22.1 z24.1 (0 : Int32)
  else
    (pi M v0 1098 (0 : Int32)).bind fun M25 =>
    some ((-13 : Int32), M25)
noncomputable def F_X16_failed_b22  (M : Mem) (s0 : Int32) : Option Int32 :=
  some s0
noncomputable def F_X16_failed_b21  (M : Mem) : Option Int32 :=
  F_X16_failed_b22  M (-1 : Int32)
noncomputable def F_X16_failed (M : Mem) (v0 : Nat) (v1 : Int32) : Option Int32 :=
  if v1 < 0 then
    F_X16_failed_b21  M
  else
    (gi M v0 1117).bind fun t1 =>
    if v1 < t1 then
      (gr M v0 1116).bind fun t2 =>
      (ai M t2 v1).bind fun t3 =>
      F_X16_failed_b22  M t3
    else
      F_X16_failed_b21  M
noncomputable def F_X16_steps (M : Mem) (v0 : Nat) : Option Int32 :=
  (gi M v0 1113).bind fun t1 =>
  some t1
noncomputable def F_X40_formula (M : Mem) (v0 : Nat) (v1 : Nat) : Option (Mem ⊕ (Nat × Mem)) :=
  (pr M v0 2627 v1).bind fun M1 =>
  (vg M1 v0 41).bind fun _ =>
  tb (F_X40_expression M1 v0 (1 : Int32)) fun z3 =>
  (vg z3 v0 41).bind fun _ =>
  (F_X40_token z3 v0).bind fun z5 =>
  (gi z3 z5 2752).bind fun t6 =>
  if t6 = 0 then
    some (.inl z3)
  else
    (vg z3 v0 41).bind fun _ =>
    (F_X40_wrong z3 v0).bind fun z8 =>
    (ie z8.2 z8.1).bind fun _ => some (.inr (z8.1, z8.2))
noncomputable def F_X16_shape_b194_st (k194 : Mem → Nat → Int32 → Nat → Int32 → Option (Nat × Mem)) (M : Mem) (v2 : Nat) (v3 : Int32) (v4 : Nat) (v5 : Int32) : Option (Nat × Mem) :=
  if v5 < v3 then
    (ai M v2 v5).bind fun t1 =>
    (si M v4 ((v3 - (1 : Int32)) - v5) t1).bind fun M2 =>
    let v5_3 : Int32 := v5 + (1 : Int32)
    k194 M2 v2 v3 v4 v5_3
  else
    some (v4, M)
noncomputable def F_X16_shape_b194  (n : Nat) : Mem → Nat → Int32 → Nat → Int32 → Option (Nat × Mem) :=
  Nat.rec (motive := fun _ => Mem → Nat → Int32 → Nat → Int32 → Option (Nat × Mem)) (fun _ _ _ _ _ => none) (fun _ ih => F_X16_shape_b194_st ih) n
noncomputable def F_X16_shape_b180 (k26 : Mem → Nat → Nat → Nat → Int32 → Int32 → Option (Nat × Mem)) (M : Mem) (v0 : Nat) (v1 : Nat) (v2 : Nat) (v3 : Int32) (v4 : Int32) : Option (Nat × Mem) :=
  let v4_4 : Int32 := v4 + (1 : Int32)
  k26 M v0 v1 v2 v3 v4_4
noncomputable def F_X16_shape_b174 (k26 : Mem → Nat → Nat → Nat → Int32 → Int32 → Option (Nat × Mem)) (k109 : Mem → Nat → Nat → Nat → Int32 → Int32 → Nat → Int32 → Option (Nat × Mem)) (M : Mem) (v0 : Nat) (v1 : Nat) (v2 : Nat) (v3 : Int32) (v4 : Int32) (v6 : Nat) (v7 : Int32) : Option (Nat × Mem) :=
  let v7_5 : Int32 := v7 + (1 : Int32)
  k109 M v0 v1 v2 v3 v4 v6 v7_5
noncomputable def F_X16_shape_b162 (k26 : Mem → Nat → Nat → Nat → Int32 → Int32 → Option (Nat × Mem)) (k109 : Mem → Nat → Nat → Nat → Int32 → Int32 → Nat → Int32 → Option (Nat × Mem)) (M : Mem) (v0 : Nat) (v1 : Nat) (v2 : Nat) (v3 : Int32) (v4 : Int32) (v6 : Nat) (v7 : Int32) (v8 : Int32) : Option (Nat × Mem) :=
  if v8 = (1 : Int32) then
    F_X16_shape_b174 k26 k109 M v0 v1 v2 v3 v4 v6 v7
  else
    (si M v2 v7 v8).bind fun M6 =>
    F_X16_shape_b174 k26 k109 M6 v0 v1 v2 v3 v4 v6 v7
noncomputable def F_X16_shape_b109_st (k26 : Mem → Nat → Nat → Nat → Int32 → Int32 → Option (Nat × Mem)) (k109 : Mem → Nat → Nat → Nat → Int32 → Int32 → Nat → Int32 → Option (Nat × Mem)) (M : Mem) (v0 : Nat) (v1 : Nat) (v2 : Nat) (v3 : Int32) (v4 : Int32) (v6 : Nat) (v7 : Int32) : Option (Nat × Mem) :=
  (vg M v6 23).bind fun _ =>
  (F_X22_axes M v6).bind fun z8 =>
  if v7 < z8 then
    (gr M v6 1473).bind fun t9 =>
    (vg M v6 23).bind fun _ =>
    (F_X22_axes M v6).bind fun z11 =>
    (ai M t9 ((z11 - (1 : Int32)) - v7)).bind fun t12 =>
    if t12 = (1 : Int32) then
      F_X16_shape_b162 k26 k109 M v0 v1 v2 v3 v4 v6 v7 t12
    else
      (ai M v2 v7).bind fun t13 =>
      if t13 = (1 : Int32) then
        F_X16_shape_b162 k26 k109 M v0 v1 v2 v3 v4 v6 v7 t12
      else
        (ai M v2 v7).bind fun t14 =>
        if t12 = t14 then
          F_X16_shape_b162 k26 k109 M v0 v1 v2 v3 v4 v6 v7 t12
        else
          some (0, M)
  else
    F_X16_shape_b180 k26 M v0 v1 v2 v3 v4
noncomputable def F_X16_shape_b109 (k26 : Mem → Nat → Nat → Nat → Int32 → Int32 → Option (Nat × Mem)) (n : Nat) : Mem → Nat → Nat → Nat → Int32 → Int32 → Nat → Int32 → Option (Nat × Mem) :=
  Nat.rec (motive := fun _ => Mem → Nat → Nat → Nat → Int32 → Int32 → Nat → Int32 → Option (Nat × Mem)) (fun _ _ _ _ _ _ _ _ => none) (fun _ ih => F_X16_shape_b109_st k26 ih) n
noncomputable def F_X16_shape_b26_st (k26 : Mem → Nat → Nat → Nat → Int32 → Int32 → Option (Nat × Mem)) (M : Mem) (v0 : Nat) (v1 : Nat) (v2 : Nat) (v3 : Int32) (v4 : Int32) : Option (Nat × Mem) :=
  (vg M v1 67).bind fun _ =>
  (F_J6_size M v1).bind fun z16 =>
  if v4 < z16 then
    (vg M v1 67).bind fun _ =>
    (F_J6_get M v1 v4).bind fun z18 =>
    (cc M z18 45).bind fun _ =>
    (gi M z18 2880).bind fun t19 =>
    if t19 = (2 : Int32) then
      (gr M z18 2882).bind fun t20 =>
      (vg M t20 76).bind fun _ =>
      (F_J15_charAt M t20 (0 : Int32)).bind fun z22 =>
      if (104 : Int32) < z22 then
        F_X16_shape_b180 k26 M v0 v1 v2 v3 v4
      else
        (gr M v0 1092).bind fun t23 =>
        (gr M v0 1107).bind fun t24 =>
        (gr M z18 2882).bind fun t25 =>
        (vg M t25 76).bind fun _ =>
        (F_J15_charAt M t25 (0 : Int32)).bind fun z27 =>
        (ai M t24 (z27 - (97 : Int32))).bind fun t28 =>
        (ar M t23 t28).bind fun t29 =>
        (vg M t29 23).bind fun _ =>
        (F_X22_axes M t29).bind fun z31 =>
        (F_J7_max v3 z31).bind fun z32 =>
        F_X16_shape_b109 k26 xN M v0 v1 v2 z32 v4 t29 (0 : Int32)
    else
      F_X16_shape_b180 k26 M v0 v1 v2 v3 v4
  else
    (mk M 1005 v3).bind fun M33 =>
    let v4_34 : Nat := (m_nx M)
    F_X16_shape_b194  xN M33 v2 v3 v4_34 (0 : Int32)
noncomputable def F_X16_shape_b26  (n : Nat) : Mem → Nat → Nat → Nat → Int32 → Int32 → Option (Nat × Mem) :=
  Nat.rec (motive := fun _ => Mem → Nat → Nat → Nat → Int32 → Int32 → Option (Nat × Mem)) (fun _ _ _ _ _ _ => none) (fun _ ih => F_X16_shape_b26_st ih) n
noncomputable def F_X16_shape_b6_st (k6 : Mem → Nat → Nat → Nat → Int32 → Option (Nat × Mem)) (M : Mem) (v0 : Nat) (v1 : Nat) (v2 : Nat) (v3 : Int32) : Option (Nat × Mem) :=
  if v3 < (4 : Int32) then
    (si M v2 v3 (1 : Int32)).bind fun M35 =>
    let v3_36 : Int32 := v3 + (1 : Int32)
    k6 M35 v0 v1 v2 v3_36
  else
    F_X16_shape_b26  xN M v0 v1 v2 (0 : Int32) (0 : Int32)
noncomputable def F_X16_shape_b6  (n : Nat) : Mem → Nat → Nat → Nat → Int32 → Option (Nat × Mem) :=
  Nat.rec (motive := fun _ => Mem → Nat → Nat → Nat → Int32 → Option (Nat × Mem)) (fun _ _ _ _ _ => none) (fun _ ih => F_X16_shape_b6_st ih) n
noncomputable def F_X16_shape (M : Mem) (v0 : Nat) (v1 : Nat) : Option (Nat × Mem) :=
  (mk M 1005 (4 : Int32)).bind fun M37 =>
  let v2_38 : Nat := (m_nx M)
  F_X16_shape_b6  xN M37 v0 v1 v2_38 (0 : Int32)
noncomputable def F_X16_goTo_b14_st (k14 : Mem → Nat → Nat → Int32 → Int32 → Option Mem) (M : Mem) (v0 : Nat) (v1 : Nat) (v3 : Int32) (v4 : Int32) : Option Mem :=
  if v4 < 0 then
    some M
  else
    (gr M v0 1114).bind fun t1 =>
    (ai M v1 v4).bind fun t2 =>
    if t2 = 0 then none else
    (si M t1 v4 (j_irem v3 t2)).bind fun M3 =>
    (ai M3 v1 v4).bind fun t4 =>
    if t4 = 0 then none else
    let v3_5 : Int32 := (v3 / t4)
    let v4_6 : Int32 := v4 + (-1 : Int32)
    k14 M3 v0 v1 v3_5 v4_6
noncomputable def F_X16_goTo_b14  (n : Nat) : Mem → Nat → Nat → Int32 → Int32 → Option Mem :=
  Nat.rec (motive := fun _ => Mem → Nat → Nat → Int32 → Int32 → Option Mem) (fun _ _ _ _ _ => none) (fun _ ih => F_X16_goTo_b14_st ih) n
noncomputable def F_X16_goTo (M : Mem) (v0 : Nat) (v1 : Nat) (v2 : Int32) : Option Mem :=
  (an M v1).bind fun t7 =>
  (pi M v0 1115 t7).bind fun M8 =>
  (an M8 v1).bind fun t9 =>
  let v4_10 : Int32 := (t9 - (1 : Int32))
  F_X16_goTo_b14  xN M8 v0 v1 v2 v4_10
noncomputable def F_X50_init (M : Mem) (v0 : Nat) : Option Unit :=
  (ng M v0).bind fun _ =>
  some ()
noncomputable def F_X16_enter_b28  (M : Mem) (v0 : Nat) (v1 : Nat) : Option Mem :=
  (gr M v0 1108).bind fun t1 =>
  (gi M v0 1109).bind fun t2 =>
  (ar M t1 t2).bind fun t3 =>
  (pr M t3 3264 v1).bind fun M4 =>
  (gr M4 v0 1108).bind fun t5 =>
  (gi M4 v0 1109).bind fun t6 =>
  (ar M4 t5 t6).bind fun t7 =>
  (pi M4 t7 3265 (0 : Int32)).bind fun M8 =>
  (gr M8 v0 1108).bind fun t9 =>
  (gi M8 v0 1109).bind fun t10 =>
  (ar M8 t9 t10).bind fun t11 =>
  (gi M8 v0 1109).bind fun t12 =>
  (pi M8 t11 3266 ((6 : Int32) * t12)).bind fun M13 =>
  (gi M13 v0 1109).bind fun t14 =>
  (pi M13 v0 1109 (t14 + (1 : Int32))).bind fun M15 =>
  some M15
noncomputable def F_X16_enter (M : Mem) (v0 : Nat) (v1 : Nat) : Option Mem :=
  (gr M v0 1108).bind fun t16 =>
  (gi M v0 1109).bind fun t17 =>
  (ar M t16 t17).bind fun t18 =>
  if t18 = 6 then
    none
  else
    if t18 = 0 then
      (gr M v0 1108).bind fun t19 =>
      (gi M v0 1109).bind fun t20 =>
      let t22 : Nat := m_nx M
      let M21 : Mem := mo M 51
      (ng M21 t22).bind fun _ =>
      (F_X50_init M21 t22).bind fun z24 =>
      (sr M21 t19 t20 t22).bind fun M25 =>
      F_X16_enter_b28  M25 v0 v1
    else
      F_X16_enter_b28  M v0 v1
noncomputable def F_X16_push (M : Mem) (v0 : Nat) (v1 : Int64) : Option Mem :=
  (gr M v0 1110).bind fun t1 =>
  (gi M v0 1111).bind fun t2 =>
  (sj M t1 t2 v1).bind fun M3 =>
  (gi M3 v0 1111).bind fun t4 =>
  (pi M3 v0 1111 (t4 + (1 : Int32))).bind fun M5 =>
  some M5
noncomputable def F_X16_operand_b56 (k7 : Mem → Nat → Nat → Int32 → Int32 → Option Int64) (M : Mem) (v0 : Nat) (v1 : Nat) (v2 : Int32) (v3 : Int32) : Option Int64 :=
  let v3_1 : Int32 := v3 + (1 : Int32)
  k7 M v0 v1 v2 v3_1
noncomputable def F_X16_operand_b7_st (k7 : Mem → Nat → Nat → Int32 → Int32 → Option Int64) (M : Mem) (v0 : Nat) (v1 : Nat) (v2 : Int32) (v3 : Int32) : Option Int64 :=
  (vg M v1 23).bind fun _ =>
  (F_X22_axes M v1).bind fun z3 =>
  if z3 < v3 then
    (gr M v1 1476).bind fun t4 =>
    (al M t4 v2).bind fun t5 =>
    some t5
  else
    (vg M v1 23).bind fun _ =>
    (F_X22_axes M v1).bind fun z7 =>
    let v4_8 : Int32 := (z7 - v3)
    (gr M v1 1473).bind fun t9 =>
    (ai M t9 v4_8).bind fun t10 =>
    if (1 : Int32) < t10 then
      (gr M v0 1114).bind fun t11 =>
      (gi M v0 1115).bind fun t12 =>
      (ai M t11 (t12 - v3)).bind fun t13 =>
      (gr M v1 1474).bind fun t14 =>
      (ai M t14 v4_8).bind fun t15 =>
      let v2_16 : Int32 := (v2 + (t13 * t15))
      F_X16_operand_b56 k7 M v0 v1 v2_16 v3
    else
      F_X16_operand_b56 k7 M v0 v1 v2 v3
noncomputable def F_X16_operand_b7  (n : Nat) : Mem → Nat → Nat → Int32 → Int32 → Option Int64 :=
  Nat.rec (motive := fun _ => Mem → Nat → Nat → Int32 → Int32 → Option Int64) (fun _ _ _ _ _ => none) (fun _ ih => F_X16_operand_b7_st ih) n
noncomputable def F_X16_operand (M : Mem) (v0 : Nat) (v1 : Nat) : Option Int64 :=
  (gi M v1 1475).bind fun t17 =>
  F_X16_operand_b7  xN M v0 v1 t17 (1 : Int32)
noncomputable def F_X16_pop (M : Mem) (v0 : Nat) : Option (Int64 × Mem) :=
  (gi M v0 1111).bind fun t1 =>
  (pi M v0 1111 (t1 - (1 : Int32))).bind fun M2 =>
  (gr M2 v0 1110).bind fun t3 =>
  (gi M2 v0 1111).bind fun t4 =>
  (al M2 t3 t4).bind fun t5 =>
  some (t5, M2)
noncomputable def F_X16_fails (M : Mem) (v0 : Nat) (v1 : Int32) : Option (Nat × Mem) :=
  (gr M v0 1103).bind fun t1 =>
  (vg M t1 18).bind fun _ =>
  (F_X17_at M t1 v1 (-1 : Int32)).bind fun z3 =>
  some (z3.1, z3.2)
noncomputable def F_X16_step (M : Mem) (v0 : Nat) : Option (Mem ⊕ (Nat × Mem)) :=
  (gi M v0 1113).bind fun t1 =>
  if t1 = (400000 : Int32) then
    (vg M v0 17).bind fun _ =>
    (F_X16_fails M v0 (10 : Int32)).bind fun z3 =>
    (ie z3.2 z3.1).bind fun _ => some (.inr (z3.1, z3.2))
  else
    (gi M v0 1113).bind fun t4 =>
    (pi M v0 1113 (t4 + (1 : Int32))).bind fun M5 =>
    some (.inl M5)
noncomputable def F_X24_isGreat_b28  (s0 : Int32) : Option Int32 :=
  some (s0 &&& 1)
noncomputable def F_X24_isGreat_b23   : Option Int32 :=
  F_X24_isGreat_b28  (1 : Int32)
noncomputable def F_X24_isGreat_b27   : Option Int32 :=
  F_X24_isGreat_b28  (0 : Int32)
noncomputable def F_X24_isGreat (v0 : Int64) : Option Int32 :=
  (F_X24_isInfinite v0).bind fun z1 =>
  if z1 = 0 then
    (F_X24_isZero v0).bind fun z2 =>
    if z2 = 0 then
      (F_X24_exponent v0).bind fun z3 =>
      if (11 : Int32) < z3 then
        F_X24_isGreat_b23  
      else
        F_X24_isGreat_b27  
    else
      F_X24_isGreat_b27  
  else
    F_X24_isGreat_b23  
noncomputable def F_X24_cut_b43  (s0 : Int64) : Option Int64 :=
  some s0
noncomputable def F_X24_cut (v0 : Int64) : Option Int64 :=
  (F_X24_isZero v0).bind fun z1 =>
  if z1 = 0 then
    (F_X24_exponent v0).bind fun z2 =>
    (F_X24_significand v0).bind fun z3 =>
    if z2 < 0 then
      if z2 < (-52 : Int32) then
        F_X24_cut_b43  (0 : Int64)
      else
        F_X24_cut_b43  (j_lushr z3 (-z2))
    else
      F_X24_cut_b43  (j_lshl z3 z2)
  else
    some (0 : Int64)
noncomputable def F_X16_cut_b106  (s0 : Int64) : Option Int64 :=
  some s0
noncomputable def F_X16_cut_b92  (s0 : Int64) : Option Int64 :=
  some s0
noncomputable def F_X16_cut_b72  (s0 : Int32) (v3 : Int64) (v5 : Int32) (v7 : Int64) : Option Int64 :=
  if s0 = 0 then
    if v5 = 0 then
      F_X16_cut_b106  v7
    else
      F_X16_cut_b106  (-v7)
  else
    if v5 = 0 then
      F_X16_cut_b92  v3
    else
      F_X16_cut_b92  ((-v3) - (1 : Int64))
noncomputable def F_X16_cut_b67  (v3 : Int64) (v5 : Int32) (v7 : Int64) : Option Int64 :=
  F_X16_cut_b72  (1 : Int32) v3 v5 v7
noncomputable def F_X16_cut_b46  (s0 : Int64) (v3 : Int64) (v5 : Int32) (v6 : Int32) : Option Int64 :=
  if v6 = 0 then
    if s0 < (0 : Int64) then
      F_X16_cut_b67  v3 v5 s0
    else
      if v3 < s0 then
        F_X16_cut_b67  v3 v5 s0
      else
        F_X16_cut_b72  (0 : Int32) v3 v5 s0
  else
    F_X16_cut_b67  v3 v5 s0
noncomputable def F_X16_cut_b25  (s0 : Int32) (v0 : Int64) (v3 : Int64) : Option Int64 :=
  (F_X24_isGreat v0).bind fun z1 =>
  if z1 = 0 then
    (F_X24_cut v0).bind fun z2 =>
    F_X16_cut_b46  z2 v3 s0 z1
  else
    F_X16_cut_b46  (0 : Int64) v3 s0 z1
noncomputable def F_X16_cut_b13  (s0 : Int64) (v0 : Int64) : Option Int64 :=
  if v0 < (0 : Int64) then
    F_X16_cut_b25  (1 : Int32) v0 s0
  else
    F_X16_cut_b25  (0 : Int32) v0 s0
noncomputable def F_X16_cut (v0 : Int64) (v2 : Int32) : Option Int64 :=
  if v2 = 0 then
    F_X16_cut_b13  (2147483647 : Int64) v0
  else
    F_X16_cut_b13  (9223372036854775807 : Int64) v0
noncomputable def F_X16_casted_b25  (v0 : Int64) (v2 : Int32) (v3 : Int32) : Option Int64 :=
  (F_X16_widened v0 v2 v3).bind fun z1 =>
  some z1
noncomputable def F_X16_casted_b93  (v3 : Int32) (v4 : Int64) : Option Int64 :=
  if v3 = (1 : Int32) then
    some ((j_i2b (v4.toInt32)).toInt64)
  else
    if v3 = (2 : Int32) then
      some ((j_i2s (v4.toInt32)).toInt64)
    else
      if v3 = (3 : Int32) then
        some ((j_i2c (v4.toInt32)).toInt64)
      else
        if v3 = (4 : Int32) then
          some ((v4.toInt32).toInt64)
        else
          some v4
noncomputable def F_X16_casted_b88  (s0 : Int64) (s1 : Int32) (v3 : Int32) : Option Int64 :=
  (F_X16_cut s0 s1).bind fun z2 =>
  F_X16_casted_b93  v3 z2
noncomputable def F_X16_casted_b78  (s0 : Int64) (v3 : Int32) : Option Int64 :=
  if v3 = (5 : Int32) then
    F_X16_casted_b88  s0 (1 : Int32) v3
  else
    F_X16_casted_b88  s0 (0 : Int32) v3
noncomputable def F_X16_casted_b63  (v0 : Int64) (v2 : Int32) (v3 : Int32) : Option Int64 :=
  if v2 = (6 : Int32) then
    (F_X24_wide (v0.toInt32)).bind fun z3 =>
    F_X16_casted_b78  z3 v3
  else
    F_X16_casted_b78  v0 v3
noncomputable def F_X16_casted_b32  (v0 : Int64) (v2 : Int32) (v3 : Int32) : Option Int64 :=
  if v3 = (6 : Int32) then
    (F_X24_narrow v0).bind fun z4 =>
    some (z4.toInt64 &&& (4294967295 : Int64))
  else
    if v2 = (6 : Int32) then
      F_X16_casted_b63  v0 v2 v3
    else
      if v2 = (7 : Int32) then
        F_X16_casted_b63  v0 v2 v3
      else
        F_X16_casted_b93  v3 v0
noncomputable def F_X16_casted (v0 : Int64) (v2 : Int32) (v3 : Int32) : Option Int64 :=
  if v2 = v3 then
    some v0
  else
    if v3 = (7 : Int32) then
      F_X16_casted_b25  v0 v2 v3
    else
      if v3 = (6 : Int32) then
        if v2 < (6 : Int32) then
          F_X16_casted_b25  v0 v2 v3
        else
          F_X16_casted_b32  v0 v2 v3
      else
        F_X16_casted_b32  v0 v2 v3
noncomputable def F_X24_negative (v0 : Int64) : Option Int64 :=
  some (v0 ^^^ (-9223372036854775808 : Int64))
noncomputable def F_X16_real_b29  (s0 : Int64) : Option Int64 :=
  some s0
noncomputable def F_X16_real (v0 : Int64) (v2 : Int32) : Option Int64 :=
  if v2 = (6 : Int32) then
    (F_X24_wide (v0.toInt32)).bind fun z1 =>
    F_X16_real_b29  z1
  else
    if v2 = (7 : Int32) then
      F_X16_real_b29  v0
    else
      (F_X24_of v0 (0 : Int32)).bind fun z2 =>
      F_X16_real_b29  z2
noncomputable def F_X24_add_b35  (s0 : Int64) : Option Int64 :=
  some s0
noncomputable def F_X24_add_b34  (v0 : Int64) : Option Int64 :=
  F_X24_add_b35  v0
noncomputable def F_X24_add_b14  (v0 : Int64) (v2 : Int64) : Option Int64 :=
  (F_X24_isZero v0).bind fun z1 =>
  if z1 = 0 then
    F_X24_add_b34  v0
  else
    (F_X24_isZero v2).bind fun z2 =>
    if z2 = 0 then
      F_X24_add_b34  v0
    else
      F_X24_add_b35  (v0 &&& v2)
noncomputable def F_X24_add_b50  (v2 : Int64) : Option Int64 :=
  some v2
noncomputable def F_X24_add_b311  (s0 : Int64) : Option Int64 :=
  some s0
noncomputable def F_X24_add_b302  (s0 : Int32) (v9 : Int32) (v17 : Int32) (v18 : Int64) : Option Int64 :=
  (F_X24_made s0 v18 v9 v17).bind fun z3 =>
  F_X24_add_b311  z3
noncomputable def F_X24_add_b290  (v5 : Int64) (v9 : Int32) (v17 : Int32) (v18 : Int64) : Option Int64 :=
  if v5 < (0 : Int64) then
    F_X24_add_b302  (1 : Int32) v9 v17 v18
  else
    F_X24_add_b302  (0 : Int32) v9 v17 v18
noncomputable def F_X24_add_b270  (s0 : Int64) (s1 : Int32) (v5 : Int64) (v9 : Int32) (v17 : Int32) : Option Int64 :=
  let v18_4 : Int64 := (s0 - s1.toInt64)
  if v18_4 = (0 : Int64) then
    if v17 = 0 then
      F_X24_add_b311  (0 : Int64)
    else
      F_X24_add_b290  v5 v9 v17 v18_4
  else
    F_X24_add_b290  v5 v9 v17 v18_4
noncomputable def F_X24_add_b242  (s0 : Int32) (v9 : Int32) (v11 : Int64) (v15 : Int64) (v17 : Int32) : Option Int64 :=
  (F_X24_made s0 (v11 + v15) v9 v17).bind fun z5 =>
  some z5
noncomputable def F_X24_add_b227  (s0 : Int32) (s1 : Int32) (v5 : Int64) (v9 : Int32) (v11 : Int64) (v15 : Int64) (v17 : Int32) : Option Int64 :=
  if s0 = s1 then
    if v5 < (0 : Int64) then
      F_X24_add_b242  (1 : Int32) v9 v11 v15 v17
    else
      F_X24_add_b242  (0 : Int32) v9 v11 v15 v17
  else
    if v17 = 0 then
      F_X24_add_b270  (v11 - v15) (0 : Int32) v5 v9 v17
    else
      F_X24_add_b270  (v11 - v15) (1 : Int32) v5 v9 v17
noncomputable def F_X24_add_b215  (s0 : Int32) (v5 : Int64) (v7 : Int64) (v9 : Int32) (v11 : Int64) (v15 : Int64) (v17 : Int32) : Option Int64 :=
  if v7 < (0 : Int64) then
    F_X24_add_b227  s0 (1 : Int32) v5 v9 v11 v15 v17
  else
    F_X24_add_b227  s0 (0 : Int32) v5 v9 v11 v15 v17
noncomputable def F_X24_add_b201  (s0 : Int32) (v5 : Int64) (v7 : Int64) (v9 : Int32) (v11 : Int64) (v15 : Int64) : Option Int64 :=
  if v5 < (0 : Int64) then
    F_X24_add_b215  (1 : Int32) v5 v7 v9 v11 v15 s0
  else
    F_X24_add_b215  (0 : Int32) v5 v7 v9 v11 v15 s0
noncomputable def F_X24_add_b196  (v5 : Int64) (v7 : Int64) (v9 : Int32) (v11 : Int64) (v15 : Int64) : Option Int64 :=
  F_X24_add_b201  (1 : Int32) v5 v7 v9 v11 v15
noncomputable def F_X24_add_b176  (s0 : Int64) (v5 : Int64) (v7 : Int64) (v9 : Int32) (v10 : Int32) (v11 : Int64) (v13 : Int64) : Option Int64 :=
  if (62 : Int32) < v10 then
    F_X24_add_b196  v5 v7 v9 v11 s0
  else
    if (j_lshl s0 v10) = v13 then
      F_X24_add_b201  (0 : Int32) v5 v7 v9 v11 s0
    else
      F_X24_add_b196  v5 v7 v9 v11 s0
noncomputable def F_X24_add_b115  (s0 : Int64) (v5 : Int64) : Option Int64 :=
  (F_X24_exponent v5).bind fun z6 =>
  let v9_7 : Int32 := (z6 - (8 : Int32))
  (F_X24_exponent v5).bind fun z8 =>
  (F_X24_exponent s0).bind fun z9 =>
  let v10_10 : Int32 := (z8 - z9)
  (F_X24_significand v5).bind fun z11 =>
  let v11_12 : Int64 := (j_lshl z11 (8 : Int32))
  (F_X24_significand s0).bind fun z13 =>
  let v13_14 : Int64 := (j_lshl z13 (8 : Int32))
  if (62 : Int32) < v10_10 then
    F_X24_add_b176  (0 : Int64) v5 s0 v9_7 v10_10 v11_12 v13_14
  else
    F_X24_add_b176  (j_lushr v13_14 v10_10) v5 s0 v9_7 v10_10 v11_12 v13_14
noncomputable def F_X24_add_b103  (s0 : Int64) (v0 : Int64) (v2 : Int64) (v4 : Int32) : Option Int64 :=
  if v4 = 0 then
    F_X24_add_b115  v0 s0
  else
    F_X24_add_b115  v2 s0
noncomputable def F_X24_add_b91  (s0 : Int32) (v0 : Int64) (v2 : Int64) : Option Int64 :=
  if s0 = 0 then
    F_X24_add_b103  v2 v0 v2 s0
  else
    F_X24_add_b103  v0 v0 v2 s0
noncomputable def F_X24_add_b86  (v0 : Int64) (v2 : Int64) : Option Int64 :=
  F_X24_add_b91  (1 : Int32) v0 v2
noncomputable def F_X24_add_b90  (v0 : Int64) (v2 : Int64) : Option Int64 :=
  F_X24_add_b91  (0 : Int32) v0 v2
noncomputable def F_X24_add (v0 : Int64) (v2 : Int64) : Option Int64 :=
  (F_X24_isInfinite v0).bind fun z15 =>
  if z15 = 0 then
    (F_X24_isZero v2).bind fun z16 =>
    if z16 = 0 then
      (F_X24_isInfinite v2).bind fun z17 =>
      if z17 = 0 then
        (F_X24_isZero v0).bind fun z18 =>
        if z18 = 0 then
          (F_X24_exponent v0).bind fun z19 =>
          (F_X24_exponent v2).bind fun z20 =>
          if z20 < z19 then
            F_X24_add_b86  v0 v2
          else
            (F_X24_exponent v0).bind fun z21 =>
            (F_X24_exponent v2).bind fun z22 =>
            if z21 = z22 then
              (F_X24_significand v0).bind fun z23 =>
              (F_X24_significand v2).bind fun z24 =>
              if z23 < z24 then
                F_X24_add_b90  v0 v2
              else
                F_X24_add_b86  v0 v2
            else
              F_X24_add_b90  v0 v2
        else
          F_X24_add_b50  v2
      else
        F_X24_add_b50  v2
    else
      F_X24_add_b14  v0 v2
  else
    F_X24_add_b14  v0 v2
noncomputable def F_X24_multiply_b23  (v4 : Int64) : Option Int64 :=
  some (v4 ||| (9218868437227405312 : Int64))
noncomputable def F_X24_multiply_b44  (v4 : Int64) : Option Int64 :=
  some v4
noncomputable def F_X24_multiply_b174  (s0 : Int32) (v0 : Int64) (v2 : Int64) (v16 : Int64) (v18 : Int64) (v20 : Int32) : Option Int64 :=
  (F_X24_exponent v0).bind fun z1 =>
  (F_X24_exponent v2).bind fun z2 =>
  (F_X24_made s0 ((j_lshl v16 (8 : Int32)) ||| (j_lushr v18 (19 : Int32))) ((z1 + z2) + (46 : Int32)) v20).bind fun z3 =>
  some z3
noncomputable def F_X24_multiply_b160  (s0 : Int32) (v0 : Int64) (v2 : Int64) (v4 : Int64) (v16 : Int64) (v18 : Int64) : Option Int64 :=
  if v4 = (0 : Int64) then
    F_X24_multiply_b174  (0 : Int32) v0 v2 v16 v18 s0
  else
    F_X24_multiply_b174  (1 : Int32) v0 v2 v16 v18 s0
noncomputable def F_X24_multiply_b155  (v0 : Int64) (v2 : Int64) (v4 : Int64) (v16 : Int64) (v18 : Int64) : Option Int64 :=
  F_X24_multiply_b160  (1 : Int32) v0 v2 v4 v16 v18
noncomputable def F_X24_multiply (v0 : Int64) (v2 : Int64) : Option Int64 :=
  let v4_4 : Int64 := ((v0 ^^^ v2) &&& (-9223372036854775808 : Int64))
  (F_X24_isInfinite v0).bind fun z5 =>
  if z5 = 0 then
    (F_X24_isInfinite v2).bind fun z6 =>
    if z6 = 0 then
      (F_X24_isZero v0).bind fun z7 =>
      if z7 = 0 then
        (F_X24_isZero v2).bind fun z8 =>
        if z8 = 0 then
          (F_X24_significand v0).bind fun z9 =>
          (F_X24_significand v2).bind fun z10 =>
          let v12_11 : Int64 := ((z9 &&& (134217727 : Int64)) * (z10 &&& (134217727 : Int64)))
          let v14_12 : Int64 := ((((j_lushr z9 (27 : Int32)) * (z10 &&& (134217727 : Int64))) + ((z9 &&& (134217727 : Int64)) * (j_lushr z10 (27 : Int32)))) + (j_lushr v12_11 (27 : Int32)))
          let v16_13 : Int64 := (((j_lushr z9 (27 : Int32)) * (j_lushr z10 (27 : Int32))) + (j_lushr v14_12 (27 : Int32)))
          let v18_14 : Int64 := (v14_12 &&& (134217727 : Int64))
          if (v12_11 &&& (134217727 : Int64)) = (0 : Int64) then
            if (v18_14 &&& (524287 : Int64)) = (0 : Int64) then
              F_X24_multiply_b160  (0 : Int32) v0 v2 v4_4 v16_13 v18_14
            else
              F_X24_multiply_b155  v0 v2 v4_4 v16_13 v18_14
          else
            F_X24_multiply_b155  v0 v2 v4_4 v16_13 v18_14
        else
          F_X24_multiply_b44  v4_4
      else
        F_X24_multiply_b44  v4_4
    else
      F_X24_multiply_b23  v4_4
  else
    F_X24_multiply_b23  v4_4
noncomputable def F_X16_rest_b14  (v0 : Int64) : Option Int64 :=
  some v0
noncomputable def F_X16_rest_b67_st (k67 : Int64 → Int32 → Int64 → Int64 → Int32 → Option Int64) (v6 : Int64) (v9 : Int32) (v10 : Int64) (v12 : Int64) (v14 : Int32) : Option Int64 :=
  if v9 < v14 then
    if v6 = 0 then none else
    let v12_1 : Int64 := (j_lrem (j_lshl v12 (1 : Int32)) v6)
    let v14_2 : Int32 := v14 + (-1 : Int32)
    k67 v6 v9 v10 v12_1 v14_2
  else
    if v12 = (0 : Int64) then
      some v10
    else
      (F_X24_made (0 : Int32) v12 v9 (0 : Int32)).bind fun z3 =>
      some (v10 ||| z3)
noncomputable def F_X16_rest_b67  (n : Nat) : Int64 → Int32 → Int64 → Int64 → Int32 → Option Int64 :=
  Nat.rec (motive := fun _ => Int64 → Int32 → Int64 → Int64 → Int32 → Option Int64) (fun _ _ _ _ _ => none) (fun _ ih => F_X16_rest_b67_st ih) n
noncomputable def F_X16_rest (v0 : Int64) (v2 : Int64) : Option Int64 :=
  (F_X24_isInfinite v2).bind fun z4 =>
  if z4 = 0 then
    (F_X24_isZero v0).bind fun z5 =>
    if z5 = 0 then
      (F_X24_significand v0).bind fun z6 =>
      (F_X24_significand v2).bind fun z7 =>
      (F_X24_exponent v0).bind fun z8 =>
      (F_X24_exponent v2).bind fun z9 =>
      let v10_10 : Int64 := (v0 &&& (-9223372036854775808 : Int64))
      if z8 < z9 then
        some v0
      else
        if z7 = 0 then none else
        let v12_11 : Int64 := (j_lrem z6 z7)
        F_X16_rest_b67  xN z7 z9 v10_10 v12_11 z8
    else
      F_X16_rest_b14  v0
  else
    F_X16_rest_b14  v0
