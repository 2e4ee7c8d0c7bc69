/-! ===== functions: GENERATED ===== -/
noncomputable def F_X16_reopen_b274 (k224 : Mem → Nat → Int32 → Int32 → Int32 → Option (Int32 × Mem)) (M : Mem) (v0 : Nat) (v1 : Int32) (v4 : Int32) (v5 : Int32) : Option (Int32 × Mem) :=
  let v5_1 : Int32 := v5 + (1 : Int32)
  k224 M v0 v1 v4 v5_1
noncomputable def F_X16_reopen_b266 (k224 : Mem → Nat → Int32 → Int32 → Int32 → Option (Int32 × Mem)) (M : Mem) (v0 : Nat) (v1 : Int32) (v4 : Int32) (v5 : Int32) (v6 : Int32) : Option (Int32 × Mem) :=
  if v6 = 0 then
    let v4_2 : Int32 := v4 + (1 : Int32)
    F_X16_reopen_b274 k224 M v0 v1 v4_2 v5
  else
    F_X16_reopen_b274 k224 M v0 v1 v4 v5
noncomputable def F_X16_reopen_b239_st (k224 : Mem → Nat → Int32 → Int32 → Int32 → Option (Int32 × Mem)) (k239 : Mem → Nat → Int32 → Int32 → Int32 → Int32 → Int32 → Option (Int32 × Mem)) (M : Mem) (v0 : Nat) (v1 : Int32) (v4 : Int32) (v5 : Int32) (v6 : Int32) (v7 : Int32) : Option (Int32 × Mem) :=
  if v7 < v1 then
    if v6 = 0 then
      (vg M v0 17).bind fun _ =>
      (F_X16_isSameName M v0 v5 v7).bind fun z4 =>
      let v7_5 : Int32 := v7 + (1 : Int32)
      k239 M v0 v1 v4 v5 z4 v7_5
    else
      F_X16_reopen_b266 k224 M v0 v1 v4 v5 v6
  else
    F_X16_reopen_b266 k224 M v0 v1 v4 v5 v6
noncomputable def F_X16_reopen_b239 (k224 : Mem → Nat → Int32 → Int32 → Int32 → Option (Int32 × Mem)) (n : Nat) : Mem → Nat → Int32 → Int32 → Int32 → Int32 → Int32 → Option (Int32 × Mem) :=
  Nat.rec (motive := fun _ => Mem → Nat → Int32 → Int32 → Int32 → Int32 → Int32 → Option (Int32 × Mem)) (fun _ _ _ _ _ _ _ => none) (fun _ ih => F_X16_reopen_b239_st k224 ih) n
noncomputable def F_X16_reopen_b224_st (k224 : Mem → Nat → Int32 → Int32 → Int32 → Option (Int32 × Mem)) (M : Mem) (v0 : Nat) (v1 : Int32) (v4 : Int32) (v5 : Int32) : Option (Int32 × Mem) :=
  if v5 < v1 then
    let v7_6 : Int32 := (v5 + (1 : Int32))
    F_X16_reopen_b239 k224 xN M v0 v1 v4 v5 (0 : Int32) v7_6
  else
    some (v4, M)
noncomputable def F_X16_reopen_b224  (n : Nat) : Mem → Nat → Int32 → Int32 → Int32 → Option (Int32 × Mem) :=
  Nat.rec (motive := fun _ => Mem → Nat → Int32 → Int32 → Int32 → Option (Int32 × Mem)) (fun _ _ _ _ _ => none) (fun _ ih => F_X16_reopen_b224_st ih) n
noncomputable def F_X16_reopen_b151_st (k151 : Mem → Nat → Int32 → Option (Int32 × Mem)) (M : Mem) (v0 : Nat) (v1 : Int32) : Option (Int32 × Mem) :=
  (gr M v0 1133).bind fun t7 =>
  (vg M t7 67).bind fun _ =>
  (F_J6_size M t7).bind fun z9 =>
  if v1 < z9 then
    (gr M v0 1133).bind fun t10 =>
    (gr M v0 1133).bind fun t11 =>
    (vg M t11 67).bind fun _ =>
    (F_J6_size M t11).bind fun z13 =>
    (vg M t10 67).bind fun _ =>
    (F_J6_remove M t10 (z13 - (1 : Int32))).bind fun z15 =>
    (cc z15.2 z15.1 80).bind fun _ =>
    (vg z15.2 z15.1 80).bind fun _ =>
    (F_J19_intValue z15.2 z15.1).bind fun z17 =>
    (gr z15.2 v0 1134).bind fun t18 =>
    (gr z15.2 v0 1134).bind fun t19 =>
    (vg z15.2 t19 67).bind fun _ =>
    (F_J6_size z15.2 t19).bind fun z21 =>
    (vg z15.2 t18 67).bind fun _ =>
    (F_J6_remove z15.2 t18 (z21 - (1 : Int32))).bind fun z23 =>
    (cc z23.2 z23.1 80).bind fun _ =>
    (vg z23.2 z23.1 80).bind fun _ =>
    (F_J19_intValue z23.2 z23.1).bind fun z25 =>
    k151 z23.2 v0 v1
  else
    (pi M v0 1095 (0 : Int32)).bind fun M26 =>
    F_X16_reopen_b224  xN M26 v0 v1 (0 : Int32) (0 : Int32)
noncomputable def F_X16_reopen_b151  (n : Nat) : Mem → Nat → Int32 → Option (Int32 × Mem) :=
  Nat.rec (motive := fun _ => Mem → Nat → Int32 → Option (Int32 × Mem)) (fun _ _ _ => none) (fun _ ih => F_X16_reopen_b151_st ih) n
noncomputable def F_X16_reopen_b146  (M : Mem) (v0 : Nat) (v1 : Int32) (v2 : Int32) : Option (Int32 × Mem) :=
  (pi M v0 1131 v2).bind fun M27 =>
  F_X16_reopen_b151  xN M27 v0 v1
noncomputable def F_X16_reopen_b143 (k38 : Mem → Nat → Int32 → Int32 → Int32 → Option (Int32 × Mem)) (M : Mem) (v0 : Nat) (v1 : Int32) (v2 : Int32) (v3 : Int32) : Option (Int32 × Mem) :=
  k38 M v0 v1 v2 v3
noncomputable def F_X16_reopen_b131 (k38 : Mem → Nat → Int32 → Int32 → Int32 → Option (Int32 × Mem)) (M : Mem) (v0 : Nat) (v1 : Int32) (v2 : Int32) (v3 : Int32) (v4 : Int32) : Option (Int32 × Mem) :=
  if v3 = 0 then
    F_X16_reopen_b143 k38 M v0 v1 v2 v3
  else
    let v2_28 : Int32 := (v2 + v4)
    let v1_29 : Int32 := v1 + (1 : Int32)
    F_X16_reopen_b143 k38 M v0 v1_29 v2_28 v3
noncomputable def F_X16_reopen_b124 (k38 : Mem → Nat → Int32 → Int32 → Int32 → Option (Int32 × Mem)) (k89 : Mem → Nat → Int32 → Int32 → Int32 → Int32 → Int32 → Option (Int32 × Mem)) (M : Mem) (s0 : Int32) (v0 : Nat) (v1 : Int32) (v2 : Int32) (v4 : Int32) (v5 : Int32) : Option (Int32 × Mem) :=
  let v5_30 : Int32 := v5 + (1 : Int32)
  k89 M v0 v1 v2 s0 v4 v5_30
noncomputable def F_X16_reopen_b89_st (k38 : Mem → Nat → Int32 → Int32 → Int32 → Option (Int32 × Mem)) (k89 : Mem → Nat → Int32 → Int32 → Int32 → Int32 → Int32 → Option (Int32 × Mem)) (M : Mem) (v0 : Nat) (v1 : Int32) (v2 : Int32) (v3 : Int32) (v4 : Int32) (v5 : Int32) : Option (Int32 × Mem) :=
  if v5 < (v2 + v4) then
    if v3 = 0 then
      F_X16_reopen_b131 k38 M v0 v1 v2 v3 v4
    else
      (gr M v0 1129).bind fun t31 =>
      (ab M t31 v5).bind fun t32 =>
      (gr M v0 1130).bind fun t33 =>
      (ab M t33 v5).bind fun t34 =>
      if t32 = t34 then
        F_X16_reopen_b124 k38 k89 M (1 : Int32) v0 v1 v2 v4 v5
      else
        F_X16_reopen_b124 k38 k89 M (0 : Int32) v0 v1 v2 v4 v5
  else
    F_X16_reopen_b131 k38 M v0 v1 v2 v3 v4
noncomputable def F_X16_reopen_b89 (k38 : Mem → Nat → Int32 → Int32 → Int32 → Option (Int32 × Mem)) (n : Nat) : Mem → Nat → Int32 → Int32 → Int32 → Int32 → Int32 → Option (Int32 × Mem) :=
  Nat.rec (motive := fun _ => Mem → Nat → Int32 → Int32 → Int32 → Int32 → Int32 → Option (Int32 × Mem)) (fun _ _ _ _ _ _ _ => none) (fun _ ih => F_X16_reopen_b89_st k38 ih) n
noncomputable def F_X16_reopen_b85 (k38 : Mem → Nat → Int32 → Int32 → Int32 → Option (Int32 × Mem)) (M : Mem) (s0 : Int32) (v0 : Nat) (v1 : Int32) (v2 : Int32) (v4 : Int32) : Option (Int32 × Mem) :=
  F_X16_reopen_b89 k38 xN M v0 v1 v2 s0 v4 v2
noncomputable def F_X16_reopen_b38_st (k38 : Mem → Nat → Int32 → Int32 → Int32 → Option (Int32 × Mem)) (M : Mem) (v0 : Nat) (v1 : Int32) (v2 : Int32) (v3 : Int32) : Option (Int32 × Mem) :=
  if v3 = 0 then
    F_X16_reopen_b146  M v0 v1 v2
  else
    (gr M v0 1133).bind fun t35 =>
    (vg M t35 67).bind fun _ =>
    (F_J6_size M t35).bind fun z37 =>
    if v1 < z37 then
      (gr M v0 1134).bind fun t38 =>
      (vg M t38 67).bind fun _ =>
      (F_J6_get M t38 v1).bind fun z40 =>
      (cc M z40 80).bind fun _ =>
      (vg M z40 80).bind fun _ =>
      (F_J19_intValue M z40).bind fun z42 =>
      (gi M v0 1131).bind fun t43 =>
      if t43 < (v2 + z42) then
        F_X16_reopen_b85 k38 M (0 : Int32) v0 v1 v2 z42
      else
        F_X16_reopen_b85 k38 M (1 : Int32) v0 v1 v2 z42
    else
      F_X16_reopen_b146  M v0 v1 v2
noncomputable def F_X16_reopen_b38  (n : Nat) : Mem → Nat → Int32 → Int32 → Int32 → Option (Int32 × Mem) :=
  Nat.rec (motive := fun _ => Mem → Nat → Int32 → Int32 → Int32 → Option (Int32 × Mem)) (fun _ _ _ _ _ => none) (fun _ ih => F_X16_reopen_b38_st ih) n
noncomputable def F_X16_reopen (M : Mem) (v0 : Nat) : Option (Int32 × Mem) :=
  (gi M v0 1095).bind fun t44 =>
  if t44 = 0 then
    some ((-13 : Int32), M)
  else
    (gi M v0 1132).bind fun t45 =>
    if t45 = (10 : Int32) then
      some ((-12 : Int32), M)
    else
      (gi M v0 1132).bind fun t46 =>
      (pi M v0 1132 (t46 + (1 : Int32))).bind fun M47 =>
      F_X16_reopen_b38  xN M47 v0 (0 : Int32) (0 : Int32) (1 : Int32)
noncomputable def F_L_law_b1793 (k18 : Mem → Nat → Nat → Nat → Int32 → Option ((Int32 × Mem) ⊕ (Nat × Mem))) (M : Mem) (v0 : Nat) (v1 : Nat) (v2 : Nat) (v3 : Int32) : Option ((Int32 × Mem) ⊕ (Nat × Mem)) :=
  let v3_1 : Int32 := v3 + (6 : Int32)
  k18 M v0 v1 v2 v3_1
noncomputable def F_L_law_b1130 (k18 : Mem → Nat → Nat → Nat → Int32 → Option ((Int32 × Mem) ⊕ (Nat × Mem))) (M : Mem) (s0 : Int32) (s1 : Nat) (s2 : Int32) (s3 : Int32) (v0 : Nat) (v1 : Nat) (v2 : Nat) (v3 : Int32) : Option ((Int32 × Mem) ⊕ (Nat × Mem)) :=
  (vg M s1 17).bind fun _ =>
  (F_X16_sorted M s1 s2 s3).bind fun z3 =>
  if s0 = z3.1 then
    F_L_law_b1793 k18 z3.2 v0 v1 v2 v3
  else
    some (.inl ((0 : Int32), z3.2))
noncomputable def F_L_law_b1108 (k18 : Mem → Nat → Nat → Nat → Int32 → Option ((Int32 × Mem) ⊕ (Nat × Mem))) (M : Mem) (s0 : Nat) (s1 : Int32) (s2 : Int32) (v0 : Nat) (v1 : Nat) (v2 : Nat) (v3 : Int32) : Option ((Int32 × Mem) ⊕ (Nat × Mem)) :=
  (vg M s0 1).bind fun _ =>
  (F_X0_sorted M s0 s1 s2).bind fun z5 =>
  (ai z5.2 v0 (v3 + (1 : Int32))).bind fun t6 =>
  (ai z5.2 v0 (v3 + (2 : Int32))).bind fun t7 =>
  if t7 = 0 then
    F_L_law_b1130 k18 z5.2 z5.1 v2 t6 (0 : Int32) v0 v1 v2 v3
  else
    F_L_law_b1130 k18 z5.2 z5.1 v2 t6 (1 : Int32) v0 v1 v2 v3
noncomputable def F_L_law_b1394 (k18 : Mem → Nat → Nat → Nat → Int32 → Option ((Int32 × Mem) ⊕ (Nat × Mem))) (M : Mem) (s0 : Int32) (s1 : Nat) (s2 : Int32) (s3 : Int32) (s4 : Int32) (v0 : Nat) (v1 : Nat) (v2 : Nat) (v3 : Int32) : Option ((Int32 × Mem) ⊕ (Nat × Mem)) :=
  (vg M s1 17).bind fun _ =>
  (F_X16_residues M s1 s2 s3 s4).bind fun z9 =>
  if s0 = z9.1 then
    F_L_law_b1793 k18 z9.2 v0 v1 v2 v3
  else
    some (.inl ((0 : Int32), z9.2))
noncomputable def F_L_law_b1367 (k18 : Mem → Nat → Nat → Nat → Int32 → Option ((Int32 × Mem) ⊕ (Nat × Mem))) (M : Mem) (s0 : Nat) (s1 : Int32) (s2 : Int32) (s3 : Int32) (v0 : Nat) (v1 : Nat) (v2 : Nat) (v3 : Int32) : Option ((Int32 × Mem) ⊕ (Nat × Mem)) :=
  (vg M s0 1).bind fun _ =>
  (F_X0_residues M s0 s1 s2 s3).bind fun z11 =>
  (ai z11.2 v0 (v3 + (1 : Int32))).bind fun t12 =>
  (ai z11.2 v0 (v3 + (2 : Int32))).bind fun t13 =>
  (ai z11.2 v0 (v3 + (3 : Int32))).bind fun t14 =>
  if t14 = 0 then
    F_L_law_b1394 k18 z11.2 z11.1 v2 t12 t13 (0 : Int32) v0 v1 v2 v3
  else
    F_L_law_b1394 k18 z11.2 z11.1 v2 t12 t13 (1 : Int32) v0 v1 v2 v3
noncomputable def F_L_law_b18_st (k18 : Mem → Nat → Nat → Nat → Int32 → Option ((Int32 × Mem) ⊕ (Nat × Mem))) (M : Mem) (v0 : Nat) (v1 : Nat) (v2 : Nat) (v3 : Int32) : Option ((Int32 × Mem) ⊕ (Nat × Mem)) :=
  (an M v0).bind fun t15 =>
  if (t15 - (6 : Int32)) < v3 then
    some (.inl ((1 : Int32), M))
  else
    (ai M v0 v3).bind fun t16 =>
    let t17 : Int32 := (t16 &&& (63 : Int32))
    if t17 = (0 : Int32) then
      (ai M v0 (v3 + (1 : Int32))).bind fun t18 =>
      (ai M v0 (v3 + (2 : Int32))).bind fun t19 =>
      (ai M v0 (v3 + (3 : Int32))).bind fun t20 =>
      (ai M v0 (v3 + (4 : Int32))).bind fun t21 =>
      (ai M v0 (v3 + (5 : Int32))).bind fun t22 =>
      (vg M v1 1).bind fun _ =>
      (F_X0_feed M v1 t18 t19 t20 t21 t22).bind fun z24 =>
      (ai z24.2 v0 (v3 + (1 : Int32))).bind fun t25 =>
      (ai z24.2 v0 (v3 + (2 : Int32))).bind fun t26 =>
      (ai z24.2 v0 (v3 + (3 : Int32))).bind fun t27 =>
      (ai z24.2 v0 (v3 + (4 : Int32))).bind fun t28 =>
      (ai z24.2 v0 (v3 + (5 : Int32))).bind fun t29 =>
      (vg z24.2 v2 17).bind fun _ =>
      (F_X16_feed z24.2 v2 t25 t26 t27 t28 t29).bind fun z31 =>
      if z24.1 = z31.1 then
        F_L_law_b1793 k18 z31.2 v0 v1 v2 v3
      else
        some (.inl ((0 : Int32), z31.2))
    else
      if t17 = (1 : Int32) then
        (ai M v0 (v3 + (1 : Int32))).bind fun t32 =>
        (vg M v1 1).bind fun _ =>
        (F_X0_end M v1 t32).bind fun z34 =>
        (ai z34.2 v0 (v3 + (1 : Int32))).bind fun t35 =>
        (vg z34.2 v2 17).bind fun _ =>
        (F_X16_end z34.2 v2 t35).bind fun z37 =>
        if z34.1 = z37.1 then
          F_L_law_b1793 k18 z37.2 v0 v1 v2 v3
        else
          some (.inl ((0 : Int32), z37.2))
      else
        if t17 = (2 : Int32) then
          (ai M v0 (v3 + (1 : Int32))).bind fun t38 =>
          (vg M v1 1).bind fun _ =>
          (F_X0_axis M v1 t38).bind fun z40 =>
          (ai z40.2 v0 (v3 + (1 : Int32))).bind fun t41 =>
          (vg z40.2 v2 17).bind fun _ =>
          (F_X16_axis z40.2 v2 t41).bind fun z43 =>
          if z40.1 = z43.1 then
            F_L_law_b1793 k18 z43.2 v0 v1 v2 v3
          else
            some (.inl ((0 : Int32), z43.2))
        else
          if t17 = (3 : Int32) then
            (ai M v0 (v3 + (1 : Int32))).bind fun t44 =>
            (vg M v1 1).bind fun _ =>
            (F_X0_at M v1 t44).bind fun z46 =>
            (ai z46.2 v0 (v3 + (1 : Int32))).bind fun t47 =>
            (vg z46.2 v2 17).bind fun _ =>
            (F_X16_at z46.2 v2 t47).bind fun z49 =>
            if z46.1 = z49.1 then
              F_L_law_b1793 k18 z49.2 v0 v1 v2 v3
            else
              some (.inl ((0 : Int32), z49.2))
          else
            if t17 = (4 : Int32) then
              (ai M v0 (v3 + (1 : Int32))).bind fun t50 =>
              (vg M v1 1).bind fun _ =>
              (F_X0_grid M v1 t50).bind fun z52 =>
              (ai z52.2 v0 (v3 + (1 : Int32))).bind fun t53 =>
              (vg z52.2 v2 17).bind fun _ =>
              (F_X16_grid z52.2 v2 t53).bind fun z55 =>
              if z52.1 = z55.1 then
                F_L_law_b1793 k18 z55.2 v0 v1 v2 v3
              else
                some (.inl ((0 : Int32), z55.2))
            else
              if t17 = (5 : Int32) then
                (ai M v0 (v3 + (1 : Int32))).bind fun t56 =>
                (ai M v0 (v3 + (2 : Int32))).bind fun t57 =>
                (ai M v0 (v3 + (3 : Int32))).bind fun t58 =>
                (ai M v0 (v3 + (4 : Int32))).bind fun t59 =>
                (vg M v1 1).bind fun _ =>
                (F_X0_put M v1 t56 t57 ((j_lshl (t58.toInt64) (32 : Int32)) ||| (t59.toInt64 &&& (4294967295 : Int64)))).bind fun z61 =>
                (ai z61.2 v0 (v3 + (1 : Int32))).bind fun t62 =>
                (ai z61.2 v0 (v3 + (2 : Int32))).bind fun t63 =>
                (ai z61.2 v0 (v3 + (3 : Int32))).bind fun t64 =>
                (ai z61.2 v0 (v3 + (4 : Int32))).bind fun t65 =>
                (vg z61.2 v2 17).bind fun _ =>
                (F_X16_put z61.2 v2 t62 t63 ((j_lshl (t64.toInt64) (32 : Int32)) ||| (t65.toInt64 &&& (4294967295 : Int64)))).bind fun z67 =>
                if z61.1 = z67.1 then
                  F_L_law_b1793 k18 z67.2 v0 v1 v2 v3
                else
                  some (.inl ((0 : Int32), z67.2))
              else
                if t17 = (6 : Int32) then
                  (ai M v0 (v3 + (1 : Int32))).bind fun t68 =>
                  (vg M v1 1).bind fun _ =>
                  (F_X0_get M v1 t68).bind fun z70 =>
                  (ai z70.2 v0 (v3 + (1 : Int32))).bind fun t71 =>
                  (vg z70.2 v2 17).bind fun _ =>
                  (F_X16_get z70.2 v2 t71).bind fun z73 =>
                  if z70.1 = z73.1 then
                    F_L_law_b1793 k18 z73.2 v0 v1 v2 v3
                  else
                    some (.inl ((0 : Int32), z73.2))
                else
                  if t17 = (7 : Int32) then
                    (ai M v0 (v3 + (1 : Int32))).bind fun t74 =>
                    (ai M v0 (v3 + (2 : Int32))).bind fun t75 =>
                    (vg M v1 1).bind fun _ =>
                    (F_X0_cell M v1 t74 t75).bind fun z77 =>
                    (ai z77.2 v0 (v3 + (1 : Int32))).bind fun t78 =>
                    (ai z77.2 v0 (v3 + (2 : Int32))).bind fun t79 =>
                    (vg z77.2 v2 17).bind fun _ =>
                    (F_X16_cell z77.2 v2 t78 t79).bind fun z81 =>
                    if z77.1 = z81.1 then
                      F_L_law_b1793 k18 z81.2 v0 v1 v2 v3
                    else
                      some (.inl ((0 : Int32), z81.2))
                  else
                    if t17 = (8 : Int32) then
                      (vg M v1 1).bind fun _ =>
                      (F_X0_code M v1).bind fun z83 =>
                      (vg M v2 17).bind fun _ =>
                      (F_X16_code M v2).bind fun z85 =>
                      if z83 = z85 then
                        F_L_law_b1793 k18 M v0 v1 v2 v3
                      else
                        some (.inl ((0 : Int32), M))
                    else
                      if t17 = (9 : Int32) then
                        (ai M v0 (v3 + (1 : Int32))).bind fun t86 =>
                        (vg M v1 1).bind fun _ =>
                        (F_X0_lane M v1 t86).bind fun z88 =>
                        (ai M v0 (v3 + (1 : Int32))).bind fun t89 =>
                        (vg M v2 17).bind fun _ =>
                        (F_X16_lane M v2 t89).bind fun z91 =>
                        if z88 = z91 then
                          F_L_law_b1793 k18 M v0 v1 v2 v3
                        else
                          some (.inl ((0 : Int32), M))
                      else
                        if t17 = (10 : Int32) then
                          (ai M v0 (v3 + (1 : Int32))).bind fun t92 =>
                          (vg M v1 1).bind fun _ =>
                          (F_X0_axes M v1 t92).bind fun z94 =>
                          (ai M v0 (v3 + (1 : Int32))).bind fun t95 =>
                          (vg M v2 17).bind fun _ =>
                          (F_X16_axes M v2 t95).bind fun z97 =>
                          if z94 = z97 then
                            F_L_law_b1793 k18 M v0 v1 v2 v3
                          else
                            some (.inl ((0 : Int32), M))
                        else
                          if t17 = (11 : Int32) then
                            (ai M v0 (v3 + (1 : Int32))).bind fun t98 =>
                            (ai M v0 (v3 + (2 : Int32))).bind fun t99 =>
                            (vg M v1 1).bind fun _ =>
                            (F_X0_size M v1 t98 t99).bind fun z101 =>
                            (ai M v0 (v3 + (1 : Int32))).bind fun t102 =>
                            (ai M v0 (v3 + (2 : Int32))).bind fun t103 =>
                            (vg M v2 17).bind fun _ =>
                            (F_X16_size M v2 t102 t103).bind fun z105 =>
                            if z101 = z105 then
                              F_L_law_b1793 k18 M v0 v1 v2 v3
                            else
                              some (.inl ((0 : Int32), M))
                          else
                            if t17 = (12 : Int32) then
                              (ai M v0 (v3 + (1 : Int32))).bind fun t106 =>
                              (vg M v1 1).bind fun _ =>
                              (F_X0_cells M v1 t106).bind fun z108 =>
                              (ai M v0 (v3 + (1 : Int32))).bind fun t109 =>
                              (vg M v2 17).bind fun _ =>
                              (F_X16_cells M v2 t109).bind fun z111 =>
                              if z108 = z111 then
                                F_L_law_b1793 k18 M v0 v1 v2 v3
                              else
                                some (.inl ((0 : Int32), M))
                            else
                              if t17 = (13 : Int32) then
                                (ai M v0 (v3 + (1 : Int32))).bind fun t112 =>
                                (vg M v1 1).bind fun _ =>
                                (F_X0_view M v1 t112).bind fun z114 =>
                                (ai z114.2 v0 (v3 + (1 : Int32))).bind fun t115 =>
                                (vg z114.2 v2 17).bind fun _ =>
                                (F_X16_view z114.2 v2 t115).bind fun z117 =>
                                if z114.1 = z117.1 then
                                  F_L_law_b1793 k18 z117.2 v0 v1 v2 v3
                                else
                                  some (.inl ((0 : Int32), z117.2))
                              else
                                if t17 = (14 : Int32) then
                                  (vg M v1 1).bind fun _ =>
                                  (F_X0_place M v1).bind fun z119 =>
                                  (vg M v2 17).bind fun _ =>
                                  (F_X16_place M v2).bind fun z121 =>
                                  if z119 = z121 then
                                    F_L_law_b1793 k18 M v0 v1 v2 v3
                                  else
                                    some (.inl ((0 : Int32), M))
                                else
                                  if t17 = (15 : Int32) then
                                    (ai M v0 (v3 + (1 : Int32))).bind fun t122 =>
                                    (ai M v0 (v3 + (2 : Int32))).bind fun t123 =>
                                    (ai M v0 (v3 + (3 : Int32))).bind fun t124 =>
                                    (vg M v1 1).bind fun _ =>
                                    (F_X0_turned M v1 t122 t123 t124).bind fun z126 =>
                                    (ai z126.2 v0 (v3 + (1 : Int32))).bind fun t127 =>
                                    (ai z126.2 v0 (v3 + (2 : Int32))).bind fun t128 =>
                                    (ai z126.2 v0 (v3 + (3 : Int32))).bind fun t129 =>
                                    (vg z126.2 v2 17).bind fun _ =>
                                    (F_X16_turned z126.2 v2 t127 t128 t129).bind fun z131 =>
                                    if z126.1 = z131.1 then
                                      F_L_law_b1793 k18 z131.2 v0 v1 v2 v3
                                    else
                                      some (.inl ((0 : Int32), z131.2))
                                  else
                                    if t17 = (16 : Int32) then
                                      (ai M v0 (v3 + (1 : Int32))).bind fun t132 =>
                                      (vg M v1 1).bind fun _ =>
                                      (F_X0_spread M v1 t132).bind fun z134 =>
                                      (ai z134.2 v0 (v3 + (1 : Int32))).bind fun t135 =>
                                      (vg z134.2 v2 17).bind fun _ =>
                                      (F_X16_spread z134.2 v2 t135).bind fun z137 =>
                                      if z134.1 = z137.1 then
                                        F_L_law_b1793 k18 z137.2 v0 v1 v2 v3
                                      else
                                        some (.inl ((0 : Int32), z137.2))
                                    else
                                      if t17 = (17 : Int32) then
                                        (ai M v0 (v3 + (1 : Int32))).bind fun t138 =>
                                        (vg M v1 1).bind fun _ =>
                                        (F_X0_shaped M v1 t138).bind fun z140 =>
                                        (ai z140.2 v0 (v3 + (1 : Int32))).bind fun t141 =>
                                        (vg z140.2 v2 17).bind fun _ =>
                                        (F_X16_shaped z140.2 v2 t141).bind fun z143 =>
                                        if z140.1 = z143.1 then
                                          F_L_law_b1793 k18 z143.2 v0 v1 v2 v3
                                        else
                                          some (.inl ((0 : Int32), z143.2))
                                      else
                                        if t17 = (18 : Int32) then
                                          (ai M v0 (v3 + (1 : Int32))).bind fun t144 =>
                                          (ai M v0 (v3 + (2 : Int32))).bind fun t145 =>
                                          (vg M v1 1).bind fun _ =>
                                          (F_X0_shares M v1 t144 t145).bind fun z147 =>
                                          (ai z147.2 v0 (v3 + (1 : Int32))).bind fun t148 =>
                                          (ai z147.2 v0 (v3 + (2 : Int32))).bind fun t149 =>
                                          (vg z147.2 v2 17).bind fun _ =>
                                          (F_X16_shares z147.2 v2 t148 t149).bind fun z151 =>
                                          if z147.1 = z151.1 then
                                            F_L_law_b1793 k18 z151.2 v0 v1 v2 v3
                                          else
                                            some (.inl ((0 : Int32), z151.2))
                                        else
                                          if t17 = (19 : Int32) then
                                            (ai M v0 (v3 + (1 : Int32))).bind fun t152 =>
                                            (ai M v0 (v3 + (2 : Int32))).bind fun t153 =>
                                            (vg M v1 1).bind fun _ =>
                                            (F_X0_copy M v1 t152 t153).bind fun z155 =>
                                            (ai z155.2 v0 (v3 + (1 : Int32))).bind fun t156 =>
                                            (ai z155.2 v0 (v3 + (2 : Int32))).bind fun t157 =>
                                            (vg z155.2 v2 17).bind fun _ =>
                                            (F_X16_copy z155.2 v2 t156 t157).bind fun z159 =>
                                            if z155.1 = z159.1 then
                                              F_L_law_b1793 k18 z159.2 v0 v1 v2 v3
                                            else
                                              some (.inl ((0 : Int32), z159.2))
                                          else
                                            if t17 = (20 : Int32) then
                                              (ai M v0 (v3 + (1 : Int32))).bind fun t160 =>
                                              (ai M v0 (v3 + (2 : Int32))).bind fun t161 =>
                                              (ai M v0 (v3 + (3 : Int32))).bind fun t162 =>
                                              (vg M v1 1).bind fun _ =>
                                              (F_X0_cast M v1 t160 t161 t162).bind fun z164 =>
                                              (ai z164.2 v0 (v3 + (1 : Int32))).bind fun t165 =>
                                              (ai z164.2 v0 (v3 + (2 : Int32))).bind fun t166 =>
                                              (ai z164.2 v0 (v3 + (3 : Int32))).bind fun t167 =>
                                              (vg z164.2 v2 17).bind fun _ =>
                                              (F_X16_cast z164.2 v2 t165 t166 t167).bind fun z169 =>
                                              if z164.1 = z169.1 then
                                                F_L_law_b1793 k18 z169.2 v0 v1 v2 v3
                                              else
                                                some (.inl ((0 : Int32), z169.2))
                                            else
                                              if t17 = (21 : Int32) then
                                                (vg M v1 1).bind fun _ =>
                                                (F_X0_functions M v1).bind fun z171 =>
                                                (vg z171.2 v2 17).bind fun _ =>
                                                (F_X16_functions z171.2 v2).bind fun z173 =>
                                                if z171.1 = z173.1 then
                                                  F_L_law_b1793 k18 z173.2 v0 v1 v2 v3
                                                else
                                                  some (.inl ((0 : Int32), z173.2))
                                              else
                                                if t17 = (22 : Int32) then
                                                  (ai M v0 (v3 + (1 : Int32))).bind fun t174 =>
                                                  (ai M v0 (v3 + (2 : Int32))).bind fun t175 =>
                                                  (vg M v1 1).bind fun _ =>
                                                  (F_X0_bind M v1 t174 t175).bind fun z177 =>
                                                  (ai z177.2 v0 (v3 + (1 : Int32))).bind fun t178 =>
                                                  (ai z177.2 v0 (v3 + (2 : Int32))).bind fun t179 =>
                                                  (vg z177.2 v2 17).bind fun _ =>
                                                  (F_X16_bind z177.2 v2 t178 t179).bind fun z181 =>
                                                  if z177.1 = z181.1 then
                                                    F_L_law_b1793 k18 z181.2 v0 v1 v2 v3
                                                  else
                                                    some (.inl ((0 : Int32), z181.2))
                                                else
                                                  if t17 = (23 : Int32) then
                                                    (vg M v1 1).bind fun _ =>
                                                    (F_X0_formula M v1).bind fun z183 =>
                                                    (vg z183.2 v2 17).bind fun _ =>
                                                    (F_X16_formula z183.2 v2).bind fun z185 =>
                                                    if z183.1 = z185.1 then
                                                      F_L_law_b1793 k18 z185.2 v0 v1 v2 v3
                                                    else
                                                      some (.inl ((0 : Int32), z185.2))
                                                  else
                                                    if t17 = (24 : Int32) then
                                                      (vg M v1 1).bind fun _ =>
                                                      (F_X0_choose M v1).bind fun z187 =>
                                                      (vg z187.2 v2 17).bind fun _ =>
                                                      (F_X16_choose z187.2 v2).bind fun z189 =>
                                                      if z187.1 = z189.1 then
                                                        F_L_law_b1793 k18 z189.2 v0 v1 v2 v3
                                                      else
                                                        some (.inl ((0 : Int32), z189.2))
                                                    else
                                                      if t17 = (25 : Int32) then
                                                        (ai M v0 (v3 + (1 : Int32))).bind fun t190 =>
                                                        (vg M v1 1).bind fun _ =>
                                                        (F_X0_failed M v1 t190).bind fun z192 =>
                                                        (ai M v0 (v3 + (1 : Int32))).bind fun t193 =>
                                                        (vg M v2 17).bind fun _ =>
                                                        (F_X16_failed M v2 t193).bind fun z195 =>
                                                        if z192 = z195 then
                                                          F_L_law_b1793 k18 M v0 v1 v2 v3
                                                        else
                                                          some (.inl ((0 : Int32), M))
                                                      else
                                                        if t17 = (26 : Int32) then
                                                          (vg M v1 1).bind fun _ =>
                                                          (F_X0_steps M v1).bind fun z197 =>
                                                          (vg M v2 17).bind fun _ =>
                                                          (F_X16_steps M v2).bind fun z199 =>
                                                          if z197 = z199 then
                                                            F_L_law_b1793 k18 M v0 v1 v2 v3
                                                          else
                                                            some (.inl ((0 : Int32), M))
                                                        else
                                                          if t17 = (27 : Int32) then
                                                            (ai M v0 (v3 + (1 : Int32))).bind fun t200 =>
                                                            (ai M v0 (v3 + (2 : Int32))).bind fun t201 =>
                                                            (ai M v0 (v3 + (3 : Int32))).bind fun t202 =>
                                                            (vg M v1 1).bind fun _ =>
                                                            (F_X0_fold M v1 t200 t201 t202).bind fun z204 =>
                                                            (ai z204.2 v0 (v3 + (1 : Int32))).bind fun t205 =>
                                                            (ai z204.2 v0 (v3 + (2 : Int32))).bind fun t206 =>
                                                            (ai z204.2 v0 (v3 + (3 : Int32))).bind fun t207 =>
                                                            (vg z204.2 v2 17).bind fun _ =>
                                                            (F_X16_fold z204.2 v2 t205 t206 t207).bind fun z209 =>
                                                            if z204.1 = z209.1 then
                                                              F_L_law_b1793 k18 z209.2 v0 v1 v2 v3
                                                            else
                                                              some (.inl ((0 : Int32), z209.2))
                                                          else
                                                            if t17 = (28 : Int32) then
                                                              (ai M v0 (v3 + (1 : Int32))).bind fun t210 =>
                                                              (ai M v0 (v3 + (2 : Int32))).bind fun t211 =>
                                                              (ai M v0 (v3 + (3 : Int32))).bind fun t212 =>
                                                              (vg M v1 1).bind fun _ =>
                                                              (F_X0_running M v1 t210 t211 t212).bind fun z214 =>
                                                              (ai z214.2 v0 (v3 + (1 : Int32))).bind fun t215 =>
                                                              (ai z214.2 v0 (v3 + (2 : Int32))).bind fun t216 =>
                                                              (ai z214.2 v0 (v3 + (3 : Int32))).bind fun t217 =>
                                                              (vg z214.2 v2 17).bind fun _ =>
                                                              (F_X16_running z214.2 v2 t215 t216 t217).bind fun z219 =>
                                                              if z214.1 = z219.1 then
                                                                F_L_law_b1793 k18 z219.2 v0 v1 v2 v3
                                                              else
                                                                some (.inl ((0 : Int32), z219.2))
                                                            else
                                                              if t17 = (29 : Int32) then
                                                                (ai M v0 (v3 + (1 : Int32))).bind fun t220 =>
                                                                (ai M v0 (v3 + (2 : Int32))).bind fun t221 =>
                                                                if t221 = 0 then
                                                                  F_L_law_b1108 k18 M v1 t220 (0 : Int32) v0 v1 v2 v3
                                                                else
                                                                  F_L_law_b1108 k18 M v1 t220 (1 : Int32) v0 v1 v2 v3
                                                              else
                                                                if t17 = (30 : Int32) then
                                                                  (ai M v0 (v3 + (1 : Int32))).bind fun t222 =>
                                                                  (ai M v0 (v3 + (2 : Int32))).bind fun t223 =>
                                                                  (ai M v0 (v3 + (3 : Int32))).bind fun t224 =>
                                                                  (vg M v1 1).bind fun _ =>
                                                                  (F_X0_search M v1 t222 ((j_lshl (t223.toInt64) (32 : Int32)) ||| (t224.toInt64 &&& (4294967295 : Int64)))).bind fun z226 =>
                                                                  (ai M v0 (v3 + (1 : Int32))).bind fun t227 =>
                                                                  (ai M v0 (v3 + (2 : Int32))).bind fun t228 =>
                                                                  (ai M v0 (v3 + (3 : Int32))).bind fun t229 =>
                                                                  (vg M v2 17).bind fun _ =>
                                                                  (F_X16_search M v2 t227 ((j_lshl (t228.toInt64) (32 : Int32)) ||| (t229.toInt64 &&& (4294967295 : Int64)))).bind fun z231 =>
                                                                  if z226 = z231 then
                                                                    F_L_law_b1793 k18 M v0 v1 v2 v3
                                                                  else
                                                                    some (.inl ((0 : Int32), M))
                                                                else
                                                                  if t17 = (31 : Int32) then
                                                                    (ai M v0 (v3 + (1 : Int32))).bind fun t232 =>
                                                                    (ai M v0 (v3 + (2 : Int32))).bind fun t233 =>
                                                                    (ai M v0 (v3 + (3 : Int32))).bind fun t234 =>
                                                                    (vg M v1 1).bind fun _ =>
                                                                    (F_X0_groups M v1 t232 t233 t234).bind fun z236 =>
                                                                    (ai z236.2 v0 (v3 + (1 : Int32))).bind fun t237 =>
                                                                    (ai z236.2 v0 (v3 + (2 : Int32))).bind fun t238 =>
                                                                    (ai z236.2 v0 (v3 + (3 : Int32))).bind fun t239 =>
                                                                    (vg z236.2 v2 17).bind fun _ =>
                                                                    (F_X16_groups z236.2 v2 t237 t238 t239).bind fun z241 =>
                                                                    if z236.1 = z241.1 then
                                                                      F_L_law_b1793 k18 z241.2 v0 v1 v2 v3
                                                                    else
                                                                      some (.inl ((0 : Int32), z241.2))
                                                                  else
                                                                    if t17 = (32 : Int32) then
                                                                      (ai M v0 (v3 + (1 : Int32))).bind fun t242 =>
                                                                      (ai M v0 (v3 + (2 : Int32))).bind fun t243 =>
                                                                      (vg M v1 1).bind fun _ =>
                                                                      (F_X0_join M v1 t242 t243).bind fun z245 =>
                                                                      (ai z245.2 v0 (v3 + (1 : Int32))).bind fun t246 =>
                                                                      (ai z245.2 v0 (v3 + (2 : Int32))).bind fun t247 =>
                                                                      (vg z245.2 v2 17).bind fun _ =>
                                                                      (F_X16_join z245.2 v2 t246 t247).bind fun z249 =>
                                                                      if z245.1 = z249.1 then
                                                                        F_L_law_b1793 k18 z249.2 v0 v1 v2 v3
                                                                      else
                                                                        some (.inl ((0 : Int32), z249.2))
                                                                    else
                                                                      if t17 = (33 : Int32) then
                                                                        (ai M v0 (v3 + (1 : Int32))).bind fun t250 =>
                                                                        (ai M v0 (v3 + (2 : Int32))).bind fun t251 =>
                                                                        (vg M v1 1).bind fun _ =>
                                                                        (F_X0_product M v1 t250 t251).bind fun z253 =>
                                                                        (ai z253.2 v0 (v3 + (1 : Int32))).bind fun t254 =>
                                                                        (ai z253.2 v0 (v3 + (2 : Int32))).bind fun t255 =>
                                                                        (vg z253.2 v2 17).bind fun _ =>
                                                                        (F_X16_product z253.2 v2 t254 t255).bind fun z257 =>
                                                                        if z253.1 = z257.1 then
                                                                          F_L_law_b1793 k18 z257.2 v0 v1 v2 v3
                                                                        else
                                                                          some (.inl ((0 : Int32), z257.2))
                                                                      else
                                                                        if t17 = (34 : Int32) then
                                                                          (ai M v0 (v3 + (1 : Int32))).bind fun t258 =>
                                                                          (ai M v0 (v3 + (2 : Int32))).bind fun t259 =>
                                                                          (vg M v1 1).bind fun _ =>
                                                                          (F_X0_solve M v1 t258 t259).bind fun z261 =>
                                                                          (ai z261.2 v0 (v3 + (1 : Int32))).bind fun t262 =>
                                                                          (ai z261.2 v0 (v3 + (2 : Int32))).bind fun t263 =>
                                                                          (vg z261.2 v2 17).bind fun _ =>
                                                                          (F_X16_solve z261.2 v2 t262 t263).bind fun z265 =>
                                                                          if z261.1 = z265.1 then
                                                                            F_L_law_b1793 k18 z265.2 v0 v1 v2 v3
                                                                          else
                                                                            some (.inl ((0 : Int32), z265.2))
                                                                        else
                                                                          if t17 = (35 : Int32) then
                                                                            (ai M v0 (v3 + (1 : Int32))).bind fun t266 =>
                                                                            (ai M v0 (v3 + (2 : Int32))).bind fun t267 =>
                                                                            (ai M v0 (v3 + (3 : Int32))).bind fun t268 =>
                                                                            if t268 = 0 then
                                                                              F_L_law_b1367 k18 M v1 t266 t267 (0 : Int32) v0 v1 v2 v3
                                                                            else
                                                                              F_L_law_b1367 k18 M v1 t266 t267 (1 : Int32) v0 v1 v2 v3
                                                                          else
                                                                            if t17 = (36 : Int32) then
                                                                              (vg M v1 1).bind fun _ =>
                                                                              (F_X0_table M v1).bind fun z270 =>
                                                                              (vg z270.2 v2 17).bind fun _ =>
                                                                              (F_X16_table z270.2 v2).bind fun z272 =>
                                                                              if z270.1 = z272.1 then
                                                                                F_L_law_b1793 k18 z272.2 v0 v1 v2 v3
                                                                              else
                                                                                some (.inl ((0 : Int32), z272.2))
                                                                            else
                                                                              if t17 = (37 : Int32) then
                                                                                (ai M v0 (v3 + (1 : Int32))).bind fun t273 =>
                                                                                (vg M v1 1).bind fun _ =>
                                                                                (F_X0_rows M v1 t273).bind fun z275 =>
                                                                                (ai M v0 (v3 + (1 : Int32))).bind fun t276 =>
                                                                                (vg M v2 17).bind fun _ =>
                                                                                (F_X16_rows M v2 t276).bind fun z278 =>
                                                                                if z275 = z278 then
                                                                                  F_L_law_b1793 k18 M v0 v1 v2 v3
                                                                                else
                                                                                  some (.inl ((0 : Int32), M))
                                                                              else
                                                                                if t17 = (38 : Int32) then
                                                                                  (ai M v0 (v3 + (1 : Int32))).bind fun t279 =>
                                                                                  (vg M v1 1).bind fun _ =>
                                                                                  (F_X0_named M v1 t279).bind fun z281 =>
                                                                                  (ai z281.2 v0 (v3 + (1 : Int32))).bind fun t282 =>
                                                                                  (vg z281.2 v2 17).bind fun _ =>
                                                                                  (F_X16_named z281.2 v2 t282).bind fun z284 =>
                                                                                  if z281.1 = z284.1 then
                                                                                    F_L_law_b1793 k18 z284.2 v0 v1 v2 v3
                                                                                  else
                                                                                    some (.inl ((0 : Int32), z284.2))
                                                                                else
                                                                                  if t17 = (39 : Int32) then
                                                                                    (ai M v0 (v3 + (1 : Int32))).bind fun t285 =>
                                                                                    (ai M v0 (v3 + (2 : Int32))).bind fun t286 =>
                                                                                    (vg M v1 1).bind fun _ =>
                                                                                    (F_X0_columnLane M v1 t285 t286).bind fun z288 =>
                                                                                    (ai M v0 (v3 + (1 : Int32))).bind fun t289 =>
                                                                                    (ai M v0 (v3 + (2 : Int32))).bind fun t290 =>
                                                                                    (vg M v2 17).bind fun _ =>
                                                                                    (F_X16_columnLane M v2 t289 t290).bind fun z292 =>
                                                                                    if z288 = z292 then
                                                                                      F_L_law_b1793 k18 M v0 v1 v2 v3
                                                                                    else
                                                                                      some (.inl ((0 : Int32), M))
                                                                                  else
                                                                                    if t17 = (40 : Int32) then
                                                                                      (ai M v0 (v3 + (1 : Int32))).bind fun t293 =>
                                                                                      (ai M v0 (v3 + (2 : Int32))).bind fun t294 =>
                                                                                      (vg M v1 1).bind fun _ =>
                                                                                      (F_X0_column M v1 t293 t294).bind fun z296 =>
                                                                                      (ai z296.2 v0 (v3 + (1 : Int32))).bind fun t297 =>
                                                                                      (ai z296.2 v0 (v3 + (2 : Int32))).bind fun t298 =>
                                                                                      (vg z296.2 v2 17).bind fun _ =>
                                                                                      (F_X16_column z296.2 v2 t297 t298).bind fun z300 =>
                                                                                      if z296.1 = z300.1 then
                                                                                        F_L_law_b1793 k18 z300.2 v0 v1 v2 v3
                                                                                      else
                                                                                        some (.inl ((0 : Int32), z300.2))
                                                                                    else
                                                                                      if t17 = (41 : Int32) then
                                                                                        (ai M v0 (v3 + (1 : Int32))).bind fun t301 =>
                                                                                        (ai M v0 (v3 + (2 : Int32))).bind fun t302 =>
                                                                                        (vg M v1 1).bind fun _ =>
                                                                                        (F_X0_missing M v1 t301 t302).bind fun z304 =>
                                                                                        (ai z304.2 v0 (v3 + (1 : Int32))).bind fun t305 =>
                                                                                        (ai z304.2 v0 (v3 + (2 : Int32))).bind fun t306 =>
                                                                                        (vg z304.2 v2 17).bind fun _ =>
                                                                                        (F_X16_missing z304.2 v2 t305 t306).bind fun z308 =>
                                                                                        if z304.1 = z308.1 then
                                                                                          F_L_law_b1793 k18 z308.2 v0 v1 v2 v3
                                                                                        else
                                                                                          some (.inl ((0 : Int32), z308.2))
                                                                                      else
                                                                                        if t17 = (42 : Int32) then
                                                                                          (ai M v0 (v3 + (1 : Int32))).bind fun t309 =>
                                                                                          (ai M v0 (v3 + (2 : Int32))).bind fun t310 =>
                                                                                          (vg M v1 1).bind fun _ =>
                                                                                          (F_X0_pick M v1 t309 t310).bind fun z312 =>
                                                                                          (ai z312.2 v0 (v3 + (1 : Int32))).bind fun t313 =>
                                                                                          (ai z312.2 v0 (v3 + (2 : Int32))).bind fun t314 =>
                                                                                          (vg z312.2 v2 17).bind fun _ =>
                                                                                          (F_X16_pick z312.2 v2 t313 t314).bind fun z316 =>
                                                                                          if z312.1 = z316.1 then
                                                                                            F_L_law_b1793 k18 z316.2 v0 v1 v2 v3
                                                                                          else
                                                                                            some (.inl ((0 : Int32), z316.2))
                                                                                        else
                                                                                          if t17 = (43 : Int32) then
                                                                                            (ai M v0 (v3 + (1 : Int32))).bind fun t317 =>
                                                                                            (vg M v1 1).bind fun _ =>
                                                                                            (F_X0_write M v1 t317).bind fun z319 =>
                                                                                            (ai z319.2 v0 (v3 + (1 : Int32))).bind fun t320 =>
                                                                                            (vg z319.2 v2 17).bind fun _ =>
                                                                                            (F_X16_write z319.2 v2 t320).bind fun z322 =>
                                                                                            if z319.1 = z322.1 then
                                                                                              F_L_law_b1793 k18 z322.2 v0 v1 v2 v3
                                                                                            else
                                                                                              some (.inl ((0 : Int32), z322.2))
                                                                                          else
                                                                                            if t17 = (44 : Int32) then
                                                                                              (ai M v0 (v3 + (1 : Int32))).bind fun t323 =>
                                                                                              (vg M v1 1).bind fun _ =>
                                                                                              (F_X0_bytes M v1 t323).bind fun z325 =>
                                                                                              (ai z325.2 v0 (v3 + (1 : Int32))).bind fun t326 =>
                                                                                              (vg z325.2 v2 17).bind fun _ =>
                                                                                              (F_X16_bytes z325.2 v2 t326).bind fun z328 =>
                                                                                              if z325.1 = z328.1 then
                                                                                                F_L_law_b1793 k18 z328.2 v0 v1 v2 v3
                                                                                              else
                                                                                                some (.inl ((0 : Int32), z328.2))
                                                                                            else
                                                                                              if t17 = (45 : Int32) then
                                                                                                (ai M v0 (v3 + (1 : Int32))).bind fun t329 =>
                                                                                                (vg M v1 1).bind fun _ =>
                                                                                                (F_X0_out M v1 t329).bind fun z331 =>
                                                                                                (ai M v0 (v3 + (1 : Int32))).bind fun t332 =>
                                                                                                (vg M v2 17).bind fun _ =>
                                                                                                (F_X16_out M v2 t332).bind fun z334 =>
                                                                                                if z331 = z334 then
                                                                                                  F_L_law_b1793 k18 M v0 v1 v2 v3
                                                                                                else
                                                                                                  some (.inl ((0 : Int32), M))
                                                                                              else
                                                                                                if t17 = (46 : Int32) then
                                                                                                  (vg M v1 1).bind fun _ =>
                                                                                                  (F_X0_read M v1).bind fun z336 =>
                                                                                                  (vg z336.2 v2 17).bind fun _ =>
                                                                                                  (F_X16_read z336.2 v2).bind fun z338 =>
                                                                                                  if z336.1 = z338.1 then
                                                                                                    F_L_law_b1793 k18 z338.2 v0 v1 v2 v3
                                                                                                  else
                                                                                                    some (.inl ((0 : Int32), z338.2))
                                                                                                else
                                                                                                  if t17 = (47 : Int32) then
                                                                                                    (ai M v0 (v3 + (1 : Int32))).bind fun t339 =>
                                                                                                    (vg M v1 1).bind fun _ =>
                                                                                                    (F_X0_keep M v1 t339).bind fun z341 =>
                                                                                                    (ai z341.2 v0 (v3 + (1 : Int32))).bind fun t342 =>
                                                                                                    (vg z341.2 v2 17).bind fun _ =>
                                                                                                    (F_X16_keep z341.2 v2 t342).bind fun z344 =>
                                                                                                    if z341.1 = z344.1 then
                                                                                                      F_L_law_b1793 k18 z344.2 v0 v1 v2 v3
                                                                                                    else
                                                                                                      some (.inl ((0 : Int32), z344.2))
                                                                                                  else
                                                                                                    if t17 = (48 : Int32) then
                                                                                                      (vg M v1 1).bind fun _ =>
                                                                                                      tb (F_X0_open M v1) fun z346 =>
                                                                                                      (vg z346.2 v2 17).bind fun _ =>
                                                                                                      tb (F_X16_open z346.2 v2) fun z348 =>
                                                                                                      if z346.1 = z348.1 then
                                                                                                        F_L_law_b1793 k18 z348.2 v0 v1 v2 v3
                                                                                                      else
                                                                                                        some (.inl ((0 : Int32), z348.2))
                                                                                                    else
                                                                                                      if t17 = (49 : Int32) then
                                                                                                        (vg M v1 1).bind fun _ =>
                                                                                                        (F_X0_logged M v1).bind fun z350 =>
                                                                                                        (vg M v2 17).bind fun _ =>
                                                                                                        (F_X16_logged M v2).bind fun z352 =>
                                                                                                        if z350 = z352 then
                                                                                                          F_L_law_b1793 k18 M v0 v1 v2 v3
                                                                                                        else
                                                                                                          some (.inl ((0 : Int32), M))
                                                                                                      else
                                                                                                        if t17 = (50 : Int32) then
                                                                                                          (ai M v0 (v3 + (1 : Int32))).bind fun t353 =>
                                                                                                          (ai M v0 (v3 + (2 : Int32))).bind fun t354 =>
                                                                                                          (vg M v1 1).bind fun _ =>
                                                                                                          (F_X0_poke M v1 t353 t354).bind fun z356 =>
                                                                                                          (ai z356.2 v0 (v3 + (1 : Int32))).bind fun t357 =>
                                                                                                          (ai z356.2 v0 (v3 + (2 : Int32))).bind fun t358 =>
                                                                                                          (vg z356.2 v2 17).bind fun _ =>
                                                                                                          (F_X16_poke z356.2 v2 t357 t358).bind fun z360 =>
                                                                                                          if z356.1 = z360.1 then
                                                                                                            F_L_law_b1793 k18 z360.2 v0 v1 v2 v3
                                                                                                          else
                                                                                                            some (.inl ((0 : Int32), z360.2))
                                                                                                        else
                                                                                                          if t17 = (51 : Int32) then
                                                                                                            (ai M v0 (v3 + (1 : Int32))).bind fun t361 =>
                                                                                                            (vg M v1 1).bind fun _ =>
                                                                                                            (F_X0_crash M v1 t361).bind fun z363 =>
                                                                                                            (ai z363.2 v0 (v3 + (1 : Int32))).bind fun t364 =>
                                                                                                            (vg z363.2 v2 17).bind fun _ =>
                                                                                                            (F_X16_crash z363.2 v2 t364).bind fun z366 =>
                                                                                                            if z363.1 = z366.1 then
                                                                                                              F_L_law_b1793 k18 z366.2 v0 v1 v2 v3
                                                                                                            else
                                                                                                              some (.inl ((0 : Int32), z366.2))
                                                                                                          else
                                                                                                            if t17 = (52 : Int32) then
                                                                                                              (vg M v1 1).bind fun _ =>
                                                                                                              (F_X0_reopen M v1).bind fun z368 =>
                                                                                                              (vg z368.2 v2 17).bind fun _ =>
                                                                                                              (F_X16_reopen z368.2 v2).bind fun z370 =>
                                                                                                              if z368.1 = z370.1 then
                                                                                                                F_L_law_b1793 k18 z370.2 v0 v1 v2 v3
                                                                                                              else
                                                                                                                some (.inl ((0 : Int32), z370.2))
                                                                                                            else
                                                                                                              F_L_law_b1793 k18 M v0 v1 v2 v3
noncomputable def F_L_law_b18  (n : Nat) : Mem → Nat → Nat → Nat → Int32 → Option ((Int32 × Mem) ⊕ (Nat × Mem)) :=
  Nat.rec (motive := fun _ => Mem → Nat → Nat → Nat → Int32 → Option ((Int32 × Mem) ⊕ (Nat × Mem))) (fun _ _ _ _ _ => none) (fun _ ih => F_L_law_b18_st ih) n
noncomputable def F_L_law (M : Mem) (v0 : Nat) : Option ((Int32 × Mem) ⊕ (Nat × Mem)) :=
  let t372 : Nat := m_nx M
  let M371 : Mem := mo M 1
  (ng M371 t372).bind fun _ =>
  (F_X0_init M371 t372).bind fun z374 =>
  let t376 : Nat := m_nx z374
  let M375 : Mem := mo z374 17
  (ng M375 t376).bind fun _ =>
  (F_X16_init M375 t376).bind fun z378 =>
  F_L_law_b18  xN z378 v0 t372 t376 (0 : Int32)
