/-! ===== functions: GENERATED ===== -/
noncomputable def F_J0_init (M : Mem) (v0 : Nat) : Option Unit :=
  (ng M v0).bind fun _ =>
  none
noncomputable def F_J1_init (M : Mem) (v0 : Nat) : Option Unit :=
  (ng M v0).bind fun _ =>
  (F_J0_init M v0).bind fun z2 =>
  some ()
noncomputable def F_J7_min_2_b10  (s0 : Int32) : Option Int32 :=
  some s0
noncomputable def F_J7_min_2 (v0 : Int32) (v1 : Int32) : Option Int32 :=
  if v1 < v0 then
    F_J7_min_2_b10  v1
  else
    F_J7_min_2_b10  v0
noncomputable def F_J10_copyOf (M : Mem) (v0 : Nat) (v1 : Int32) : Option (Nat × Mem) :=
  (an M v0).bind fun t1 =>
  if v1 = t1 then
    (vg M v0 1002).bind fun _ =>
    (mcl M v0).bind fun M4 =>
    (cc M4 (m_nx M) 1002).bind fun _ =>
    some ((m_nx M), M4)
  else
    (mk M 1002 v1).bind fun M5 =>
    let v2_6 : Nat := (m_nx M)
    (an M5 v0).bind fun t7 =>
    (F_J7_min_2 t7 v1).bind fun z8 =>
    (m_copy M5 v0 (0 : Int32) v2_6 (0 : Int32) z8).bind fun M10 =>
    some (v2_6, M10)
noncomputable def F_J10_checkLength (v0 : Int32) (v1 : Int32) : Option Unit :=
  if v1 < v0 then
    none
  else
    some ()
noncomputable def F_J10_copyOfRangeByte (M : Mem) (v0 : Nat) (v1 : Int32) (v2 : Int32) : Option (Nat × Mem) :=
  (F_J10_checkLength v1 v2).bind fun z1 =>
  let v3_2 : Int32 := (v2 - v1)
  (mk M 1002 v3_2).bind fun M3 =>
  let v4_4 : Nat := (m_nx M)
  (an M3 v0).bind fun t5 =>
  (F_J7_min_2 (t5 - v1) v3_2).bind fun z6 =>
  (m_copy M3 v0 v1 v4_4 (0 : Int32) z6).bind fun M8 =>
  some (v4_4, M8)
noncomputable def F_J10_copyOfRange_b10  (M : Mem) (v0 : Nat) (v1 : Int32) (v2 : Int32) : Option (Nat × Mem) :=
  (F_J10_copyOfRangeByte M v0 v1 v2).bind fun z1 =>
  some (z1.1, z1.2)
noncomputable def F_J10_copyOfRange (M : Mem) (v0 : Nat) (v1 : Int32) (v2 : Int32) : Option (Nat × Mem) :=
  if v1 = 0 then
    (an M v0).bind fun t2 =>
    if v2 = t2 then
      (vg M v0 1002).bind fun _ =>
      (mcl M v0).bind fun M5 =>
      (cc M5 (m_nx M) 1002).bind fun _ =>
      some ((m_nx M), M5)
    else
      F_J10_copyOfRange_b10  M v0 v1 v2
  else
    F_J10_copyOfRange_b10  M v0 v1 v2
noncomputable def F_J10_copyOf_3 (M : Mem) (v0 : Nat) (v1 : Int32) (v2 : Nat) : Option (Nat × Mem) :=
  if ac v2 2 = true then
    if v2 = 2 then
      (mk M 1010 v1).bind fun M1 =>
      let v3_2 : Nat := (m_nx M)
      (an M1 v0).bind fun t3 =>
      (F_J7_min_2 t3 v1).bind fun z4 =>
      (m_copy M1 v0 (0 : Int32) v3_2 (0 : Int32) z4).bind fun M6 =>
      some (v3_2, M6)
    else
      none
  else
    none
noncomputable def F_J10_copyOf_2 (M : Mem) (v0 : Nat) (v1 : Int32) : Option (Nat × Mem) :=
  (vg M v0 1010).bind fun _ =>
  (gcl M v0).bind fun t2 =>
  (F_J10_copyOf_3 M v0 v1 t2).bind fun z3 =>
  some (z3.1, z3.2)
noncomputable def F_J12_checkIndex_b9  (v0 : Int32) (v1 : Int32) (v2 : Nat) : Option Int32 :=
  none
noncomputable def F_J12_checkIndex (v0 : Int32) (v1 : Int32) (v2 : Nat) : Option Int32 :=
  if v0 < 0 then
    F_J12_checkIndex_b9  v0 v1 v2
  else
    if v0 < v1 then
      some v0
    else
      F_J12_checkIndex_b9  v0 v1 v2
noncomputable def F_J11_checkIndex (v0 : Int32) (v1 : Int32) : Option Int32 :=
  (F_J12_checkIndex v0 v1 0).bind fun z1 =>
  some z1
noncomputable def F_J12_checkFromIndexSize_b15  (v0 : Int32) (v1 : Int32) (v2 : Int32) (v3 : Nat) : Option Int32 :=
  none
noncomputable def F_J12_checkFromIndexSize (v0 : Int32) (v1 : Int32) (v2 : Int32) (v3 : Nat) : Option Int32 :=
  if ((v2 ||| v0) ||| v1) < 0 then
    F_J12_checkFromIndexSize_b15  v0 v1 v2 v3
  else
    if (v2 - v0) < v1 then
      F_J12_checkFromIndexSize_b15  v0 v1 v2 v3
    else
      some v0
noncomputable def F_J12_checkFromToIndex_b14  (v0 : Int32) (v1 : Int32) (v2 : Int32) (v3 : Nat) : Option Int32 :=
  none
noncomputable def F_J12_checkFromToIndex (v0 : Int32) (v1 : Int32) (v2 : Int32) (v3 : Nat) : Option Int32 :=
  if v0 < 0 then
    F_J12_checkFromToIndex_b14  v0 v1 v2 v3
  else
    if v1 < v0 then
      F_J12_checkFromToIndex_b14  v0 v1 v2 v3
    else
      if v2 < v1 then
        F_J12_checkFromToIndex_b14  v0 v1 v2 v3
      else
        some v0
noncomputable def F_J16_newBytesLength (v0 : Int32) : Option Int32 :=
  if v0 < 0 then
    none
  else
    if v0 < (1073741823 : Int32) then
      some (j_ishl v0 (1 : Int32))
    else
      none
noncomputable def F_J16_newBytesFor (M : Mem) (v0 : Int32) : Option (Nat × Mem) :=
  (F_J16_newBytesLength v0).bind fun z1 =>
  (mk M 1002 z1).bind fun M2 =>
  some ((m_nx M), M2)
noncomputable def F_J13_init_b38  (M : Mem) : Option Mem :=
  some M
noncomputable def F_J13_init (M : Mem) (v0 : Nat) (v1 : Int32) : Option Mem :=
  (ng M v0).bind fun _ =>
  if (1 : Int32) = 0 then
    (F_J16_newBytesFor M v1).bind fun z3 =>
    (pr z3.2 v0 4736 z3.1).bind fun M4 =>
    (pi M4 v0 4737 (1 : Int32)).bind fun M5 =>
    F_J13_init_b38  M5
  else
    (mk M 1002 v1).bind fun M6 =>
    (pr M6 v0 4736 (m_nx M)).bind fun M7 =>
    (pi M7 v0 4737 (0 : Int32)).bind fun M8 =>
    F_J13_init_b38  M8
noncomputable def F_J7_max_b10  (s0 : Int32) : Option Int32 :=
  some s0
noncomputable def F_J7_max (v0 : Int32) (v1 : Int32) : Option Int32 :=
  if v0 < v1 then
    F_J7_max_b10  v1
  else
    F_J7_max_b10  v0
noncomputable def F_J9_hugeLength (v0 : Int32) (v1 : Int32) : Option Int32 :=
  let v2_1 : Int32 := (v0 + v1)
  if v2_1 < 0 then
    none
  else
    if (2147483639 : Int32) < v2_1 then
      some v2_1
    else
      some (2147483639 : Int32)
noncomputable def F_J9_newLength_b21  (v0 : Int32) (v1 : Int32) : Option Int32 :=
  (F_J9_hugeLength v0 v1).bind fun z1 =>
  some z1
noncomputable def F_J9_newLength (v0 : Int32) (v1 : Int32) (v2 : Int32) : Option Int32 :=
  (F_J7_max v1 v2).bind fun z2 =>
  let v3_3 : Int32 := (v0 + z2)
  if (0 : Int32) < v3_3 then
    if (2147483639 : Int32) < v3_3 then
      F_J9_newLength_b21  v0 v1
    else
      some v3_3
  else
    F_J9_newLength_b21  v0 v1
noncomputable def F_J13_newCapacity (M : Mem) (v0 : Nat) (v1 : Int32) : Option Int32 :=
  (gr M v0 4736).bind fun t1 =>
  (an M t1).bind fun t2 =>
  (gi M v0 4737).bind fun t3 =>
  let v3_4 : Int32 := (j_ishl v1 t3)
  let v4_5 : Int32 := (v3_4 - t2)
  (gi M v0 4737).bind fun t6 =>
  (F_J9_newLength t2 v4_5 (t2 + (j_ishl (2 : Int32) t6))).bind fun z7 =>
  if z7 = (2147483647 : Int32) then
    none
  else
    (gi M v0 4737).bind fun t8 =>
    some (j_ishr z7 t8)
noncomputable def F_J13_ensureCapacityInternal_b38  (M : Mem) : Option Mem :=
  some M
noncomputable def F_J13_ensureCapacityInternal (M : Mem) (v0 : Nat) (v1 : Int32) : Option Mem :=
  (gr M v0 4736).bind fun t1 =>
  (an M t1).bind fun t2 =>
  (gi M v0 4737).bind fun t3 =>
  let v2_4 : Int32 := (j_ishr t2 t3)
  if 0 < (v1 - v2_4) then
    (gr M v0 4736).bind fun t5 =>
    (vg M v0 74).bind fun _ =>
    (F_J13_newCapacity M v0 v1).bind fun z7 =>
    (gi M v0 4737).bind fun t8 =>
    (F_J10_copyOf M t5 (j_ishl z7 t8)).bind fun z9 =>
    (pr z9.2 v0 4736 z9.1).bind fun M10 =>
    F_J13_ensureCapacityInternal_b38  M10
  else
    F_J13_ensureCapacityInternal_b38  M
noncomputable def F_J13_isLatin1_b18  (M : Mem) (s0 : Int32) : Option Int32 :=
  some (s0 &&& 1)
noncomputable def F_J13_isLatin1_b17  (M : Mem) : Option Int32 :=
  F_J13_isLatin1_b18  M (0 : Int32)
noncomputable def F_J13_isLatin1 (M : Mem) (v0 : Nat) : Option Int32 :=
  if (1 : Int32) = 0 then
    F_J13_isLatin1_b17  M
  else
    (gi M v0 4737).bind fun t1 =>
    if t1 = 0 then
      F_J13_isLatin1_b18  M (1 : Int32)
    else
      F_J13_isLatin1_b17  M
noncomputable def F_J17_canEncode_b12  (s0 : Int32) : Option Int32 :=
  some (s0 &&& 1)
noncomputable def F_J17_canEncode (v0 : Int32) : Option Int32 :=
  if (255 : Int32) < v0 then
    F_J17_canEncode_b12  (0 : Int32)
  else
    F_J17_canEncode_b12  (1 : Int32)
noncomputable def F_J16_length (M : Mem) (v0 : Nat) : Option Int32 :=
  (an M v0).bind fun t1 =>
  some (j_ishr t1 (1 : Int32))
noncomputable def F_J15_checkIndex (v0 : Int32) (v1 : Int32) : Option Unit :=
  (F_J12_checkIndex v0 v1 6).bind fun z1 =>
  some ()
noncomputable def F_J16_checkIndex (M : Mem) (v0 : Int32) (v1 : Nat) : Option Unit :=
  (F_J16_length M v1).bind fun z1 =>
  (F_J15_checkIndex v0 z1).bind fun z2 =>
  some ()
noncomputable def F_J16_putChar_b28  (M : Mem) (v0 : Nat) (v1 : Int32) (v2 : Int32) : Option Mem :=
  let v1_1 : Int32 := (j_ishl v1 (1 : Int32))
  let v1_2 : Int32 := v1_1 + (1 : Int32)
  (sb M v0 v1_1 (j_i2b (j_ishr v2 (0 : Int32)))).bind fun M3 =>
  (sb M3 v0 v1_2 (j_i2b (j_ishr v2 (8 : Int32)))).bind fun M4 =>
  some M4
noncomputable def F_J16_putChar_b18  (M : Mem) : Option Mem :=
  none
noncomputable def F_J16_putChar (M : Mem) (v0 : Nat) (v1 : Int32) (v2 : Int32) : Option Mem :=
  if (1 : Int32) = 0 then
    if v1 < 0 then
      F_J16_putChar_b18  M
    else
      (F_J16_length M v0).bind fun z5 =>
      if v1 < z5 then
        F_J16_putChar_b28  M v0 v1 v2
      else
        F_J16_putChar_b18  M
  else
    F_J16_putChar_b28  M v0 v1 v2
noncomputable def F_J16_putCharSB (M : Mem) (v0 : Nat) (v1 : Int32) (v2 : Int32) : Option Mem :=
  (F_J16_checkIndex M v1 v0).bind fun z1 =>
  (F_J16_putChar M v0 v1 v2).bind fun z2 =>
  some z2
noncomputable def F_J13_append_b75  (M : Mem) (v0 : Nat) : Option (Nat × Mem) :=
  some (v0, M)
noncomputable def F_J13_append_b45  (M : Mem) (v0 : Nat) (v1 : Int32) : Option (Nat × Mem) :=
  (vg M v0 74).bind fun _ =>
  (F_J13_isLatin1 M v0).bind fun z2 =>
  if z2 = 0 then
    (gr M v0 4736).bind fun t3 =>
    (gi M v0 4739).bind fun t4 =>
    (pi M v0 4739 (t4 + (1 : Int32))).bind fun M5 =>
    (F_J16_putCharSB M5 t3 t4 v1).bind fun z6 =>
    F_J13_append_b75  z6 v0
  else
    none
noncomputable def F_J13_append (M : Mem) (v0 : Nat) (v1 : Int32) : Option (Nat × Mem) :=
  (gi M v0 4739).bind fun t7 =>
  (vg M v0 74).bind fun _ =>
  (F_J13_ensureCapacityInternal M v0 (t7 + (1 : Int32))).bind fun z9 =>
  (vg z9 v0 74).bind fun _ =>
  (F_J13_isLatin1 z9 v0).bind fun z11 =>
  if z11 = 0 then
    F_J13_append_b45  z9 v0 v1
  else
    (F_J17_canEncode v1).bind fun z12 =>
    if z12 = 0 then
      F_J13_append_b45  z9 v0 v1
    else
      (gr z9 v0 4736).bind fun t13 =>
      (gi z9 v0 4739).bind fun t14 =>
      (pi z9 v0 4739 (t14 + (1 : Int32))).bind fun M15 =>
      (sb M15 t13 t14 (j_i2b v1)).bind fun M16 =>
      F_J13_append_b75  M16 v0
noncomputable def F_J15_checkBoundsOffCount (v0 : Int32) (v1 : Int32) (v2 : Int32) : Option Int32 :=
  (F_J12_checkFromIndexSize v0 v1 v2 6).bind fun z1 =>
  some z1
noncomputable def F_J16_checkBoundsOffCount (M : Mem) (v0 : Int32) (v1 : Int32) (v2 : Nat) : Option Unit :=
  (F_J16_length M v2).bind fun z1 =>
  (F_J15_checkBoundsOffCount v0 v1 z1).bind fun z2 =>
  some ()
noncomputable def F_J16_inflate_b10_st (k10 : Mem → Nat → Int32 → Nat → Int32 → Int32 → Int32 → Option Mem) (M : Mem) (v0 : Nat) (v1 : Int32) (v2 : Nat) (v3 : Int32) (v4 : Int32) (v5 : Int32) : Option Mem :=
  if v5 < v4 then
    let v3_1 : Int32 := v3 + (1 : Int32)
    let v1_2 : Int32 := v1 + (1 : Int32)
    (ab M v0 v1).bind fun t3 =>
    (F_J16_putChar M v2 v3 (t3 &&& (255 : Int32))).bind fun z4 =>
    let v5_5 : Int32 := v5 + (1 : Int32)
    k10 z4 v0 v1_2 v2 v3_1 v4 v5_5
  else
    some M
noncomputable def F_J16_inflate_b10  (n : Nat) : Mem → Nat → Int32 → Nat → Int32 → Int32 → Int32 → Option Mem :=
  Nat.rec (motive := fun _ => Mem → Nat → Int32 → Nat → Int32 → Int32 → Int32 → Option Mem) (fun _ _ _ _ _ _ _ => none) (fun _ ih => F_J16_inflate_b10_st ih) n
noncomputable def F_J16_inflate (M : Mem) (v0 : Nat) (v1 : Int32) (v2 : Nat) (v3 : Int32) (v4 : Int32) : Option Mem :=
  (F_J16_checkBoundsOffCount M v3 v4 v2).bind fun z6 =>
  F_J16_inflate_b10  xN M v0 v1 v2 v3 v4 (0 : Int32)
noncomputable def F_J17_inflate (M : Mem) (v0 : Nat) (v1 : Int32) (v2 : Nat) (v3 : Int32) (v4 : Int32) : Option Mem :=
  (F_J16_inflate M v0 v1 v2 v3 v4).bind fun z1 =>
  some z1
noncomputable def F_J13_inflate (M : Mem) (v0 : Nat) : Option Mem :=
  (vg M v0 74).bind fun _ =>
  (F_J13_isLatin1 M v0).bind fun z2 =>
  if z2 = 0 then
    some M
  else
    (gr M v0 4736).bind fun t3 =>
    (an M t3).bind fun t4 =>
    (F_J16_newBytesFor M t4).bind fun z5 =>
    (gr z5.2 v0 4736).bind fun t6 =>
    (gi z5.2 v0 4739).bind fun t7 =>
    (F_J17_inflate z5.2 t6 (0 : Int32) z5.1 (0 : Int32) t7).bind fun z8 =>
    (pr z8 v0 4736 z5.1).bind fun M9 =>
    (pi M9 v0 4737 (1 : Int32)).bind fun M10 =>
    some M10
noncomputable def F_J13_getValue (M : Mem) (v0 : Nat) : Option Nat :=
  (gr M v0 4736).bind fun t1 =>
  some t1
noncomputable def F_J13_length (M : Mem) (v0 : Nat) : Option Int32 :=
  (gi M v0 4739).bind fun t1 =>
  some t1
noncomputable def F_J14_init (M : Mem) (v0 : Nat) (v1 : Int32) : Option Mem :=
  (ng M v0).bind fun _ =>
  (F_J13_init M v0 v1).bind fun z2 =>
  some z2
noncomputable def F_J14_append (M : Mem) (v0 : Nat) (v1 : Int32) : Option (Nat × Mem) :=
  (ng M v0).bind fun _ =>
  (F_J13_append M v0 v1).bind fun z2 =>
  some (v0, z2.2)
noncomputable def F_J14_length (M : Mem) (v0 : Nat) : Option Int32 :=
  (ng M v0).bind fun _ =>
  (F_J13_length M v0).bind fun z2 =>
  some z2
noncomputable def F_J16_getChar_b28  (M : Mem) (v0 : Nat) (v1 : Int32) : Option Int32 :=
  let v1_1 : Int32 := (j_ishl v1 (1 : Int32))
  let v1_2 : Int32 := v1_1 + (1 : Int32)
  (ab M v0 v1_1).bind fun t3 =>
  (ab M v0 v1_2).bind fun t4 =>
  some ((j_i2c ((j_ishl (t3 &&& (255 : Int32)) (0 : Int32)) ||| (j_ishl (t4 &&& (255 : Int32)) (8 : Int32)))).toUInt32.toUInt16.toUInt32.toInt32)
noncomputable def F_J16_getChar_b18  (M : Mem) : Option Int32 :=
  none
noncomputable def F_J16_getChar (M : Mem) (v0 : Nat) (v1 : Int32) : Option Int32 :=
  if (1 : Int32) = 0 then
    if v1 < 0 then
      F_J16_getChar_b18  M
    else
      (F_J16_length M v0).bind fun z5 =>
      if v1 < z5 then
        F_J16_getChar_b28  M v0 v1
      else
        F_J16_getChar_b18  M
  else
    F_J16_getChar_b28  M v0 v1
noncomputable def F_J16_compress_2_b10_st (k10 : Mem → Nat → Int32 → Nat → Int32 → Int32 → Int32 → Option (Int32 × Mem)) (M : Mem) (v0 : Nat) (v1 : Int32) (v2 : Nat) (v3 : Int32) (v4 : Int32) (v5 : Int32) : Option (Int32 × Mem) :=
  if v5 < v4 then
    (F_J16_getChar M v0 v1).bind fun z1 =>
    if (255 : Int32) < z1 then
      some (v5, M)
    else
      (sb M v2 v3 (j_i2b z1)).bind fun M2 =>
      let v1_3 : Int32 := v1 + (1 : Int32)
      let v3_4 : Int32 := v3 + (1 : Int32)
      let v5_5 : Int32 := v5 + (1 : Int32)
      k10 M2 v0 v1_3 v2 v3_4 v4 v5_5
  else
    some (v4, M)
noncomputable def F_J16_compress_2_b10  (n : Nat) : Mem → Nat → Int32 → Nat → Int32 → Int32 → Int32 → Option (Int32 × Mem) :=
  Nat.rec (motive := fun _ => Mem → Nat → Int32 → Nat → Int32 → Int32 → Int32 → Option (Int32 × Mem)) (fun _ _ _ _ _ _ _ => none) (fun _ ih => F_J16_compress_2_b10_st ih) n
noncomputable def F_J16_compress_2 (M : Mem) (v0 : Nat) (v1 : Int32) (v2 : Nat) (v3 : Int32) (v4 : Int32) : Option (Int32 × Mem) :=
  (F_J16_checkBoundsOffCount M v1 v4 v0).bind fun z6 =>
  F_J16_compress_2_b10  xN M v0 v1 v2 v3 v4 (0 : Int32)
noncomputable def F_J16_compress_b64  (M : Mem) (v3 : Nat) : Option (Nat × Mem) :=
  some (v3, M)
noncomputable def F_J16_compress_b61  (M : Mem) (v5 : Nat) : Option (Nat × Mem) :=
  some (v5, M)
noncomputable def F_J16_compress (M : Mem) (v0 : Nat) (v1 : Int32) (v2 : Int32) : Option (Nat × Mem) :=
  (mk M 1002 v2).bind fun M1 =>
  let v3_2 : Nat := (m_nx M)
  (F_J16_compress_2 M1 v0 v1 v3_2 (0 : Int32) v2).bind fun z3 =>
  if z3.1 = v2 then
    F_J16_compress_b64  z3.2 v3_2
  else
    (F_J16_newBytesLength (v1 + v2)).bind fun z4 =>
    (F_J10_copyOfRange z3.2 v0 (j_ishl v1 (1 : Int32)) z4).bind fun z5 =>
    (F_J16_getChar z5.2 z5.1 z3.1).bind fun z6 =>
    if (255 : Int32) < z6 then
      F_J16_compress_b61  z5.2 z5.1
    else
      (F_J16_compress_2 z5.2 z5.1 (0 : Int32) v3_2 (0 : Int32) v2).bind fun z7 =>
      if z7.1 = v2 then
        F_J16_compress_b64  z7.2 v3_2
      else
        F_J16_compress_b61  z7.2 z5.1
noncomputable def F_J16_coderFromArrayLen (M : Mem) (v0 : Nat) (v1 : Int32) : Option Int32 :=
  (an M v0).bind fun t1 =>
  some ((j_i2b (j_iushr (v1 - t1) (31 : Int32))).toInt8.toInt32)
noncomputable def F_J15_init_2_b97  (M : Mem) : Option Mem :=
  some M
noncomputable def F_J15_init_2_b79  (M : Mem) (v0 : Nat) (v3 : Nat) (v4 : Int32) : Option Mem :=
  (pi M v0 4865 (1 : Int32)).bind fun M1 =>
  (F_J10_copyOfRange M1 v3 (0 : Int32) (j_ishl v4 (1 : Int32))).bind fun z2 =>
  (pr z2.2 v0 4864 z2.1).bind fun M3 =>
  F_J15_init_2_b97  M3
noncomputable def F_J15_init_2 (M : Mem) (v0 : Nat) (v1 : Nat) (v2 : Nat) : Option Mem :=
  (ng M v0).bind fun _ =>
  (vg M v1 74).bind fun _ =>
  (F_J13_getValue M v1).bind fun z7 =>
  (vg M v1 75).bind fun _ =>
  (F_J14_length M v1).bind fun z9 =>
  (vg M v1 74).bind fun _ =>
  (F_J13_isLatin1 M v1).bind fun z11 =>
  if z11 = 0 then
    if (1 : Int32) = 0 then
      F_J15_init_2_b79  M v0 z7 z9
    else
      (gi M v1 4738).bind fun t12 =>
      if t12 = 0 then
        F_J15_init_2_b79  M v0 z7 z9
      else
        (F_J16_compress M z7 (0 : Int32) z9).bind fun z13 =>
        (pr z13.2 v0 4864 z13.1).bind fun M14 =>
        (gr M14 v0 4864).bind fun t15 =>
        (F_J16_coderFromArrayLen M14 t15 z9).bind fun z16 =>
        (pi M14 v0 4865 z16).bind fun M17 =>
        some M17
  else
    (pi M v0 4865 (0 : Int32)).bind fun M18 =>
    (F_J10_copyOfRange M18 z7 (0 : Int32) z9).bind fun z19 =>
    (pr z19.2 v0 4864 z19.1).bind fun M20 =>
    F_J15_init_2_b97  M20
noncomputable def F_J15_init (M : Mem) (v0 : Nat) (v1 : Nat) : Option Mem :=
  (ng M v0).bind fun _ =>
  (F_J15_init_2 M v0 v1 0).bind fun z2 =>
  some z2
noncomputable def F_J14_toString (M : Mem) (v0 : Nat) : Option (Nat × Mem) :=
  let t2 : Nat := m_nx M
  let M1 : Mem := mo M 76
  (ng M1 t2).bind fun _ =>
  (F_J15_init M1 t2 v0).bind fun z4 =>
  some (t2, z4)
noncomputable def F_J14_init_2 (M : Mem) (v0 : Nat) : Option Mem :=
  (ng M v0).bind fun _ =>
  (F_J13_init M v0 (16 : Int32)).bind fun z2 =>
  some z2
noncomputable def F_J15_coder_b14  (M : Mem) (s0 : Int32) : Option Int32 :=
  some (s0.toInt8.toInt32)
noncomputable def F_J15_coder (M : Mem) (v0 : Nat) : Option Int32 :=
  if (1 : Int32) = 0 then
    F_J15_coder_b14  M (1 : Int32)
  else
    (gi M v0 4865).bind fun t1 =>
    F_J15_coder_b14  M t1
noncomputable def F_J15_length (M : Mem) (v0 : Nat) : Option Int32 :=
  (gr M v0 4864).bind fun t1 =>
  (an M t1).bind fun t2 =>
  (vg M v0 76).bind fun _ =>
  (F_J15_coder M v0).bind fun z4 =>
  some (j_ishr t2 z4)
noncomputable def F_J15_isLatin1_b18  (M : Mem) (s0 : Int32) : Option Int32 :=
  some (s0 &&& 1)
noncomputable def F_J15_isLatin1_b17  (M : Mem) : Option Int32 :=
  F_J15_isLatin1_b18  M (0 : Int32)
noncomputable def F_J15_isLatin1 (M : Mem) (v0 : Nat) : Option Int32 :=
  if (1 : Int32) = 0 then
    F_J15_isLatin1_b17  M
  else
    (gi M v0 4865).bind fun t1 =>
    if t1 = 0 then
      F_J15_isLatin1_b18  M (1 : Int32)
    else
      F_J15_isLatin1_b17  M
noncomputable def F_J17_charAt (M : Mem) (v0 : Nat) (v1 : Int32) : Option Int32 :=
  (an M v0).bind fun t1 =>
  (F_J15_checkIndex v1 t1).bind fun z2 =>
  (ab M v0 v1).bind fun t3 =>
  some ((j_i2c (t3 &&& (255 : Int32))).toUInt32.toUInt16.toUInt32.toInt32)
noncomputable def F_J16_charAt (M : Mem) (v0 : Nat) (v1 : Int32) : Option Int32 :=
  (F_J16_checkIndex M v1 v0).bind fun z1 =>
  (F_J16_getChar M v0 v1).bind fun z2 =>
  some (z2.toUInt32.toUInt16.toUInt32.toInt32)
noncomputable def F_J15_charAt (M : Mem) (v0 : Nat) (v1 : Int32) : Option Int32 :=
  (vg M v0 76).bind fun _ =>
  (F_J15_isLatin1 M v0).bind fun z2 =>
  if z2 = 0 then
    (gr M v0 4864).bind fun t3 =>
    (F_J16_charAt M t3 v1).bind fun z4 =>
    some (z4.toUInt32.toUInt16.toUInt32.toInt32)
  else
    (gr M v0 4864).bind fun t5 =>
    (F_J17_charAt M t5 v1).bind fun z6 =>
    some (z6.toUInt32.toUInt16.toUInt32.toInt32)
noncomputable def F_J17_canEncode_2_b16  (s0 : Int32) : Option Int32 :=
  some (s0 &&& 1)
noncomputable def F_J17_canEncode_2_b15   : Option Int32 :=
  F_J17_canEncode_2_b16  (0 : Int32)
noncomputable def F_J17_canEncode_2 (v0 : Int32) : Option Int32 :=
  if v0 < 0 then
    F_J17_canEncode_2_b15  
  else
    if (255 : Int32) < v0 then
      F_J17_canEncode_2_b15  
    else
      F_J17_canEncode_2_b16  (1 : Int32)
noncomputable def F_J17_indexOfChar_b7_st (k7 : Mem → Nat → Int32 → Int32 → Int32 → Option Int32) (M : Mem) (v0 : Nat) (v3 : Int32) (v4 : Int32) (v5 : Int32) : Option Int32 :=
  if v5 < v3 then
    (ab M v0 v5).bind fun t1 =>
    if t1 = v4 then
      some v5
    else
      let v5_2 : Int32 := v5 + (1 : Int32)
      k7 M v0 v3 v4 v5_2
  else
    some (-1 : Int32)
noncomputable def F_J17_indexOfChar_b7  (n : Nat) : Mem → Nat → Int32 → Int32 → Int32 → Option Int32 :=
  Nat.rec (motive := fun _ => Mem → Nat → Int32 → Int32 → Int32 → Option Int32) (fun _ _ _ _ _ => none) (fun _ ih => F_J17_indexOfChar_b7_st ih) n
noncomputable def F_J17_indexOfChar (M : Mem) (v0 : Nat) (v1 : Int32) (v2 : Int32) (v3 : Int32) : Option Int32 :=
  let v4_3 : Int32 := (j_i2b v1)
  F_J17_indexOfChar_b7  xN M v0 v3 v4_3 v2
noncomputable def F_J17_indexOf (M : Mem) (v0 : Nat) (v1 : Int32) (v2 : Int32) (v3 : Int32) : Option Int32 :=
  (F_J17_canEncode_2 v1).bind fun z1 =>
  if z1 = 0 then
    some (-1 : Int32)
  else
    (F_J7_max v2 (0 : Int32)).bind fun z2 =>
    (an M v0).bind fun t3 =>
    (F_J7_min_2 v3 t3).bind fun z4 =>
    if z2 < z4 then
      (F_J17_indexOfChar M v0 v1 z2 z4).bind fun z5 =>
      some z5
    else
      some (-1 : Int32)
noncomputable def F_J15_checkBoundsBeginEnd (v0 : Int32) (v1 : Int32) (v2 : Int32) : Option Unit :=
  (F_J12_checkFromToIndex v0 v1 v2 6).bind fun z1 =>
  some ()
noncomputable def F_J16_checkBoundsBeginEnd (M : Mem) (v0 : Int32) (v1 : Int32) (v2 : Nat) : Option Unit :=
  (F_J16_length M v2).bind fun z1 =>
  (F_J15_checkBoundsBeginEnd v0 v1 z1).bind fun z2 =>
  some ()
noncomputable def F_J16_indexOfCharUnsafe_b3_st (k3 : Mem → Nat → Int32 → Int32 → Int32 → Option Int32) (M : Mem) (v0 : Nat) (v1 : Int32) (v3 : Int32) (v4 : Int32) : Option Int32 :=
  if v4 < v3 then
    (F_J16_getChar M v0 v4).bind fun z1 =>
    if z1 = v1 then
      some v4
    else
      let v4_2 : Int32 := v4 + (1 : Int32)
      k3 M v0 v1 v3 v4_2
  else
    some (-1 : Int32)
noncomputable def F_J16_indexOfCharUnsafe_b3  (n : Nat) : Mem → Nat → Int32 → Int32 → Int32 → Option Int32 :=
  Nat.rec (motive := fun _ => Mem → Nat → Int32 → Int32 → Int32 → Option Int32) (fun _ _ _ _ _ => none) (fun _ ih => F_J16_indexOfCharUnsafe_b3_st ih) n
noncomputable def F_J16_indexOfCharUnsafe (M : Mem) (v0 : Nat) (v1 : Int32) (v2 : Int32) (v3 : Int32) : Option Int32 :=
  F_J16_indexOfCharUnsafe_b3  xN M v0 v1 v3 v2
noncomputable def F_J16_indexOfChar (M : Mem) (v0 : Nat) (v1 : Int32) (v2 : Int32) (v3 : Int32) : Option Int32 :=
  (F_J16_checkBoundsBeginEnd M v2 v3 v0).bind fun z1 =>
  (F_J16_indexOfCharUnsafe M v0 v1 v2 v3).bind fun z2 =>
  some z2
noncomputable def F_J18_isValidCodePoint_b16  (s0 : Int32) : Option Int32 :=
  some (s0 &&& 1)
noncomputable def F_J18_isValidCodePoint (v0 : Int32) : Option Int32 :=
  let v1_1 : Int32 := (j_iushr v0 (16 : Int32))
  if v1_1 < (17 : Int32) then
    F_J18_isValidCodePoint_b16  (1 : Int32)
  else
    F_J18_isValidCodePoint_b16  (0 : Int32)
noncomputable def F_J18_highSurrogate (v0 : Int32) : Option Int32 :=
  some ((j_i2c ((j_iushr v0 (10 : Int32)) + (55232 : Int32))).toUInt32.toUInt16.toUInt32.toInt32)
noncomputable def F_J18_lowSurrogate (v0 : Int32) : Option Int32 :=
  some ((j_i2c ((v0 &&& (1023 : Int32)) + (56320 : Int32))).toUInt32.toUInt16.toUInt32.toInt32)
noncomputable def F_J16_indexOfSupplementary_b69  (M : Mem) : Option Int32 :=
  some (-1 : Int32)
noncomputable def F_J16_indexOfSupplementary_b63 (k28 : Mem → Nat → Int32 → Int32 → Int32 → Int32 → Option Int32) (M : Mem) (v0 : Nat) (v3 : Int32) (v4 : Int32) (v5 : Int32) (v6 : Int32) : Option Int32 :=
  let v6_1 : Int32 := v6 + (1 : Int32)
  k28 M v0 v3 v4 v5 v6_1
noncomputable def F_J16_indexOfSupplementary_b28_st (k28 : Mem → Nat → Int32 → Int32 → Int32 → Int32 → Option Int32) (M : Mem) (v0 : Nat) (v3 : Int32) (v4 : Int32) (v5 : Int32) (v6 : Int32) : Option Int32 :=
  if v6 < (v3 - (1 : Int32)) then
    (F_J16_getChar M v0 v6).bind fun z2 =>
    if z2 = v4 then
      (F_J16_getChar M v0 (v6 + (1 : Int32))).bind fun z3 =>
      if z3 = v5 then
        some v6
      else
        F_J16_indexOfSupplementary_b63 k28 M v0 v3 v4 v5 v6
    else
      F_J16_indexOfSupplementary_b63 k28 M v0 v3 v4 v5 v6
  else
    F_J16_indexOfSupplementary_b69  M
noncomputable def F_J16_indexOfSupplementary_b28  (n : Nat) : Mem → Nat → Int32 → Int32 → Int32 → Int32 → Option Int32 :=
  Nat.rec (motive := fun _ => Mem → Nat → Int32 → Int32 → Int32 → Int32 → Option Int32) (fun _ _ _ _ _ _ => none) (fun _ ih => F_J16_indexOfSupplementary_b28_st ih) n
noncomputable def F_J16_indexOfSupplementary (M : Mem) (v0 : Nat) (v1 : Int32) (v2 : Int32) (v3 : Int32) : Option Int32 :=
  (F_J18_isValidCodePoint v1).bind fun z4 =>
  if z4 = 0 then
    F_J16_indexOfSupplementary_b69  M
  else
    (F_J18_highSurrogate v1).bind fun z5 =>
    (F_J18_lowSurrogate v1).bind fun z6 =>
    (F_J16_checkBoundsBeginEnd M v2 v3 v0).bind fun z7 =>
    F_J16_indexOfSupplementary_b28  xN M v0 v3 z5 z6 v2
noncomputable def F_J16_indexOf (M : Mem) (v0 : Nat) (v1 : Int32) (v2 : Int32) (v3 : Int32) : Option Int32 :=
  (F_J7_max v2 (0 : Int32)).bind fun z1 =>
  (an M v0).bind fun t2 =>
  (F_J7_min_2 v3 (j_ishr t2 (1 : Int32))).bind fun z3 =>
  if z1 < z3 then
    if v1 < (65536 : Int32) then
      (F_J16_indexOfChar M v0 v1 z1 z3).bind fun z4 =>
      some z4
    else
      (F_J16_indexOfSupplementary M v0 v1 z1 z3).bind fun z5 =>
      some z5
  else
    some (-1 : Int32)
noncomputable def F_J15_indexOf_2_b36  (M : Mem) (s0 : Int32) : Option Int32 :=
  some s0
noncomputable def F_J15_indexOf_2 (M : Mem) (v0 : Nat) (v1 : Int32) (v2 : Int32) : Option Int32 :=
  (vg M v0 76).bind fun _ =>
  (F_J15_isLatin1 M v0).bind fun z2 =>
  if z2 = 0 then
    (gr M v0 4864).bind fun t3 =>
    (vg M v0 76).bind fun _ =>
    (F_J15_length M v0).bind fun z5 =>
    (F_J16_indexOf M t3 v1 v2 z5).bind fun z6 =>
    F_J15_indexOf_2_b36  M z6
  else
    (gr M v0 4864).bind fun t7 =>
    (vg M v0 76).bind fun _ =>
    (F_J15_length M v0).bind fun z9 =>
    (F_J17_indexOf M t7 v1 v2 z9).bind fun z10 =>
    F_J15_indexOf_2_b36  M z10
noncomputable def F_J15_indexOf (M : Mem) (v0 : Nat) (v1 : Int32) : Option Int32 :=
  (vg M v0 76).bind fun _ =>
  (F_J15_indexOf_2 M v0 v1 (0 : Int32)).bind fun z2 =>
  some z2
noncomputable def F_J17_equals_b9_st (k9 : Mem → Nat → Nat → Int32 → Option Int32) (M : Mem) (v0 : Nat) (v1 : Nat) (v2 : Int32) : Option Int32 :=
  (an M v0).bind fun t1 =>
  if v2 < t1 then
    (ab M v0 v2).bind fun t2 =>
    (ab M v1 v2).bind fun t3 =>
    if t2 = t3 then
      let v2_4 : Int32 := v2 + (1 : Int32)
      k9 M v0 v1 v2_4
    else
      some (0 : Int32)
  else
    some (1 : Int32)
noncomputable def F_J17_equals_b9  (n : Nat) : Mem → Nat → Nat → Int32 → Option Int32 :=
  Nat.rec (motive := fun _ => Mem → Nat → Nat → Int32 → Option Int32) (fun _ _ _ _ => none) (fun _ ih => F_J17_equals_b9_st ih) n
noncomputable def F_J17_equals (M : Mem) (v0 : Nat) (v1 : Nat) : Option Int32 :=
  (an M v0).bind fun t5 =>
  (an M v1).bind fun t6 =>
  if t5 = t6 then
    F_J17_equals_b9  xN M v0 v1 (0 : Int32)
  else
    some (0 : Int32)
noncomputable def F_J15_equals_b55  (M : Mem) (s0 : Int32) : Option Int32 :=
  some (s0 &&& 1)
noncomputable def F_J15_equals_b54  (M : Mem) : Option Int32 :=
  F_J15_equals_b55  M (0 : Int32)
noncomputable def F_J15_equals_b36  (M : Mem) (v0 : Nat) (v2 : Nat) : Option Int32 :=
  (gr M v0 4864).bind fun t1 =>
  (gr M v2 4864).bind fun t2 =>
  (F_J17_equals M t1 t2).bind fun z3 =>
  if z3 = 0 then
    F_J15_equals_b54  M
  else
    F_J15_equals_b55  M (1 : Int32)
noncomputable def F_J15_equals (M : Mem) (v0 : Nat) (v1 : Nat) : Option Int32 :=
  if ac v0 v1 = true then
    if v0 = v1 then
      some (1 : Int32)
    else
      (io M v1 76).bind fun t4 =>
      if t4 = 0 then
        F_J15_equals_b54  M
      else
        (cc M v1 76).bind fun _ =>
        if (1 : Int32) = 0 then
          F_J15_equals_b36  M v0 v1
        else
          (gi M v0 4865).bind fun t5 =>
          (gi M v1 4865).bind fun t6 =>
          if t5 = t6 then
            F_J15_equals_b36  M v0 v1
          else
            F_J15_equals_b54  M
  else
    none
noncomputable def F_J9_signedHashCode_b8_st (k8 : Mem → Int32 → Nat → Int32 → Int32 → Option Int32) (M : Mem) (v0 : Int32) (v1 : Nat) (v4 : Int32) (v5 : Int32) : Option Int32 :=
  if v5 < v4 then
    (ab M v1 v5).bind fun t1 =>
    let v0_2 : Int32 := (((31 : Int32) * v0) + (t1 &&& (255 : Int32)))
    let v5_3 : Int32 := v5 + (1 : Int32)
    k8 M v0_2 v1 v4 v5_3
  else
    some v0
noncomputable def F_J9_signedHashCode_b8  (n : Nat) : Mem → Int32 → Nat → Int32 → Int32 → Option Int32 :=
  Nat.rec (motive := fun _ => Mem → Int32 → Nat → Int32 → Int32 → Option Int32) (fun _ _ _ _ _ => none) (fun _ ih => F_J9_signedHashCode_b8_st ih) n
noncomputable def F_J9_signedHashCode (M : Mem) (v0 : Int32) (v1 : Nat) (v2 : Int32) (v3 : Int32) : Option Int32 :=
  let v4_4 : Int32 := (v2 + v3)
  F_J9_signedHashCode_b8  xN M v0 v1 v4_4 v2
noncomputable def F_J9_utf16hashCode (v0 : Int32) (v1 : Nat) (v2 : Int32) (v3 : Int32) : Option Int32 :=
  let v4_1 : Int32 := (v2 + v3)
  if v2 < v4_1 then
    none
  else
    some v0
noncomputable def F_J9_hashCode_2_b8_st (k8 : Mem → Int32 → Nat → Int32 → Int32 → Option Int32) (M : Mem) (v0 : Int32) (v1 : Nat) (v4 : Int32) (v5 : Int32) : Option Int32 :=
  if v5 < v4 then
    (ab M v1 v5).bind fun t1 =>
    let v0_2 : Int32 := (((31 : Int32) * v0) + t1)
    let v5_3 : Int32 := v5 + (1 : Int32)
    k8 M v0_2 v1 v4 v5_3
  else
    some v0
noncomputable def F_J9_hashCode_2_b8  (n : Nat) : Mem → Int32 → Nat → Int32 → Int32 → Option Int32 :=
  Nat.rec (motive := fun _ => Mem → Int32 → Nat → Int32 → Int32 → Option Int32) (fun _ _ _ _ _ => none) (fun _ ih => F_J9_hashCode_2_b8_st ih) n
noncomputable def F_J9_hashCode_2 (M : Mem) (v0 : Int32) (v1 : Nat) (v2 : Int32) (v3 : Int32) : Option Int32 :=
  let v4_4 : Int32 := (v2 + v3)
  F_J9_hashCode_2_b8  xN M v0 v1 v4_4 v2
noncomputable def F_J9_hashCode_4_b8_st (k8 : Mem → Int32 → Nat → Int32 → Int32 → Option Int32) (M : Mem) (v0 : Int32) (v1 : Nat) (v4 : Int32) (v5 : Int32) : Option Int32 :=
  if v5 < v4 then
    (ai M v1 v5).bind fun t1 =>
    let v0_2 : Int32 := (((31 : Int32) * v0) + t1)
    let v5_3 : Int32 := v5 + (1 : Int32)
    k8 M v0_2 v1 v4 v5_3
  else
    some v0
noncomputable def F_J9_hashCode_4_b8  (n : Nat) : Mem → Int32 → Nat → Int32 → Int32 → Option Int32 :=
  Nat.rec (motive := fun _ => Mem → Int32 → Nat → Int32 → Int32 → Option Int32) (fun _ _ _ _ _ => none) (fun _ ih => F_J9_hashCode_4_b8_st ih) n
noncomputable def F_J9_hashCode_4 (M : Mem) (v0 : Int32) (v1 : Nat) (v2 : Int32) (v3 : Int32) : Option Int32 :=
  let v4_4 : Int32 := (v2 + v3)
  F_J9_hashCode_4_b8  xN M v0 v1 v4_4 v2
noncomputable def F_J9_vectorizedHashCode_b129  (M : Mem) : Option Int32 :=
  none
noncomputable def F_J9_vectorizedHashCode_b157  (M : Mem) (s0 : Int32) : Option Int32 :=
  some s0
noncomputable def F_J9_vectorizedHashCode (M : Mem) (v0 : Nat) (v1 : Int32) (v2 : Int32) (v3 : Int32) (v4 : Int32) : Option Int32 :=
  if v4 = (4 : Int32) then
    (cc M v0 1002).bind fun _ =>
    (F_J9_signedHashCode M v3 v0 v1 v2).bind fun z1 =>
    F_J9_vectorizedHashCode_b157  M z1
  else
    if v4 = (5 : Int32) then
      (io M v0 1002).bind fun t2 =>
      if t2 = 0 then
        none
      else
        (cc M v0 1002).bind fun _ =>
        (F_J9_utf16hashCode v3 v0 v1 v2).bind fun z3 =>
        F_J9_vectorizedHashCode_b157  M z3
    else
      if v4 = (6 : Int32) then
        F_J9_vectorizedHashCode_b129  M
      else
        if v4 = (7 : Int32) then
          F_J9_vectorizedHashCode_b129  M
        else
          if v4 = (8 : Int32) then
            (cc M v0 1002).bind fun _ =>
            (F_J9_hashCode_2 M v3 v0 v1 v2).bind fun z4 =>
            F_J9_vectorizedHashCode_b157  M z4
          else
            if v4 = (9 : Int32) then
              none
            else
              if v4 = (10 : Int32) then
                (cc M v0 1005).bind fun _ =>
                (F_J9_hashCode_4 M v3 v0 v1 v2).bind fun z5 =>
                F_J9_vectorizedHashCode_b157  M z5
              else
                F_J9_vectorizedHashCode_b129  M
noncomputable def F_J17_hashCode_b51  (M : Mem) (s0 : Int32) : Option Int32 :=
  some s0
noncomputable def F_J17_hashCode (M : Mem) (v0 : Nat) : Option Int32 :=
  (an M v0).bind fun t1 =>
  if t1 = (0 : Int32) then
    F_J17_hashCode_b51  M (0 : Int32)
  else
    if t1 = (1 : Int32) then
      (ab M v0 (0 : Int32)).bind fun t2 =>
      F_J17_hashCode_b51  M (t2 &&& (255 : Int32))
    else
      (an M v0).bind fun t3 =>
      (F_J9_vectorizedHashCode M v0 (0 : Int32) t3 (0 : Int32) (4 : Int32)).bind fun z4 =>
      F_J17_hashCode_b51  M z4
noncomputable def F_J16_hashCode_b51  (M : Mem) (s0 : Int32) : Option Int32 :=
  some s0
noncomputable def F_J16_hashCode (M : Mem) (v0 : Nat) : Option Int32 :=
  (an M v0).bind fun t1 =>
  if t1 = (0 : Int32) then
    F_J16_hashCode_b51  M (0 : Int32)
  else
    if t1 = (2 : Int32) then
      (F_J16_getChar M v0 (0 : Int32)).bind fun z2 =>
      F_J16_hashCode_b51  M z2
    else
      (an M v0).bind fun t3 =>
      (F_J9_vectorizedHashCode M v0 (0 : Int32) (j_ishr t3 (1 : Int32)) (0 : Int32) (5 : Int32)).bind fun z4 =>
      F_J16_hashCode_b51  M z4
noncomputable def F_J15_hashCode_b58  (M : Mem) (v1 : Int32) : Option (Int32 × Mem) :=
  some (v1, M)
noncomputable def F_J15_hashCode_b40  (M : Mem) (s0 : Int32) (v0 : Nat) : Option (Int32 × Mem) :=
  if s0 = 0 then
    (pi M v0 4867 (1 : Int32)).bind fun M1 =>
    F_J15_hashCode_b58  M1 s0
  else
    (pi M v0 4866 s0).bind fun M2 =>
    F_J15_hashCode_b58  M2 s0
noncomputable def F_J15_hashCode (M : Mem) (v0 : Nat) : Option (Int32 × Mem) :=
  (gi M v0 4866).bind fun t3 =>
  if t3 = 0 then
    (gi M v0 4867).bind fun t4 =>
    if t4 = 0 then
      (vg M v0 76).bind fun _ =>
      (F_J15_isLatin1 M v0).bind fun z6 =>
      if z6 = 0 then
        (gr M v0 4864).bind fun t7 =>
        (F_J16_hashCode M t7).bind fun z8 =>
        F_J15_hashCode_b40  M z8 v0
      else
        (gr M v0 4864).bind fun t9 =>
        (F_J17_hashCode M t9).bind fun z10 =>
        F_J15_hashCode_b40  M z10 v0
    else
      F_J15_hashCode_b58  M t3
  else
    F_J15_hashCode_b58  M t3
noncomputable def F_J15_isEmpty_b13  (M : Mem) (s0 : Int32) : Option Int32 :=
  some (s0 &&& 1)
noncomputable def F_J15_isEmpty (M : Mem) (v0 : Nat) : Option Int32 :=
  (gr M v0 4864).bind fun t1 =>
  (an M t1).bind fun t2 =>
  if t2 = 0 then
    F_J15_isEmpty_b13  M (1 : Int32)
  else
    F_J15_isEmpty_b13  M (0 : Int32)
noncomputable def F_J19_compare_b19  (s0 : Int32) : Option Int32 :=
  some s0
noncomputable def F_J19_compare (v0 : Int32) (v1 : Int32) : Option Int32 :=
  if v0 < v1 then
    F_J19_compare_b19  (-1 : Int32)
  else
    if v0 = v1 then
      F_J19_compare_b19  (0 : Int32)
    else
      F_J19_compare_b19  (1 : Int32)
noncomputable def F_J8_init (M : Mem) (v0 : Nat) : Option Unit :=
  (ng M v0).bind fun _ =>
  some ()
noncomputable def F_J19_init (M : Mem) (v0 : Nat) (v1 : Int32) : Option Mem :=
  (ng M v0).bind fun _ =>
  (F_J8_init M v0).bind fun z2 =>
  (pi M v0 5120 v1).bind fun M3 =>
  some M3
noncomputable def F_J19_valueOf_b23  (M : Mem) (v0 : Int32) : Option (Nat × Mem) :=
  let t2 : Nat := m_nx M
  let M1 : Mem := mo M 80
  (ng M1 t2).bind fun _ =>
  (F_J19_init M1 t2 v0).bind fun z4 =>
  some (t2, z4)
noncomputable def F_J19_valueOf (M : Mem) (v0 : Int32) : Option (Nat × Mem) :=
  if v0 < (-128 : Int32) then
    F_J19_valueOf_b23  M v0
  else
    if (127 : Int32) < v0 then
      F_J19_valueOf_b23  M v0
    else
      (ar M 5 (v0 + (128 : Int32))).bind fun t5 =>
      some (t5, M)
noncomputable def F_J19_intValue (M : Mem) (v0 : Nat) : Option Int32 :=
  (gi M v0 5120).bind fun t1 =>
  some t1
noncomputable def F_J2_init (M : Mem) (v0 : Nat) : Option Unit :=
  (ng M v0).bind fun _ =>
  (F_J1_init M v0).bind fun z2 =>
  some ()
noncomputable def F_J20_compare_b21  (s0 : Int32) : Option Int32 :=
  some s0
noncomputable def F_J20_compare (v0 : Int64) (v2 : Int64) : Option Int32 :=
  if v0 < v2 then
    F_J20_compare_b21  (-1 : Int32)
  else
    if v0 = v2 then
      F_J20_compare_b21  (0 : Int32)
    else
      F_J20_compare_b21  (1 : Int32)
noncomputable def F_J20_rotateLeft (v0 : Int64) (v2 : Int32) : Option Int64 :=
  some ((j_lshl v0 v2) ||| (j_lushr v0 (-v2)))
noncomputable def F_J21_init (v0 : Nat) : Option Unit :=
  some ()
noncomputable def F_J22_getUTF16Char (M : Mem) (v0 : Nat) (v1 : Nat) (v2 : Int32) : Option Int32 :=
  (F_J16_getChar M v1 v2).bind fun z1 =>
  some (z1.toUInt32.toUInt16.toUInt32.toInt32)
noncomputable def F_J3_init (M : Mem) (v0 : Nat) : Option Unit :=
  (ng M v0).bind fun _ =>
  (F_J2_init M v0).bind fun z2 =>
  some ()
noncomputable def F_J4_init (M : Mem) (v0 : Nat) : Option Unit :=
  (ng M v0).bind fun _ =>
  some ()
noncomputable def F_J5_init (M : Mem) (v0 : Nat) : Option Mem :=
  (ng M v0).bind fun _ =>
  (F_J4_init M v0).bind fun z2 =>
  (pi M v0 4224 (0 : Int32)).bind fun M3 =>
  some M3
noncomputable def F_J6_init_b60  (M : Mem) : Option Mem :=
  some M
noncomputable def F_J6_init (M : Mem) (v0 : Nat) (v1 : Int32) : Option Mem :=
  (ng M v0).bind fun _ =>
  (F_J5_init M v0).bind fun z2 =>
  if 0 < v1 then
    (mk z2 1010 v1).bind fun M3 =>
    (pr M3 v0 4288 (m_nx z2)).bind fun M4 =>
    F_J6_init_b60  M4
  else
    if v1 = 0 then
      (pr z2 v0 4288 3).bind fun M5 =>
      F_J6_init_b60  M5
    else
      none
noncomputable def F_J6_size (M : Mem) (v0 : Nat) : Option Int32 :=
  (gi M v0 4289).bind fun t1 =>
  some t1
noncomputable def F_J6_grow_2_b20  (M : Mem) (v0 : Nat) (v1 : Int32) (v2 : Int32) : Option (Nat × Mem) :=
  (F_J9_newLength v2 (v1 - v2) (j_ishr v2 (1 : Int32))).bind fun z1 =>
  (gr M v0 4288).bind fun t2 =>
  (F_J10_copyOf_2 M t2 z1).bind fun z3 =>
  (pr z3.2 v0 4288 z3.1).bind fun M4 =>
  some (z3.1, M4)
noncomputable def F_J6_grow_2 (M : Mem) (v0 : Nat) (v1 : Int32) : Option (Nat × Mem) :=
  (gr M v0 4288).bind fun t5 =>
  (an M t5).bind fun t6 =>
  if 0 < t6 then
    F_J6_grow_2_b20  M v0 v1 t6
  else
    (gr M v0 4288).bind fun t7 =>
    if ac t7 4 = true then
      if t7 = 4 then
        (F_J7_max (10 : Int32) v1).bind fun z8 =>
        (mk M 1010 z8).bind fun M9 =>
        let t10 : Nat := (m_nx M)
        (pr M9 v0 4288 t10).bind fun M11 =>
        some (t10, M11)
      else
        F_J6_grow_2_b20  M v0 v1 t6
    else
      none
noncomputable def F_J6_grow (M : Mem) (v0 : Nat) : Option (Nat × Mem) :=
  (gi M v0 4289).bind fun t1 =>
  (vg M v0 67).bind fun _ =>
  (F_J6_grow_2 M v0 (t1 + (1 : Int32))).bind fun z3 =>
  some (z3.1, z3.2)
noncomputable def F_J6_add_2_b11  (M : Mem) (v0 : Nat) (v1 : Nat) (v2 : Nat) (v3 : Int32) : Option Mem :=
  (sr M v2 v3 v1).bind fun M1 =>
  (pi M1 v0 4289 (v3 + (1 : Int32))).bind fun M2 =>
  some M2
noncomputable def F_J6_add_2 (M : Mem) (v0 : Nat) (v1 : Nat) (v2 : Nat) (v3 : Int32) : Option Mem :=
  (an M v2).bind fun t3 =>
  if v3 = t3 then
    (vg M v0 67).bind fun _ =>
    (F_J6_grow M v0).bind fun z5 =>
    F_J6_add_2_b11  z5.2 v0 v1 z5.1 v3
  else
    F_J6_add_2_b11  M v0 v1 v2 v3
noncomputable def F_J6_add (M : Mem) (v0 : Nat) (v1 : Nat) : Option (Int32 × Mem) :=
  (gi M v0 4224).bind fun t1 =>
  (pi M v0 4224 (t1 + (1 : Int32))).bind fun M2 =>
  (gr M2 v0 4288).bind fun t3 =>
  (gi M2 v0 4289).bind fun t4 =>
  (vg M2 v0 67).bind fun _ =>
  (F_J6_add_2 M2 v0 v1 t3 t4).bind fun z6 =>
  some ((1 : Int32), z6)
noncomputable def F_J6_elementData (M : Mem) (v0 : Nat) (v1 : Int32) : Option Nat :=
  (gr M v0 4288).bind fun t1 =>
  (ar M t1 v1).bind fun t2 =>
  some t2
noncomputable def F_J6_get (M : Mem) (v0 : Nat) (v1 : Int32) : Option Nat :=
  (gi M v0 4289).bind fun t1 =>
  (F_J11_checkIndex v1 t1).bind fun z2 =>
  (vg M v0 67).bind fun _ =>
  (F_J6_elementData M v0 v1).bind fun z4 =>
  some z4
noncomputable def F_J6_fastRemove_b34  (M : Mem) (v0 : Nat) (v1 : Nat) (v3 : Int32) : Option Mem :=
  (pi M v0 4289 v3).bind fun M1 =>
  (sr M1 v1 v3 0).bind fun M2 =>
  some M2
noncomputable def F_J6_fastRemove (M : Mem) (v0 : Nat) (v1 : Nat) (v2 : Int32) : Option Mem :=
  (gi M v0 4224).bind fun t3 =>
  (pi M v0 4224 (t3 + (1 : Int32))).bind fun M4 =>
  (gi M4 v0 4289).bind fun t5 =>
  let t6 : Int32 := (t5 - (1 : Int32))
  if v2 < t6 then
    (m_copy M4 v1 (v2 + (1 : Int32)) v1 v2 (t6 - v2)).bind fun M8 =>
    F_J6_fastRemove_b34  M8 v0 v1 t6
  else
    F_J6_fastRemove_b34  M4 v0 v1 t6
noncomputable def F_J6_remove (M : Mem) (v0 : Nat) (v1 : Int32) : Option (Nat × Mem) :=
  (gi M v0 4289).bind fun t1 =>
  (F_J11_checkIndex v1 t1).bind fun z2 =>
  (gr M v0 4288).bind fun t3 =>
  (ar M t3 v1).bind fun t4 =>
  (vg M v0 67).bind fun _ =>
  (F_J6_fastRemove M v0 t3 v1).bind fun z6 =>
  some (t4, z6)
noncomputable def F_J6_init_2 (M : Mem) (v0 : Nat) : Option Mem :=
  (ng M v0).bind fun _ =>
  (F_J5_init M v0).bind fun z2 =>
  (pr z2 v0 4288 4).bind fun M3 =>
  some M3
noncomputable def F_J7_min_b11  (s0 : Int64) : Option Int64 :=
  some s0
noncomputable def F_J7_min (v0 : Int64) (v2 : Int64) : Option Int64 :=
  if v2 < v0 then
    F_J7_min_b11  v2
  else
    F_J7_min_b11  v0
noncomputable def F_J7_abs_b12  (s0 : Int64) : Option Int64 :=
  some s0
noncomputable def F_J7_abs (v0 : Int64) : Option Int64 :=
  if v0 < (0 : Int64) then
    F_J7_abs_b12  (-v0)
  else
    F_J7_abs_b12  v0
noncomputable def F_J7_max_2_b11  (s0 : Int64) : Option Int64 :=
  some s0
noncomputable def F_J7_max_2 (v0 : Int64) (v2 : Int64) : Option Int64 :=
  if v0 < v2 then
    F_J7_max_2_b11  v2
  else
    F_J7_max_2_b11  v0
noncomputable def F_J9_hashCode (v0 : Int32) (v1 : Nat) (v2 : Int32) (v3 : Int32) : Option Int32 :=
  let v4_1 : Int32 := (v2 + v3)
  if v2 < v4_1 then
    none
  else
    some v0
noncomputable def F_J9_hashCode_3 (v0 : Int32) (v1 : Nat) (v2 : Int32) (v3 : Int32) : Option Int32 :=
  let v4_1 : Int32 := (v2 + v3)
  if v2 < v4_1 then
    none
  else
    some v0
noncomputable def F_X1_init (M : Mem) (v0 : Nat) : Option Mem :=
  (ng M v0).bind fun _ =>
  let t4 : Nat := m_nx M
  let M3 : Mem := mo M 64
  (ng M3 t4).bind fun _ =>
  (ie M3 t4).bind fun _ =>
  (pr M3 v0 128 t4).bind fun M7 =>
  some M7
noncomputable def F_X2_init (M : Mem) (v0 : Nat) : Option Mem :=
  (ng M v0).bind fun _ =>
  (mk M 1011 (401 : Int32)).bind fun M3 =>
  (pr M3 v0 192 (m_nx M)).bind fun M4 =>
  some M4
noncomputable def F_X3_init (M : Mem) (v0 : Nat) (v1 : Nat) : Option Mem :=
  (ng M v0).bind fun _ =>
  (mk M 1005 (4 : Int32)).bind fun M3 =>
  (pr M3 v0 260 (m_nx M)).bind fun M4 =>
  (mk M4 1005 (4 : Int32)).bind fun M5 =>
  (pr M5 v0 261 (m_nx M4)).bind fun M6 =>
  (pr M6 v0 256 v1).bind fun M7 =>
  some M7
noncomputable def F_X4_init (M : Mem) (v0 : Nat) : Option Mem :=
  (ng M v0).bind fun _ =>
  let t4 : Nat := m_nx M
  let M3 : Mem := mo M 67
  (ng M3 t4).bind fun _ =>
  (F_J6_init M3 t4 (8 : Int32)).bind fun z6 =>
  (pr z6 v0 320 t4).bind fun M7 =>
  some M7
noncomputable def F_X5_init (M : Mem) (v0 : Nat) (v1 : Nat) : Option Mem :=
  (ng M v0).bind fun _ =>
  (pr M v0 384 v1).bind fun M3 =>
  some M3
noncomputable def F_X6_init (M : Mem) (v0 : Nat) (v1 : Nat) (v2 : Nat) : Option Mem :=
  (ng M v0).bind fun _ =>
  (mk M 1006 (10000 : Int32)).bind fun M3 =>
  (pr M3 v0 450 (m_nx M)).bind fun M4 =>
  (mk M4 1012 (42 : Int32)).bind fun M5 =>
  (pr M5 v0 452 (m_nx M4)).bind fun M6 =>
  (mk M6 1005 (42 : Int32)).bind fun M7 =>
  (pr M7 v0 453 (m_nx M6)).bind fun M8 =>
  (mk M8 1005 (42 : Int32)).bind fun M9 =>
  (pr M9 v0 454 (m_nx M8)).bind fun M10 =>
  (mk M10 1005 (4 : Int32)).bind fun M11 =>
  (pr M11 v0 456 (m_nx M10)).bind fun M12 =>
  (mk M12 1005 (4 : Int32)).bind fun M13 =>
  (pr M13 v0 458 (m_nx M12)).bind fun M14 =>
  (mk M14 1011 (8 : Int32)).bind fun M15 =>
  (pr M15 v0 459 (m_nx M14)).bind fun M16 =>
  (mk M16 1005 (32 : Int32)).bind fun M17 =>
  (pr M17 v0 460 (m_nx M16)).bind fun M18 =>
  (pr M18 v0 448 v1).bind fun M19 =>
  (pr M19 v0 449 v2).bind fun M20 =>
  some M20
noncomputable def F_X7_init (M : Mem) (v0 : Nat) : Option Mem :=
  (ng M v0).bind fun _ =>
  (mk M 1005 (4096 : Int32)).bind fun M3 =>
  (pr M3 v0 512 (m_nx M)).bind fun M4 =>
  (mk M4 1005 (4096 : Int32)).bind fun M5 =>
  (pr M5 v0 513 (m_nx M4)).bind fun M6 =>
  some M6
noncomputable def F_X9_init (M : Mem) (v0 : Nat) : Option Mem :=
  (ng M v0).bind fun _ =>
  (mk M 1005 (7800 : Int32)).bind fun M3 =>
  (pr M3 v0 640 (m_nx M)).bind fun M4 =>
  (mk M4 1005 (130 : Int32)).bind fun M5 =>
  (pr M5 v0 641 (m_nx M4)).bind fun M6 =>
  (mk M6 1001 (130 : Int32)).bind fun M7 =>
  (pr M7 v0 642 (m_nx M6)).bind fun M8 =>
  (mk M8 1005 (120 : Int32)).bind fun M9 =>
  (pr M9 v0 643 (m_nx M8)).bind fun M10 =>
  (mk M10 1005 (60 : Int32)).bind fun M11 =>
  (pr M11 v0 644 (m_nx M10)).bind fun M12 =>
  some M12
noncomputable def F_X8_init (M : Mem) (v0 : Nat) : Option Mem :=
  (ng M v0).bind fun _ =>
  let t4 : Nat := m_nx M
  let M3 : Mem := mo M 10
  (ng M3 t4).bind fun _ =>
  (F_X9_init M3 t4).bind fun z6 =>
  (pr z6 v0 576 t4).bind fun M7 =>
  (mk M7 1005 (10 : Int32)).bind fun M8 =>
  (pr M8 v0 578 (m_nx M7)).bind fun M9 =>
  (mk M9 1006 (10 : Int32)).bind fun M10 =>
  (pr M10 v0 579 (m_nx M9)).bind fun M11 =>
  (mk M11 1006 (10 : Int32)).bind fun M12 =>
  (pr M12 v0 580 (m_nx M11)).bind fun M13 =>
  some M13
noncomputable def F_X10_init (M : Mem) (v0 : Nat) : Option Mem :=
  (ng M v0).bind fun _ =>
  (mk M 1006 (1024 : Int32)).bind fun M3 =>
  (pr M3 v0 704 (m_nx M)).bind fun M4 =>
  some M4
noncomputable def F_X12_init (M : Mem) (v0 : Nat) : Option Mem :=
  (ng M v0).bind fun _ =>
  (mk M 1002 (65536 : Int32)).bind fun M3 =>
  (pr M3 v0 832 (m_nx M)).bind fun M4 =>
  some M4
noncomputable def F_X11_init (M : Mem) (v0 : Nat) (v1 : Nat) : Option Mem :=
  (ng M v0).bind fun _ =>
  let t4 : Nat := m_nx M
  let M3 : Mem := mo M 13
  (ng M3 t4).bind fun _ =>
  (F_X12_init M3 t4).bind fun z6 =>
  (pr z6 v0 769 t4).bind fun M7 =>
  (mk M7 1013 (41 : Int32)).bind fun M8 =>
  (pr M8 v0 770 (m_nx M7)).bind fun M9 =>
  (mk M9 1002 (16000 : Int32)).bind fun M10 =>
  (pr M10 v0 775 (m_nx M9)).bind fun M11 =>
  (mk M11 1005 (8000 : Int32)).bind fun M12 =>
  (pr M12 v0 777 (m_nx M11)).bind fun M13 =>
  (mk M13 1002 (8000 : Int32)).bind fun M14 =>
  (pr M14 v0 778 (m_nx M13)).bind fun M15 =>
  let t17 : Nat := m_nx M15
  let M16 : Mem := mo M15 8
  (ng M16 t17).bind fun _ =>
  (F_X7_init M16 t17).bind fun z19 =>
  (pr z19 v0 781 t17).bind fun M20 =>
  (mk M20 1006 (500 : Int32)).bind fun M21 =>
  (pr M21 v0 782 (m_nx M20)).bind fun M22 =>
  (pr M22 v0 768 v1).bind fun M23 =>
  some M23
noncomputable def F_X13_init (M : Mem) (v0 : Nat) (v1 : Nat) : Option Mem :=
  (ng M v0).bind fun _ =>
  (mk M 1005 (4 : Int32)).bind fun M3 =>
  (pr M3 v0 900 (m_nx M)).bind fun M4 =>
  (mk M4 1006 (30000 : Int32)).bind fun M5 =>
  (pr M5 v0 903 (m_nx M4)).bind fun M6 =>
  (pr M6 v0 896 v1).bind fun M7 =>
  some M7
noncomputable def F_X15_init (M : Mem) (v0 : Nat) (v1 : Int32) : Option Mem :=
  (ng M v0).bind fun _ =>
  (mk M 1002 v1).bind fun M3 =>
  (pr M3 v0 1024 (m_nx M)).bind fun M4 =>
  some M4
noncomputable def F_X14_init (M : Mem) (v0 : Nat) : Option Mem :=
  (ng M v0).bind fun _ =>
  let t4 : Nat := m_nx M
  let M3 : Mem := mo M 16
  (ng M3 t4).bind fun _ =>
  (F_X15_init M3 t4 (60000 : Int32)).bind fun z6 =>
  (pr z6 v0 960 t4).bind fun M7 =>
  let t9 : Nat := m_nx M7
  let M8 : Mem := mo M7 16
  (ng M8 t9).bind fun _ =>
  (F_X15_init M8 t9 (60000 : Int32)).bind fun z11 =>
  (pr z11 v0 961 t9).bind fun M12 =>
  some M12
noncomputable def F_X0_init (M : Mem) (v0 : Nat) : Option Mem :=
  (ng M v0).bind fun _ =>
  (mk M 1002 (16000 : Int32)).bind fun M3 =>
  (pr M3 v0 64 (m_nx M)).bind fun M4 =>
  let t6 : Nat := m_nx M4
  let M5 : Mem := mo M4 2
  (ng M5 t6).bind fun _ =>
  (F_X1_init M5 t6).bind fun z8 =>
  (pr z8 v0 67 t6).bind fun M9 =>
  let t11 : Nat := m_nx M9
  let M10 : Mem := mo M9 3
  (ng M10 t11).bind fun _ =>
  (F_X2_init M10 t11).bind fun z13 =>
  (pr z13 v0 68 t11).bind fun M14 =>
  let t16 : Nat := m_nx M14
  let M15 : Mem := mo M14 4
  (gr M15 v0 67).bind fun t17 =>
  (ng M15 t16).bind fun _ =>
  (F_X3_init M15 t16 t17).bind fun z19 =>
  (pr z19 v0 69 t16).bind fun M20 =>
  let t22 : Nat := m_nx M20
  let M21 : Mem := mo M20 5
  (ng M21 t22).bind fun _ =>
  (F_X4_init M21 t22).bind fun z24 =>
  (pr z24 v0 70 t22).bind fun M25 =>
  let t27 : Nat := m_nx M25
  let M26 : Mem := mo M25 6
  (gr M26 v0 67).bind fun t28 =>
  (ng M26 t27).bind fun _ =>
  (F_X5_init M26 t27 t28).bind fun z30 =>
  (pr z30 v0 72 t27).bind fun M31 =>
  let t33 : Nat := m_nx M31
  let M32 : Mem := mo M31 7
  (gr M32 v0 70).bind fun t34 =>
  (gr M32 v0 67).bind fun t35 =>
  (ng M32 t33).bind fun _ =>
  (F_X6_init M32 t33 t34 t35).bind fun z37 =>
  (pr z37 v0 73 t33).bind fun M38 =>
  let t40 : Nat := m_nx M38
  let M39 : Mem := mo M38 8
  (ng M39 t40).bind fun _ =>
  (F_X7_init M39 t40).bind fun z42 =>
  (pr z42 v0 74 t40).bind fun M43 =>
  let t45 : Nat := m_nx M43
  let M44 : Mem := mo M43 9
  (ng M44 t45).bind fun _ =>
  (F_X8_init M44 t45).bind fun z47 =>
  (pr z47 v0 75 t45).bind fun M48 =>
  let t50 : Nat := m_nx M48
  let M49 : Mem := mo M48 11
  (ng M49 t50).bind fun _ =>
  (F_X10_init M49 t50).bind fun z52 =>
  (pr z52 v0 76 t50).bind fun M53 =>
  let t55 : Nat := m_nx M53
  let M54 : Mem := mo M53 12
  (gr M54 v0 67).bind fun t56 =>
  (ng M54 t55).bind fun _ =>
  (F_X11_init M54 t55 t56).bind fun z58 =>
  (pr z58 v0 77 t55).bind fun M59 =>
  let t61 : Nat := m_nx M59
  let M60 : Mem := mo M59 14
  (gr M60 v0 67).bind fun t62 =>
  (ng M60 t61).bind fun _ =>
  (F_X13_init M60 t61 t62).bind fun z64 =>
  (pr z64 v0 78 t61).bind fun M65 =>
  let t67 : Nat := m_nx M65
  let M66 : Mem := mo M65 15
  (ng M66 t67).bind fun _ =>
  (F_X14_init M66 t67).bind fun z69 =>
  (pr z69 v0 79 t67).bind fun M70 =>
  (mk M70 1011 (8 : Int32)).bind fun M71 =>
  (pr M71 v0 80 (m_nx M70)).bind fun M72 =>
  (mk M72 1006 (100000 : Int32)).bind fun M73 =>
  (pr M73 v0 81 (m_nx M72)).bind fun M74 =>
  (mk M74 1006 (100000 : Int32)).bind fun M75 =>
  (pr M75 v0 82 (m_nx M74)).bind fun M76 =>
  (mk M76 1001 (100000 : Int32)).bind fun M77 =>
  (pr M77 v0 83 (m_nx M76)).bind fun M78 =>
  (mk M78 1005 (4 : Int32)).bind fun M79 =>
  (pr M79 v0 84 (m_nx M78)).bind fun M80 =>
  (mk M80 1005 (4 : Int32)).bind fun M81 =>
  (pr M81 v0 86 (m_nx M80)).bind fun M82 =>
  (mk M82 1005 (4 : Int32)).bind fun M83 =>
  (pr M83 v0 88 (m_nx M82)).bind fun M84 =>
  (mk M84 1005 (4 : Int32)).bind fun M85 =>
  (pr M85 v0 90 (m_nx M84)).bind fun M86 =>
  let t88 : Nat := m_nx M86
  let M87 : Mem := mo M86 16
  (ng M87 t88).bind fun _ =>
  (F_X15_init M87 t88 (30000 : Int32)).bind fun z90 =>
  (pr z90 v0 92 t88).bind fun M91 =>
  let t93 : Nat := m_nx M91
  let M92 : Mem := mo M91 16
  (ng M92 t93).bind fun _ =>
  (F_X15_init M92 t93 (30000 : Int32)).bind fun z95 =>
  (pr z95 v0 93 t93).bind fun M96 =>
  (pi M96 v0 95 (-1 : Int32)).bind fun M97 =>
  (pi M97 v0 91 (0 : Int32)).bind fun M98 =>
  some M98
noncomputable def F_X0_four_b3_st (k3 : Mem → Nat → Int32 → Int32 → Option Mem) (M : Mem) (v0 : Nat) (v1 : Int32) (v2 : Int32) : Option Mem :=
  if v2 < 0 then
    some M
  else
    (gr M v0 64).bind fun t1 =>
    (gi M v0 65).bind fun t2 =>
    (sb M t1 t2 (j_i2b (j_ishr v1 v2))).bind fun M3 =>
    (gi M3 v0 65).bind fun t4 =>
    (pi M3 v0 65 (t4 + (1 : Int32))).bind fun M5 =>
    let v2_6 : Int32 := v2 + (-8 : Int32)
    k3 M5 v0 v1 v2_6
noncomputable def F_X0_four_b3  (n : Nat) : Mem → Nat → Int32 → Int32 → Option Mem :=
  Nat.rec (motive := fun _ => Mem → Nat → Int32 → Int32 → Option Mem) (fun _ _ _ _ => none) (fun _ ih => F_X0_four_b3_st ih) n
noncomputable def F_X0_four (M : Mem) (v0 : Nat) (v1 : Int32) : Option Mem :=
  F_X0_four_b3  xN M v0 v1 (24 : Int32)
noncomputable def F_X0_feed_b25  (M : Mem) : Option (Int32 × Mem) :=
  some ((-1 : Int32), M)
noncomputable def F_X0_feed (M : Mem) (v0 : Nat) (v1 : Int32) (v2 : Int32) (v3 : Int32) (v4 : Int32) (v5 : Int32) : Option (Int32 × Mem) :=
  (gi M v0 65).bind fun t1 =>
  if (16000 : Int32) < (t1 + (20 : Int32)) then
    F_X0_feed_b25  M
  else
    (gi M v0 66).bind fun t2 =>
    if (65536 : Int32) < (t2 + (20 : Int32)) then
      F_X0_feed_b25  M
    else
      (vg M v0 1).bind fun _ =>
      (F_X0_four M v0 v1).bind fun z4 =>
      (vg z4 v0 1).bind fun _ =>
      (F_X0_four z4 v0 v2).bind fun z6 =>
      (vg z6 v0 1).bind fun _ =>
      (F_X0_four z6 v0 v3).bind fun z8 =>
      (vg z8 v0 1).bind fun _ =>
      (F_X0_four z8 v0 v4).bind fun z10 =>
      (vg z10 v0 1).bind fun _ =>
      (F_X0_four z10 v0 v5).bind fun z12 =>
      (gi z12 v0 66).bind fun t13 =>
      (pi z12 v0 66 (t13 + (20 : Int32))).bind fun M14 =>
      (gi M14 v0 65).bind fun t15 =>
      some (t15, M14)
noncomputable def F_X0_end_b12  (M : Mem) : Option (Int32 × Mem) :=
  some ((-1 : Int32), M)
noncomputable def F_X0_end (M : Mem) (v0 : Nat) (v1 : Int32) : Option (Int32 × Mem) :=
  if v1 < 0 then
    F_X0_end_b12  M
  else
    (gi M v0 65).bind fun t1 =>
    if t1 < v1 then
      F_X0_end_b12  M
    else
      (pi M v0 65 v1).bind fun M2 =>
      some (v1, M2)
noncomputable def F_X0_axis_b19  (M : Mem) : Option (Int32 × Mem) :=
  some ((-1 : Int32), M)
noncomputable def F_X0_axis (M : Mem) (v0 : Nat) (v1 : Int32) : Option (Int32 × Mem) :=
  if v1 < 0 then
    F_X0_axis_b19  M
  else
    if (4096 : Int32) < v1 then
      F_X0_axis_b19  M
    else
      (gi M v0 85).bind fun t1 =>
      if t1 = (4 : Int32) then
        F_X0_axis_b19  M
      else
        (gr M v0 84).bind fun t2 =>
        (gi M v0 85).bind fun t3 =>
        (si M t2 t3 v1).bind fun M4 =>
        (gi M4 v0 85).bind fun t5 =>
        (pi M4 v0 85 (t5 + (1 : Int32))).bind fun M6 =>
        (gi M6 v0 85).bind fun t7 =>
        some (t7, M6)
noncomputable def F_X0_at (M : Mem) (v0 : Nat) (v1 : Int32) : Option (Int32 × Mem) :=
  (gi M v0 87).bind fun t1 =>
  if t1 = (4 : Int32) then
    some ((-1 : Int32), M)
  else
    (gr M v0 86).bind fun t2 =>
    (gi M v0 87).bind fun t3 =>
    (si M t2 t3 v1).bind fun M4 =>
    (gi M4 v0 87).bind fun t5 =>
    (pi M4 v0 87 (t5 + (1 : Int32))).bind fun M6 =>
    (gi M6 v0 87).bind fun t7 =>
    some (t7, M6)
noncomputable def F_X0_usedSizes (M : Mem) (v0 : Nat) : Option (Int32 × Mem) :=
  (gi M v0 85).bind fun t1 =>
  (pi M v0 85 (0 : Int32)).bind fun M2 =>
  some (t1, M2)
noncomputable def F_X20_isLane_b15  (s0 : Int32) : Option Int32 :=
  some (s0 &&& 1)
noncomputable def F_X20_isLane_b14   : Option Int32 :=
  F_X20_isLane_b15  (0 : Int32)
noncomputable def F_X20_isLane (v0 : Int32) : Option Int32 :=
  if v0 < 0 then
    F_X20_isLane_b14  
  else
    if (7 : Int32) < v0 then
      F_X20_isLane_b14  
    else
      F_X20_isLane_b15  (1 : Int32)
noncomputable def F_X0_shapeOf_b7_st (k7 : Mem → Nat → Nat → Int32 → Int32 → Option Mem) (M : Mem) (v0 : Nat) (v1 : Nat) (v2 : Int32) (v3 : Int32) : Option Mem :=
  if v3 < v2 then
    (gr M v0 88).bind fun t1 =>
    (ai M v1 v3).bind fun t2 =>
    (si M t1 v3 t2).bind fun M3 =>
    let v3_4 : Int32 := v3 + (1 : Int32)
    k7 M3 v0 v1 v2 v3_4
  else
    some M
noncomputable def F_X0_shapeOf_b7  (n : Nat) : Mem → Nat → Nat → Int32 → Int32 → Option Mem :=
  Nat.rec (motive := fun _ => Mem → Nat → Nat → Int32 → Int32 → Option Mem) (fun _ _ _ _ _ => none) (fun _ ih => F_X0_shapeOf_b7_st ih) n
noncomputable def F_X0_shapeOf (M : Mem) (v0 : Nat) (v1 : Nat) (v2 : Int32) : Option Mem :=
  (pi M v0 89 v2).bind fun M5 =>
  F_X0_shapeOf_b7  xN M5 v0 v1 v2 (0 : Int32)
noncomputable def F_X2_count_b80  (M : Mem) (s0 : Int32) : Option Int32 :=
  some s0
noncomputable def F_X2_count_b31 (k8 : Mem → Nat → Int32 → Int64 → Int32 → Int32 → Option Int32) (M : Mem) (s0 : Int32) (v0 : Nat) (v1 : Int32) (v2 : Int64) (v5 : Int32) : Option Int32 :=
  (ai M v0 v5).bind fun t1 =>
  (F_J7_max t1 (1 : Int32)).bind fun z2 =>
  (F_J7_min (v2 * z2.toInt64) (100001 : Int64)).bind fun z3 =>
  let v5_4 : Int32 := v5 + (1 : Int32)
  k8 M v0 v1 z3 s0 v5_4
noncomputable def F_X2_count_b26 (k8 : Mem → Nat → Int32 → Int64 → Int32 → Int32 → Option Int32) (M : Mem) (v0 : Nat) (v1 : Int32) (v2 : Int64) (v5 : Int32) : Option Int32 :=
  F_X2_count_b31 k8 M (1 : Int32) v0 v1 v2 v5
noncomputable def F_X2_count_b8_st (k8 : Mem → Nat → Int32 → Int64 → Int32 → Int32 → Option Int32) (M : Mem) (v0 : Nat) (v1 : Int32) (v2 : Int64) (v4 : Int32) (v5 : Int32) : Option Int32 :=
  if v5 < v1 then
    if v4 = 0 then
      (ai M v0 v5).bind fun t5 =>
      if t5 = 0 then
        F_X2_count_b26 k8 M v0 v1 v2 v5
      else
        F_X2_count_b31 k8 M (0 : Int32) v0 v1 v2 v5
    else
      F_X2_count_b26 k8 M v0 v1 v2 v5
  else
    if v4 = 0 then
      if (100000 : Int64) < v2 then
        F_X2_count_b80  M (-1 : Int32)
      else
        F_X2_count_b80  M (v2.toInt32)
    else
      F_X2_count_b80  M (0 : Int32)
noncomputable def F_X2_count_b8  (n : Nat) : Mem → Nat → Int32 → Int64 → Int32 → Int32 → Option Int32 :=
  Nat.rec (motive := fun _ => Mem → Nat → Int32 → Int64 → Int32 → Int32 → Option Int32) (fun _ _ _ _ _ _ => none) (fun _ ih => F_X2_count_b8_st ih) n
noncomputable def F_X2_count (M : Mem) (v0 : Nat) (v1 : Int32) : Option Int32 :=
  F_X2_count_b8  xN M v0 v1 (1 : Int64) (0 : Int32) (0 : Int32)
noncomputable def F_X2_hasRoom_b32  (M : Mem) (s0 : Int32) : Option Int32 :=
  some (s0 &&& 1)
noncomputable def F_X2_hasRoom_b31  (M : Mem) : Option Int32 :=
  F_X2_hasRoom_b32  M (0 : Int32)
noncomputable def F_X2_hasRoom (M : Mem) (v0 : Nat) (v1 : Int32) (v2 : Int32) : Option Int32 :=
  if v2 < 0 then
    F_X2_hasRoom_b31  M
  else
    (gi M v0 193).bind fun t1 =>
    if (400 : Int32) < (t1 + v1) then
      F_X2_hasRoom_b31  M
    else
      (gi M v0 194).bind fun t2 =>
      if (100000 : Int32) < (t2 + v2) then
        F_X2_hasRoom_b31  M
      else
        F_X2_hasRoom_b32  M (1 : Int32)
noncomputable def F_X21_init (M : Mem) (v0 : Nat) (v1 : Int32) (v2 : Int32) (v3 : Nat) (v4 : Nat) (v5 : Int32) (v6 : Nat) (v7 : Int32) : Option Mem :=
  (ng M v0).bind fun _ =>
  (pi M v0 1408 v1).bind fun M3 =>
  (pi M3 v0 1409 v2).bind fun M4 =>
  (pr M4 v0 1410 v3).bind fun M5 =>
  (pr M5 v0 1411 v4).bind fun M6 =>
  (pi M6 v0 1412 v5).bind fun M7 =>
  (pr M7 v0 1413 v6).bind fun M8 =>
  (pi M8 v0 1414 v7).bind fun M9 =>
  some M9
noncomputable def F_X2_add (M : Mem) (v0 : Nat) (v1 : Nat) : Option (Int32 × Mem) :=
  (gi M v0 193).bind fun t1 =>
  (pi M v0 193 (t1 + (1 : Int32))).bind fun M2 =>
  (gr M2 v0 192).bind fun t3 =>
  (gi M2 v0 193).bind fun t4 =>
  (sr M2 t3 t4 v1).bind fun M5 =>
  (gi M5 v0 193).bind fun t6 =>
  some (t6, M5)
noncomputable def F_X2_make_b102  (M : Mem) (v0 : Nat) (v1 : Int32) (v3 : Int32) (v5 : Int32) (v6 : Nat) (v7 : Nat) (v9 : Nat) : Option (Int32 × Mem) :=
  (gi M v0 194).bind fun t1 =>
  (pi M v0 194 (t1 + v5)).bind fun M2 =>
  let t4 : Nat := m_nx M2
  let M3 : Mem := mo M2 22
  (ng M3 t4).bind fun _ =>
  (F_X21_init M3 t4 v1 v3 v6 v7 (0 : Int32) v9 (0 : Int32)).bind fun z6 =>
  (vg z6 v0 3).bind fun _ =>
  (F_X2_add z6 v0 t4).bind fun z8 =>
  some (z8.1, z8.2)
noncomputable def F_X2_make_b74_st (k74 : Mem → Nat → Int32 → Int32 → Nat → Int32 → Nat → Nat → Nat → Int32 → Option (Int32 × Mem)) (M : Mem) (v0 : Nat) (v1 : Int32) (v3 : Int32) (v4 : Nat) (v5 : Int32) (v6 : Nat) (v7 : Nat) (v9 : Nat) (v10 : Int32) : Option (Int32 × Mem) :=
  if v10 < v5 then
    if v4 = 6 then
      none
    else
      if v4 = 0 then
        F_X2_make_b102  M v0 v1 v3 v5 v6 v7 v9
      else
        (al M v4 v10).bind fun t9 =>
        (sj M v9 v10 t9).bind fun M10 =>
        let v10_11 : Int32 := v10 + (1 : Int32)
        k74 M10 v0 v1 v3 v4 v5 v6 v7 v9 v10_11
  else
    F_X2_make_b102  M v0 v1 v3 v5 v6 v7 v9
noncomputable def F_X2_make_b74  (n : Nat) : Mem → Nat → Int32 → Int32 → Nat → Int32 → Nat → Nat → Nat → Int32 → Option (Int32 × Mem) :=
  Nat.rec (motive := fun _ => Mem → Nat → Int32 → Int32 → Nat → Int32 → Nat → Nat → Nat → Int32 → Option (Int32 × Mem)) (fun _ _ _ _ _ _ _ _ _ _ => none) (fun _ ih => F_X2_make_b74_st ih) n
noncomputable def F_X2_make_b25_st (k25 : Mem → Nat → Int32 → Nat → Int32 → Nat → Int32 → Nat → Nat → Int32 → Int32 → Option (Int32 × Mem)) (M : Mem) (v0 : Nat) (v1 : Int32) (v2 : Nat) (v3 : Int32) (v4 : Nat) (v5 : Int32) (v6 : Nat) (v7 : Nat) (v8 : Int32) (v9 : Int32) : Option (Int32 × Mem) :=
  if v9 < 0 then
    (mk M 1006 v5).bind fun M12 =>
    let v9_13 : Nat := (m_nx M)
    F_X2_make_b74  xN M12 v0 v1 v3 v4 v5 v6 v7 v9_13 (0 : Int32)
  else
    (ai M v2 v9).bind fun t14 =>
    (si M v6 v9 t14).bind fun M15 =>
    (si M15 v7 v9 v8).bind fun M16 =>
    (ai M16 v2 v9).bind fun t17 =>
    (F_J7_max t17 (1 : Int32)).bind fun z18 =>
    let v8_19 : Int32 := (v8 * z18)
    let v9_20 : Int32 := v9 + (-1 : Int32)
    k25 M16 v0 v1 v2 v3 v4 v5 v6 v7 v8_19 v9_20
noncomputable def F_X2_make_b25  (n : Nat) : Mem → Nat → Int32 → Nat → Int32 → Nat → Int32 → Nat → Nat → Int32 → Int32 → Option (Int32 × Mem) :=
  Nat.rec (motive := fun _ => Mem → Nat → Int32 → Nat → Int32 → Nat → Int32 → Nat → Nat → Int32 → Int32 → Option (Int32 × Mem)) (fun _ _ _ _ _ _ _ _ _ _ _ => none) (fun _ ih => F_X2_make_b25_st ih) n
noncomputable def F_X2_make (M : Mem) (v0 : Nat) (v1 : Int32) (v2 : Nat) (v3 : Int32) (v4 : Nat) : Option (Int32 × Mem) :=
  (F_X2_count M v2 v3).bind fun z21 =>
  (mk M 1005 v3).bind fun M22 =>
  let v6_23 : Nat := (m_nx M)
  (mk M22 1005 v3).bind fun M24 =>
  let v7_25 : Nat := (m_nx M22)
  let v9_26 : Int32 := (v3 - (1 : Int32))
  F_X2_make_b25  xN M24 v0 v1 v2 v3 v4 z21 v6_23 v7_25 (1 : Int32) v9_26
noncomputable def F_X0_made (M : Mem) (v0 : Nat) (v1 : Int32) (v2 : Nat) : Option (Int32 × Mem) :=
  (gr M v0 68).bind fun t1 =>
  (gr M v0 88).bind fun t2 =>
  (gi M v0 89).bind fun t3 =>
  (F_X2_count M t2 t3).bind fun z4 =>
  (vg M t1 3).bind fun _ =>
  (F_X2_hasRoom M t1 (1 : Int32) z4).bind fun z6 =>
  if z6 = 0 then
    some ((-12 : Int32), M)
  else
    (gr M v0 68).bind fun t7 =>
    (gr M v0 88).bind fun t8 =>
    (gi M v0 89).bind fun t9 =>
    (vg M t7 3).bind fun _ =>
    (F_X2_make M t7 v1 t8 t9 v2).bind fun z11 =>
    some (z11.1, z11.2)
noncomputable def F_X0_grid (M : Mem) (v0 : Nat) (v1 : Int32) : Option (Int32 × Mem) :=
  (vg M v0 1).bind fun _ =>
  (F_X0_usedSizes M v0).bind fun z2 =>
  (gi z2.2 v0 97).bind fun t3 =>
  if t3 = 0 then
    (F_X20_isLane v1).bind fun z4 =>
    if z4 = 0 then
      some ((-14 : Int32), z2.2)
    else
      (gr z2.2 v0 84).bind fun t5 =>
      (vg z2.2 v0 1).bind fun _ =>
      (F_X0_shapeOf z2.2 v0 t5 z2.1).bind fun z7 =>
      (vg z7 v0 1).bind fun _ =>
      (F_X0_made z7 v0 v1 0).bind fun z9 =>
      some (z9.1, z9.2)
  else
    some ((-13 : Int32), z2.2)
noncomputable def F_X2_find_b23  (M : Mem) (s0 : Nat) : Option Nat :=
  some s0
noncomputable def F_X2_find_b22  (M : Mem) : Option Nat :=
  F_X2_find_b23  M 0
noncomputable def F_X2_find (M : Mem) (v0 : Nat) (v1 : Int32) : Option Nat :=
  if v1 < (1 : Int32) then
    F_X2_find_b22  M
  else
    (gi M v0 193).bind fun t1 =>
    if t1 < v1 then
      F_X2_find_b22  M
    else
      (gr M v0 192).bind fun t2 =>
      (ar M t2 v1).bind fun t3 =>
      F_X2_find_b23  M t3
noncomputable def F_X0_find_b19  (M : Mem) (s0 : Nat) : Option Nat :=
  some s0
noncomputable def F_X0_find (M : Mem) (v0 : Nat) (v1 : Int32) : Option Nat :=
  (gi M v0 97).bind fun t1 =>
  if t1 = 0 then
    (gr M v0 68).bind fun t2 =>
    (vg M t2 3).bind fun _ =>
    (F_X2_find M t2 v1).bind fun z4 =>
    F_X0_find_b19  M z4
  else
    F_X0_find_b19  M 0
noncomputable def F_X0_gone_b14  (M : Mem) (s0 : Int32) : Option Int32 :=
  some s0
noncomputable def F_X0_gone (M : Mem) (v0 : Nat) : Option Int32 :=
  (gi M v0 97).bind fun t1 =>
  if t1 = 0 then
    F_X0_gone_b14  M (14 : Int32)
  else
    F_X0_gone_b14  M (13 : Int32)
noncomputable def F_X23_isBits_b172   : Option Int32 :=
  some (1 : Int32)
noncomputable def F_X23_isBits_b65  (s0 : Int32) : Option Int32 :=
  some (s0 &&& 1)
noncomputable def F_X23_isBits_b60   : Option Int32 :=
  F_X23_isBits_b65  (1 : Int32)
noncomputable def F_X23_isBits_b80  (s0 : Int32) : Option Int32 :=
  some (s0 &&& 1)
noncomputable def F_X23_isBits_b95  (s0 : Int32) : Option Int32 :=
  some (s0 &&& 1)
noncomputable def F_X23_isBits_b111  (s0 : Int32) : Option Int32 :=
  some (s0 &&& 1)
noncomputable def F_X23_isBits_b125  (s0 : Int32) : Option Int32 :=
  some (s0 &&& 1)
noncomputable def F_X23_isBits_b153  (s0 : Int32) : Option Int32 :=
  some (s0 &&& 1)
noncomputable def F_X23_isBits_b152   : Option Int32 :=
  F_X23_isBits_b153  (0 : Int32)
noncomputable def F_X23_isBits_b171  (s0 : Int32) : Option Int32 :=
  some (s0 &&& 1)
noncomputable def F_X23_isBits (v0 : Int32) (v1 : Int64) : Option Int32 :=
  if v0 = (0 : Int32) then
    if v1 = (0 : Int64) then
      F_X23_isBits_b60  
    else
      if v1 = (1 : Int64) then
        F_X23_isBits_b60  
      else
        F_X23_isBits_b65  (0 : Int32)
  else
    if v0 = (1 : Int32) then
      if v1 = (j_i2b (v1.toInt32)).toInt64 then
        F_X23_isBits_b80  (1 : Int32)
      else
        F_X23_isBits_b80  (0 : Int32)
    else
      if v0 = (2 : Int32) then
        if v1 = (j_i2s (v1.toInt32)).toInt64 then
          F_X23_isBits_b95  (1 : Int32)
        else
          F_X23_isBits_b95  (0 : Int32)
      else
        if v0 = (3 : Int32) then
          if v1 = (v1 &&& (65535 : Int64)) then
            F_X23_isBits_b111  (1 : Int32)
          else
            F_X23_isBits_b111  (0 : Int32)
        else
          if v0 = (4 : Int32) then
            if v1 = (v1.toInt32).toInt64 then
              F_X23_isBits_b125  (1 : Int32)
            else
              F_X23_isBits_b125  (0 : Int32)
          else
            if v0 = (5 : Int32) then
              F_X23_isBits_b172  
            else
              if v0 = (6 : Int32) then
                if v1 = (v1 &&& (4294967295 : Int64)) then
                  if (2139095040 : Int64) < (v1 &&& (2147483647 : Int64)) then
                    F_X23_isBits_b152  
                  else
                    F_X23_isBits_b153  (1 : Int32)
                else
                  F_X23_isBits_b152  
              else
                if v0 = (7 : Int32) then
                  if (9218868437227405312 : Int64) < (v1 &&& (9223372036854775807 : Int64)) then
                    F_X23_isBits_b171  (0 : Int32)
                  else
                    F_X23_isBits_b171  (1 : Int32)
                else
                  F_X23_isBits_b172  
noncomputable def F_X20_fits_b40  (s0 : Int32) : Option Int32 :=
  some (s0 &&& 1)
noncomputable def F_X20_fits_b39   : Option Int32 :=
  F_X20_fits_b40  (0 : Int32)
noncomputable def F_X20_fits_b35   : Option Int32 :=
  F_X20_fits_b40  (1 : Int32)
noncomputable def F_X20_fits (v0 : Int32) (v1 : Int32) : Option Int32 :=
  if v0 = v1 then
    some (1 : Int32)
  else
    if v0 = 0 then
      F_X20_fits_b39  
    else
      if v1 = 0 then
        F_X20_fits_b39  
      else
        if v1 = (3 : Int32) then
          F_X20_fits_b39  
        else
          if v0 < v1 then
            if v0 = (3 : Int32) then
              if v1 < (4 : Int32) then
                F_X20_fits_b39  
              else
                F_X20_fits_b35  
            else
              F_X20_fits_b35  
          else
            F_X20_fits_b39  
noncomputable def F_X0_spotOf_b51  (M : Mem) : Option Int32 :=
  some (-2 : Int32)
noncomputable def F_X0_spotOf_b18_st (k18 : Mem → Nat → Nat → Int32 → Int32 → Int32 → Option Int32) (M : Mem) (v0 : Nat) (v1 : Nat) (v2 : Int32) (v3 : Int32) (v4 : Int32) : Option Int32 :=
  if v4 < v2 then
    (gr M v0 86).bind fun t1 =>
    (ai M t1 v4).bind fun t2 =>
    if t2 < 0 then
      F_X0_spotOf_b51  M
    else
      (gr M v0 86).bind fun t3 =>
      (ai M t3 v4).bind fun t4 =>
      (gr M v1 1410).bind fun t5 =>
      (ai M t5 v4).bind fun t6 =>
      if t4 < t6 then
        (gr M v0 86).bind fun t7 =>
        (ai M t7 v4).bind fun t8 =>
        (gr M v1 1411).bind fun t9 =>
        (ai M t9 v4).bind fun t10 =>
        let v3_11 : Int32 := (v3 + (t8 * t10))
        let v4_12 : Int32 := v4 + (1 : Int32)
        k18 M v0 v1 v2 v3_11 v4_12
      else
        F_X0_spotOf_b51  M
  else
    some v3
noncomputable def F_X0_spotOf_b18  (n : Nat) : Mem → Nat → Nat → Int32 → Int32 → Int32 → Option Int32 :=
  Nat.rec (motive := fun _ => Mem → Nat → Nat → Int32 → Int32 → Int32 → Option Int32) (fun _ _ _ _ _ _ => none) (fun _ ih => F_X0_spotOf_b18_st ih) n
noncomputable def F_X0_spotOf (M : Mem) (v0 : Nat) (v1 : Nat) (v2 : Int32) : Option Int32 :=
  (gi M v1 1409).bind fun t13 =>
  if v2 = t13 then
    (gi M v1 1412).bind fun t14 =>
    F_X0_spotOf_b18  xN M v0 v1 v2 t14 (0 : Int32)
  else
    some (-1 : Int32)
noncomputable def F_X23_real_b28  (s0 : UInt64) : Option UInt64 :=
  some s0
noncomputable def F_X23_real (v0 : Int32) (v1 : Int64) : Option UInt64 :=
  if v0 = (6 : Int32) then
    (ni2f (v1.toInt32)).bind fun t1 =>
    let t2 : UInt64 := FP.f2d t1
    if x_n64 t2 = true then
      some t2
    else none
  else
    if v0 = (7 : Int32) then
      (nl2d v1).bind fun t3 =>
      F_X23_real_b28  t3
    else
      F_X23_real_b28  (FP.l2d v1)
noncomputable def F_X23_bits_b23  (s0 : Int64) : Option Int64 :=
  some s0
noncomputable def F_X23_bits (v0 : Int32) (v1 : UInt64) : Option Int64 :=
  if v0 = (6 : Int32) then
    let t1 : UInt32 := FP.d2f v1
    if x_n32 t1 = true then
      (nf2i t1).bind fun t2 =>
      F_X23_bits_b23  (t2.toInt64 &&& (4294967295 : Int64))
    else none
  else
    (nd2l v1).bind fun t3 =>
    F_X23_bits_b23  t3
noncomputable def F_X23_cut (v0 : Int32) (v1 : Int64) : Option Int64 :=
  if v0 = (1 : Int32) then
    some ((j_i2b (v1.toInt32)).toInt64)
  else
    if v0 = (2 : Int32) then
      some ((j_i2s (v1.toInt32)).toInt64)
    else
      if v0 = (3 : Int32) then
        some (v1 &&& (65535 : Int64))
      else
        if v0 = (4 : Int32) then
          some ((v1.toInt32).toInt64)
        else
          some v1
noncomputable def F_X23_convert_b42  (v0 : Int32) (v1 : Int32) (v2 : Int64) : Option Int64 :=
  (F_X23_real v0 v2).bind fun z1 =>
  (F_X23_bits v1 z1).bind fun z2 =>
  some z2
noncomputable def F_X23_convert_b90  (s0 : Int64) : Option Int64 :=
  some s0
noncomputable def F_X23_convert_b30  (v0 : Int32) (v1 : Int32) (v2 : Int64) : Option Int64 :=
  if v1 = (6 : Int32) then
    F_X23_convert_b42  v0 v1 v2
  else
    if v1 = (7 : Int32) then
      F_X23_convert_b42  v0 v1 v2
    else
      if v0 < (6 : Int32) then
        (F_X23_cut v1 v2).bind fun z3 =>
        some z3
      else
        (F_X23_real v0 v2).bind fun z4 =>
        if v1 = (5 : Int32) then
          F_X23_convert_b90  (FP.d2l z4)
        else
          (F_X23_cut v1 ((FP.d2i z4).toInt64)).bind fun z5 =>
          F_X23_convert_b90  z5
noncomputable def F_X23_convert (v0 : Int32) (v1 : Int32) (v2 : Int64) : Option Int64 :=
  if v0 = v1 then
    some v2
  else
    if v1 = (6 : Int32) then
      if v0 < (6 : Int32) then
        (nf2i (FP.l2f v2)).bind fun t6 =>
        some (t6.toInt64 &&& (4294967295 : Int64))
      else
        F_X23_convert_b30  v0 v1 v2
    else
      F_X23_convert_b30  v0 v1 v2
noncomputable def F_X0_put_b69  (M : Mem) : Option (Int32 × Mem) :=
  some ((-1 : Int32), M)
noncomputable def F_X0_put (M : Mem) (v0 : Nat) (v1 : Int32) (v2 : Int32) (v3 : Int64) : Option (Int32 × Mem) :=
  (gi M v0 87).bind fun t1 =>
  (pi M v0 87 (0 : Int32)).bind fun M2 =>
  (vg M2 v0 1).bind fun _ =>
  (F_X0_find M2 v0 v1).bind fun z4 =>
  if z4 = 6 then
    none
  else
    if z4 = 0 then
      (vg M2 v0 1).bind fun _ =>
      (F_X0_gone M2 v0).bind fun z6 =>
      some ((-z6), M2)
    else
      (F_X20_isLane v2).bind fun z7 =>
      if z7 = 0 then
        some ((-14 : Int32), M2)
      else
        (gi M2 z4 1409).bind fun t8 =>
        if t1 = t8 then
          (F_X23_isBits v2 v3).bind fun z9 =>
          if z9 = 0 then
            F_X0_put_b69  M2
          else
            (gi M2 z4 1408).bind fun t10 =>
            (F_X20_fits v2 t10).bind fun z11 =>
            if z11 = 0 then
              F_X0_put_b69  M2
            else
              (gi M2 z4 1414).bind fun t12 =>
              if t12 = 0 then
                (vg M2 v0 1).bind fun _ =>
                (F_X0_spotOf M2 v0 z4 t1).bind fun z14 =>
                if z14 < 0 then
                  some (z14, M2)
                else
                  (gr M2 z4 1413).bind fun t15 =>
                  (gi M2 z4 1408).bind fun t16 =>
                  (F_X23_convert v2 t16 v3).bind fun z17 =>
                  (sj M2 t15 z14 z17).bind fun M18 =>
                  some ((0 : Int32), M18)
              else
                some ((-5 : Int32), M2)
        else
          F_X0_put_b69  M2
noncomputable def F_X0_get_b68  (M : Mem) (s0 : Int64) : Option (Int64 × Mem) :=
  some (s0, M)
noncomputable def F_X0_get_b49  (M : Mem) (s0 : Nat) (s1 : Int32) (v3 : Nat) (v4 : Int32) : Option (Int64 × Mem) :=
  (pi M s0 94 s1).bind fun M1 =>
  if v4 < 0 then
    F_X0_get_b68  M1 (0 : Int64)
  else
    (gr M1 v3 1413).bind fun t2 =>
    (al M1 t2 v4).bind fun t3 =>
    F_X0_get_b68  M1 t3
noncomputable def F_X0_get_b34  (M : Mem) (s0 : Int32) (v0 : Nat) (v3 : Nat) : Option (Int64 × Mem) :=
  if s0 < 0 then
    F_X0_get_b49  M v0 (-s0) v3 s0
  else
    F_X0_get_b49  M v0 (0 : Int32) v3 s0
noncomputable def F_X0_get (M : Mem) (v0 : Nat) (v1 : Int32) : Option (Int64 × Mem) :=
  (gi M v0 87).bind fun t4 =>
  (pi M v0 87 (0 : Int32)).bind fun M5 =>
  (vg M5 v0 1).bind fun _ =>
  (F_X0_find M5 v0 v1).bind fun z7 =>
  if z7 = 6 then
    none
  else
    if z7 = 0 then
      (vg M5 v0 1).bind fun _ =>
      (F_X0_gone M5 v0).bind fun z9 =>
      F_X0_get_b34  M5 (-z9) v0 z7
    else
      (vg M5 v0 1).bind fun _ =>
      (F_X0_spotOf M5 v0 z7 t4).bind fun z11 =>
      F_X0_get_b34  M5 z11 v0 z7
noncomputable def F_X21_count_b4_st (k4 : Mem → Nat → Int32 → Int32 → Option Int32) (M : Mem) (v0 : Nat) (v1 : Int32) (v2 : Int32) : Option Int32 :=
  (gi M v0 1409).bind fun t1 =>
  if v2 < t1 then
    (gr M v0 1410).bind fun t2 =>
    (ai M t2 v2).bind fun t3 =>
    let v1_4 : Int32 := (v1 * t3)
    let v2_5 : Int32 := v2 + (1 : Int32)
    k4 M v0 v1_4 v2_5
  else
    some v1
noncomputable def F_X21_count_b4  (n : Nat) : Mem → Nat → Int32 → Int32 → Option Int32 :=
  Nat.rec (motive := fun _ => Mem → Nat → Int32 → Int32 → Option Int32) (fun _ _ _ _ => none) (fun _ ih => F_X21_count_b4_st ih) n
noncomputable def F_X21_count (M : Mem) (v0 : Nat) : Option Int32 :=
  F_X21_count_b4  xN M v0 (1 : Int32) (0 : Int32)
noncomputable def F_X21_place_b15_st (k15 : Mem → Nat → Int32 → Int32 → Int32 → Option Int32) (M : Mem) (v0 : Nat) (v2 : Int32) (v3 : Int32) (v4 : Int32) : Option Int32 :=
  if v4 < 0 then
    some v3
  else
    (gr M v0 1410).bind fun t1 =>
    (ai M t1 v4).bind fun t2 =>
    if t2 = 0 then none else
    (gr M v0 1411).bind fun t3 =>
    (ai M t3 v4).bind fun t4 =>
    let v3_5 : Int32 := (v3 + ((j_irem v2 t2) * t4))
    (gr M v0 1410).bind fun t6 =>
    (ai M t6 v4).bind fun t7 =>
    if t7 = 0 then none else
    let v2_8 : Int32 := (v2 / t7)
    let v4_9 : Int32 := v4 + (-1 : Int32)
    k15 M v0 v2_8 v3_5 v4_9
noncomputable def F_X21_place_b15  (n : Nat) : Mem → Nat → Int32 → Int32 → Int32 → Option Int32 :=
  Nat.rec (motive := fun _ => Mem → Nat → Int32 → Int32 → Int32 → Option Int32) (fun _ _ _ _ _ => none) (fun _ ih => F_X21_place_b15_st ih) n
noncomputable def F_X21_place (M : Mem) (v0 : Nat) (v1 : Int32) : Option Int32 :=
  (gi M v0 1412).bind fun t10 =>
  (gi M v0 1409).bind fun t11 =>
  let v4_12 : Int32 := (t11 - (1 : Int32))
  F_X21_place_b15  xN M v0 v1 t10 v4_12
noncomputable def F_X21_get (M : Mem) (v0 : Nat) (v1 : Int32) : Option Int64 :=
  (gr M v0 1413).bind fun t1 =>
  (vg M v0 22).bind fun _ =>
  (F_X21_place M v0 v1).bind fun z3 =>
  (al M t1 z3).bind fun t4 =>
  some t4
noncomputable def F_X0_cell_b68  (M : Mem) (s0 : Int64) : Option (Int64 × Mem) :=
  some (s0, M)
noncomputable def F_X0_cell_b51  (M : Mem) (s0 : Nat) (s1 : Int32) (v2 : Int32) (v3 : Nat) (v4 : Int32) : Option (Int64 × Mem) :=
  (pi M s0 94 s1).bind fun M1 =>
  if v4 = 0 then
    F_X0_cell_b68  M1 (0 : Int64)
  else
    (vg M1 v3 22).bind fun _ =>
    (F_X21_get M1 v3 v2).bind fun z3 =>
    F_X0_cell_b68  M1 z3
noncomputable def F_X0_cell_b27  (M : Mem) (s0 : Int32) (v0 : Nat) (v2 : Int32) (v3 : Nat) : Option (Int64 × Mem) :=
  if v3 = 6 then
    none
  else
    if v3 = 0 then
      (vg M v0 1).bind fun _ =>
      (F_X0_gone M v0).bind fun z5 =>
      F_X0_cell_b51  M v0 z5 v2 v3 s0
    else
      if s0 = 0 then
        F_X0_cell_b51  M v0 (2 : Int32) v2 v3 s0
      else
        F_X0_cell_b51  M v0 (0 : Int32) v2 v3 s0
noncomputable def F_X0_cell_b26  (M : Mem) (v0 : Nat) (v2 : Int32) (v3 : Nat) : Option (Int64 × Mem) :=
  F_X0_cell_b27  M (0 : Int32) v0 v2 v3
noncomputable def F_X0_cell (M : Mem) (v0 : Nat) (v1 : Int32) (v2 : Int32) : Option (Int64 × Mem) :=
  (vg M v0 1).bind fun _ =>
  (F_X0_find M v0 v1).bind fun z7 =>
  if z7 = 6 then
    none
  else
    if z7 = 0 then
      F_X0_cell_b26  M v0 v2 z7
    else
      if v2 < 0 then
        F_X0_cell_b26  M v0 v2 z7
      else
        (vg M z7 22).bind fun _ =>
        (F_X21_count M z7).bind fun z9 =>
        if v2 < z9 then
          F_X0_cell_b27  M (1 : Int32) v0 v2 z7
        else
          F_X0_cell_b26  M v0 v2 z7
noncomputable def F_X0_code (M : Mem) (v0 : Nat) : Option Int32 :=
  (gi M v0 94).bind fun t1 =>
  some t1
noncomputable def F_X0_lane_b22  (M : Mem) (s0 : Int32) : Option Int32 :=
  some s0
noncomputable def F_X0_lane (M : Mem) (v0 : Nat) (v1 : Int32) : Option Int32 :=
  (vg M v0 1).bind fun _ =>
  (F_X0_find M v0 v1).bind fun z2 =>
  if z2 = 6 then
    none
  else
    if z2 = 0 then
      (vg M v0 1).bind fun _ =>
      (F_X0_gone M v0).bind fun z4 =>
      F_X0_lane_b22  M (-z4)
    else
      (gi M z2 1408).bind fun t5 =>
      F_X0_lane_b22  M t5
noncomputable def F_X0_axes_b22  (M : Mem) (s0 : Int32) : Option Int32 :=
  some s0
noncomputable def F_X0_axes (M : Mem) (v0 : Nat) (v1 : Int32) : Option Int32 :=
  (vg M v0 1).bind fun _ =>
  (F_X0_find M v0 v1).bind fun z2 =>
  if z2 = 6 then
    none
  else
    if z2 = 0 then
      (vg M v0 1).bind fun _ =>
      (F_X0_gone M v0).bind fun z4 =>
      F_X0_axes_b22  M (-z4)
    else
      (gi M z2 1409).bind fun t5 =>
      F_X0_axes_b22  M t5
noncomputable def F_X0_size_b39  (M : Mem) (s0 : Int32) : Option Int32 :=
  some s0
noncomputable def F_X0_size_b37  (M : Mem) : Option Int32 :=
  F_X0_size_b39  M (-2 : Int32)
noncomputable def F_X0_size (M : Mem) (v0 : Nat) (v1 : Int32) (v2 : Int32) : Option Int32 :=
  (vg M v0 1).bind fun _ =>
  (F_X0_find M v0 v1).bind fun z2 =>
  if z2 = 6 then
    none
  else
    if z2 = 0 then
      (vg M v0 1).bind fun _ =>
      (F_X0_gone M v0).bind fun z4 =>
      some (-z4)
    else
      if v2 < 0 then
        F_X0_size_b37  M
      else
        (gi M z2 1409).bind fun t5 =>
        if v2 < t5 then
          (gr M z2 1410).bind fun t6 =>
          (ai M t6 v2).bind fun t7 =>
          F_X0_size_b39  M t7
        else
          F_X0_size_b37  M
noncomputable def F_X0_cells_b22  (M : Mem) (s0 : Int32) : Option Int32 :=
  some s0
noncomputable def F_X0_cells (M : Mem) (v0 : Nat) (v1 : Int32) : Option Int32 :=
  (vg M v0 1).bind fun _ =>
  (F_X0_find M v0 v1).bind fun z2 =>
  if z2 = 6 then
    none
  else
    if z2 = 0 then
      (vg M v0 1).bind fun _ =>
      (F_X0_gone M v0).bind fun z4 =>
      F_X0_cells_b22  M (-z4)
    else
      (vg M z2 22).bind fun _ =>
      (F_X21_count M z2).bind fun z6 =>
      F_X0_cells_b22  M z6
noncomputable def F_X0_used (M : Mem) (v0 : Nat) : Option (Int32 × Mem) :=
  (gi M v0 65).bind fun t1 =>
  (pi M v0 65 (0 : Int32)).bind fun M2 =>
  some (t1, M2)
noncomputable def F_X3_look_b28  (M : Mem) (s0 : Int32) : Option Int32 :=
  some s0
noncomputable def F_X3_look (M : Mem) (v0 : Nat) : Option Int32 :=
  (gi M v0 259).bind fun t1 =>
  (gi M v0 258).bind fun t2 =>
  if t1 < t2 then
    (gr M v0 257).bind fun t3 =>
    (gi M v0 259).bind fun t4 =>
    (ab M t3 t4).bind fun t5 =>
    F_X3_look_b28  M (t5 &&& (255 : Int32))
  else
    F_X3_look_b28  M (-1 : Int32)
noncomputable def F_X3_skip_b0_st (k0 : Mem → Nat → Option Mem) (M : Mem) (v0 : Nat) : Option Mem :=
  (vg M v0 4).bind fun _ =>
  (F_X3_look M v0).bind fun z2 =>
  if z2 = (32 : Int32) then
    (gi M v0 259).bind fun t3 =>
    (pi M v0 259 (t3 + (1 : Int32))).bind fun M4 =>
    k0 M4 v0
  else
    some M
noncomputable def F_X3_skip_b0  (n : Nat) : Mem → Nat → Option Mem :=
  Nat.rec (motive := fun _ => Mem → Nat → Option Mem) (fun _ _ => none) (fun _ ih => F_X3_skip_b0_st ih) n
noncomputable def F_X3_skip (M : Mem) (v0 : Nat) : Option Mem :=
  F_X3_skip_b0  xN M v0
noncomputable def F_X3_axis_b28  (M : Mem) (v0 : Nat) : Option Mem :=
  (gi M v0 262).bind fun t1 =>
  (pi M v0 262 (t1 + (1 : Int32))).bind fun M2 =>
  some M2
noncomputable def F_X3_axis (M : Mem) (v0 : Nat) (v1 : Int32) (v2 : Int32) : Option Mem :=
  (gi M v0 262).bind fun t3 =>
  if t3 < (4 : Int32) then
    (gr M v0 260).bind fun t4 =>
    (gi M v0 262).bind fun t5 =>
    (si M t4 t5 v1).bind fun M6 =>
    (gr M6 v0 261).bind fun t7 =>
    (gi M6 v0 262).bind fun t8 =>
    (si M6 t7 t8 v2).bind fun M9 =>
    F_X3_axis_b28  M9 v0
  else
    F_X3_axis_b28  M v0
noncomputable def F_X3_isDigit_b17  (s0 : Int32) : Option Int32 :=
  some (s0 &&& 1)
noncomputable def F_X3_isDigit_b16   : Option Int32 :=
  F_X3_isDigit_b17  (0 : Int32)
noncomputable def F_X3_isDigit (v0 : Int32) : Option Int32 :=
  if v0 < (48 : Int32) then
    F_X3_isDigit_b16  
  else
    if (57 : Int32) < v0 then
      F_X3_isDigit_b16  
    else
      F_X3_isDigit_b17  (1 : Int32)
noncomputable def F_X3_isNumber_b24  (M : Mem) (s0 : Int32) : Option Int32 :=
  some (s0 &&& 1)
noncomputable def F_X3_isNumber_b19  (M : Mem) : Option Int32 :=
  F_X3_isNumber_b24  M (1 : Int32)
noncomputable def F_X3_isNumber (M : Mem) (v0 : Nat) : Option Int32 :=
  (vg M v0 4).bind fun _ =>
  (F_X3_look M v0).bind fun z2 =>
  if z2 = (45 : Int32) then
    F_X3_isNumber_b19  M
  else
    (vg M v0 4).bind fun _ =>
    (F_X3_look M v0).bind fun z4 =>
    (F_X3_isDigit z4).bind fun z5 =>
    if z5 = 0 then
      F_X3_isNumber_b24  M (0 : Int32)
    else
      F_X3_isNumber_b19  M
noncomputable def F_X1_at (M : Mem) (v0 : Nat) (v1 : Int32) (v2 : Int32) : Option (Nat × Mem) :=
  (pi M v0 129 v1).bind fun M1 =>
  (pi M1 v0 130 v2).bind fun M2 =>
  (gr M2 v0 128).bind fun t3 =>
  some (t3, M2)
noncomputable def F_X3_wrong (M : Mem) (v0 : Nat) (v1 : Int32) : Option (Nat × Mem) :=
  (gr M v0 256).bind fun t1 =>
  (vg M t1 2).bind fun _ =>
  (F_X1_at M t1 (20 : Int32) v1).bind fun z3 =>
  some (z3.1, z3.2)
noncomputable def F_X3_number_b116  (M : Mem) (s0 : Int32) : Option ((Int32 × Mem) ⊕ (Nat × Mem)) :=
  some (.inl (s0, M))
noncomputable def F_X3_number_b52_st (k52 : Mem → Nat → Int32 → Int32 → Int32 → Option ((Int32 × Mem) ⊕ (Nat × Mem))) (M : Mem) (v0 : Nat) (v1 : Int32) (v2 : Int32) (v3 : Int32) : Option ((Int32 × Mem) ⊕ (Nat × Mem)) :=
  (vg M v0 4).bind fun _ =>
  (F_X3_look M v0).bind fun z2 =>
  (F_X3_isDigit z2).bind fun z3 =>
  if z3 = 0 then
    if v1 = 0 then
      F_X3_number_b116  M v2
    else
      F_X3_number_b116  M (-v2)
  else
    if v3 = (9 : Int32) then
      (gi M v0 259).bind fun t4 =>
      (vg M v0 4).bind fun _ =>
      (F_X3_wrong M v0 t4).bind fun z6 =>
      (ie z6.2 z6.1).bind fun _ => some (.inr (z6.1, z6.2))
    else
      (vg M v0 4).bind fun _ =>
      (F_X3_look M v0).bind fun z8 =>
      let v2_9 : Int32 := ((((10 : Int32) * v2) + z8) - (48 : Int32))
      let v3_10 : Int32 := v3 + (1 : Int32)
      (gi M v0 259).bind fun t11 =>
      (pi M v0 259 (t11 + (1 : Int32))).bind fun M12 =>
      k52 M12 v0 v1 v2_9 v3_10
noncomputable def F_X3_number_b52  (n : Nat) : Mem → Nat → Int32 → Int32 → Int32 → Option ((Int32 × Mem) ⊕ (Nat × Mem)) :=
  Nat.rec (motive := fun _ => Mem → Nat → Int32 → Int32 → Int32 → Option ((Int32 × Mem) ⊕ (Nat × Mem))) (fun _ _ _ _ _ => none) (fun _ ih => F_X3_number_b52_st ih) n
noncomputable def F_X3_number_b29  (M : Mem) (v0 : Nat) (v1 : Int32) : Option ((Int32 × Mem) ⊕ (Nat × Mem)) :=
  (vg M v0 4).bind fun _ =>
  (F_X3_look M v0).bind fun z14 =>
  (F_X3_isDigit z14).bind fun z15 =>
  if z15 = 0 then
    (gi M v0 259).bind fun t16 =>
    (vg M v0 4).bind fun _ =>
    (F_X3_wrong M v0 t16).bind fun z18 =>
    (ie z18.2 z18.1).bind fun _ => some (.inr (z18.1, z18.2))
  else
    F_X3_number_b52  xN M v0 v1 (0 : Int32) (0 : Int32)
noncomputable def F_X3_number_b14  (M : Mem) (s0 : Int32) (v0 : Nat) : Option ((Int32 × Mem) ⊕ (Nat × Mem)) :=
  if s0 = 0 then
    F_X3_number_b29  M v0 s0
  else
    (gi M v0 259).bind fun t19 =>
    (pi M v0 259 (t19 + (1 : Int32))).bind fun M20 =>
    F_X3_number_b29  M20 v0 s0
noncomputable def F_X3_number (M : Mem) (v0 : Nat) : Option ((Int32 × Mem) ⊕ (Nat × Mem)) :=
  (vg M v0 4).bind fun _ =>
  (F_X3_look M v0).bind fun z22 =>
  if z22 = (45 : Int32) then
    F_X3_number_b14  M (1 : Int32) v0
  else
    F_X3_number_b14  M (0 : Int32) v0
noncomputable def F_X3_single_b46  (M : Mem) (v0 : Nat) (v3 : Int32) : Option (Mem ⊕ (Nat × Mem)) :=
  (vg M v0 4).bind fun _ =>
  (F_X3_wrong M v0 v3).bind fun z2 =>
  (ie z2.2 z2.1).bind fun _ => some (.inr (z2.1, z2.2))
noncomputable def F_X3_single_b69  (M : Mem) (s0 : Nat) (s1 : Int32) (s2 : Int32) (v0 : Nat) (v1 : Nat) : Option (Mem ⊕ (Nat × Mem)) :=
  (gr M v1 1411).bind fun t3 =>
  (gi M v0 264).bind fun t4 =>
  (ai M t3 t4).bind fun t5 =>
  (pi M s0 263 (s1 + (s2 * t5))).bind fun M6 =>
  (gi M6 v0 264).bind fun t7 =>
  (pi M6 v0 264 (t7 + (1 : Int32))).bind fun M8 =>
  some (.inl M8)
noncomputable def F_X3_single (M : Mem) (v0 : Nat) (v1 : Nat) (v2 : Int32) (v3 : Int32) : Option (Mem ⊕ (Nat × Mem)) :=
  if v1 = 6 then
    none
  else
    if v1 = 0 then
      some (.inl M)
    else
      (gi M v0 264).bind fun t9 =>
      (gi M v1 1409).bind fun t10 =>
      if t9 = t10 then
        (vg M v0 4).bind fun _ =>
        (F_X3_wrong M v0 v3).bind fun z12 =>
        (ie z12.2 z12.1).bind fun _ => some (.inr (z12.1, z12.2))
      else
        (gr M v1 1410).bind fun t13 =>
        (gi M v0 264).bind fun t14 =>
        (ai M t13 t14).bind fun t15 =>
        if v2 < (-t15) then
          F_X3_single_b46  M v0 v3
        else
          if v2 < t15 then
            (gi M v0 263).bind fun t16 =>
            if v2 < 0 then
              F_X3_single_b69  M v0 t16 (v2 + t15) v0 v1
            else
              F_X3_single_b69  M v0 t16 v2 v0 v1
          else
            F_X3_single_b46  M v0 v3
noncomputable def F_X3_cut (v0 : Int32) (v1 : Int32) (v2 : Int32) : Option Int32 :=
  (F_J7_min_2 v0 v2).bind fun z1 =>
  (F_J7_max v1 z1).bind fun z2 =>
  some z2
noncomputable def F_X3_slice_b230  (M : Mem) (s0 : Nat) (s1 : Int32) (s2 : Int32) (v0 : Nat) : Option Mem :=
  (vg M s0 4).bind fun _ =>
  (F_X3_axis M s0 s1 s2).bind fun z2 =>
  (gi z2 v0 264).bind fun t3 =>
  (pi z2 v0 264 (t3 + (1 : Int32))).bind fun M4 =>
  some M4
noncomputable def F_X3_slice_b205  (M : Mem) (v0 : Nat) (v1 : Nat) (v6 : Int32) (v16 : Int32) : Option Mem :=
  if (1 : Int32) < v16 then
    (gr M v1 1411).bind fun t5 =>
    (gi M v0 264).bind fun t6 =>
    (ai M t5 t6).bind fun t7 =>
    F_X3_slice_b230  M v0 v16 (v6 * t7) v0
  else
    F_X3_slice_b230  M v0 v16 (0 : Int32) v0
noncomputable def F_X3_slice_b177  (M : Mem) (s0 : Int32) (v0 : Nat) (v1 : Nat) (v6 : Int32) (v10 : Int32) : Option Mem :=
  if 0 < s0 then
    (gi M v0 263).bind fun t8 =>
    (gr M v1 1411).bind fun t9 =>
    (gi M v0 264).bind fun t10 =>
    (ai M t9 t10).bind fun t11 =>
    (pi M v0 263 (t8 + (v10 * t11))).bind fun M12 =>
    F_X3_slice_b205  M12 v0 v1 v6 s0
  else
    F_X3_slice_b205  M v0 v1 v6 s0
noncomputable def F_X3_slice_b145  (M : Mem) (s0 : Int64) (v0 : Nat) (v1 : Nat) (v6 : Int32) (v10 : Int32) : Option Mem :=
  (F_J7_abs (v6.toInt64)).bind fun z13 =>
  if (0 : Int64) < s0 then
    if z13 = 0 then none else
    F_X3_slice_b177  M ((((s0 + z13) - (1 : Int64)) / z13).toInt32) v0 v1 v6 v10
  else
    F_X3_slice_b177  M (0 : Int32) v0 v1 v6 v10
noncomputable def F_X3_slice_b121  (M : Mem) (s0 : Int32) (v0 : Nat) (v1 : Nat) (v6 : Int32) (v10 : Int32) : Option Mem :=
  if 0 < v6 then
    F_X3_slice_b145  M (s0.toInt64 - v10.toInt64) v0 v1 v6 v10
  else
    F_X3_slice_b145  M (v10.toInt64 - s0.toInt64) v0 v1 v6 v10
noncomputable def F_X3_slice_b100  (M : Mem) (s0 : Int32) (v0 : Nat) (v1 : Nat) (v6 : Int32) (v8 : Int32) (v9 : Int32) (v10 : Int32) : Option Mem :=
  (F_X3_cut s0 v8 v9).bind fun z14 =>
  F_X3_slice_b121  M z14 v0 v1 v6 v10
noncomputable def F_X3_slice_b78  (M : Mem) (s0 : Int32) (v0 : Nat) (v1 : Nat) (v4 : Int32) (v5 : Int32) (v6 : Int32) (v7 : Int32) (v8 : Int32) (v9 : Int32) : Option Mem :=
  if v4 = 0 then
    if 0 < v6 then
      F_X3_slice_b121  M v7 v0 v1 v6 s0
    else
      F_X3_slice_b121  M (-1 : Int32) v0 v1 v6 s0
  else
    if v5 < 0 then
      F_X3_slice_b100  M (v5 + v7) v0 v1 v6 v8 v9 s0
    else
      F_X3_slice_b100  M v5 v0 v1 v6 v8 v9 s0
noncomputable def F_X3_slice_b55  (M : Mem) (s0 : Int32) (v0 : Nat) (v1 : Nat) (v4 : Int32) (v5 : Int32) (v6 : Int32) (v7 : Int32) (v8 : Int32) (v9 : Int32) : Option Mem :=
  (F_X3_cut s0 v8 v9).bind fun z15 =>
  F_X3_slice_b78  M z15 v0 v1 v4 v5 v6 v7 v8 v9
noncomputable def F_X3_slice_b37  (M : Mem) (s0 : Int32) (v0 : Nat) (v1 : Nat) (v2 : Int32) (v3 : Int32) (v4 : Int32) (v5 : Int32) (v6 : Int32) (v7 : Int32) (v8 : Int32) : Option Mem :=
  if v2 = 0 then
    if 0 < v6 then
      F_X3_slice_b78  M (0 : Int32) v0 v1 v4 v5 v6 v7 v8 s0
    else
      F_X3_slice_b78  M (v7 - (1 : Int32)) v0 v1 v4 v5 v6 v7 v8 s0
  else
    if v3 < 0 then
      F_X3_slice_b55  M (v3 + v7) v0 v1 v4 v5 v6 v7 v8 s0
    else
      F_X3_slice_b55  M v3 v0 v1 v4 v5 v6 v7 v8 s0
noncomputable def F_X3_slice_b21  (M : Mem) (s0 : Int32) (v0 : Nat) (v1 : Nat) (v2 : Int32) (v3 : Int32) (v4 : Int32) (v5 : Int32) (v6 : Int32) (v7 : Int32) : Option Mem :=
  if 0 < v6 then
    F_X3_slice_b37  M v7 v0 v1 v2 v3 v4 v5 v6 v7 s0
  else
    F_X3_slice_b37  M (v7 - (1 : Int32)) v0 v1 v2 v3 v4 v5 v6 v7 s0
noncomputable def F_X3_slice (M : Mem) (v0 : Nat) (v1 : Nat) (v2 : Int32) (v3 : Int32) (v4 : Int32) (v5 : Int32) (v6 : Int32) : Option Mem :=
  (gr M v1 1410).bind fun t16 =>
  (gi M v0 264).bind fun t17 =>
  (ai M t16 t17).bind fun t18 =>
  if 0 < v6 then
    F_X3_slice_b21  M (0 : Int32) v0 v1 v2 v3 v4 v5 v6 t18
  else
    F_X3_slice_b21  M (-1 : Int32) v0 v1 v2 v3 v4 v5 v6 t18
noncomputable def F_X3_item_b184  (M : Mem) (v0 : Nat) (v2 : Int32) : Option (Mem ⊕ (Nat × Mem)) :=
  (vg M v0 4).bind fun _ =>
  (F_X3_wrong M v0 v2).bind fun z2 =>
  (ie z2.2 z2.1).bind fun _ => some (.inr (z2.1, z2.2))
noncomputable def F_X3_item_b163  (M : Mem) (v0 : Nat) (v1 : Nat) (v2 : Int32) (v3 : Int32) (v4 : Int32) (v5 : Int32) (v6 : Int32) (v7 : Int32) : Option (Mem ⊕ (Nat × Mem)) :=
  if v1 = 6 then
    none
  else
    if v1 = 0 then
      some (.inl M)
    else
      (gi M v0 264).bind fun t3 =>
      (gi M v1 1409).bind fun t4 =>
      if t3 = t4 then
        F_X3_item_b184  M v0 v2
      else
        if v7 = 0 then
          F_X3_item_b184  M v0 v2
        else
          (vg M v0 4).bind fun _ =>
          (F_X3_slice M v0 v1 v3 v4 v5 v6 v7).bind fun z6 =>
          some (.inl z6)
noncomputable def F_X3_item_b118  (M : Mem) (s0 : Int32) (v0 : Nat) (v1 : Nat) (v2 : Int32) (v3 : Int32) (v4 : Int32) (v5 : Int32) : Option (Mem ⊕ (Nat × Mem)) :=
  (vg M v0 4).bind fun _ =>
  (F_X3_skip M v0).bind fun z8 =>
  (vg z8 v0 4).bind fun _ =>
  (F_X3_look z8 v0).bind fun z10 =>
  if z10 = (58 : Int32) then
    (gi z8 v0 259).bind fun t11 =>
    (pi z8 v0 259 (t11 + (1 : Int32))).bind fun M12 =>
    (vg M12 v0 4).bind fun _ =>
    (F_X3_skip M12 v0).bind fun z14 =>
    (vg z14 v0 4).bind fun _ =>
    (F_X3_isNumber z14 v0).bind fun z16 =>
    if z16 = 0 then
      F_X3_item_b163  z14 v0 v1 v2 v3 v4 v5 s0 (1 : Int32)
    else
      (vg z14 v0 4).bind fun _ =>
      tb (F_X3_number z14 v0) fun z18 =>
      F_X3_item_b163  z18.2 v0 v1 v2 v3 v4 v5 s0 z18.1
  else
    F_X3_item_b163  z8 v0 v1 v2 v3 v4 v5 s0 (1 : Int32)
noncomputable def F_X3_item_b48  (M : Mem) (s0 : Int32) (v0 : Nat) (v1 : Nat) (v2 : Int32) (v3 : Int32) : Option (Mem ⊕ (Nat × Mem)) :=
  (vg M v0 4).bind fun _ =>
  (F_X3_skip M v0).bind fun z20 =>
  (vg z20 v0 4).bind fun _ =>
  (F_X3_look z20 v0).bind fun z22 =>
  if z22 = (58 : Int32) then
    (gi z20 v0 259).bind fun t23 =>
    (pi z20 v0 259 (t23 + (1 : Int32))).bind fun M24 =>
    (vg M24 v0 4).bind fun _ =>
    (F_X3_skip M24 v0).bind fun z26 =>
    (vg z26 v0 4).bind fun _ =>
    (F_X3_isNumber z26 v0).bind fun z28 =>
    if z28 = 0 then
      F_X3_item_b118  z26 (0 : Int32) v0 v1 v2 v3 s0 z28
    else
      (vg z26 v0 4).bind fun _ =>
      tb (F_X3_number z26 v0) fun z30 =>
      F_X3_item_b118  z30.2 z30.1 v0 v1 v2 v3 s0 z28
  else
    if v3 = 0 then
      (gi z20 v0 259).bind fun t31 =>
      (vg z20 v0 4).bind fun _ =>
      (F_X3_wrong z20 v0 t31).bind fun z33 =>
      (ie z33.2 z33.1).bind fun _ => some (.inr (z33.1, z33.2))
    else
      (vg z20 v0 4).bind fun _ =>
      tb (F_X3_single z20 v0 v1 s0 v2) fun z35 =>
      some (.inl z35)
noncomputable def F_X3_item (M : Mem) (v0 : Nat) (v1 : Nat) : Option (Mem ⊕ (Nat × Mem)) :=
  (gi M v0 259).bind fun t36 =>
  (vg M v0 4).bind fun _ =>
  (F_X3_look M v0).bind fun z38 =>
  if z38 = (42 : Int32) then
    (gi M v0 259).bind fun t39 =>
    (pi M v0 259 (t39 + (1 : Int32))).bind fun M40 =>
    (vg M40 v0 4).bind fun _ =>
    (F_X3_axis M40 v0 (1 : Int32) (0 : Int32)).bind fun z42 =>
    some (.inl z42)
  else
    (vg M v0 4).bind fun _ =>
    (F_X3_isNumber M v0).bind fun z44 =>
    if z44 = 0 then
      F_X3_item_b48  M (0 : Int32) v0 v1 t36 z44
    else
      (vg M v0 4).bind fun _ =>
      tb (F_X3_number M v0) fun z46 =>
      F_X3_item_b48  z46.2 z46.1 v0 v1 t36 z44
noncomputable def F_X3_go_b83 (k22 : Mem → Nat → Nat → Int32 → Option (Mem ⊕ (Nat × Mem))) (M : Mem) (v0 : Nat) (v1 : Nat) (v2 : Int32) : Option (Mem ⊕ (Nat × Mem)) :=
  (vg M v0 4).bind fun _ =>
  (F_X3_skip M v0).bind fun z2 =>
  k22 z2 v0 v1 v2
noncomputable def F_X3_go_b49 (k22 : Mem → Nat → Nat → Int32 → Option (Mem ⊕ (Nat × Mem))) (M : Mem) (s0 : Int32) (v0 : Nat) (v1 : Nat) : Option (Mem ⊕ (Nat × Mem)) :=
  if s0 = 0 then
    (vg M v0 4).bind fun _ =>
    (F_X3_look M v0).bind fun z4 =>
    if z4 < 0 then
      F_X3_go_b83 k22 M v0 v1 s0
    else
      (gi M v0 259).bind fun t5 =>
      (vg M v0 4).bind fun _ =>
      (F_X3_wrong M v0 t5).bind fun z7 =>
      (ie z7.2 z7.1).bind fun _ => some (.inr (z7.1, z7.2))
  else
    (gi M v0 259).bind fun t8 =>
    (pi M v0 259 (t8 + (1 : Int32))).bind fun M9 =>
    F_X3_go_b83 k22 M9 v0 v1 s0
noncomputable def F_X3_go_b22_st (k22 : Mem → Nat → Nat → Int32 → Option (Mem ⊕ (Nat × Mem))) (M : Mem) (v0 : Nat) (v1 : Nat) (v2 : Int32) : Option (Mem ⊕ (Nat × Mem)) :=
  if v2 = 0 then
    some (.inl M)
  else
    (vg M v0 4).bind fun _ =>
    tb (F_X3_item M v0 v1) fun z11 =>
    (vg z11 v0 4).bind fun _ =>
    (F_X3_skip z11 v0).bind fun z13 =>
    (vg z13 v0 4).bind fun _ =>
    (F_X3_look z13 v0).bind fun z15 =>
    if z15 = (44 : Int32) then
      F_X3_go_b49 k22 z13 (1 : Int32) v0 v1
    else
      F_X3_go_b49 k22 z13 (0 : Int32) v0 v1
noncomputable def F_X3_go_b22  (n : Nat) : Mem → Nat → Nat → Int32 → Option (Mem ⊕ (Nat × Mem)) :=
  Nat.rec (motive := fun _ => Mem → Nat → Nat → Int32 → Option (Mem ⊕ (Nat × Mem))) (fun _ _ _ _ => none) (fun _ ih => F_X3_go_b22_st ih) n
noncomputable def F_X3_go_b21  (M : Mem) (s0 : Int32) (v0 : Nat) (v1 : Nat) : Option (Mem ⊕ (Nat × Mem)) :=
  F_X3_go_b22  xN M v0 v1 s0
noncomputable def F_X3_go (M : Mem) (v0 : Nat) (v1 : Nat) : Option (Mem ⊕ (Nat × Mem)) :=
  (pi M v0 259 (0 : Int32)).bind fun M16 =>
  (vg M16 v0 4).bind fun _ =>
  (F_X3_skip M16 v0).bind fun z18 =>
  (vg z18 v0 4).bind fun _ =>
  (F_X3_look z18 v0).bind fun z20 =>
  if z20 < 0 then
    F_X3_go_b21  z18 (0 : Int32) v0 v1
  else
    F_X3_go_b21  z18 (1 : Int32) v0 v1
noncomputable def F_X3_read_b120_st (k120 : Mem → Nat → Nat → Nat → Nat → Int32 → Option ((Nat × Mem) ⊕ (Nat × Mem))) (M : Mem) (v0 : Nat) (v1 : Nat) (v4 : Nat) (v5 : Nat) (v6 : Int32) : Option ((Nat × Mem) ⊕ (Nat × Mem)) :=
  (gi M v0 262).bind fun t1 =>
  if v6 < t1 then
    (gr M v0 260).bind fun t2 =>
    (ai M t2 v6).bind fun t3 =>
    (si M v4 v6 t3).bind fun M4 =>
    (gr M4 v0 261).bind fun t5 =>
    (ai M4 t5 v6).bind fun t6 =>
    (si M4 v5 v6 t6).bind fun M7 =>
    let v6_8 : Int32 := v6 + (1 : Int32)
    k120 M7 v0 v1 v4 v5 v6_8
  else
    let t10 : Nat := m_nx M
    let M9 : Mem := mo M 22
    (gi M9 v1 1408).bind fun t11 =>
    (gi M9 v0 262).bind fun t12 =>
    (gi M9 v0 263).bind fun t13 =>
    (gr M9 v1 1413).bind fun t14 =>
    (gi M9 v1 1414).bind fun t15 =>
    (ng M9 t10).bind fun _ =>
    (F_X21_init M9 t10 t11 t12 v4 v5 t13 t14 t15).bind fun z17 =>
    some (.inl (t10, z17))
noncomputable def F_X3_read_b120  (n : Nat) : Mem → Nat → Nat → Nat → Nat → Int32 → Option ((Nat × Mem) ⊕ (Nat × Mem)) :=
  Nat.rec (motive := fun _ => Mem → Nat → Nat → Nat → Nat → Int32 → Option ((Nat × Mem) ⊕ (Nat × Mem))) (fun _ _ _ _ _ _ => none) (fun _ ih => F_X3_read_b120_st ih) n
noncomputable def F_X3_read_b38_st (k38 : Mem → Nat → Nat → Option ((Nat × Mem) ⊕ (Nat × Mem))) (M : Mem) (v0 : Nat) (v1 : Nat) : Option ((Nat × Mem) ⊕ (Nat × Mem)) :=
  (gi M v0 264).bind fun t18 =>
  (gi M v1 1409).bind fun t19 =>
  if t18 < t19 then
    (gr M v1 1410).bind fun t20 =>
    (gi M v0 264).bind fun t21 =>
    (ai M t20 t21).bind fun t22 =>
    (gr M v1 1411).bind fun t23 =>
    (gi M v0 264).bind fun t24 =>
    (ai M t23 t24).bind fun t25 =>
    (vg M v0 4).bind fun _ =>
    (F_X3_axis M v0 t22 t25).bind fun z27 =>
    (gi z27 v0 264).bind fun t28 =>
    (pi z27 v0 264 (t28 + (1 : Int32))).bind fun M29 =>
    k38 M29 v0 v1
  else
    (gi M v0 262).bind fun t30 =>
    if (4 : Int32) < t30 then
      (gi M v0 258).bind fun t31 =>
      (vg M v0 4).bind fun _ =>
      (F_X3_wrong M v0 t31).bind fun z33 =>
      (ie z33.2 z33.1).bind fun _ => some (.inr (z33.1, z33.2))
    else
      (gi M v0 262).bind fun t34 =>
      (mk M 1005 t34).bind fun M35 =>
      let v4_36 : Nat := (m_nx M)
      (gi M35 v0 262).bind fun t37 =>
      (mk M35 1005 t37).bind fun M38 =>
      let v5_39 : Nat := (m_nx M35)
      F_X3_read_b120  xN M38 v0 v1 v4_36 v5_39 (0 : Int32)
noncomputable def F_X3_read_b38  (n : Nat) : Mem → Nat → Nat → Option ((Nat × Mem) ⊕ (Nat × Mem)) :=
  Nat.rec (motive := fun _ => Mem → Nat → Nat → Option ((Nat × Mem) ⊕ (Nat × Mem))) (fun _ _ _ => none) (fun _ ih => F_X3_read_b38_st ih) n
noncomputable def F_X3_read (M : Mem) (v0 : Nat) (v1 : Nat) (v2 : Nat) (v3 : Int32) : Option ((Nat × Mem) ⊕ (Nat × Mem)) :=
  (pr M v0 257 v2).bind fun M40 =>
  (pi M40 v0 258 v3).bind fun M41 =>
  (vg M41 v0 4).bind fun _ =>
  tb (F_X3_go M41 v0 0) fun z43 =>
  (pi z43 v0 262 (0 : Int32)).bind fun M44 =>
  (pi M44 v0 264 (0 : Int32)).bind fun M45 =>
  (gi M45 v1 1412).bind fun t46 =>
  (pi M45 v0 263 t46).bind fun M47 =>
  (vg M47 v0 4).bind fun _ =>
  tb (F_X3_go M47 v0 v1) fun z49 =>
  F_X3_read_b38  xN z49 v0 v1
noncomputable def F_X0_added_b26  (M : Mem) : Option (Int32 × Mem) :=
  some ((-12 : Int32), M)
noncomputable def F_X0_added (M : Mem) (v0 : Nat) (v1 : Nat) : Option (Int32 × Mem) :=
  (gr M v1 1410).bind fun t1 =>
  (gi M v1 1409).bind fun t2 =>
  (F_X2_count M t1 t2).bind fun z3 =>
  if z3 < 0 then
    F_X0_added_b26  M
  else
    (gr M v0 68).bind fun t4 =>
    (vg M t4 3).bind fun _ =>
    (F_X2_hasRoom M t4 (1 : Int32) (0 : Int32)).bind fun z6 =>
    if z6 = 0 then
      F_X0_added_b26  M
    else
      (gr M v0 68).bind fun t7 =>
      (vg M t7 3).bind fun _ =>
      (F_X2_add M t7 v1).bind fun z9 =>
      some (z9.1, z9.2)
noncomputable def F_X0_view_b51  (M : Mem) (s0 : Nat) (v0 : Nat) : Option (Int32 × Mem) :=
  (gr M v0 67).bind fun t1 =>
  (gi M t1 130).bind fun t2 =>
  (pi M v0 95 t2).bind fun M3 =>
  some ((-20 : Int32), M3)
noncomputable def F_X0_view (M : Mem) (v0 : Nat) (v1 : Int32) : Option (Int32 × Mem) :=
  (pi M v0 95 (-1 : Int32)).bind fun M4 =>
  (gi M4 v0 97).bind fun t5 =>
  if t5 = 0 then
    (vg M4 v0 1).bind fun _ =>
    (F_X0_used M4 v0).bind fun z7 =>
    (vg z7.2 v0 1).bind fun _ =>
    (F_X0_find z7.2 v0 v1).bind fun z9 =>
    if z9 = 6 then
      none
    else
      if z9 = 0 then
        some ((-14 : Int32), z7.2)
      else
        (gr z7.2 v0 69).bind fun t10 =>
        (gr z7.2 v0 64).bind fun t11 =>
        (vg z7.2 t10 4).bind fun _ =>
        tc (F_X3_read z7.2 t10 z9 t11 z7.1) (fun z13 =>
          (vg z13.2 v0 1).bind fun _ =>
          (F_X0_added z13.2 v0 z13.1).bind fun z16 =>
          some (z16.1, z16.2))
          (fun z14 =>
            F_X0_view_b51  z14.2 z14.1 v0)
  else
    some ((-13 : Int32), M4)
noncomputable def F_X0_place (M : Mem) (v0 : Nat) : Option Int32 :=
  (gi M v0 95).bind fun t1 =>
  some t1
noncomputable def F_X0_turned_b44  (M : Mem) : Option (Int32 × Mem) :=
  some ((-2 : Int32), M)
noncomputable def F_X0_turned_b100 (k68 : Mem → Nat → Int32 → Int32 → Nat → Nat → Nat → Int32 → Option (Int32 × Mem)) (M : Mem) (s0 : Int32) (v0 : Nat) (v2 : Int32) (v3 : Int32) (v4 : Nat) (v5 : Nat) (v6 : Nat) (v7 : Int32) : Option (Int32 × Mem) :=
  (gr M v4 1410).bind fun t1 =>
  (ai M t1 s0).bind fun t2 =>
  (si M v5 v7 t2).bind fun M3 =>
  (gr M3 v4 1411).bind fun t4 =>
  (ai M3 t4 s0).bind fun t5 =>
  (si M3 v6 v7 t5).bind fun M6 =>
  let v7_7 : Int32 := v7 + (1 : Int32)
  k68 M6 v0 v2 v3 v4 v5 v6 v7_7
noncomputable def F_X0_turned_b68_st (k68 : Mem → Nat → Int32 → Int32 → Nat → Nat → Nat → Int32 → Option (Int32 × Mem)) (M : Mem) (v0 : Nat) (v2 : Int32) (v3 : Int32) (v4 : Nat) (v5 : Nat) (v6 : Nat) (v7 : Int32) : Option (Int32 × Mem) :=
  (gi M v4 1409).bind fun t8 =>
  if v7 < t8 then
    if v7 = v2 then
      F_X0_turned_b100 k68 M v3 v0 v2 v3 v4 v5 v6 v7
    else
      if v7 = v3 then
        F_X0_turned_b100 k68 M v2 v0 v2 v3 v4 v5 v6 v7
      else
        F_X0_turned_b100 k68 M v7 v0 v2 v3 v4 v5 v6 v7
  else
    let t10 : Nat := m_nx M
    let M9 : Mem := mo M 22
    (gi M9 v4 1408).bind fun t11 =>
    (gi M9 v4 1409).bind fun t12 =>
    (gi M9 v4 1412).bind fun t13 =>
    (gr M9 v4 1413).bind fun t14 =>
    (gi M9 v4 1414).bind fun t15 =>
    (ng M9 t10).bind fun _ =>
    (F_X21_init M9 t10 t11 t12 v5 v6 t13 t14 t15).bind fun z17 =>
    (vg z17 v0 1).bind fun _ =>
    (F_X0_added z17 v0 t10).bind fun z19 =>
    some (z19.1, z19.2)
noncomputable def F_X0_turned_b68  (n : Nat) : Mem → Nat → Int32 → Int32 → Nat → Nat → Nat → Int32 → Option (Int32 × Mem) :=
  Nat.rec (motive := fun _ => Mem → Nat → Int32 → Int32 → Nat → Nat → Nat → Int32 → Option (Int32 × Mem)) (fun _ _ _ _ _ _ _ _ => none) (fun _ ih => F_X0_turned_b68_st ih) n
noncomputable def F_X0_turned (M : Mem) (v0 : Nat) (v1 : Int32) (v2 : Int32) (v3 : Int32) : Option (Int32 × Mem) :=
  (vg M v0 1).bind fun _ =>
  (F_X0_find M v0 v1).bind fun z21 =>
  if z21 = 6 then
    none
  else
    if z21 = 0 then
      (vg M v0 1).bind fun _ =>
      (F_X0_gone M v0).bind fun z23 =>
      some ((-z23), M)
    else
      if v2 < 0 then
        F_X0_turned_b44  M
      else
        if v3 < 0 then
          F_X0_turned_b44  M
        else
          (gi M z21 1409).bind fun t24 =>
          if v2 < t24 then
            (gi M z21 1409).bind fun t25 =>
            if v3 < t25 then
              (gi M z21 1409).bind fun t26 =>
              (mk M 1005 t26).bind fun M27 =>
              let v5_28 : Nat := (m_nx M)
              (gi M27 z21 1409).bind fun t29 =>
              (mk M27 1005 t29).bind fun M30 =>
              let v6_31 : Nat := (m_nx M27)
              F_X0_turned_b68  xN M30 v0 v2 v3 z21 v5_28 v6_31 (0 : Int32)
            else
              F_X0_turned_b44  M
          else
            F_X0_turned_b44  M
noncomputable def F_X0_spread_b112  (M : Mem) : Option (Int32 × Mem) :=
  some ((-12 : Int32), M)
noncomputable def F_X0_spread_b203 (k128 : Mem → Nat → Int32 → Nat → Int32 → Nat → Nat → Int32 → Option (Int32 × Mem)) (M : Mem) (s0 : Nat) (s1 : Int32) (s2 : Int32) (v0 : Nat) (v2 : Int32) (v3 : Nat) (v4 : Int32) (v5 : Nat) (v6 : Nat) (v7 : Int32) : Option (Int32 × Mem) :=
  (si M s0 s1 s2).bind fun M1 =>
  let v7_2 : Int32 := v7 + (1 : Int32)
  k128 M1 v0 v2 v3 v4 v5 v6 v7_2
noncomputable def F_X0_spread_b178 (k128 : Mem → Nat → Int32 → Nat → Int32 → Nat → Nat → Int32 → Option (Int32 × Mem)) (M : Mem) (s0 : Int32) (v0 : Nat) (v2 : Int32) (v3 : Nat) (v4 : Int32) (v5 : Nat) (v6 : Nat) (v7 : Int32) : Option (Int32 × Mem) :=
  if s0 = 0 then
    F_X0_spread_b203 k128 M v6 v7 (0 : Int32) v0 v2 v3 v4 v5 v6 v7
  else
    (gr M v3 1411).bind fun t3 =>
    (ai M t3 (v7 - v4)).bind fun t4 =>
    F_X0_spread_b203 k128 M v6 v7 t4 v0 v2 v3 v4 v5 v6 v7
noncomputable def F_X0_spread_b177 (k128 : Mem → Nat → Int32 → Nat → Int32 → Nat → Nat → Int32 → Option (Int32 × Mem)) (M : Mem) (v0 : Nat) (v2 : Int32) (v3 : Nat) (v4 : Int32) (v5 : Nat) (v6 : Nat) (v7 : Int32) : Option (Int32 × Mem) :=
  F_X0_spread_b178 k128 M (0 : Int32) v0 v2 v3 v4 v5 v6 v7
noncomputable def F_X0_spread_b128_st (k128 : Mem → Nat → Int32 → Nat → Int32 → Nat → Nat → Int32 → Option (Int32 × Mem)) (M : Mem) (v0 : Nat) (v2 : Int32) (v3 : Nat) (v4 : Int32) (v5 : Nat) (v6 : Nat) (v7 : Int32) : Option (Int32 × Mem) :=
  if v7 < v2 then
    (gr M v0 84).bind fun t5 =>
    (ai M t5 v7).bind fun t6 =>
    (si M v5 v7 t6).bind fun M7 =>
    if v7 < v4 then
      F_X0_spread_b177 k128 M7 v0 v2 v3 v4 v5 v6 v7
    else
      (gr M7 v3 1410).bind fun t8 =>
      (ai M7 t8 (v7 - v4)).bind fun t9 =>
      (gr M7 v0 84).bind fun t10 =>
      (ai M7 t10 v7).bind fun t11 =>
      if t9 = t11 then
        F_X0_spread_b178 k128 M7 (1 : Int32) v0 v2 v3 v4 v5 v6 v7
      else
        F_X0_spread_b177 k128 M7 v0 v2 v3 v4 v5 v6 v7
  else
    (gr M v0 68).bind fun t12 =>
    let t14 : Nat := m_nx M
    let M13 : Mem := mo M 22
    (gi M13 v3 1408).bind fun t15 =>
    (gi M13 v3 1412).bind fun t16 =>
    (gr M13 v3 1413).bind fun t17 =>
    (ng M13 t14).bind fun _ =>
    (F_X21_init M13 t14 t15 v2 v5 v6 t16 t17 (1 : Int32)).bind fun z19 =>
    (vg z19 t12 3).bind fun _ =>
    (F_X2_add z19 t12 t14).bind fun z21 =>
    some (z21.1, z21.2)
noncomputable def F_X0_spread_b128  (n : Nat) : Mem → Nat → Int32 → Nat → Int32 → Nat → Nat → Int32 → Option (Int32 × Mem) :=
  Nat.rec (motive := fun _ => Mem → Nat → Int32 → Nat → Int32 → Nat → Nat → Int32 → Option (Int32 × Mem)) (fun _ _ _ _ _ _ _ _ => none) (fun _ ih => F_X0_spread_b128_st ih) n
noncomputable def F_X0_spread_b83 (k40 : Mem → Nat → Int32 → Nat → Int32 → Int32 → Option (Int32 × Mem)) (M : Mem) (v0 : Nat) (v2 : Int32) (v3 : Nat) (v4 : Int32) (v5 : Int32) : Option (Int32 × Mem) :=
  let v5_22 : Int32 := v5 + (1 : Int32)
  k40 M v0 v2 v3 v4 v5_22
noncomputable def F_X0_spread_b40_st (k40 : Mem → Nat → Int32 → Nat → Int32 → Int32 → Option (Int32 × Mem)) (M : Mem) (v0 : Nat) (v2 : Int32) (v3 : Nat) (v4 : Int32) (v5 : Int32) : Option (Int32 × Mem) :=
  (gi M v3 1409).bind fun t23 =>
  if v5 < t23 then
    (gr M v3 1410).bind fun t24 =>
    (ai M t24 v5).bind fun t25 =>
    if t25 = (1 : Int32) then
      F_X0_spread_b83 k40 M v0 v2 v3 v4 v5
    else
      (gr M v3 1410).bind fun t26 =>
      (ai M t26 v5).bind fun t27 =>
      (gr M v0 84).bind fun t28 =>
      (ai M t28 (v5 + v4)).bind fun t29 =>
      if t27 = t29 then
        F_X0_spread_b83 k40 M v0 v2 v3 v4 v5
      else
        some ((-3 : Int32), M)
  else
    (gr M v0 84).bind fun t30 =>
    (F_X2_count M t30 v2).bind fun z31 =>
    if z31 < 0 then
      F_X0_spread_b112  M
    else
      (gr M v0 68).bind fun t32 =>
      (vg M t32 3).bind fun _ =>
      (F_X2_hasRoom M t32 (1 : Int32) (0 : Int32)).bind fun z34 =>
      if z34 = 0 then
        F_X0_spread_b112  M
      else
        (mk M 1005 v2).bind fun M35 =>
        let v5_36 : Nat := (m_nx M)
        (mk M35 1005 v2).bind fun M37 =>
        let v6_38 : Nat := (m_nx M35)
        F_X0_spread_b128  xN M37 v0 v2 v3 v4 v5_36 v6_38 (0 : Int32)
noncomputable def F_X0_spread_b40  (n : Nat) : Mem → Nat → Int32 → Nat → Int32 → Int32 → Option (Int32 × Mem) :=
  Nat.rec (motive := fun _ => Mem → Nat → Int32 → Nat → Int32 → Int32 → Option (Int32 × Mem)) (fun _ _ _ _ _ _ => none) (fun _ ih => F_X0_spread_b40_st ih) n
noncomputable def F_X0_spread (M : Mem) (v0 : Nat) (v1 : Int32) : Option (Int32 × Mem) :=
  (vg M v0 1).bind fun _ =>
  (F_X0_usedSizes M v0).bind fun z40 =>
  (vg z40.2 v0 1).bind fun _ =>
  (F_X0_find z40.2 v0 v1).bind fun z42 =>
  if z42 = 6 then
    none
  else
    if z42 = 0 then
      (vg z40.2 v0 1).bind fun _ =>
      (F_X0_gone z40.2 v0).bind fun z44 =>
      some ((-z44), z40.2)
    else
      (gi z40.2 z42 1409).bind fun t45 =>
      let v4_46 : Int32 := (z40.1 - t45)
      if v4_46 < 0 then
        some ((-3 : Int32), z40.2)
      else
        F_X0_spread_b40  xN z40.2 v0 z40.1 z42 v4_46 (0 : Int32)
noncomputable def F_X0_gather_b8_st (k8 : Mem → Nat → Nat → Int32 → Int32 → Option (Int32 × Mem)) (M : Mem) (v1 : Nat) (v2 : Nat) (v3 : Int32) (v4 : Int32) : Option (Int32 × Mem) :=
  if v4 < v3 then
    (vg M v1 22).bind fun _ =>
    (F_X21_get M v1 v4).bind fun z2 =>
    (sj M v2 v4 z2).bind fun M3 =>
    let v4_4 : Int32 := v4 + (1 : Int32)
    k8 M3 v1 v2 v3 v4_4
  else
    some (v3, M)
noncomputable def F_X0_gather_b8  (n : Nat) : Mem → Nat → Nat → Int32 → Int32 → Option (Int32 × Mem) :=
  Nat.rec (motive := fun _ => Mem → Nat → Nat → Int32 → Int32 → Option (Int32 × Mem)) (fun _ _ _ _ _ => none) (fun _ ih => F_X0_gather_b8_st ih) n
noncomputable def F_X0_gather (M : Mem) (v0 : Nat) (v1 : Nat) (v2 : Nat) : Option (Int32 × Mem) :=
  (vg M v1 22).bind fun _ =>
  (F_X21_count M v1).bind fun z6 =>
  F_X0_gather_b8  xN M v1 v2 z6 (0 : Int32)
noncomputable def F_X0_shaped_b84  (M : Mem) (s0 : Int32) : Option (Int32 × Mem) :=
  some (s0, M)
noncomputable def F_X0_shaped (M : Mem) (v0 : Nat) (v1 : Int32) : Option (Int32 × Mem) :=
  (vg M v0 1).bind fun _ =>
  (F_X0_usedSizes M v0).bind fun z2 =>
  (vg z2.2 v0 1).bind fun _ =>
  (F_X0_find z2.2 v0 v1).bind fun z4 =>
  if z4 = 6 then
    none
  else
    if z4 = 0 then
      (vg z2.2 v0 1).bind fun _ =>
      (F_X0_gone z2.2 v0).bind fun z6 =>
      some ((-z6), z2.2)
    else
      (gr z2.2 v0 84).bind fun t7 =>
      (vg z2.2 v0 1).bind fun _ =>
      (F_X0_shapeOf z2.2 v0 t7 z2.1).bind fun z9 =>
      (gr z9 v0 88).bind fun t10 =>
      (gi z9 v0 89).bind fun t11 =>
      (F_X2_count z9 t10 t11).bind fun z12 =>
      (vg z9 z4 22).bind fun _ =>
      (F_X21_count z9 z4).bind fun z14 =>
      if z12 = z14 then
        (gr z9 v0 81).bind fun t15 =>
        (vg z9 v0 1).bind fun _ =>
        (F_X0_gather z9 v0 z4 t15).bind fun z17 =>
        if z17.1 < 0 then
          F_X0_shaped_b84  z17.2 (-12 : Int32)
        else
          (gi z17.2 z4 1408).bind fun t18 =>
          (gr z17.2 v0 81).bind fun t19 =>
          (vg z17.2 v0 1).bind fun _ =>
          (F_X0_made z17.2 v0 t18 t19).bind fun z21 =>
          F_X0_shaped_b84  z21.2 z21.1
      else
        some ((-3 : Int32), z9)
noncomputable def F_X0_shares_b22  (M : Mem) (v0 : Nat) : Option (Int32 × Mem) :=
  (vg M v0 1).bind fun _ =>
  (F_X0_gone M v0).bind fun z2 =>
  some ((-z2), M)
noncomputable def F_X0_shares_b113_st (k113 : Mem → Nat → Nat → Int32 → Int32 → Option (Int32 × Mem)) (M : Mem) (v0 : Nat) (v4 : Nat) (v6 : Int32) (v7 : Int32) : Option (Int32 × Mem) :=
  if v7 < v6 then
    (gr M v0 83).bind fun t3 =>
    (vg M v4 22).bind fun _ =>
    (F_X21_place M v4 v7).bind fun z5 =>
    (ab M t3 z5).bind fun t6 =>
    if t6 = 0 then
      let v7_7 : Int32 := v7 + (1 : Int32)
      k113 M v0 v4 v6 v7_7
    else
      some ((1 : Int32), M)
  else
    some ((0 : Int32), M)
noncomputable def F_X0_shares_b113  (n : Nat) : Mem → Nat → Nat → Int32 → Int32 → Option (Int32 × Mem) :=
  Nat.rec (motive := fun _ => Mem → Nat → Nat → Int32 → Int32 → Option (Int32 × Mem)) (fun _ _ _ _ _ => none) (fun _ ih => F_X0_shares_b113_st ih) n
noncomputable def F_X0_shares_b78_st (k78 : Mem → Nat → Nat → Nat → Int32 → Int32 → Option (Int32 × Mem)) (M : Mem) (v0 : Nat) (v3 : Nat) (v4 : Nat) (v5 : Int32) (v6 : Int32) : Option (Int32 × Mem) :=
  if v6 < v5 then
    (gr M v0 83).bind fun t8 =>
    (vg M v3 22).bind fun _ =>
    (F_X21_place M v3 v6).bind fun z10 =>
    (sb M t8 z10 (1 : Int32)).bind fun M11 =>
    let v6_12 : Int32 := v6 + (1 : Int32)
    k78 M11 v0 v3 v4 v5 v6_12
  else
    (vg M v4 22).bind fun _ =>
    (F_X21_count M v4).bind fun z14 =>
    F_X0_shares_b113  xN M v0 v4 z14 (0 : Int32)
noncomputable def F_X0_shares_b78  (n : Nat) : Mem → Nat → Nat → Nat → Int32 → Int32 → Option (Int32 × Mem) :=
  Nat.rec (motive := fun _ => Mem → Nat → Nat → Nat → Int32 → Int32 → Option (Int32 × Mem)) (fun _ _ _ _ _ _ => none) (fun _ ih => F_X0_shares_b78_st ih) n
noncomputable def F_X0_shares_b45_st (k45 : Mem → Nat → Nat → Nat → Int32 → Option (Int32 × Mem)) (M : Mem) (v0 : Nat) (v3 : Nat) (v4 : Nat) (v5 : Int32) : Option (Int32 × Mem) :=
  (gr M v3 1413).bind fun t15 =>
  (an M t15).bind fun t16 =>
  if v5 < t16 then
    (gr M v0 83).bind fun t17 =>
    (sb M t17 v5 (0 : Int32)).bind fun M18 =>
    let v5_19 : Int32 := v5 + (1 : Int32)
    k45 M18 v0 v3 v4 v5_19
  else
    (vg M v3 22).bind fun _ =>
    (F_X21_count M v3).bind fun z21 =>
    F_X0_shares_b78  xN M v0 v3 v4 z21 (0 : Int32)
noncomputable def F_X0_shares_b45  (n : Nat) : Mem → Nat → Nat → Nat → Int32 → Option (Int32 × Mem) :=
  Nat.rec (motive := fun _ => Mem → Nat → Nat → Nat → Int32 → Option (Int32 × Mem)) (fun _ _ _ _ _ => none) (fun _ ih => F_X0_shares_b45_st ih) n
noncomputable def F_X0_shares (M : Mem) (v0 : Nat) (v1 : Int32) (v2 : Int32) : Option (Int32 × Mem) :=
  (vg M v0 1).bind fun _ =>
  (F_X0_find M v0 v1).bind fun z23 =>
  (vg M v0 1).bind fun _ =>
  (F_X0_find M v0 v2).bind fun z25 =>
  if z23 = 6 then
    none
  else
    if z23 = 0 then
      F_X0_shares_b22  M v0
    else
      if z25 = 6 then
        none
      else
        if z25 = 0 then
          F_X0_shares_b22  M v0
        else
          (gr M z23 1413).bind fun t26 =>
          (gr M z25 1413).bind fun t27 =>
          if ac t26 t27 = true then
            if t26 = t27 then
              F_X0_shares_b45  xN M v0 z23 z25 (0 : Int32)
            else
              some ((0 : Int32), M)
          else
            none
noncomputable def F_X21_isShaped_b15_st (k15 : Mem → Nat → Nat → Int32 → Option Int32) (M : Mem) (v0 : Nat) (v1 : Nat) (v2 : Int32) : Option Int32 :=
  (gi M v0 1409).bind fun t1 =>
  if v2 < t1 then
    (gr M v0 1410).bind fun t2 =>
    (ai M t2 v2).bind fun t3 =>
    (gr M v1 1410).bind fun t4 =>
    (ai M t4 v2).bind fun t5 =>
    if t3 = t5 then
      let v2_6 : Int32 := v2 + (1 : Int32)
      k15 M v0 v1 v2_6
    else
      some (0 : Int32)
  else
    some (1 : Int32)
noncomputable def F_X21_isShaped_b15  (n : Nat) : Mem → Nat → Nat → Int32 → Option Int32 :=
  Nat.rec (motive := fun _ => Mem → Nat → Nat → Int32 → Option Int32) (fun _ _ _ _ => none) (fun _ ih => F_X21_isShaped_b15_st ih) n
noncomputable def F_X21_isShaped (M : Mem) (v0 : Nat) (v1 : Nat) : Option Int32 :=
  (gi M v0 1409).bind fun t7 =>
  (gi M v1 1409).bind fun t8 =>
  if t7 = t8 then
    F_X21_isShaped_b15  xN M v0 v1 (0 : Int32)
  else
    some (0 : Int32)
noncomputable def F_X21_set (M : Mem) (v0 : Nat) (v1 : Int32) (v2 : Int64) : Option Mem :=
  (gr M v0 1413).bind fun t1 =>
  (vg M v0 22).bind fun _ =>
  (F_X21_place M v0 v1).bind fun z3 =>
  (sj M t1 z3 v2).bind fun M4 =>
  some M4
noncomputable def F_X0_copy_b22  (M : Mem) (v0 : Nat) : Option (Int32 × Mem) :=
  (vg M v0 1).bind fun _ =>
  (F_X0_gone M v0).bind fun z2 =>
  some ((-z2), M)
noncomputable def F_X0_copy_b82_st (k82 : Mem → Nat → Nat → Nat → Int32 → Int32 → Option (Int32 × Mem)) (M : Mem) (v0 : Nat) (v3 : Nat) (v4 : Nat) (v5 : Int32) (v6 : Int32) : Option (Int32 × Mem) :=
  if v6 < v5 then
    (gi M v3 1408).bind fun t3 =>
    (gi M v4 1408).bind fun t4 =>
    (gr M v0 81).bind fun t5 =>
    (al M t5 v6).bind fun t6 =>
    (F_X23_convert t3 t4 t6).bind fun z7 =>
    (vg M v4 22).bind fun _ =>
    (F_X21_set M v4 v6 z7).bind fun z9 =>
    let v6_10 : Int32 := v6 + (1 : Int32)
    k82 z9 v0 v3 v4 v5 v6_10
  else
    some ((0 : Int32), M)
noncomputable def F_X0_copy_b82  (n : Nat) : Mem → Nat → Nat → Nat → Int32 → Int32 → Option (Int32 × Mem) :=
  Nat.rec (motive := fun _ => Mem → Nat → Nat → Nat → Int32 → Int32 → Option (Int32 × Mem)) (fun _ _ _ _ _ _ => none) (fun _ ih => F_X0_copy_b82_st ih) n
noncomputable def F_X0_copy (M : Mem) (v0 : Nat) (v1 : Int32) (v2 : Int32) : Option (Int32 × Mem) :=
  (vg M v0 1).bind fun _ =>
  (F_X0_find M v0 v1).bind fun z12 =>
  (vg M v0 1).bind fun _ =>
  (F_X0_find M v0 v2).bind fun z14 =>
  if z12 = 6 then
    none
  else
    if z12 = 0 then
      F_X0_copy_b22  M v0
    else
      if z14 = 6 then
        none
      else
        if z14 = 0 then
          F_X0_copy_b22  M v0
        else
          (gi M z12 1408).bind fun t15 =>
          (gi M z14 1408).bind fun t16 =>
          (F_X20_fits t15 t16).bind fun z17 =>
          if z17 = 0 then
            some ((-1 : Int32), M)
          else
            (gi M z14 1414).bind fun t18 =>
            if t18 = 0 then
              (vg M z12 22).bind fun _ =>
              (F_X21_isShaped M z12 z14).bind fun z20 =>
              if z20 = 0 then
                some ((-3 : Int32), M)
              else
                (gr M v0 81).bind fun t21 =>
                (vg M v0 1).bind fun _ =>
                (F_X0_gather M v0 z12 t21).bind fun z23 =>
                F_X0_copy_b82  xN z23.2 v0 z12 z14 z23.1 (0 : Int32)
            else
              some ((-5 : Int32), M)
noncomputable def F_X0_failed_b22  (M : Mem) (s0 : Int32) : Option Int32 :=
  some s0
noncomputable def F_X0_failed_b21  (M : Mem) : Option Int32 :=
  F_X0_failed_b22  M (-1 : Int32)
noncomputable def F_X0_failed (M : Mem) (v0 : Nat) (v1 : Int32) : Option Int32 :=
  if v1 < 0 then
    F_X0_failed_b21  M
  else
    (gi M v0 91).bind fun t1 =>
    if v1 < t1 then
      (gr M v0 90).bind fun t2 =>
      (ai M t2 v1).bind fun t3 =>
      F_X0_failed_b22  M t3
    else
      F_X0_failed_b21  M
noncomputable def F_X0_fine (M : Mem) (v0 : Nat) : Option Mem :=
  (pi M v0 91 (0 : Int32)).bind fun M1 =>
  some M1
noncomputable def F_X20_isWhole_b36  (s0 : Int32) : Option Int32 :=
  some (s0 &&& 1)
noncomputable def F_X20_isWhole_b35   : Option Int32 :=
  F_X20_isWhole_b36  (0 : Int32)
noncomputable def F_X20_isWhole (v0 : UInt64) (v2 : Int64) : Option Int32 :=
  if (j_dcmp v0 (14114281232179134464 : UInt64) .l) < 0 then
    F_X20_isWhole_b35  
  else
    if (j_dcmp v0 (4890909195324358656 : UInt64) .g) < 0 then
      if (j_dcmp (FP.l2d (FP.d2l v0)) v0 .l) = 0 then
        if (FP.d2l v0) = v2 then
          F_X20_isWhole_b36  (1 : Int32)
        else
          F_X20_isWhole_b35  
      else
        F_X20_isWhole_b35  
    else
      F_X20_isWhole_b35  
noncomputable def F_X20_isSame_b87  (s0 : Int32) : Option Int32 :=
  some (s0 &&& 1)
noncomputable def F_X20_isSame_b58  (v0 : Int32) (v1 : Int64) (v3 : Int32) (v4 : Int64) : Option Int32 :=
  if v0 < (6 : Int32) then
    (F_X23_real v3 v4).bind fun z1 =>
    (F_X20_isWhole z1 v1).bind fun z2 =>
    F_X20_isSame_b87  z2
  else
    (F_X23_real v0 v1).bind fun z3 =>
    (F_X20_isWhole z3 v4).bind fun z4 =>
    F_X20_isSame_b87  z4
noncomputable def F_X20_isSame_b57  (s0 : Int32) : Option Int32 :=
  some (s0 &&& 1)
noncomputable def F_X20_isSame_b25  (v0 : Int32) (v1 : Int64) (v3 : Int32) (v4 : Int64) : Option Int32 :=
  if v0 < (6 : Int32) then
    F_X20_isSame_b58  v0 v1 v3 v4
  else
    if v3 < (6 : Int32) then
      F_X20_isSame_b58  v0 v1 v3 v4
    else
      (F_X23_real v0 v1).bind fun z5 =>
      (F_X23_real v3 v4).bind fun z6 =>
      if (j_dcmp z5 z6 .l) = 0 then
        F_X20_isSame_b57  (1 : Int32)
      else
        F_X20_isSame_b57  (0 : Int32)
noncomputable def F_X20_isSame_b24  (s0 : Int32) : Option Int32 :=
  some (s0 &&& 1)
noncomputable def F_X20_isSame (v0 : Int32) (v1 : Int64) (v3 : Int32) (v4 : Int64) : Option Int32 :=
  if v0 < (6 : Int32) then
    if v3 < (6 : Int32) then
      if v1 = v4 then
        F_X20_isSame_b24  (1 : Int32)
      else
        F_X20_isSame_b24  (0 : Int32)
    else
      F_X20_isSame_b25  v0 v1 v3 v4
  else
    F_X20_isSame_b25  v0 v1 v3 v4
noncomputable def F_X1_with (M : Mem) (v0 : Nat) (v1 : Int32) : Option (Nat × Mem) :=
  (vg M v0 2).bind fun _ =>
  (F_X1_at M v0 v1 (-1 : Int32)).bind fun z2 =>
  some (z2.1, z2.2)
noncomputable def F_X20_exact (M : Mem) (v0 : Int32) (v1 : Int32) (v2 : Int64) (v4 : Nat) : Option ((Int64 × Mem) ⊕ (Nat × Mem)) :=
  (F_X23_convert v0 v1 v2).bind fun z1 =>
  (F_X20_isSame v0 v2 v1 z1).bind fun z2 =>
  if z2 = 0 then
    (vg M v4 2).bind fun _ =>
    (F_X1_with M v4 (8 : Int32)).bind fun z4 =>
    (ie z4.2 z4.1).bind fun _ => some (.inr (z4.1, z4.2))
  else
    some (.inl (z1, M))
noncomputable def F_X20_least_b45  (s0 : Int64) : Option Int64 :=
  some s0
noncomputable def F_X20_least (v0 : Int32) : Option Int64 :=
  if v0 = (1 : Int32) then
    F_X20_least_b45  (-128 : Int64)
  else
    if v0 = (2 : Int32) then
      F_X20_least_b45  (-32768 : Int64)
    else
      if v0 = (3 : Int32) then
        F_X20_least_b45  (0 : Int64)
      else
        if v0 = (4 : Int32) then
          F_X20_least_b45  (-2147483648 : Int64)
        else
          F_X20_least_b45  (-9223372036854775808 : Int64)
noncomputable def F_X20_greatest_b47  (s0 : Int64) : Option Int64 :=
  some s0
noncomputable def F_X20_greatest (v0 : Int32) : Option Int64 :=
  if v0 = (1 : Int32) then
    F_X20_greatest_b47  (127 : Int64)
  else
    if v0 = (2 : Int32) then
      F_X20_greatest_b47  (32767 : Int64)
    else
      if v0 = (3 : Int32) then
        F_X20_greatest_b47  (65535 : Int64)
      else
        if v0 = (4 : Int32) then
          F_X20_greatest_b47  (2147483647 : Int64)
        else
          F_X20_greatest_b47  (9223372036854775807 : Int64)
noncomputable def F_X20_bounded (v0 : Int64) (v2 : Int32) : Option Int64 :=
  (F_X20_least v2).bind fun z1 =>
  (F_X20_greatest v2).bind fun z2 =>
  (F_J7_min v0 z2).bind fun z3 =>
  (F_J7_max_2 z1 z3).bind fun z4 =>
  some z4
noncomputable def F_X20_nearest_b16  (v0 : UInt64) : Option UInt64 :=
  some v0
noncomputable def F_X20_nearest_b116  (s0 : UInt64) : Option UInt64 :=
  some s0
noncomputable def F_X20_nearest_b114  (v2 : Int64) : Option UInt64 :=
  F_X20_nearest_b116  (FP.l2d v2)
noncomputable def F_X20_nearest_b108   : Option UInt64 :=
  F_X20_nearest_b116  (9223372036854775808 : UInt64)
noncomputable def F_X20_nearest_b87  (v0 : UInt64) (v2 : Int64) : Option UInt64 :=
  if v2 = (0 : Int64) then
    if (j_dcmp v0 (0 : UInt64) .g) < 0 then
      F_X20_nearest_b108  
    else
      (nd2l v0).bind fun t1 =>
      if t1 < (0 : Int64) then
        F_X20_nearest_b108  
      else
        F_X20_nearest_b114  v2
  else
    F_X20_nearest_b114  v2
noncomputable def F_X20_nearest_b83  (v0 : UInt64) (v2 : Int64) : Option UInt64 :=
  let v2_2 : Int64 := (v2 - (1 : Int64))
  F_X20_nearest_b87  v0 v2_2
noncomputable def F_X20_nearest_b57  (v0 : UInt64) (v2 : Int64) (v4 : UInt64) : Option UInt64 :=
  if (j_dcmp v4 (13826050856027422720 : UInt64) .g) < 0 then
    F_X20_nearest_b83  v0 v2
  else
    if (j_dcmp v4 (13826050856027422720 : UInt64) .l) = 0 then
      if (v2 &&& (1 : Int64)) = (1 : Int64) then
        F_X20_nearest_b83  v0 v2
      else
        F_X20_nearest_b87  v0 v2
    else
      F_X20_nearest_b87  v0 v2
noncomputable def F_X20_nearest_b53  (v0 : UInt64) (v2 : Int64) (v4 : UInt64) : Option UInt64 :=
  let v2_3 : Int64 := (v2 + (1 : Int64))
  F_X20_nearest_b57  v0 v2_3 v4
noncomputable def F_X20_nearest (v0 : UInt64) : Option UInt64 :=
  if (j_dcmp v0 (4841369599423283200 : UInt64) .l) < 0 then
    if 0 < (j_dcmp v0 (14064741636278059008 : UInt64) .g) then
      let v2_4 : Int64 := (FP.d2l v0)
      let t5 : UInt64 := FP.dsub v0 (FP.l2d v2_4)
      if x_n64 t5 = true then
        if 0 < (j_dcmp t5 (4602678819172646912 : UInt64) .l) then
          F_X20_nearest_b53  v0 v2_4 t5
        else
          if (j_dcmp t5 (4602678819172646912 : UInt64) .l) = 0 then
            if (v2_4 &&& (1 : Int64)) = (1 : Int64) then
              F_X20_nearest_b53  v0 v2_4 t5
            else
              F_X20_nearest_b57  v0 v2_4 t5
          else
            F_X20_nearest_b57  v0 v2_4 t5
      else none
    else
      F_X20_nearest_b16  v0
  else
    F_X20_nearest_b16  v0
noncomputable def F_X20_cast_b29  (M : Mem) (v0 : Int32) (v1 : Int32) (v3 : Int64) : Option ((Int64 × Mem) ⊕ (Nat × Mem)) :=
  (F_X23_convert v0 v1 v3).bind fun z1 =>
  some (.inl (z1, M))
noncomputable def F_X20_cast_b70  (M : Mem) (s0 : UInt64) (v1 : Int32) : Option ((Int64 × Mem) ⊕ (Nat × Mem)) :=
  (F_X20_bounded (FP.d2l s0) v1).bind fun z2 =>
  some (.inl (z2, M))
noncomputable def F_X20_cast (M : Mem) (v0 : Int32) (v1 : Int32) (v2 : Int32) (v3 : Int64) (v5 : Nat) : Option ((Int64 × Mem) ⊕ (Nat × Mem)) :=
  if v2 = (2 : Int32) then
    tb (F_X20_exact M v0 v1 v3 v5) fun z3 =>
    some (.inl (z3.1, z3.2))
  else
    if v2 = 0 then
      F_X20_cast_b29  M v0 v1 v3
    else
      if v1 < (6 : Int32) then
        if v0 = v1 then
          F_X20_cast_b29  M v0 v1 v3
        else
          if v0 < (6 : Int32) then
            (F_X20_bounded v3 v1).bind fun z4 =>
            some (.inl (z4, M))
          else
            (F_X23_real v0 v3).bind fun z5 =>
            if v2 = (3 : Int32) then
              (F_X20_nearest z5).bind fun z6 =>
              F_X20_cast_b70  M z6 v1
            else
              F_X20_cast_b70  M z5 v1
      else
        F_X20_cast_b29  M v0 v1 v3
noncomputable def F_X0_failedAt_b17_st (k17 : Mem → Nat → Int32 → Int32 → Option (Int32 × Mem)) (M : Mem) (v0 : Nat) (v2 : Int32) (v3 : Int32) : Option (Int32 × Mem) :=
  if v3 < 0 then
    (gr M v0 67).bind fun t1 =>
    (gi M t1 129).bind fun t2 =>
    some ((-t2), M)
  else
    (gr M v0 90).bind fun t3 =>
    (gr M v0 88).bind fun t4 =>
    (ai M t4 v3).bind fun t5 =>
    if t5 = 0 then none else
    (si M t3 v3 (j_irem v2 t5)).bind fun M6 =>
    (gr M6 v0 88).bind fun t7 =>
    (ai M6 t7 v3).bind fun t8 =>
    if t8 = 0 then none else
    let v2_9 : Int32 := (v2 / t8)
    let v3_10 : Int32 := v3 + (-1 : Int32)
    k17 M6 v0 v2_9 v3_10
noncomputable def F_X0_failedAt_b17  (n : Nat) : Mem → Nat → Int32 → Int32 → Option (Int32 × Mem) :=
  Nat.rec (motive := fun _ => Mem → Nat → Int32 → Int32 → Option (Int32 × Mem)) (fun _ _ _ _ => none) (fun _ ih => F_X0_failedAt_b17_st ih) n
noncomputable def F_X0_failedAt (M : Mem) (v0 : Nat) (v1 : Int32) : Option (Int32 × Mem) :=
  (gi M v0 89).bind fun t11 =>
  (pi M v0 91 t11).bind fun M12 =>
  (gi M12 v0 89).bind fun t13 =>
  let v3_14 : Int32 := (t13 - (1 : Int32))
  F_X0_failedAt_b17  xN M12 v0 v1 v3_14
noncomputable def F_X0_cast_b38  (M : Mem) : Option (Int32 × Mem) :=
  some ((-14 : Int32), M)
noncomputable def F_X0_cast_b130  (M : Mem) (s0 : Nat) (v0 : Nat) (v6 : Int32) : Option (Int32 × Mem) :=
  (vg M v0 1).bind fun _ =>
  (F_X0_failedAt M v0 v6).bind fun z2 =>
  some (z2.1, z2.2)
noncomputable def F_X0_cast_b92_st (k92 : Mem → Nat → Int32 → Int32 → Nat → Int32 → Int32 → Option (Int32 × Mem)) (M : Mem) (v0 : Nat) (v2 : Int32) (v3 : Int32) (v4 : Nat) (v5 : Int32) (v6 : Int32) : Option (Int32 × Mem) :=
  if v6 < v5 then
    (gr M v0 81).bind fun t3 =>
    (gi M v4 1408).bind fun t4 =>
    (vg M v4 22).bind fun _ =>
    (F_X21_get M v4 v6).bind fun z6 =>
    (gr M v0 67).bind fun t7 =>
    tc (F_X20_cast M t4 v2 v3 z6 t7) (fun z8 =>
      (sj z8.2 t3 v6 z8.1).bind fun M10 =>
      let v6_11 : Int32 := v6 + (1 : Int32)
      k92 M10 v0 v2 v3 v4 v5 v6_11)
      (fun z9 =>
        F_X0_cast_b130  z9.2 z9.1 v0 v6)
  else
    (gr M v0 81).bind fun t12 =>
    (vg M v0 1).bind fun _ =>
    (F_X0_made M v0 v2 t12).bind fun z14 =>
    some (z14.1, z14.2)
noncomputable def F_X0_cast_b92  (n : Nat) : Mem → Nat → Int32 → Int32 → Nat → Int32 → Int32 → Option (Int32 × Mem) :=
  Nat.rec (motive := fun _ => Mem → Nat → Int32 → Int32 → Nat → Int32 → Int32 → Option (Int32 × Mem)) (fun _ _ _ _ _ _ _ => none) (fun _ ih => F_X0_cast_b92_st ih) n
noncomputable def F_X0_cast_b63  (M : Mem) (s0 : Int32) (s1 : Int32) (v0 : Nat) (v2 : Int32) (v3 : Int32) (v4 : Nat) : Option (Int32 × Mem) :=
  if s0 = s1 then
    (gr M v4 1410).bind fun t15 =>
    (gi M v4 1409).bind fun t16 =>
    (vg M v0 1).bind fun _ =>
    (F_X0_shapeOf M v0 t15 t16).bind fun z18 =>
    (vg z18 v4 22).bind fun _ =>
    (F_X21_count z18 v4).bind fun z20 =>
    F_X0_cast_b92  xN z18 v0 v2 v3 v4 z20 (0 : Int32)
  else
    some ((-1 : Int32), M)
noncomputable def F_X0_cast_b54  (M : Mem) (s0 : Int32) (v0 : Nat) (v2 : Int32) (v3 : Int32) (v4 : Nat) : Option (Int32 × Mem) :=
  if v2 = 0 then
    F_X0_cast_b63  M s0 (1 : Int32) v0 v2 v3 v4
  else
    F_X0_cast_b63  M s0 (0 : Int32) v0 v2 v3 v4
noncomputable def F_X0_cast (M : Mem) (v0 : Nat) (v1 : Int32) (v2 : Int32) (v3 : Int32) : Option (Int32 × Mem) :=
  (vg M v0 1).bind fun _ =>
  (F_X0_fine M v0).bind fun z22 =>
  (vg z22 v0 1).bind fun _ =>
  (F_X0_find z22 v0 v1).bind fun z24 =>
  if z24 = 6 then
    none
  else
    if z24 = 0 then
      (vg z22 v0 1).bind fun _ =>
      (F_X0_gone z22 v0).bind fun z26 =>
      some ((-z26), z22)
    else
      (F_X20_isLane v2).bind fun z27 =>
      if z27 = 0 then
        F_X0_cast_b38  z22
      else
        if v3 < 0 then
          F_X0_cast_b38  z22
        else
          if (3 : Int32) < v3 then
            F_X0_cast_b38  z22
          else
            (gi z22 z24 1408).bind fun t28 =>
            if t28 = 0 then
              F_X0_cast_b54  z22 (1 : Int32) v0 v2 v3 z24
            else
              F_X0_cast_b54  z22 (0 : Int32) v0 v2 v3 z24
noncomputable def F_X0_mustFit (M : Mem) (v0 : Nat) (v1 : Int32) : Option (Mem ⊕ (Nat × Mem)) :=
  if (4000 : Int32) < v1 then
    (gr M v0 67).bind fun t1 =>
    (vg M t1 2).bind fun _ =>
    (F_X1_at M t1 (1 : Int32) (4000 : Int32)).bind fun z3 =>
    (ie z3.2 z3.1).bind fun _ => some (.inr (z3.1, z3.2))
  else
    some (.inl M)
noncomputable def F_X5_look_b22  (M : Mem) (s0 : Int32) : Option Int32 :=
  some s0
noncomputable def F_X5_look (M : Mem) (v0 : Nat) (v1 : Int32) : Option Int32 :=
  (gi M v0 386).bind fun t1 =>
  if v1 < t1 then
    (gr M v0 385).bind fun t2 =>
    (ab M t2 v1).bind fun t3 =>
    F_X5_look_b22  M (t3 &&& (255 : Int32))
  else
    F_X5_look_b22  M (-1 : Int32)
noncomputable def F_X5_isBlank_b29  (s0 : Int32) : Option Int32 :=
  some (s0 &&& 1)
noncomputable def F_X5_isBlank_b24   : Option Int32 :=
  F_X5_isBlank_b29  (1 : Int32)
noncomputable def F_X5_isBlank (v0 : Int32) : Option Int32 :=
  if v0 = (32 : Int32) then
    F_X5_isBlank_b24  
  else
    if v0 = (9 : Int32) then
      F_X5_isBlank_b24  
    else
      if v0 = (10 : Int32) then
        F_X5_isBlank_b24  
      else
        if v0 = (13 : Int32) then
          F_X5_isBlank_b24  
        else
          F_X5_isBlank_b29  (0 : Int32)
noncomputable def F_X5_set (M : Mem) (v0 : Nat) (v1 : Int32) (v2 : Int32) (v3 : Nat) : Option Mem :=
  (pi M v0 387 v1).bind fun M1 =>
  (pi M1 v0 389 v2).bind fun M2 =>
  (pr M2 v0 390 v3).bind fun M3 =>
  some M3
noncomputable def F_X5_isLetter_b29  (s0 : Int32) : Option Int32 :=
  some (s0 &&& 1)
noncomputable def F_X5_isLetter_b28   : Option Int32 :=
  F_X5_isLetter_b29  (0 : Int32)
noncomputable def F_X5_isLetter_b24   : Option Int32 :=
  F_X5_isLetter_b29  (1 : Int32)
noncomputable def F_X5_isLetter_b12  (v0 : Int32) : Option Int32 :=
  if v0 < (65 : Int32) then
    F_X5_isLetter_b28  
  else
    if (90 : Int32) < v0 then
      F_X5_isLetter_b28  
    else
      F_X5_isLetter_b24  
noncomputable def F_X5_isLetter (v0 : Int32) : Option Int32 :=
  if v0 < (97 : Int32) then
    F_X5_isLetter_b12  v0
  else
    if (122 : Int32) < v0 then
      F_X5_isLetter_b12  v0
    else
      F_X5_isLetter_b24  
noncomputable def F_X5_isDigit_b17  (s0 : Int32) : Option Int32 :=
  some (s0 &&& 1)
noncomputable def F_X5_isDigit_b16   : Option Int32 :=
  F_X5_isDigit_b17  (0 : Int32)
noncomputable def F_X5_isDigit (v0 : Int32) : Option Int32 :=
  if v0 < (48 : Int32) then
    F_X5_isDigit_b16  
  else
    if (57 : Int32) < v0 then
      F_X5_isDigit_b16  
    else
      F_X5_isDigit_b17  (1 : Int32)
noncomputable def F_X5_wrong (M : Mem) (v0 : Nat) : Option (Nat × Mem) :=
  (gr M v0 384).bind fun t1 =>
  (gi M v0 388).bind fun t2 =>
  (vg M t1 2).bind fun _ =>
  (F_X1_at M t1 (1 : Int32) t2).bind fun z4 =>
  some (z4.1, z4.2)
noncomputable def F_X5_part_b14_st (k14 : Mem → Nat → Int32 → Nat → Int32 → Option (Nat × Mem)) (M : Mem) (v0 : Nat) (v2 : Int32) (v3 : Nat) (v4 : Int32) : Option (Nat × Mem) :=
  if v4 < v2 then
    (vg M v0 6).bind fun _ =>
    (F_X5_look M v0 v4).bind fun z2 =>
    (vg M v3 75).bind fun _ =>
    (F_J14_append M v3 (j_i2c z2)).bind fun z4 =>
    let v4_5 : Int32 := v4 + (1 : Int32)
    k14 z4.2 v0 v2 v3 v4_5
  else
    (vg M v3 75).bind fun _ =>
    (F_J14_toString M v3).bind fun z7 =>
    some (z7.1, z7.2)
noncomputable def F_X5_part_b14  (n : Nat) : Mem → Nat → Int32 → Nat → Int32 → Option (Nat × Mem) :=
  Nat.rec (motive := fun _ => Mem → Nat → Int32 → Nat → Int32 → Option (Nat × Mem)) (fun _ _ _ _ _ => none) (fun _ ih => F_X5_part_b14_st ih) n
noncomputable def F_X5_part (M : Mem) (v0 : Nat) (v1 : Int32) (v2 : Int32) : Option (Nat × Mem) :=
  let t9 : Nat := m_nx M
  let M8 : Mem := mo M 75
  (ng M8 t9).bind fun _ =>
  (F_J14_init M8 t9 (v2 - v1)).bind fun z11 =>
  F_X5_part_b14  xN z11 v0 v2 t9 v1
noncomputable def F_X5_isPart_b15_st (k15 : Mem → Nat → Nat → Int32 → Int32 → Int32 → Option Int32) (M : Mem) (v0 : Nat) (v1 : Nat) (v2 : Int32) (v3 : Int32) (v4 : Int32) : Option Int32 :=
  if v4 < v3 then
    (vg M v0 76).bind fun _ =>
    (F_J15_charAt M v0 (v4 - v2)).bind fun z2 =>
    (vg M v1 76).bind fun _ =>
    (F_J15_charAt M v1 v4).bind fun z4 =>
    if z2 = z4 then
      let v4_5 : Int32 := v4 + (1 : Int32)
      k15 M v0 v1 v2 v3 v4_5
    else
      some (0 : Int32)
  else
    some (1 : Int32)
noncomputable def F_X5_isPart_b15  (n : Nat) : Mem → Nat → Nat → Int32 → Int32 → Int32 → Option Int32 :=
  Nat.rec (motive := fun _ => Mem → Nat → Nat → Int32 → Int32 → Int32 → Option Int32) (fun _ _ _ _ _ _ => none) (fun _ ih => F_X5_isPart_b15_st ih) n
noncomputable def F_X5_isPart (M : Mem) (v0 : Nat) (v1 : Nat) (v2 : Int32) (v3 : Int32) : Option Int32 :=
  (vg M v0 76).bind fun _ =>
  (F_J15_length M v0).bind fun z7 =>
  if z7 = (v3 - v2) then
    F_X5_isPart_b15  xN M v0 v1 v2 v3 v2
  else
    some (0 : Int32)
noncomputable def F_X5_isWord_b13_st (k2 : Mem → Nat → Int32 → Option Int32) (k13 : Mem → Nat → Int32 → Int32 → Option Int32) (M : Mem) (v0 : Nat) (v1 : Int32) (v2 : Int32) : Option Int32 :=
  (vg M 22 76).bind fun _ =>
  (F_J15_charAt M 22 v2).bind fun z2 =>
  if z2 = (32 : Int32) then
    (F_X5_isPart M v0 22 v1 v2).bind fun z3 =>
    if z3 = 0 then
      let v1_4 : Int32 := (v2 + (1 : Int32))
      k2 M v0 v1_4
    else
      some (1 : Int32)
  else
    let v2_5 : Int32 := v2 + (1 : Int32)
    k13 M v0 v1 v2_5
noncomputable def F_X5_isWord_b13 (k2 : Mem → Nat → Int32 → Option Int32) (n : Nat) : Mem → Nat → Int32 → Int32 → Option Int32 :=
  Nat.rec (motive := fun _ => Mem → Nat → Int32 → Int32 → Option Int32) (fun _ _ _ _ => none) (fun _ ih => F_X5_isWord_b13_st k2 ih) n
noncomputable def F_X5_isWord_b2_st (k2 : Mem → Nat → Int32 → Option Int32) (M : Mem) (v0 : Nat) (v1 : Int32) : Option Int32 :=
  (vg M 22 76).bind fun _ =>
  (F_J15_length M 22).bind fun z7 =>
  if v1 < z7 then
    F_X5_isWord_b13 k2 xN M v0 v1 v1
  else
    some (0 : Int32)
noncomputable def F_X5_isWord_b2  (n : Nat) : Mem → Nat → Int32 → Option Int32 :=
  Nat.rec (motive := fun _ => Mem → Nat → Int32 → Option Int32) (fun _ _ _ => none) (fun _ ih => F_X5_isWord_b2_st ih) n
noncomputable def F_X5_isWord (M : Mem) (v0 : Nat) : Option Int32 :=
  F_X5_isWord_b2  xN M v0 (1 : Int32)
noncomputable def F_X5_readName_b24 (k2 : Mem → Nat → Int32 → Int32 → Option (Mem ⊕ (Nat × Mem))) (M : Mem) (v0 : Nat) (v1 : Int32) (v2 : Int32) : Option (Mem ⊕ (Nat × Mem)) :=
  let v2_1 : Int32 := v2 + (1 : Int32)
  k2 M v0 v1 v2_1
noncomputable def F_X5_readName_b63  (M : Mem) (s0 : Nat) (s1 : Int32) (v2 : Int32) (v3 : Nat) : Option (Mem ⊕ (Nat × Mem)) :=
  (vg M s0 6).bind fun _ =>
  (F_X5_set M s0 s1 v2 v3).bind fun z3 =>
  some (.inl z3)
noncomputable def F_X5_readName_b2_st (k2 : Mem → Nat → Int32 → Int32 → Option (Mem ⊕ (Nat × Mem))) (M : Mem) (v0 : Nat) (v1 : Int32) (v2 : Int32) : Option (Mem ⊕ (Nat × Mem)) :=
  (vg M v0 6).bind fun _ =>
  (F_X5_look M v0 v2).bind fun z5 =>
  (F_X5_isLetter z5).bind fun z6 =>
  if z6 = 0 then
    (vg M v0 6).bind fun _ =>
    (F_X5_look M v0 v2).bind fun z8 =>
    (F_X5_isDigit z8).bind fun z9 =>
    if z9 = 0 then
      if (12 : Int32) < (v2 - v1) then
        (vg M v0 6).bind fun _ =>
        (F_X5_wrong M v0).bind fun z11 =>
        (ie z11.2 z11.1).bind fun _ => some (.inr (z11.1, z11.2))
      else
        (vg M v0 6).bind fun _ =>
        (F_X5_part M v0 v1 v2).bind fun z13 =>
        (F_X5_isWord z13.2 z13.1).bind fun z14 =>
        if z14 = 0 then
          F_X5_readName_b63  z13.2 v0 (1 : Int32) v2 z13.1
        else
          F_X5_readName_b63  z13.2 v0 (2 : Int32) v2 z13.1
    else
      F_X5_readName_b24 k2 M v0 v1 v2
  else
    F_X5_readName_b24 k2 M v0 v1 v2
noncomputable def F_X5_readName_b2  (n : Nat) : Mem → Nat → Int32 → Int32 → Option (Mem ⊕ (Nat × Mem)) :=
  Nat.rec (motive := fun _ => Mem → Nat → Int32 → Int32 → Option (Mem ⊕ (Nat × Mem))) (fun _ _ _ _ => none) (fun _ ih => F_X5_readName_b2_st ih) n
noncomputable def F_X5_readName (M : Mem) (v0 : Nat) (v1 : Int32) : Option (Mem ⊕ (Nat × Mem)) :=
  F_X5_readName_b2  xN M v0 v1 v1
noncomputable def F_X5_number (M : Mem) (v0 : Nat) (v1 : Int32) (v2 : Int64) (v4 : Int32) : Option Mem :=
  (pi M v0 391 v1).bind fun M1 =>
  (pj M1 v0 392 v2).bind fun M2 =>
  (vg M2 v0 6).bind fun _ =>
  (F_X5_set M2 v0 (3 : Int32) v4 20).bind fun z4 =>
  some z4
noncomputable def F_X5_readReal_b171  (M : Mem) (s0 : Nat) (s1 : Int32) (s2 : Int64) (s3 : Int32) : Option (Mem ⊕ (Nat × Mem)) :=
  (vg M s0 6).bind fun _ =>
  (F_X5_number M s0 s1 s2 s3).bind fun z2 =>
  some (.inl z2)
noncomputable def F_X5_readReal_b150  (M : Mem) (s0 : Nat) (s1 : Int32) (s2 : Int32) (v3 : Int32) (v4 : Int64) (v6 : UInt64) (v8 : Int32) : Option (Mem ⊕ (Nat × Mem)) :=
  let t3 : UInt64 := FP.ddiv (FP.l2d v4) v6
  if x_n64 t3 = true then
    (F_X23_bits s2 t3).bind fun z4 =>
    if v8 = 0 then
      F_X5_readReal_b171  M s0 s1 z4 v3
    else
      F_X5_readReal_b171  M s0 s1 z4 (v3 + (1 : Int32))
  else none
noncomputable def F_X5_readReal_b138  (M : Mem) (s0 : Nat) (s1 : Int32) (v3 : Int32) (v4 : Int64) (v6 : UInt64) (v8 : Int32) : Option (Mem ⊕ (Nat × Mem)) :=
  if v8 = 0 then
    F_X5_readReal_b150  M s0 s1 (7 : Int32) v3 v4 v6 v8
  else
    F_X5_readReal_b150  M s0 s1 (6 : Int32) v3 v4 v6 v8
noncomputable def F_X5_readReal_b123  (M : Mem) (s0 : Int32) (v0 : Nat) (v3 : Int32) (v4 : Int64) (v6 : UInt64) : Option (Mem ⊕ (Nat × Mem)) :=
  if s0 = 0 then
    F_X5_readReal_b138  M v0 (7 : Int32) v3 v4 v6 s0
  else
    F_X5_readReal_b138  M v0 (6 : Int32) v3 v4 v6 s0
noncomputable def F_X5_readReal_b88_st (k88 : Mem → Nat → Int32 → Int64 → UInt64 → Int32 → Option (Mem ⊕ (Nat × Mem))) (M : Mem) (v0 : Nat) (v3 : Int32) (v4 : Int64) (v6 : UInt64) (v8 : Int32) : Option (Mem ⊕ (Nat × Mem)) :=
  if v8 < v3 then
    let t5 : UInt64 := FP.dmul v6 (4621819117588971520 : UInt64)
    if x_n64 t5 = true then
      let v8_6 : Int32 := v8 + (1 : Int32)
      k88 M v0 v3 v4 t5 v8_6
    else none
  else
    (vg M v0 6).bind fun _ =>
    (F_X5_look M v0 v3).bind fun z8 =>
    if z8 = (70 : Int32) then
      F_X5_readReal_b123  M (1 : Int32) v0 v3 v4 v6
    else
      F_X5_readReal_b123  M (0 : Int32) v0 v3 v4 v6
noncomputable def F_X5_readReal_b88  (n : Nat) : Mem → Nat → Int32 → Int64 → UInt64 → Int32 → Option (Mem ⊕ (Nat × Mem)) :=
  Nat.rec (motive := fun _ => Mem → Nat → Int32 → Int64 → UInt64 → Int32 → Option (Mem ⊕ (Nat × Mem))) (fun _ _ _ _ _ _ => none) (fun _ ih => F_X5_readReal_b88_st ih) n
noncomputable def F_X5_readReal_b74 (k42 : Mem → Nat → Int32 → Int32 → Int64 → Int32 → Option (Mem ⊕ (Nat × Mem))) (M : Mem) (v0 : Nat) (v2 : Int32) (v3 : Int32) (v4 : Int64) (v6 : Int32) : Option (Mem ⊕ (Nat × Mem)) :=
  let v6_9 : Int32 := v6 + (1 : Int32)
  k42 M v0 v2 v3 v4 v6_9
noncomputable def F_X5_readReal_b42_st (k42 : Mem → Nat → Int32 → Int32 → Int64 → Int32 → Option (Mem ⊕ (Nat × Mem))) (M : Mem) (v0 : Nat) (v2 : Int32) (v3 : Int32) (v4 : Int64) (v6 : Int32) : Option (Mem ⊕ (Nat × Mem)) :=
  if v6 < v3 then
    if v6 = v2 then
      F_X5_readReal_b74 k42 M v0 v2 v3 v4 v6
    else
      (vg M v0 6).bind fun _ =>
      (F_X5_look M v0 v6).bind fun z11 =>
      let v4_12 : Int64 := ((((10 : Int64) * v4) + z11.toInt64) - (48 : Int64))
      F_X5_readReal_b74 k42 M v0 v2 v3 v4_12 v6
  else
    let v8_13 : Int32 := (v2 + (1 : Int32))
    F_X5_readReal_b88  xN M v0 v3 v4 (4607182418800017408 : UInt64) v8_13
noncomputable def F_X5_readReal_b42  (n : Nat) : Mem → Nat → Int32 → Int32 → Int64 → Int32 → Option (Mem ⊕ (Nat × Mem)) :=
  Nat.rec (motive := fun _ => Mem → Nat → Int32 → Int32 → Int64 → Int32 → Option (Mem ⊕ (Nat × Mem))) (fun _ _ _ _ _ _ => none) (fun _ ih => F_X5_readReal_b42_st ih) n
noncomputable def F_X5_readReal_b4_st (k4 : Mem → Nat → Int32 → Int32 → Int32 → Option (Mem ⊕ (Nat × Mem))) (M : Mem) (v0 : Nat) (v1 : Int32) (v2 : Int32) (v3 : Int32) : Option (Mem ⊕ (Nat × Mem)) :=
  (vg M v0 6).bind fun _ =>
  (F_X5_look M v0 v3).bind fun z15 =>
  (F_X5_isDigit z15).bind fun z16 =>
  if z16 = 0 then
    if (15 : Int32) < ((v3 - v1) - (1 : Int32)) then
      (vg M v0 6).bind fun _ =>
      (F_X5_wrong M v0).bind fun z18 =>
      (ie z18.2 z18.1).bind fun _ => some (.inr (z18.1, z18.2))
    else
      F_X5_readReal_b42  xN M v0 v2 v3 (0 : Int64) v1
  else
    let v3_19 : Int32 := v3 + (1 : Int32)
    k4 M v0 v1 v2 v3_19
noncomputable def F_X5_readReal_b4  (n : Nat) : Mem → Nat → Int32 → Int32 → Int32 → Option (Mem ⊕ (Nat × Mem)) :=
  Nat.rec (motive := fun _ => Mem → Nat → Int32 → Int32 → Int32 → Option (Mem ⊕ (Nat × Mem))) (fun _ _ _ _ _ => none) (fun _ ih => F_X5_readReal_b4_st ih) n
noncomputable def F_X5_readReal (M : Mem) (v0 : Nat) (v1 : Int32) (v2 : Int32) : Option (Mem ⊕ (Nat × Mem)) :=
  let v3_20 : Int32 := (v2 + (1 : Int32))
  F_X5_readReal_b4  xN M v0 v1 v2 v3_20
noncomputable def F_X5_readNumber_b165  (M : Mem) (s0 : Nat) (s1 : Int32) (s2 : Int64) (s3 : Int32) : Option (Mem ⊕ (Nat × Mem)) :=
  (vg M s0 6).bind fun _ =>
  (F_X5_number M s0 s1 s2 s3).bind fun z2 =>
  some (.inl z2)
noncomputable def F_X5_readNumber_b152  (M : Mem) (s0 : Nat) (s1 : Int32) (v2 : Int32) (v3 : Int32) (v6 : Int64) : Option (Mem ⊕ (Nat × Mem)) :=
  if v3 = 0 then
    F_X5_readNumber_b165  M s0 s1 v6 v2
  else
    F_X5_readNumber_b165  M s0 s1 v6 (v2 + (1 : Int32))
noncomputable def F_X5_readNumber_b86_st (k86 : Mem → Nat → Int32 → Int32 → Int64 → Int64 → Int32 → Option (Mem ⊕ (Nat × Mem))) (M : Mem) (v0 : Nat) (v2 : Int32) (v3 : Int32) (v4 : Int64) (v6 : Int64) (v8 : Int32) : Option (Mem ⊕ (Nat × Mem)) :=
  if v8 < v2 then
    (vg M v0 6).bind fun _ =>
    (F_X5_look M v0 v8).bind fun z4 =>
    let v9_5 : Int32 := (z4 - (48 : Int32))
    if (10 : Int64) = 0 then none else
    if ((v4 - v9_5.toInt64) / (10 : Int64)) < v6 then
      (vg M v0 6).bind fun _ =>
      (F_X5_wrong M v0).bind fun z7 =>
      (ie z7.2 z7.1).bind fun _ => some (.inr (z7.1, z7.2))
    else
      let v6_8 : Int64 := (((10 : Int64) * v6) + v9_5.toInt64)
      let v8_9 : Int32 := v8 + (1 : Int32)
      k86 M v0 v2 v3 v4 v6_8 v8_9
  else
    if v3 = 0 then
      F_X5_readNumber_b152  M v0 (4 : Int32) v2 v3 v6
    else
      F_X5_readNumber_b152  M v0 (5 : Int32) v2 v3 v6
noncomputable def F_X5_readNumber_b86  (n : Nat) : Mem → Nat → Int32 → Int32 → Int64 → Int64 → Int32 → Option (Mem ⊕ (Nat × Mem)) :=
  Nat.rec (motive := fun _ => Mem → Nat → Int32 → Int32 → Int64 → Int64 → Int32 → Option (Mem ⊕ (Nat × Mem))) (fun _ _ _ _ _ _ _ => none) (fun _ ih => F_X5_readNumber_b86_st ih) n
noncomputable def F_X5_readNumber_b78  (M : Mem) (s0 : Int64) (v0 : Nat) (v1 : Int32) (v2 : Int32) (v3 : Int32) : Option (Mem ⊕ (Nat × Mem)) :=
  F_X5_readNumber_b86  xN M v0 v2 v3 s0 (0 : Int64) v1
noncomputable def F_X5_readNumber_b64  (M : Mem) (s0 : Int32) (v0 : Nat) (v1 : Int32) (v2 : Int32) : Option (Mem ⊕ (Nat × Mem)) :=
  if s0 = 0 then
    F_X5_readNumber_b78  M (2147483647 : Int64) v0 v1 v2 s0
  else
    F_X5_readNumber_b78  M (9223372036854775807 : Int64) v0 v1 v2 s0
noncomputable def F_X5_readNumber_b49  (M : Mem) (v0 : Nat) (v1 : Int32) (v2 : Int32) : Option (Mem ⊕ (Nat × Mem)) :=
  (vg M v0 6).bind fun _ =>
  (F_X5_look M v0 v2).bind fun z11 =>
  if z11 = (76 : Int32) then
    F_X5_readNumber_b64  M (1 : Int32) v0 v1 v2
  else
    F_X5_readNumber_b64  M (0 : Int32) v0 v1 v2
noncomputable def F_X5_readNumber_b2_st (k2 : Mem → Nat → Int32 → Int32 → Option (Mem ⊕ (Nat × Mem))) (M : Mem) (v0 : Nat) (v1 : Int32) (v2 : Int32) : Option (Mem ⊕ (Nat × Mem)) :=
  (vg M v0 6).bind fun _ =>
  (F_X5_look M v0 v2).bind fun z13 =>
  (F_X5_isDigit z13).bind fun z14 =>
  if z14 = 0 then
    (vg M v0 6).bind fun _ =>
    (F_X5_look M v0 v2).bind fun z16 =>
    if z16 = (46 : Int32) then
      (vg M v0 6).bind fun _ =>
      (F_X5_look M v0 (v2 + (1 : Int32))).bind fun z18 =>
      (F_X5_isDigit z18).bind fun z19 =>
      if z19 = 0 then
        F_X5_readNumber_b49  M v0 v1 v2
      else
        (vg M v0 6).bind fun _ =>
        tb (F_X5_readReal M v0 v1 v2) fun z21 =>
        some (.inl z21)
    else
      F_X5_readNumber_b49  M v0 v1 v2
  else
    let v2_22 : Int32 := v2 + (1 : Int32)
    k2 M v0 v1 v2_22
noncomputable def F_X5_readNumber_b2  (n : Nat) : Mem → Nat → Int32 → Int32 → Option (Mem ⊕ (Nat × Mem)) :=
  Nat.rec (motive := fun _ => Mem → Nat → Int32 → Int32 → Option (Mem ⊕ (Nat × Mem))) (fun _ _ _ _ => none) (fun _ ih => F_X5_readNumber_b2_st ih) n
noncomputable def F_X5_readNumber (M : Mem) (v0 : Nat) (v1 : Int32) : Option (Mem ⊕ (Nat × Mem)) :=
  F_X5_readNumber_b2  xN M v0 v1 v1
noncomputable def F_X5_sign_b304  (s0 : Nat) : Option Nat :=
  some s0
noncomputable def F_X5_sign_b272  (s0 : Nat) : Option Nat :=
  some s0
noncomputable def F_X5_sign_b288  (s0 : Nat) : Option Nat :=
  some s0
noncomputable def F_X5_sign_b225  (s0 : Nat) : Option Nat :=
  some s0
noncomputable def F_X5_sign_b186  (s0 : Nat) : Option Nat :=
  some s0
noncomputable def F_X5_sign_b259  (s0 : Nat) : Option Nat :=
  some s0
noncomputable def F_X5_sign (v0 : Int32) (v1 : Int32) (v2 : Int32) : Option Nat :=
  if v0 = (33 : Int32) then
    if v1 = (1 : Int32) then
      F_X5_sign_b272  23
    else
      F_X5_sign_b272  24
  else
    if v0 = (37 : Int32) then
      some 25
    else
      if v0 = (38 : Int32) then
        if v1 = (1 : Int32) then
          F_X5_sign_b288  26
        else
          F_X5_sign_b288  27
      else
        if v0 = (40 : Int32) then
          some 28
        else
          if v0 = (41 : Int32) then
            some 30
          else
            if v0 = (42 : Int32) then
              some 31
            else
              if v0 = (43 : Int32) then
                some 32
              else
                if v0 = (44 : Int32) then
                  some 33
                else
                  if v0 = (45 : Int32) then
                    some 34
                  else
                    if v0 = (47 : Int32) then
                      some 35
                    else
                      if v0 = (58 : Int32) then
                        some 37
                      else
                        if v0 = (59 : Int32) then
                          some 38
                        else
                          if v0 = (60 : Int32) then
                            if v1 = (1 : Int32) then
                              F_X5_sign_b225  39
                            else
                              if v2 = (60 : Int32) then
                                F_X5_sign_b225  40
                              else
                                F_X5_sign_b225  41
                          else
                            if v0 = (61 : Int32) then
                              if v1 = (1 : Int32) then
                                F_X5_sign_b186  42
                              else
                                F_X5_sign_b186  43
                            else
                              if v0 = (62 : Int32) then
                                if v1 = (1 : Int32) then
                                  F_X5_sign_b259  44
                                else
                                  if v1 = (3 : Int32) then
                                    F_X5_sign_b259  47
                                  else
                                    if v2 = (62 : Int32) then
                                      F_X5_sign_b259  46
                                    else
                                      F_X5_sign_b259  45
                              else
                                if v0 = (63 : Int32) then
                                  some 48
                                else
                                  if v0 = (94 : Int32) then
                                    some 49
                                  else
                                    if v0 = (126 : Int32) then
                                      some 64
                                    else
                                      if v1 = (1 : Int32) then
                                        F_X5_sign_b304  62
                                      else
                                        F_X5_sign_b304  63
noncomputable def F_X5_readSign_b142  (M : Mem) (v0 : Nat) (v1 : Int32) (v2 : Int32) (v3 : Int32) (v4 : Int32) : Option (Mem ⊕ (Nat × Mem)) :=
  (F_X5_sign v2 v4 v3).bind fun z1 =>
  (vg M v0 6).bind fun _ =>
  (F_X5_set M v0 (4 : Int32) (v1 + v4) z1).bind fun z3 =>
  some (.inl z3)
noncomputable def F_X5_readSign_b137  (M : Mem) (v0 : Nat) : Option (Mem ⊕ (Nat × Mem)) :=
  (vg M v0 6).bind fun _ =>
  (F_X5_wrong M v0).bind fun z5 =>
  (ie z5.2 z5.1).bind fun _ => some (.inr (z5.1, z5.2))
noncomputable def F_X5_readSign_b115  (M : Mem) (v0 : Nat) (v1 : Int32) (v2 : Int32) (v3 : Int32) (v4 : Int32) : Option (Mem ⊕ (Nat × Mem)) :=
  if v4 = (1 : Int32) then
    if (126 : Int32) < v2 then
      F_X5_readSign_b137  M v0
    else
      (vg M 29 76).bind fun _ =>
      (F_J15_indexOf M 29 (j_i2c v2)).bind fun z7 =>
      if z7 < 0 then
        F_X5_readSign_b137  M v0
      else
        F_X5_readSign_b142  M v0 v1 v2 v3 v4
  else
    F_X5_readSign_b142  M v0 v1 v2 v3 v4
noncomputable def F_X5_readSign_b112  (M : Mem) (v0 : Nat) (v1 : Int32) (v2 : Int32) (v3 : Int32) : Option (Mem ⊕ (Nat × Mem)) :=
  F_X5_readSign_b115  M v0 v1 v2 v3 (2 : Int32)
noncomputable def F_X5_readSign_b107  (M : Mem) (v0 : Nat) (v1 : Int32) (v2 : Int32) (v3 : Int32) (v4 : Int32) : Option (Mem ⊕ (Nat × Mem)) :=
  if v3 = v2 then
    F_X5_readSign_b112  M v0 v1 v2 v3
  else
    F_X5_readSign_b115  M v0 v1 v2 v3 v4
noncomputable def F_X5_readSign_b95  (M : Mem) (v0 : Nat) (v1 : Int32) (v2 : Int32) (v3 : Int32) (v4 : Int32) : Option (Mem ⊕ (Nat × Mem)) :=
  if v2 = (38 : Int32) then
    F_X5_readSign_b107  M v0 v1 v2 v3 v4
  else
    if v2 = (124 : Int32) then
      F_X5_readSign_b107  M v0 v1 v2 v3 v4
    else
      F_X5_readSign_b115  M v0 v1 v2 v3 v4
noncomputable def F_X5_readSign_b89  (M : Mem) (v0 : Nat) (v1 : Int32) (v2 : Int32) (v3 : Int32) (v4 : Int32) : Option (Mem ⊕ (Nat × Mem)) :=
  if v3 = (61 : Int32) then
    F_X5_readSign_b112  M v0 v1 v2 v3
  else
    F_X5_readSign_b95  M v0 v1 v2 v3 v4
noncomputable def F_X5_readSign_b77  (M : Mem) (v0 : Nat) (v1 : Int32) (v2 : Int32) (v3 : Int32) (v4 : Int32) : Option (Mem ⊕ (Nat × Mem)) :=
  if v2 = (61 : Int32) then
    F_X5_readSign_b89  M v0 v1 v2 v3 v4
  else
    if v2 = (33 : Int32) then
      F_X5_readSign_b89  M v0 v1 v2 v3 v4
    else
      F_X5_readSign_b95  M v0 v1 v2 v3 v4
noncomputable def F_X5_readSign_b59  (M : Mem) (v0 : Nat) (v1 : Int32) (v2 : Int32) (v3 : Int32) (v4 : Int32) : Option (Mem ⊕ (Nat × Mem)) :=
  if v2 = (62 : Int32) then
    if v3 = (62 : Int32) then
      F_X5_readSign_b112  M v0 v1 v2 v3
    else
      if v3 = (61 : Int32) then
        F_X5_readSign_b112  M v0 v1 v2 v3
      else
        F_X5_readSign_b77  M v0 v1 v2 v3 v4
  else
    F_X5_readSign_b77  M v0 v1 v2 v3 v4
noncomputable def F_X5_readSign_b41  (M : Mem) (v0 : Nat) (v1 : Int32) (v2 : Int32) (v3 : Int32) (v4 : Int32) : Option (Mem ⊕ (Nat × Mem)) :=
  if v2 = (60 : Int32) then
    if v3 = (60 : Int32) then
      F_X5_readSign_b112  M v0 v1 v2 v3
    else
      if v3 = (61 : Int32) then
        F_X5_readSign_b112  M v0 v1 v2 v3
      else
        F_X5_readSign_b59  M v0 v1 v2 v3 v4
  else
    F_X5_readSign_b59  M v0 v1 v2 v3 v4
noncomputable def F_X5_readSign (M : Mem) (v0 : Nat) (v1 : Int32) (v2 : Int32) : Option (Mem ⊕ (Nat × Mem)) :=
  (vg M v0 6).bind fun _ =>
  (F_X5_look M v0 (v1 + (1 : Int32))).bind fun z9 =>
  if v2 = (62 : Int32) then
    if z9 = (62 : Int32) then
      (vg M v0 6).bind fun _ =>
      (F_X5_look M v0 (v1 + (2 : Int32))).bind fun z11 =>
      if z11 = (62 : Int32) then
        F_X5_readSign_b115  M v0 v1 v2 z9 (3 : Int32)
      else
        F_X5_readSign_b41  M v0 v1 v2 z9 (1 : Int32)
    else
      F_X5_readSign_b41  M v0 v1 v2 z9 (1 : Int32)
  else
    F_X5_readSign_b41  M v0 v1 v2 z9 (1 : Int32)
noncomputable def F_X5_next_b89  (M : Mem) : Option (Mem ⊕ (Nat × Mem)) :=
  some (.inl M)
noncomputable def F_X5_next_b68  (M : Mem) (v0 : Nat) (v1 : Int32) (v2 : Int32) : Option (Mem ⊕ (Nat × Mem)) :=
  (F_X5_isDigit v2).bind fun z1 =>
  if z1 = 0 then
    (vg M v0 6).bind fun _ =>
    tb (F_X5_readSign M v0 v1 v2) fun z3 =>
    F_X5_next_b89  z3
  else
    (vg M v0 6).bind fun _ =>
    tb (F_X5_readNumber M v0 v1) fun z5 =>
    F_X5_next_b89  z5
noncomputable def F_X5_next_b5_st (k5 : Mem → Nat → Int32 → Option (Mem ⊕ (Nat × Mem))) (M : Mem) (v0 : Nat) (v1 : Int32) : Option (Mem ⊕ (Nat × Mem)) :=
  (vg M v0 6).bind fun _ =>
  (F_X5_look M v0 v1).bind fun z7 =>
  (F_X5_isBlank z7).bind fun z8 =>
  if z8 = 0 then
    (pi M v0 388 v1).bind fun M9 =>
    (vg M9 v0 6).bind fun _ =>
    (F_X5_look M9 v0 v1).bind fun z11 =>
    if z11 < 0 then
      (vg M9 v0 6).bind fun _ =>
      (F_X5_set M9 v0 (0 : Int32) v1 20).bind fun z13 =>
      F_X5_next_b89  z13
    else
      if z11 < (97 : Int32) then
        F_X5_next_b68  M9 v0 v1 z11
      else
        if (122 : Int32) < z11 then
          F_X5_next_b68  M9 v0 v1 z11
        else
          (vg M9 v0 6).bind fun _ =>
          tb (F_X5_readName M9 v0 v1) fun z15 =>
          F_X5_next_b89  z15
  else
    let v1_16 : Int32 := v1 + (1 : Int32)
    k5 M v0 v1_16
noncomputable def F_X5_next_b5  (n : Nat) : Mem → Nat → Int32 → Option (Mem ⊕ (Nat × Mem)) :=
  Nat.rec (motive := fun _ => Mem → Nat → Int32 → Option (Mem ⊕ (Nat × Mem))) (fun _ _ _ => none) (fun _ ih => F_X5_next_b5_st ih) n
noncomputable def F_X5_next (M : Mem) (v0 : Nat) : Option (Mem ⊕ (Nat × Mem)) :=
  (gi M v0 389).bind fun t17 =>
  F_X5_next_b5  xN M v0 t17
noncomputable def F_X5_open (M : Mem) (v0 : Nat) (v1 : Nat) (v2 : Int32) : Option (Mem ⊕ (Nat × Mem)) :=
  (pr M v0 385 v1).bind fun M1 =>
  (pi M1 v0 386 v2).bind fun M2 =>
  (pi M2 v0 389 (0 : Int32)).bind fun M3 =>
  (vg M3 v0 6).bind fun _ =>
  tb (F_X5_next M3 v0) fun z5 =>
  some (.inl z5)
noncomputable def F_X26_init (M : Mem) (v0 : Nat) (v1 : Nat) (v2 : Nat) : Option Mem :=
  (ng M v0).bind fun _ =>
  let t4 : Nat := m_nx M
  let M3 : Mem := mo M 67
  (ng M3 t4).bind fun _ =>
  (F_J6_init M3 t4 (4 : Int32)).bind fun z6 =>
  (pr z6 v0 1730 t4).bind fun M7 =>
  (pr M7 v0 1728 v1).bind fun M8 =>
  (pr M8 v0 1729 v2).bind fun M9 =>
  some M9
noncomputable def F_X5_laneWord_b26_st (k17 : Mem → Nat → Nat → Int32 → Int32 → Option Int32) (k26 : Mem → Nat → Nat → Int32 → Int32 → Int32 → Option Int32) (M : Mem) (v0 : Nat) (v1 : Nat) (v2 : Int32) (v3 : Int32) (v4 : Int32) : Option Int32 :=
  (vg M v1 76).bind fun _ =>
  (F_J15_charAt M v1 v4).bind fun z2 =>
  if z2 = (32 : Int32) then
    (gr M v0 390).bind fun t3 =>
    (F_X5_isPart M t3 v1 v2 v4).bind fun z4 =>
    if z4 = 0 then
      let v2_5 : Int32 := (v4 + (1 : Int32))
      let v3_6 : Int32 := v3 + (1 : Int32)
      k17 M v0 v1 v2_5 v3_6
    else
      some v3
  else
    let v4_7 : Int32 := v4 + (1 : Int32)
    k26 M v0 v1 v2 v3 v4_7
noncomputable def F_X5_laneWord_b26 (k17 : Mem → Nat → Nat → Int32 → Int32 → Option Int32) (n : Nat) : Mem → Nat → Nat → Int32 → Int32 → Int32 → Option Int32 :=
  Nat.rec (motive := fun _ => Mem → Nat → Nat → Int32 → Int32 → Int32 → Option Int32) (fun _ _ _ _ _ _ => none) (fun _ ih => F_X5_laneWord_b26_st k17 ih) n
noncomputable def F_X5_laneWord_b17_st (k17 : Mem → Nat → Nat → Int32 → Int32 → Option Int32) (M : Mem) (v0 : Nat) (v1 : Nat) (v2 : Int32) (v3 : Int32) : Option Int32 :=
  if (7 : Int32) < v3 then
    some (-1 : Int32)
  else
    F_X5_laneWord_b26 k17 xN M v0 v1 v2 v3 v2
noncomputable def F_X5_laneWord_b17  (n : Nat) : Mem → Nat → Nat → Int32 → Int32 → Option Int32 :=
  Nat.rec (motive := fun _ => Mem → Nat → Nat → Int32 → Int32 → Option Int32) (fun _ _ _ _ _ => none) (fun _ ih => F_X5_laneWord_b17_st ih) n
noncomputable def F_X5_laneWord (M : Mem) (v0 : Nat) : Option Int32 :=
  (gi M v0 387).bind fun t8 =>
  if t8 = (2 : Int32) then
    F_X5_laneWord_b17  xN M v0 52 (0 : Int32) (0 : Int32)
  else
    some (-1 : Int32)
noncomputable def F_X26_lane (M : Mem) (v0 : Nat) : Option ((Int32 × Mem) ⊕ (Nat × Mem)) :=
  (gr M v0 1728).bind fun t1 =>
  (vg M t1 6).bind fun _ =>
  (F_X5_laneWord M t1).bind fun z3 =>
  if z3 < 0 then
    (gr M v0 1728).bind fun t4 =>
    (vg M t4 6).bind fun _ =>
    (F_X5_wrong M t4).bind fun z6 =>
    (ie z6.2 z6.1).bind fun _ => some (.inr (z6.1, z6.2))
  else
    (gr M v0 1728).bind fun t7 =>
    (vg M t7 6).bind fun _ =>
    tb (F_X5_next M t7) fun z9 =>
    some (.inl (z3, z9))
noncomputable def F_X5_name (M : Mem) (v0 : Nat) : Option ((Nat × Mem) ⊕ (Nat × Mem)) :=
  (gi M v0 387).bind fun t1 =>
  if t1 = (1 : Int32) then
    (gr M v0 390).bind fun t2 =>
    (vg M v0 6).bind fun _ =>
    tb (F_X5_next M v0) fun z4 =>
    some (.inl (t2, z4))
  else
    (vg M v0 6).bind fun _ =>
    (F_X5_wrong M v0).bind fun z6 =>
    (ie z6.2 z6.1).bind fun _ => some (.inr (z6.1, z6.2))
noncomputable def F_X27_init (M : Mem) (v0 : Nat) (v1 : Int32) (v2 : Nat) (v3 : Int32) : Option Mem :=
  (ng M v0).bind fun _ =>
  let t4 : Nat := m_nx M
  let M3 : Mem := mo M 67
  (ng M3 t4).bind fun _ =>
  (F_J6_init M3 t4 (4 : Int32)).bind fun z6 =>
  (pr z6 v0 1795 t4).bind fun M7 =>
  (mk M7 1005 (6 : Int32)).bind fun M8 =>
  (pr M8 v0 1796 (m_nx M7)).bind fun M9 =>
  (mk M9 1005 (6 : Int32)).bind fun M10 =>
  (pr M10 v0 1797 (m_nx M9)).bind fun M11 =>
  (pi M11 v0 1792 v1).bind fun M12 =>
  (pr M12 v0 1793 v2).bind fun M13 =>
  (pi M13 v0 1794 v3).bind fun M14 =>
  some M14
noncomputable def F_X5_is_b32  (M : Mem) (s0 : Int32) : Option Int32 :=
  some (s0 &&& 1)
noncomputable def F_X5_is_b31  (M : Mem) : Option Int32 :=
  F_X5_is_b32  M (0 : Int32)
noncomputable def F_X5_is_b16  (M : Mem) (v0 : Nat) (v1 : Nat) : Option Int32 :=
  (gr M v0 390).bind fun t1 =>
  (vg M t1 76).bind fun _ =>
  (F_J15_equals M t1 v1).bind fun z3 =>
  if z3 = 0 then
    F_X5_is_b31  M
  else
    F_X5_is_b32  M (1 : Int32)
noncomputable def F_X5_is (M : Mem) (v0 : Nat) (v1 : Nat) : Option Int32 :=
  (gi M v0 387).bind fun t4 =>
  if t4 = (4 : Int32) then
    F_X5_is_b16  M v0 v1
  else
    (gi M v0 387).bind fun t5 =>
    if t5 = (2 : Int32) then
      F_X5_is_b16  M v0 v1
    else
      F_X5_is_b31  M
noncomputable def F_X5_expect (M : Mem) (v0 : Nat) (v1 : Nat) : Option (Mem ⊕ (Nat × Mem)) :=
  (vg M v0 6).bind fun _ =>
  (F_X5_is M v0 v1).bind fun z2 =>
  if z2 = 0 then
    (vg M v0 6).bind fun _ =>
    (F_X5_wrong M v0).bind fun z4 =>
    (ie z4.2 z4.1).bind fun _ => some (.inr (z4.1, z4.2))
  else
    (vg M v0 6).bind fun _ =>
    tb (F_X5_next M v0) fun z6 =>
    some (.inl z6)
noncomputable def F_X5_accept (M : Mem) (v0 : Nat) (v1 : Nat) : Option ((Int32 × Mem) ⊕ (Nat × Mem)) :=
  (vg M v0 6).bind fun _ =>
  (F_X5_is M v0 v1).bind fun z2 =>
  if z2 = 0 then
    some (.inl ((0 : Int32), M))
  else
    (vg M v0 6).bind fun _ =>
    tb (F_X5_next M v0) fun z4 =>
    some (.inl ((1 : Int32), z4))
noncomputable def F_X26_deeper (M : Mem) (v0 : Nat) (v1 : Int32) : Option ((Int32 × Mem) ⊕ (Nat × Mem)) :=
  if v1 = (25 : Int32) then
    (gr M v0 1728).bind fun t1 =>
    (vg M t1 6).bind fun _ =>
    (F_X5_wrong M t1).bind fun z3 =>
    (ie z3.2 z3.1).bind fun _ => some (.inr (z3.1, z3.2))
  else
    some (.inl ((v1 + (1 : Int32)), M))
noncomputable def F_X28_init (M : Mem) (v0 : Nat) (v1 : Int32) : Option Mem :=
  (ng M v0).bind fun _ =>
  (pi M v0 1858 (1 : Int32)).bind fun M3 =>
  (pi M3 v0 1856 v1).bind fun M4 =>
  some M4
noncomputable def F_X29_init (M : Mem) (v0 : Nat) (v1 : Int32) (v2 : Int32) (v3 : Nat) : Option Mem :=
  (ng M v0).bind fun _ =>
  (F_X28_init M v0 v1).bind fun z2 =>
  (pi z2 v0 1920 v2).bind fun M3 =>
  (pr M3 v0 1921 v3).bind fun M4 =>
  some M4
noncomputable def F_X28_over (M : Mem) (v0 : Nat) (v1 : Nat) : Option (Nat × Mem) :=
  (gi M v0 1858).bind fun t1 =>
  (gi M v1 1858).bind fun t2 =>
  (F_J7_max t1 (t2 + (1 : Int32))).bind fun z3 =>
  (pi M v0 1858 z3).bind fun M4 =>
  some (v0, M4)
noncomputable def F_X30_init (M : Mem) (v0 : Nat) (v1 : Int32) (v2 : Int32) (v3 : Int64) : Option Mem :=
  (ng M v0).bind fun _ =>
  (F_X28_init M v0 v1).bind fun z2 =>
  (pi z2 v0 1857 v2).bind fun M3 =>
  (pj M3 v0 1984 v3).bind fun M4 =>
  some M4
noncomputable def F_X31_init (M : Mem) (v0 : Nat) (v1 : Int32) (v2 : Nat) : Option Mem :=
  (ng M v0).bind fun _ =>
  (F_X28_init M v0 v1).bind fun z2 =>
  (pr z2 v0 2048 v2).bind fun M3 =>
  some M3
noncomputable def F_X32_init (M : Mem) (v0 : Nat) (v1 : Int32) (v2 : Nat) (v3 : Nat) : Option Mem :=
  (ng M v0).bind fun _ =>
  (F_X28_init M v0 v1).bind fun z2 =>
  (pi z2 v0 2114 (-1 : Int32)).bind fun M3 =>
  (pr M3 v0 2112 v2).bind fun M4 =>
  (pr M4 v0 2113 v3).bind fun M5 =>
  some M5
noncomputable def F_X33_init (M : Mem) (v0 : Nat) (v1 : Int32) (v2 : Int32) (v3 : Nat) : Option Mem :=
  (ng M v0).bind fun _ =>
  (F_X28_init M v0 v1).bind fun z2 =>
  (pi z2 v0 1857 v2).bind fun M3 =>
  (pr M3 v0 2176 v3).bind fun M4 =>
  some M4
noncomputable def F_X26_longSign_b71  (s0 : Int32) : Option Int32 :=
  some s0
noncomputable def F_X26_longSign_b39  (s0 : Int32) : Option Int32 :=
  some s0
noncomputable def F_X26_longSign_b19  (s0 : Int32) : Option Int32 :=
  some s0
noncomputable def F_X26_longSign (v0 : Int32) (v1 : Int32) : Option Int32 :=
  if v0 = (60 : Int32) then
    if v1 = (60 : Int32) then
      F_X26_longSign_b19  (6 : Int32)
    else
      F_X26_longSign_b19  (11 : Int32)
  else
    if v0 = (62 : Int32) then
      if v1 = (62 : Int32) then
        F_X26_longSign_b39  (7 : Int32)
      else
        F_X26_longSign_b39  (12 : Int32)
    else
      if v0 = (61 : Int32) then
        some (13 : Int32)
      else
        if v0 = (33 : Int32) then
          some (14 : Int32)
        else
          if v0 = (38 : Int32) then
            F_X26_longSign_b71  (18 : Int32)
          else
            F_X26_longSign_b71  (19 : Int32)
noncomputable def F_X26_sign (M : Mem) (v0 : Nat) : Option Int32 :=
  (gr M v0 1728).bind fun t1 =>
  (gi M t1 387).bind fun t2 =>
  if t2 = (4 : Int32) then
    (gr M v0 1728).bind fun t3 =>
    (gr M t3 390).bind fun t4 =>
    (vg M t4 76).bind fun _ =>
    (F_J15_charAt M t4 (0 : Int32)).bind fun z6 =>
    (gr M v0 1728).bind fun t7 =>
    (gr M t7 390).bind fun t8 =>
    (vg M t8 76).bind fun _ =>
    (F_J15_length M t8).bind fun z10 =>
    if z10 = (3 : Int32) then
      some (8 : Int32)
    else
      if z10 = (2 : Int32) then
        (gr M v0 1728).bind fun t11 =>
        (gr M t11 390).bind fun t12 =>
        (vg M t12 76).bind fun _ =>
        (F_J15_charAt M t12 (1 : Int32)).bind fun z14 =>
        (F_X26_longSign z6 z14).bind fun z15 =>
        some z15
      else
        if z6 = (37 : Int32) then
          some (5 : Int32)
        else
          if z6 = (38 : Int32) then
            some (15 : Int32)
          else
            if z6 = (42 : Int32) then
              some (3 : Int32)
            else
              if z6 = (43 : Int32) then
                some (1 : Int32)
              else
                if z6 = (45 : Int32) then
                  some (2 : Int32)
                else
                  if z6 = (47 : Int32) then
                    some (4 : Int32)
                  else
                    if z6 = (60 : Int32) then
                      some (9 : Int32)
                    else
                      if z6 = (62 : Int32) then
                        some (10 : Int32)
                      else
                        if z6 = (94 : Int32) then
                          some (16 : Int32)
                        else
                          if z6 = (124 : Int32) then
                            some (17 : Int32)
                          else
                            some (0 : Int32)
  else
    some (0 : Int32)
noncomputable def F_X26_level_b87  (s0 : Int32) : Option Int32 :=
  some s0
noncomputable def F_X26_level (v0 : Int32) : Option Int32 :=
  if v0 = (19 : Int32) then
    some (0 : Int32)
  else
    if v0 = (18 : Int32) then
      some (1 : Int32)
    else
      if v0 = (17 : Int32) then
        some (2 : Int32)
      else
        if v0 = (16 : Int32) then
          some (3 : Int32)
        else
          if v0 = (15 : Int32) then
            some (4 : Int32)
          else
            if v0 < (13 : Int32) then
              if v0 < (9 : Int32) then
                if v0 < (6 : Int32) then
                  if v0 < (3 : Int32) then
                    if v0 < (1 : Int32) then
                      F_X26_level_b87  (-1 : Int32)
                    else
                      F_X26_level_b87  (8 : Int32)
                  else
                    F_X26_level_b87  (9 : Int32)
                else
                  some (7 : Int32)
              else
                some (6 : Int32)
            else
              some (5 : Int32)
noncomputable def F_X34_init (M : Mem) (v0 : Nat) (v1 : Int32) (v2 : Int32) (v3 : Nat) (v4 : Nat) : Option Mem :=
  (ng M v0).bind fun _ =>
  (F_X28_init M v0 v1).bind fun z2 =>
  (pi z2 v0 2240 v2).bind fun M3 =>
  (pr M3 v0 2241 v3).bind fun M4 =>
  (pr M4 v0 2242 v4).bind fun M5 =>
  some M5
noncomputable def F_X35_init (M : Mem) (v0 : Nat) (v1 : Int32) (v2 : Nat) (v3 : Nat) (v4 : Nat) : Option Mem :=
  (ng M v0).bind fun _ =>
  (F_X28_init M v0 v1).bind fun z2 =>
  (pr z2 v0 2304 v2).bind fun M3 =>
  (pr M3 v0 2305 v3).bind fun M4 =>
  (pr M4 v0 2306 v4).bind fun M5 =>
  some M5
noncomputable def F_X26_primary_b98 (r_X26_primary : Mem → Nat → Int32 → Option ((Nat × Mem) ⊕ (Nat × Mem))) (r_X26_unary : Mem → Nat → Int32 → Option ((Nat × Mem) ⊕ (Nat × Mem))) (r_X26_binary : Mem → Nat → Int32 → Int32 → Option ((Nat × Mem) ⊕ (Nat × Mem))) (r_X26_expression : Mem → Nat → Int32 → Option ((Nat × Mem) ⊕ (Nat × Mem)))  (M : Mem) (s0 : Nat) (s1 : Nat) (s2 : Int32) (s3 : Int32) (s4 : Int64) (v0 : Nat) : Option ((Nat × Mem) ⊕ (Nat × Mem)) :=
  (ng M s1).bind fun _ =>
  (F_X30_init M s1 s2 s3 s4).bind fun z2 =>
  (gr z2 v0 1728).bind fun t3 =>
  (vg z2 t3 6).bind fun _ =>
  tb (F_X5_next z2 t3) fun z5 =>
  some (.inl (s0, z5))
noncomputable def F_X26_primary_b75 (r_X26_primary : Mem → Nat → Int32 → Option ((Nat × Mem) ⊕ (Nat × Mem))) (r_X26_unary : Mem → Nat → Int32 → Option ((Nat × Mem) ⊕ (Nat × Mem))) (r_X26_binary : Mem → Nat → Int32 → Int32 → Option ((Nat × Mem) ⊕ (Nat × Mem))) (r_X26_expression : Mem → Nat → Int32 → Option ((Nat × Mem) ⊕ (Nat × Mem)))  (M : Mem) (v0 : Nat) (v2 : Int32) : Option ((Nat × Mem) ⊕ (Nat × Mem)) :=
  let t7 : Nat := m_nx M
  let M6 : Mem := mo M 31
  (gr M6 v0 1728).bind fun t8 =>
  (vg M6 t8 6).bind fun _ =>
  (F_X5_is M6 t8 61).bind fun z10 =>
  if z10 = 0 then
    F_X26_primary_b98 r_X26_primary r_X26_unary r_X26_binary r_X26_expression  M6 t7 t7 v2 (0 : Int32) (0 : Int64) v0
  else
    F_X26_primary_b98 r_X26_primary r_X26_unary r_X26_binary r_X26_expression  M6 t7 t7 v2 (0 : Int32) (1 : Int64) v0
noncomputable def F_X26_primary_b214_st (r_X26_primary : Mem → Nat → Int32 → Option ((Nat × Mem) ⊕ (Nat × Mem))) (r_X26_unary : Mem → Nat → Int32 → Option ((Nat × Mem) ⊕ (Nat × Mem))) (r_X26_binary : Mem → Nat → Int32 → Int32 → Option ((Nat × Mem) ⊕ (Nat × Mem))) (r_X26_expression : Mem → Nat → Int32 → Option ((Nat × Mem) ⊕ (Nat × Mem))) (k214 : Mem → Nat → Nat → Int32 → Option ((Nat × Mem) ⊕ (Nat × Mem))) (M : Mem) (v5 : Nat) (v6 : Nat) (v7 : Int32) : Option ((Nat × Mem) ⊕ (Nat × Mem)) :=
  (vg M v5 67).bind fun _ =>
  (F_J6_size M v5).bind fun z12 =>
  if v7 < z12 then
    (vg M v5 67).bind fun _ =>
    (F_J6_get M v5 v7).bind fun z14 =>
    (cc M z14 29).bind fun _ =>
    (vg M v6 29).bind fun _ =>
    (F_X28_over M v6 z14).bind fun z16 =>
    let v7_17 : Int32 := v7 + (1 : Int32)
    k214 z16.2 v5 v6 v7_17
  else
    some (.inl (v6, M))
noncomputable def F_X26_primary_b214 (r_X26_primary : Mem → Nat → Int32 → Option ((Nat × Mem) ⊕ (Nat × Mem))) (r_X26_unary : Mem → Nat → Int32 → Option ((Nat × Mem) ⊕ (Nat × Mem))) (r_X26_binary : Mem → Nat → Int32 → Int32 → Option ((Nat × Mem) ⊕ (Nat × Mem))) (r_X26_expression : Mem → Nat → Int32 → Option ((Nat × Mem) ⊕ (Nat × Mem)))  (n : Nat) : Mem → Nat → Nat → Int32 → Option ((Nat × Mem) ⊕ (Nat × Mem)) :=
  Nat.rec (motive := fun _ => Mem → Nat → Nat → Int32 → Option ((Nat × Mem) ⊕ (Nat × Mem))) (fun _ _ _ _ => none) (fun _ ih => F_X26_primary_b214_st r_X26_primary r_X26_unary r_X26_binary r_X26_expression ih) n
noncomputable def F_X26_primary_b165_st (r_X26_primary : Mem → Nat → Int32 → Option ((Nat × Mem) ⊕ (Nat × Mem))) (r_X26_unary : Mem → Nat → Int32 → Option ((Nat × Mem) ⊕ (Nat × Mem))) (r_X26_binary : Mem → Nat → Int32 → Int32 → Option ((Nat × Mem) ⊕ (Nat × Mem))) (r_X26_expression : Mem → Nat → Int32 → Option ((Nat × Mem) ⊕ (Nat × Mem))) (k165 : Mem → Nat → Int32 → Nat → Int32 → Nat → Option ((Nat × Mem) ⊕ (Nat × Mem))) (M : Mem) (v0 : Nat) (v2 : Int32) (v3 : Nat) (v4 : Int32) (v5 : Nat) : Option ((Nat × Mem) ⊕ (Nat × Mem)) :=
  (vg M v0 27).bind fun _ =>
  tb (r_X26_expression M v0 v4) fun z19 =>
  (vg z19.2 v5 67).bind fun _ =>
  (F_J6_add z19.2 v5 z19.1).bind fun z21 =>
  (gr z21.2 v0 1728).bind fun t22 =>
  (vg z21.2 t22 6).bind fun _ =>
  tb (F_X5_accept z21.2 t22 33) fun z24 =>
  if z24.1 = 0 then
    (gr z24.2 v0 1728).bind fun t25 =>
    (vg z24.2 t25 6).bind fun _ =>
    tb (F_X5_expect z24.2 t25 30) fun z27 =>
    let t29 : Nat := m_nx z27
    let M28 : Mem := mo z27 33
    (ng M28 t29).bind fun _ =>
    (F_X32_init M28 t29 v2 v3 v5).bind fun z31 =>
    F_X26_primary_b214 r_X26_primary r_X26_unary r_X26_binary r_X26_expression  xN z31 v5 t29 (0 : Int32)
  else
    k165 z24.2 v0 v2 v3 v4 v5
noncomputable def F_X26_primary_b165 (r_X26_primary : Mem → Nat → Int32 → Option ((Nat × Mem) ⊕ (Nat × Mem))) (r_X26_unary : Mem → Nat → Int32 → Option ((Nat × Mem) ⊕ (Nat × Mem))) (r_X26_binary : Mem → Nat → Int32 → Int32 → Option ((Nat × Mem) ⊕ (Nat × Mem))) (r_X26_expression : Mem → Nat → Int32 → Option ((Nat × Mem) ⊕ (Nat × Mem)))  (n : Nat) : Mem → Nat → Int32 → Nat → Int32 → Nat → Option ((Nat × Mem) ⊕ (Nat × Mem)) :=
  Nat.rec (motive := fun _ => Mem → Nat → Int32 → Nat → Int32 → Nat → Option ((Nat × Mem) ⊕ (Nat × Mem))) (fun _ _ _ _ _ _ => none) (fun _ ih => F_X26_primary_b165_st r_X26_primary r_X26_unary r_X26_binary r_X26_expression ih) n
noncomputable def F_X26_primary_o (r_X26_primary : Mem → Nat → Int32 → Option ((Nat × Mem) ⊕ (Nat × Mem))) (r_X26_unary : Mem → Nat → Int32 → Option ((Nat × Mem) ⊕ (Nat × Mem))) (r_X26_binary : Mem → Nat → Int32 → Int32 → Option ((Nat × Mem) ⊕ (Nat × Mem))) (r_X26_expression : Mem → Nat → Int32 → Option ((Nat × Mem) ⊕ (Nat × Mem))) (M : Mem) (v0 : Nat) (v1 : Int32) : Option ((Nat × Mem) ⊕ (Nat × Mem)) :=
  (gr M v0 1728).bind fun t32 =>
  (gi M t32 388).bind fun t33 =>
  (gr M v0 1728).bind fun t34 =>
  (gi M t34 387).bind fun t35 =>
  if t35 = (3 : Int32) then
    let t37 : Nat := m_nx M
    let M36 : Mem := mo M 31
    (gr M36 v0 1728).bind fun t38 =>
    (gi M36 t38 391).bind fun t39 =>
    (gr M36 v0 1728).bind fun t40 =>
    (gl M36 t40 392).bind fun t41 =>
    (ng M36 t37).bind fun _ =>
    (F_X30_init M36 t37 t33 t39 t41).bind fun z43 =>
    (gr z43 v0 1728).bind fun t44 =>
    (vg z43 t44 6).bind fun _ =>
    tb (F_X5_next z43 t44) fun z46 =>
    some (.inl (t37, z46))
  else
    (gr M v0 1728).bind fun t47 =>
    (vg M t47 6).bind fun _ =>
    (F_X5_is M t47 61).bind fun z49 =>
    if z49 = 0 then
      (gr M v0 1728).bind fun t50 =>
      (vg M t50 6).bind fun _ =>
      (F_X5_is M t50 56).bind fun z52 =>
      if z52 = 0 then
        (gr M v0 1728).bind fun t53 =>
        (vg M t53 6).bind fun _ =>
        tb (F_X5_name M t53) fun z55 =>
        (gr z55.2 v0 1728).bind fun t56 =>
        (vg z55.2 t56 6).bind fun _ =>
        (F_X5_is z55.2 t56 28).bind fun z58 =>
        if z58 = 0 then
          let t60 : Nat := m_nx z55.2
          let M59 : Mem := mo z55.2 32
          (ng M59 t60).bind fun _ =>
          (F_X31_init M59 t60 t33 z55.1).bind fun z62 =>
          some (.inl (t60, z62))
        else
          (vg z55.2 v0 27).bind fun _ =>
          tb (F_X26_deeper z55.2 v0 v1) fun z64 =>
          (gr z64.2 v0 1728).bind fun t65 =>
          (vg z64.2 t65 6).bind fun _ =>
          tb (F_X5_next z64.2 t65) fun z67 =>
          let t69 : Nat := m_nx z67
          let M68 : Mem := mo z67 67
          (ng M68 t69).bind fun _ =>
          (F_J6_init M68 t69 (2 : Int32)).bind fun z71 =>
          F_X26_primary_b165 r_X26_primary r_X26_unary r_X26_binary r_X26_expression  xN z71 v0 t33 z55.1 z64.1 t69
      else
        F_X26_primary_b75 r_X26_primary r_X26_unary r_X26_binary r_X26_expression  M v0 t33
    else
      F_X26_primary_b75 r_X26_primary r_X26_unary r_X26_binary r_X26_expression  M v0 t33
noncomputable def F_X26_unary_b44 (r_X26_primary : Mem → Nat → Int32 → Option ((Nat × Mem) ⊕ (Nat × Mem))) (r_X26_unary : Mem → Nat → Int32 → Option ((Nat × Mem) ⊕ (Nat × Mem))) (r_X26_binary : Mem → Nat → Int32 → Int32 → Option ((Nat × Mem) ⊕ (Nat × Mem))) (r_X26_expression : Mem → Nat → Int32 → Option ((Nat × Mem) ⊕ (Nat × Mem)))  (M : Mem) (v0 : Nat) (v1 : Int32) (v2 : Int32) : Option ((Nat × Mem) ⊕ (Nat × Mem)) :=
  (gr M v0 1728).bind fun t1 =>
  (gr M t1 390).bind fun t2 =>
  (vg M t2 76).bind fun _ =>
  (F_J15_charAt M t2 (0 : Int32)).bind fun z4 =>
  (vg M v0 27).bind fun _ =>
  tb (F_X26_deeper M v0 v1) fun z6 =>
  (gr z6.2 v0 1728).bind fun t7 =>
  (vg z6.2 t7 6).bind fun _ =>
  tb (F_X5_next z6.2 t7) fun z9 =>
  (vg z9 v0 27).bind fun _ =>
  tb (r_X26_unary z9 v0 z6.1) fun z11 =>
  let t13 : Nat := m_nx z11.2
  let M12 : Mem := mo z11.2 30
  (ng M12 t13).bind fun _ =>
  (F_X29_init M12 t13 v2 z4 z11.1).bind fun z15 =>
  (vg z15 t13 30).bind fun _ =>
  (F_X28_over z15 t13 z11.1).bind fun z17 =>
  some (.inl (z17.1, z17.2))
noncomputable def F_X26_unary_o (r_X26_primary : Mem → Nat → Int32 → Option ((Nat × Mem) ⊕ (Nat × Mem))) (r_X26_unary : Mem → Nat → Int32 → Option ((Nat × Mem) ⊕ (Nat × Mem))) (r_X26_binary : Mem → Nat → Int32 → Int32 → Option ((Nat × Mem) ⊕ (Nat × Mem))) (r_X26_expression : Mem → Nat → Int32 → Option ((Nat × Mem) ⊕ (Nat × Mem))) (M : Mem) (v0 : Nat) (v1 : Int32) : Option ((Nat × Mem) ⊕ (Nat × Mem)) :=
  (gr M v0 1728).bind fun t18 =>
  (gi M t18 388).bind fun t19 =>
  (gr M v0 1728).bind fun t20 =>
  (vg M t20 6).bind fun _ =>
  (F_X5_is M t20 34).bind fun z22 =>
  if z22 = 0 then
    (gr M v0 1728).bind fun t23 =>
    (vg M t23 6).bind fun _ =>
    (F_X5_is M t23 23).bind fun z25 =>
    if z25 = 0 then
      (gr M v0 1728).bind fun t26 =>
      (vg M t26 6).bind fun _ =>
      (F_X5_is M t26 64).bind fun z28 =>
      if z28 = 0 then
        (gr M v0 1728).bind fun t29 =>
        (vg M t29 6).bind fun _ =>
        (F_X5_is M t29 28).bind fun z31 =>
        if z31 = 0 then
          (vg M v0 27).bind fun _ =>
          tb (r_X26_primary M v0 v1) fun z33 =>
          some (.inl (z33.1, z33.2))
        else
          (vg M v0 27).bind fun _ =>
          tb (F_X26_deeper M v0 v1) fun z35 =>
          (gr z35.2 v0 1728).bind fun t36 =>
          (vg z35.2 t36 6).bind fun _ =>
          tb (F_X5_next z35.2 t36) fun z38 =>
          (gr z38 v0 1728).bind fun t39 =>
          (vg z38 t39 6).bind fun _ =>
          (F_X5_laneWord z38 t39).bind fun z41 =>
          if z41 < 0 then
            (vg z38 v0 27).bind fun _ =>
            tb (r_X26_expression z38 v0 z35.1) fun z43 =>
            (gr z43.2 v0 1728).bind fun t44 =>
            (vg z43.2 t44 6).bind fun _ =>
            tb (F_X5_expect z43.2 t44 30) fun z46 =>
            some (.inl (z43.1, z46))
          else
            (gr z38 v0 1728).bind fun t47 =>
            (vg z38 t47 6).bind fun _ =>
            tb (F_X5_next z38 t47) fun z49 =>
            (gr z49 v0 1728).bind fun t50 =>
            (vg z49 t50 6).bind fun _ =>
            tb (F_X5_expect z49 t50 30) fun z52 =>
            (vg z52 v0 27).bind fun _ =>
            tb (r_X26_unary z52 v0 z35.1) fun z54 =>
            let t56 : Nat := m_nx z54.2
            let M55 : Mem := mo z54.2 34
            (ng M55 t56).bind fun _ =>
            (F_X33_init M55 t56 t19 z41 z54.1).bind fun z58 =>
            (vg z58 t56 34).bind fun _ =>
            (F_X28_over z58 t56 z54.1).bind fun z60 =>
            some (.inl (z60.1, z60.2))
      else
        F_X26_unary_b44 r_X26_primary r_X26_unary r_X26_binary r_X26_expression  M v0 v1 t19
    else
      F_X26_unary_b44 r_X26_primary r_X26_unary r_X26_binary r_X26_expression  M v0 v1 t19
  else
    F_X26_unary_b44 r_X26_primary r_X26_unary r_X26_binary r_X26_expression  M v0 v1 t19
noncomputable def F_X26_binary_b100 (r_X26_primary : Mem → Nat → Int32 → Option ((Nat × Mem) ⊕ (Nat × Mem))) (r_X26_unary : Mem → Nat → Int32 → Option ((Nat × Mem) ⊕ (Nat × Mem))) (r_X26_binary : Mem → Nat → Int32 → Int32 → Option ((Nat × Mem) ⊕ (Nat × Mem))) (r_X26_expression : Mem → Nat → Int32 → Option ((Nat × Mem) ⊕ (Nat × Mem)))  (M : Mem) (v3 : Nat) : Option ((Nat × Mem) ⊕ (Nat × Mem)) :=
  some (.inl (v3, M))
noncomputable def F_X26_binary_b27_st (r_X26_primary : Mem → Nat → Int32 → Option ((Nat × Mem) ⊕ (Nat × Mem))) (r_X26_unary : Mem → Nat → Int32 → Option ((Nat × Mem) ⊕ (Nat × Mem))) (r_X26_binary : Mem → Nat → Int32 → Int32 → Option ((Nat × Mem) ⊕ (Nat × Mem))) (r_X26_expression : Mem → Nat → Int32 → Option ((Nat × Mem) ⊕ (Nat × Mem))) (k27 : Mem → Nat → Int32 → Int32 → Nat → Int32 → Option ((Nat × Mem) ⊕ (Nat × Mem))) (M : Mem) (v0 : Nat) (v1 : Int32) (v2 : Int32) (v3 : Nat) (v4 : Int32) : Option ((Nat × Mem) ⊕ (Nat × Mem)) :=
  if 0 < v4 then
    (F_X26_level v4).bind fun z1 =>
    if z1 = v1 then
      (gr M v0 1728).bind fun t2 =>
      (gi M t2 388).bind fun t3 =>
      (gr M v0 1728).bind fun t4 =>
      (vg M t4 6).bind fun _ =>
      tb (F_X5_next M t4) fun z6 =>
      (vg z6 v0 27).bind fun _ =>
      tb (r_X26_binary z6 v0 (v1 + (1 : Int32)) v2) fun z8 =>
      let t10 : Nat := m_nx z8.2
      let M9 : Mem := mo z8.2 35
      (ng M9 t10).bind fun _ =>
      (F_X34_init M9 t10 t3 v4 v3 z8.1).bind fun z12 =>
      (vg z12 t10 35).bind fun _ =>
      (F_X28_over z12 t10 v3).bind fun z14 =>
      (vg z14.2 z14.1 29).bind fun _ =>
      (F_X28_over z14.2 z14.1 z8.1).bind fun z16 =>
      (vg z16.2 v0 27).bind fun _ =>
      (F_X26_sign z16.2 v0).bind fun z18 =>
      k27 z16.2 v0 v1 v2 z16.1 z18
    else
      F_X26_binary_b100 r_X26_primary r_X26_unary r_X26_binary r_X26_expression  M v3
  else
    F_X26_binary_b100 r_X26_primary r_X26_unary r_X26_binary r_X26_expression  M v3
noncomputable def F_X26_binary_b27 (r_X26_primary : Mem → Nat → Int32 → Option ((Nat × Mem) ⊕ (Nat × Mem))) (r_X26_unary : Mem → Nat → Int32 → Option ((Nat × Mem) ⊕ (Nat × Mem))) (r_X26_binary : Mem → Nat → Int32 → Int32 → Option ((Nat × Mem) ⊕ (Nat × Mem))) (r_X26_expression : Mem → Nat → Int32 → Option ((Nat × Mem) ⊕ (Nat × Mem)))  (n : Nat) : Mem → Nat → Int32 → Int32 → Nat → Int32 → Option ((Nat × Mem) ⊕ (Nat × Mem)) :=
  Nat.rec (motive := fun _ => Mem → Nat → Int32 → Int32 → Nat → Int32 → Option ((Nat × Mem) ⊕ (Nat × Mem))) (fun _ _ _ _ _ _ => none) (fun _ ih => F_X26_binary_b27_st r_X26_primary r_X26_unary r_X26_binary r_X26_expression ih) n
noncomputable def F_X26_binary_o (r_X26_primary : Mem → Nat → Int32 → Option ((Nat × Mem) ⊕ (Nat × Mem))) (r_X26_unary : Mem → Nat → Int32 → Option ((Nat × Mem) ⊕ (Nat × Mem))) (r_X26_binary : Mem → Nat → Int32 → Int32 → Option ((Nat × Mem) ⊕ (Nat × Mem))) (r_X26_expression : Mem → Nat → Int32 → Option ((Nat × Mem) ⊕ (Nat × Mem))) (M : Mem) (v0 : Nat) (v1 : Int32) (v2 : Int32) : Option ((Nat × Mem) ⊕ (Nat × Mem)) :=
  if (9 : Int32) < v1 then
    (vg M v0 27).bind fun _ =>
    tb (r_X26_unary M v0 v2) fun z20 =>
    some (.inl (z20.1, z20.2))
  else
    (vg M v0 27).bind fun _ =>
    tb (r_X26_binary M v0 (v1 + (1 : Int32)) v2) fun z22 =>
    (vg z22.2 v0 27).bind fun _ =>
    (F_X26_sign z22.2 v0).bind fun z24 =>
    F_X26_binary_b27 r_X26_primary r_X26_unary r_X26_binary r_X26_expression  xN z22.2 v0 v1 v2 z22.1 z24
noncomputable def F_X26_expression_o (r_X26_primary : Mem → Nat → Int32 → Option ((Nat × Mem) ⊕ (Nat × Mem))) (r_X26_unary : Mem → Nat → Int32 → Option ((Nat × Mem) ⊕ (Nat × Mem))) (r_X26_binary : Mem → Nat → Int32 → Int32 → Option ((Nat × Mem) ⊕ (Nat × Mem))) (r_X26_expression : Mem → Nat → Int32 → Option ((Nat × Mem) ⊕ (Nat × Mem))) (M : Mem) (v0 : Nat) (v1 : Int32) : Option ((Nat × Mem) ⊕ (Nat × Mem)) :=
  (vg M v0 27).bind fun _ =>
  tb (r_X26_binary M v0 (0 : Int32) v1) fun z2 =>
  (gr z2.2 v0 1728).bind fun t3 =>
  (vg z2.2 t3 6).bind fun _ =>
  (F_X5_is z2.2 t3 48).bind fun z5 =>
  if z5 = 0 then
    some (.inl (z2.1, z2.2))
  else
    (gr z2.2 v0 1728).bind fun t6 =>
    (gi z2.2 t6 388).bind fun t7 =>
    (vg z2.2 v0 27).bind fun _ =>
    tb (F_X26_deeper z2.2 v0 v1) fun z9 =>
    (gr z9.2 v0 1728).bind fun t10 =>
    (vg z9.2 t10 6).bind fun _ =>
    tb (F_X5_next z9.2 t10) fun z12 =>
    (vg z12 v0 27).bind fun _ =>
    tb (r_X26_expression z12 v0 z9.1) fun z14 =>
    (gr z14.2 v0 1728).bind fun t15 =>
    (vg z14.2 t15 6).bind fun _ =>
    tb (F_X5_expect z14.2 t15 37) fun z17 =>
    (vg z17 v0 27).bind fun _ =>
    tb (r_X26_expression z17 v0 z9.1) fun z19 =>
    let t21 : Nat := m_nx z19.2
    let M20 : Mem := mo z19.2 36
    (ng M20 t21).bind fun _ =>
    (F_X35_init M20 t21 t7 z2.1 z14.1 z19.1).bind fun z23 =>
    (vg z23 t21 36).bind fun _ =>
    (F_X28_over z23 t21 z2.1).bind fun z25 =>
    (vg z25.2 z25.1 29).bind fun _ =>
    (F_X28_over z25.2 z25.1 z14.1).bind fun z27 =>
    (vg z27.2 z27.1 29).bind fun _ =>
    (F_X28_over z27.2 z27.1 z19.1).bind fun z29 =>
    some (.inl (z29.1, z29.2))
noncomputable def R_0 (n : Nat) : ((Mem → Nat → Int32 → Option ((Nat × Mem) ⊕ (Nat × Mem))) × (Mem → Nat → Int32 → Option ((Nat × Mem) ⊕ (Nat × Mem))) × (Mem → Nat → Int32 → Int32 → Option ((Nat × Mem) ⊕ (Nat × Mem))) × (Mem → Nat → Int32 → Option ((Nat × Mem) ⊕ (Nat × Mem)))) :=
  Nat.rec (motive := fun _ => ((Mem → Nat → Int32 → Option ((Nat × Mem) ⊕ (Nat × Mem))) × (Mem → Nat → Int32 → Option ((Nat × Mem) ⊕ (Nat × Mem))) × (Mem → Nat → Int32 → Int32 → Option ((Nat × Mem) ⊕ (Nat × Mem))) × (Mem → Nat → Int32 → Option ((Nat × Mem) ⊕ (Nat × Mem))))) ((fun _ _ _ => none), (fun _ _ _ => none), (fun _ _ _ _ => none), (fun _ _ _ => none)) (fun _ ih => ((F_X26_primary_o ih.1 ih.2.1 ih.2.2.1 ih.2.2.2), (F_X26_unary_o ih.1 ih.2.1 ih.2.2.1 ih.2.2.2), (F_X26_binary_o ih.1 ih.2.1 ih.2.2.1 ih.2.2.2), (F_X26_expression_o ih.1 ih.2.1 ih.2.2.1 ih.2.2.2))) n
noncomputable def F_X26_primary (M : Mem) (a0 : Nat) (a1 : Int32) : Option ((Nat × Mem) ⊕ (Nat × Mem)) := (R_0 xR).1 M a0 a1
noncomputable def F_X26_unary (M : Mem) (a0 : Nat) (a1 : Int32) : Option ((Nat × Mem) ⊕ (Nat × Mem)) := (R_0 xR).2.1 M a0 a1
noncomputable def F_X26_binary (M : Mem) (a0 : Nat) (a1 : Int32) (a2 : Int32) : Option ((Nat × Mem) ⊕ (Nat × Mem)) := (R_0 xR).2.2.1 M a0 a1 a2
noncomputable def F_X26_expression (M : Mem) (a0 : Nat) (a1 : Int32) : Option ((Nat × Mem) ⊕ (Nat × Mem)) := (R_0 xR).2.2.2 M a0 a1
noncomputable def F_X26_function_b39_st (k39 : Mem → Nat → Nat → Option ((Nat × Mem) ⊕ (Nat × Mem))) (M : Mem) (v0 : Nat) (v3 : Nat) : Option ((Nat × Mem) ⊕ (Nat × Mem)) :=
  (gi M v3 1798).bind fun t1 =>
  if t1 = (6 : Int32) then
    (gr M v0 1728).bind fun t2 =>
    (vg M t2 6).bind fun _ =>
    (F_X5_wrong M t2).bind fun z4 =>
    (ie z4.2 z4.1).bind fun _ => some (.inr (z4.1, z4.2))
  else
    (gr M v3 1796).bind fun t5 =>
    (gi M v3 1798).bind fun t6 =>
    (vg M v0 27).bind fun _ =>
    tb (F_X26_lane M v0) fun z8 =>
    (si z8.2 t5 t6 z8.1).bind fun M9 =>
    (gr M9 v3 1797).bind fun t10 =>
    (gi M9 v3 1798).bind fun t11 =>
    (gr M9 v0 1728).bind fun t12 =>
    (gi M9 t12 388).bind fun t13 =>
    (si M9 t10 t11 t13).bind fun M14 =>
    (gr M14 v3 1795).bind fun t15 =>
    (gr M14 v0 1728).bind fun t16 =>
    (vg M14 t16 6).bind fun _ =>
    tb (F_X5_name M14 t16) fun z18 =>
    (vg z18.2 t15 67).bind fun _ =>
    (F_J6_add z18.2 t15 z18.1).bind fun z20 =>
    (gi z20.2 v3 1798).bind fun t21 =>
    (pi z20.2 v3 1798 (t21 + (1 : Int32))).bind fun M22 =>
    (gr M22 v0 1728).bind fun t23 =>
    (vg M22 t23 6).bind fun _ =>
    tb (F_X5_accept M22 t23 33) fun z25 =>
    if z25.1 = 0 then
      (gr z25.2 v0 1728).bind fun t26 =>
      (vg z25.2 t26 6).bind fun _ =>
      tb (F_X5_expect z25.2 t26 30) fun z28 =>
      (gr z28 v0 1728).bind fun t29 =>
      (vg z28 t29 6).bind fun _ =>
      tb (F_X5_expect z28 t29 42) fun z31 =>
      (vg z31 v0 27).bind fun _ =>
      tb (F_X26_expression z31 v0 (1 : Int32)) fun z33 =>
      (pr z33.2 v3 1799 z33.1).bind fun M34 =>
      (gr M34 v0 1728).bind fun t35 =>
      (vg M34 t35 6).bind fun _ =>
      tb (F_X5_expect M34 t35 38) fun z37 =>
      some (.inl (v3, z37))
    else
      k39 z25.2 v0 v3
noncomputable def F_X26_function_b39  (n : Nat) : Mem → Nat → Nat → Option ((Nat × Mem) ⊕ (Nat × Mem)) :=
  Nat.rec (motive := fun _ => Mem → Nat → Nat → Option ((Nat × Mem) ⊕ (Nat × Mem))) (fun _ _ _ => none) (fun _ ih => F_X26_function_b39_st ih) n
noncomputable def F_X26_function (M : Mem) (v0 : Nat) : Option ((Nat × Mem) ⊕ (Nat × Mem)) :=
  (vg M v0 27).bind fun _ =>
  tb (F_X26_lane M v0) fun z39 =>
  (gr z39.2 v0 1728).bind fun t40 =>
  (gi z39.2 t40 388).bind fun t41 =>
  let t43 : Nat := m_nx z39.2
  let M42 : Mem := mo z39.2 28
  (gr M42 v0 1728).bind fun t44 =>
  (vg M42 t44 6).bind fun _ =>
  tb (F_X5_name M42 t44) fun z46 =>
  (ng z46.2 t43).bind fun _ =>
  (F_X27_init z46.2 t43 z39.1 z46.1 t41).bind fun z48 =>
  (gr z48 v0 1728).bind fun t49 =>
  (vg z48 t49 6).bind fun _ =>
  tb (F_X5_expect z48 t49 28) fun z51 =>
  F_X26_function_b39  xN z51 v0 t43
noncomputable def F_X26_functions_b0_st (k0 : Mem → Nat → Int32 → Option ((Nat × Mem) ⊕ (Nat × Mem))) (M : Mem) (v0 : Nat) (v1 : Int32) : Option ((Nat × Mem) ⊕ (Nat × Mem)) :=
  (gr M v0 1728).bind fun t1 =>
  (gi M t1 387).bind fun t2 =>
  if t2 = 0 then
    (gr M v0 1730).bind fun t3 =>
    some (.inl (t3, M))
  else
    (gr M v0 1730).bind fun t4 =>
    (vg M t4 67).bind fun _ =>
    (F_J6_size M t4).bind fun z6 =>
    if z6 = v1 then
      (gr M v0 1728).bind fun t7 =>
      (vg M t7 6).bind fun _ =>
      (F_X5_wrong M t7).bind fun z9 =>
      (ie z9.2 z9.1).bind fun _ => some (.inr (z9.1, z9.2))
    else
      (gr M v0 1730).bind fun t10 =>
      (vg M v0 27).bind fun _ =>
      tb (F_X26_function M v0) fun z12 =>
      (vg z12.2 t10 67).bind fun _ =>
      (F_J6_add z12.2 t10 z12.1).bind fun z14 =>
      k0 z14.2 v0 v1
noncomputable def F_X26_functions_b0  (n : Nat) : Mem → Nat → Int32 → Option ((Nat × Mem) ⊕ (Nat × Mem)) :=
  Nat.rec (motive := fun _ => Mem → Nat → Int32 → Option ((Nat × Mem) ⊕ (Nat × Mem))) (fun _ _ _ => none) (fun _ ih => F_X26_functions_b0_st ih) n
noncomputable def F_X26_functions (M : Mem) (v0 : Nat) (v1 : Int32) : Option ((Nat × Mem) ⊕ (Nat × Mem)) :=
  F_X26_functions_b0  xN M v0 v1
noncomputable def F_X4_builtIn_b12_st (k4 : Mem → Nat → Int32 → Int32 → Option Int32) (k12 : Mem → Nat → Int32 → Int32 → Int32 → Option Int32) (M : Mem) (v0 : Nat) (v1 : Int32) (v2 : Int32) (v3 : Int32) : Option Int32 :=
  (vg M 50 76).bind fun _ =>
  (F_J15_charAt M 50 v3).bind fun z2 =>
  if z2 = (32 : Int32) then
    (F_X5_isPart M v0 50 v1 v3).bind fun z3 =>
    if z3 = 0 then
      let v1_4 : Int32 := (v3 + (1 : Int32))
      let v2_5 : Int32 := v2 + (1 : Int32)
      k4 M v0 v1_4 v2_5
    else
      some v2
  else
    let v3_6 : Int32 := v3 + (1 : Int32)
    k12 M v0 v1 v2 v3_6
noncomputable def F_X4_builtIn_b12 (k4 : Mem → Nat → Int32 → Int32 → Option Int32) (n : Nat) : Mem → Nat → Int32 → Int32 → Int32 → Option Int32 :=
  Nat.rec (motive := fun _ => Mem → Nat → Int32 → Int32 → Int32 → Option Int32) (fun _ _ _ _ _ => none) (fun _ ih => F_X4_builtIn_b12_st k4 ih) n
noncomputable def F_X4_builtIn_b4_st (k4 : Mem → Nat → Int32 → Int32 → Option Int32) (M : Mem) (v0 : Nat) (v1 : Int32) (v2 : Int32) : Option Int32 :=
  if v2 < (15 : Int32) then
    F_X4_builtIn_b12 k4 xN M v0 v1 v2 v1
  else
    some (-1 : Int32)
noncomputable def F_X4_builtIn_b4  (n : Nat) : Mem → Nat → Int32 → Int32 → Option Int32 :=
  Nat.rec (motive := fun _ => Mem → Nat → Int32 → Int32 → Option Int32) (fun _ _ _ _ => none) (fun _ ih => F_X4_builtIn_b4_st ih) n
noncomputable def F_X4_builtIn (M : Mem) (v0 : Nat) : Option Int32 :=
  F_X4_builtIn_b4  xN M v0 (0 : Int32) (0 : Int32)
noncomputable def F_X38_hasLanes_b14_st (k14 : Mem → Nat → Nat → Int32 → Option Int32) (M : Mem) (v0 : Nat) (v1 : Nat) (v2 : Int32) : Option Int32 :=
  (an M v1).bind fun t1 =>
  if v2 < t1 then
    (ai M v1 v2).bind fun t2 =>
    (gr M v0 2498).bind fun t3 =>
    (ai M t3 v2).bind fun t4 =>
    if t2 = t4 then
      let v2_5 : Int32 := v2 + (1 : Int32)
      k14 M v0 v1 v2_5
    else
      some (0 : Int32)
  else
    some (1 : Int32)
noncomputable def F_X38_hasLanes_b14  (n : Nat) : Mem → Nat → Nat → Int32 → Option Int32 :=
  Nat.rec (motive := fun _ => Mem → Nat → Nat → Int32 → Option Int32) (fun _ _ _ _ => none) (fun _ ih => F_X38_hasLanes_b14_st ih) n
noncomputable def F_X38_hasLanes (M : Mem) (v0 : Nat) (v1 : Nat) : Option Int32 :=
  (an M v1).bind fun t6 =>
  (gr M v0 2498).bind fun t7 =>
  (an M t7).bind fun t8 =>
  if t6 = t8 then
    F_X38_hasLanes_b14  xN M v0 v1 (0 : Int32)
  else
    some (0 : Int32)
noncomputable def F_X4_has_b54 (k2 : Mem → Nat → Nat → Nat → Int32 → Option Int32) (M : Mem) (v0 : Nat) (v1 : Nat) (v2 : Nat) (v3 : Int32) : Option Int32 :=
  let v3_1 : Int32 := v3 + (1 : Int32)
  k2 M v0 v1 v2 v3_1
noncomputable def F_X4_has_b2_st (k2 : Mem → Nat → Nat → Nat → Int32 → Option Int32) (M : Mem) (v0 : Nat) (v1 : Nat) (v2 : Nat) (v3 : Int32) : Option Int32 :=
  (gr M v0 320).bind fun t2 =>
  (vg M t2 67).bind fun _ =>
  (F_J6_size M t2).bind fun z4 =>
  if v3 < z4 then
    (gr M v0 320).bind fun t5 =>
    (vg M t5 67).bind fun _ =>
    (F_J6_get M t5 v3).bind fun z7 =>
    (cc M z7 39).bind fun _ =>
    (gr M z7 2496).bind fun t8 =>
    (vg M t8 76).bind fun _ =>
    (F_J15_equals M t8 v1).bind fun z10 =>
    if z10 = 0 then
      F_X4_has_b54 k2 M v0 v1 v2 v3
    else
      (gr M v0 320).bind fun t11 =>
      (vg M t11 67).bind fun _ =>
      (F_J6_get M t11 v3).bind fun z13 =>
      (cc M z13 39).bind fun _ =>
      (vg M z13 39).bind fun _ =>
      (F_X38_hasLanes M z13 v2).bind fun z15 =>
      if z15 = 0 then
        F_X4_has_b54 k2 M v0 v1 v2 v3
      else
        some (1 : Int32)
  else
    some (0 : Int32)
noncomputable def F_X4_has_b2  (n : Nat) : Mem → Nat → Nat → Nat → Int32 → Option Int32 :=
  Nat.rec (motive := fun _ => Mem → Nat → Nat → Nat → Int32 → Option Int32) (fun _ _ _ _ _ => none) (fun _ ih => F_X4_has_b2_st ih) n
noncomputable def F_X4_has (M : Mem) (v0 : Nat) (v1 : Nat) (v2 : Nat) : Option Int32 :=
  F_X4_has_b2  xN M v0 v1 v2 (0 : Int32)
noncomputable def F_X36_init (M : Mem) (v0 : Nat) (v1 : Nat) (v2 : Nat) (v3 : Nat) (v4 : Nat) (v5 : Nat) : Option Mem :=
  (ng M v0).bind fun _ =>
  (mk M 1001 (8 : Int32)).bind fun M3 =>
  (pr M3 v0 2373 (m_nx M)).bind fun M4 =>
  (pr M4 v0 2368 v1).bind fun M5 =>
  (pr M5 v0 2369 v2).bind fun M6 =>
  (pr M6 v0 2370 v3).bind fun M7 =>
  (pr M7 v0 2371 v4).bind fun M8 =>
  (pr M8 v0 2372 v5).bind fun M9 =>
  some M9
noncomputable def F_X30_check (M : Mem) (v0 : Nat) (v1 : Nat) : Option (Mem ⊕ (Nat × Mem)) :=
  some (.inl M)
noncomputable def F_X36_isFormula_b12  (M : Mem) (s0 : Int32) : Option Int32 :=
  some (s0 &&& 1)
noncomputable def F_X36_isFormula (M : Mem) (v0 : Nat) : Option Int32 :=
  (gr M v0 2371).bind fun t1 =>
  if t1 = 6 then
    none
  else
    if t1 = 0 then
      F_X36_isFormula_b12  M (1 : Int32)
    else
      F_X36_isFormula_b12  M (0 : Int32)
noncomputable def F_X36_parameter_b2_st (k2 : Mem → Nat → Nat → Int32 → Option Int32) (M : Mem) (v0 : Nat) (v1 : Nat) (v2 : Int32) : Option Int32 :=
  (gr M v0 2371).bind fun t1 =>
  (vg M t1 67).bind fun _ =>
  (F_J6_size M t1).bind fun z3 =>
  if v2 < z3 then
    (gr M v0 2371).bind fun t4 =>
    (vg M t4 67).bind fun _ =>
    (F_J6_get M t4 v2).bind fun z6 =>
    (cc M z6 76).bind fun _ =>
    (vg M z6 76).bind fun _ =>
    (F_J15_equals M z6 v1).bind fun z8 =>
    if z8 = 0 then
      let v2_9 : Int32 := v2 + (1 : Int32)
      k2 M v0 v1 v2_9
    else
      some v2
  else
    some (-1 : Int32)
noncomputable def F_X36_parameter_b2  (n : Nat) : Mem → Nat → Nat → Int32 → Option Int32 :=
  Nat.rec (motive := fun _ => Mem → Nat → Nat → Int32 → Option Int32) (fun _ _ _ _ => none) (fun _ ih => F_X36_parameter_b2_st ih) n
noncomputable def F_X36_parameter (M : Mem) (v0 : Nat) (v1 : Nat) : Option Int32 :=
  F_X36_parameter_b2  xN M v0 v1 (0 : Int32)
noncomputable def F_X36_wrong (M : Mem) (v0 : Nat) (v1 : Int32) : Option (Nat × Mem) :=
  (gr M v0 2368).bind fun t1 =>
  (vg M t1 2).bind fun _ =>
  (F_X1_at M t1 (2 : Int32) v1).bind fun z3 =>
  some (z3.1, z3.2)
noncomputable def F_X36_laneOf (M : Mem) (v0 : Nat) (v1 : Int32) : Option Int32 :=
  (gr M v0 2372).bind fun t1 =>
  (ai M t1 v1).bind fun t2 =>
  some t2
noncomputable def F_X31_check_b210  (M : Mem) : Option (Mem ⊕ (Nat × Mem)) :=
  some (.inl M)
noncomputable def F_X31_check_b193  (M : Mem) (s0 : Nat) (s1 : Int32) (v0 : Nat) (v1 : Nat) (v3 : Int32) : Option (Mem ⊕ (Nat × Mem)) :=
  (pi M s0 1857 s1).bind fun M1 =>
  if v3 = 0 then
    (gr M1 v1 2373).bind fun t2 =>
    (gi M1 v0 2050).bind fun t3 =>
    (sb M1 t2 t3 (1 : Int32)).bind fun M4 =>
    F_X31_check_b210  M4
  else
    F_X31_check_b210  M1
noncomputable def F_X31_check_b169  (M : Mem) (s0 : Nat) (s1 : Int32) (v0 : Nat) (v1 : Nat) (v3 : Int32) : Option (Mem ⊕ (Nat × Mem)) :=
  (pi M s0 2050 s1).bind fun M5 =>
  if v3 = 0 then
    (gr M5 v1 2370).bind fun t6 =>
    (gi M5 v0 2050).bind fun t7 =>
    (ar M5 t6 t7).bind fun t8 =>
    (gi M5 t8 1408).bind fun t9 =>
    F_X31_check_b193  M5 v0 t9 v0 v1 v3
  else
    F_X31_check_b193  M5 v0 (4 : Int32) v0 v1 v3
noncomputable def F_X31_check_b150  (M : Mem) (s0 : Nat) (s1 : Int32) (v0 : Nat) (v1 : Nat) (v2 : Int32) (v3 : Int32) : Option (Mem ⊕ (Nat × Mem)) :=
  (pi M s0 2049 s1).bind fun M10 =>
  if v3 = 0 then
    F_X31_check_b169  M10 v0 (v2 - (97 : Int32)) v0 v1 v3
  else
    F_X31_check_b169  M10 v0 (v2 - (105 : Int32)) v0 v1 v3
noncomputable def F_X31_check_b124  (M : Mem) (s0 : Int32) (v0 : Nat) (v1 : Nat) (v2 : Int32) (v3 : Int32) : Option (Mem ⊕ (Nat × Mem)) :=
  if s0 = 0 then
    (gi M v0 1856).bind fun t11 =>
    (vg M v1 37).bind fun _ =>
    (F_X36_wrong M v1 t11).bind fun z13 =>
    (ie z13.2 z13.1).bind fun _ => some (.inr (z13.1, z13.2))
  else
    if v3 = 0 then
      F_X31_check_b150  M v0 (1 : Int32) v0 v1 v2 v3
    else
      F_X31_check_b150  M v0 (2 : Int32) v0 v1 v2 v3
noncomputable def F_X31_check_b123  (M : Mem) (v0 : Nat) (v1 : Nat) (v2 : Int32) (v3 : Int32) : Option (Mem ⊕ (Nat × Mem)) :=
  F_X31_check_b124  M (0 : Int32) v0 v1 v2 v3
noncomputable def F_X31_check_b119  (M : Mem) (v0 : Nat) (v1 : Nat) (v2 : Int32) (v3 : Int32) : Option (Mem ⊕ (Nat × Mem)) :=
  F_X31_check_b124  M (1 : Int32) v0 v1 v2 v3
noncomputable def F_X31_check_b79  (M : Mem) (s0 : Int32) (v0 : Nat) (v1 : Nat) (v2 : Int32) : Option (Mem ⊕ (Nat × Mem)) :=
  (gr M v0 2048).bind fun t14 =>
  (vg M t14 76).bind fun _ =>
  (F_J15_length M t14).bind fun z16 =>
  if z16 = (1 : Int32) then
    if s0 = 0 then
      if v2 < (97 : Int32) then
        F_X31_check_b123  M v0 v1 v2 s0
      else
        if (104 : Int32) < v2 then
          F_X31_check_b123  M v0 v1 v2 s0
        else
          (gr M v1 2370).bind fun t17 =>
          (ar M t17 (v2 - (97 : Int32))).bind fun t18 =>
          if t18 = 6 then
            none
          else
            if t18 = 0 then
              F_X31_check_b123  M v0 v1 v2 s0
            else
              F_X31_check_b119  M v0 v1 v2 s0
    else
      F_X31_check_b119  M v0 v1 v2 s0
  else
    F_X31_check_b123  M v0 v1 v2 s0
noncomputable def F_X31_check_b78  (M : Mem) (v0 : Nat) (v1 : Nat) (v2 : Int32) : Option (Mem ⊕ (Nat × Mem)) :=
  F_X31_check_b79  M (0 : Int32) v0 v1 v2
noncomputable def F_X31_check (M : Mem) (v0 : Nat) (v1 : Nat) : Option (Mem ⊕ (Nat × Mem)) :=
  (vg M v1 37).bind fun _ =>
  (F_X36_isFormula M v1).bind fun z20 =>
  if z20 = 0 then
    (pi M v0 2049 (3 : Int32)).bind fun M21 =>
    (gr M21 v0 2048).bind fun t22 =>
    (vg M21 v1 37).bind fun _ =>
    (F_X36_parameter M21 v1 t22).bind fun z24 =>
    (pi M21 v0 2050 z24).bind fun M25 =>
    (gi M25 v0 2050).bind fun t26 =>
    if t26 < 0 then
      (gi M25 v0 1856).bind fun t27 =>
      (vg M25 v1 37).bind fun _ =>
      (F_X36_wrong M25 v1 t27).bind fun z29 =>
      (ie z29.2 z29.1).bind fun _ => some (.inr (z29.1, z29.2))
    else
      (gi M25 v0 2050).bind fun t30 =>
      (vg M25 v1 37).bind fun _ =>
      (F_X36_laneOf M25 v1 t30).bind fun z32 =>
      (pi M25 v0 1857 z32).bind fun M33 =>
      some (.inl M33)
  else
    (gr M v0 2048).bind fun t34 =>
    (vg M t34 76).bind fun _ =>
    (F_J15_charAt M t34 (0 : Int32)).bind fun z36 =>
    if z36 < (105 : Int32) then
      F_X31_check_b78  M v0 v1 z36
    else
      if (108 : Int32) < z36 then
        F_X31_check_b78  M v0 v1 z36
      else
        F_X31_check_b79  M (1 : Int32) v0 v1 z36
noncomputable def F_X28_isTruth_b12  (M : Mem) (s0 : Int32) : Option Int32 :=
  some (s0 &&& 1)
noncomputable def F_X28_isTruth (M : Mem) (v0 : Nat) : Option Int32 :=
  (gi M v0 1857).bind fun t1 =>
  if t1 = 0 then
    F_X28_isTruth_b12  M (1 : Int32)
  else
    F_X28_isTruth_b12  M (0 : Int32)
noncomputable def F_X20_isNumber_b16  (s0 : Int32) : Option Int32 :=
  some (s0 &&& 1)
noncomputable def F_X20_isNumber_b15   : Option Int32 :=
  F_X20_isNumber_b16  (0 : Int32)
noncomputable def F_X20_isNumber (v0 : Int32) : Option Int32 :=
  if v0 < (1 : Int32) then
    F_X20_isNumber_b15  
  else
    if (7 : Int32) < v0 then
      F_X20_isNumber_b15  
    else
      F_X20_isNumber_b16  (1 : Int32)
noncomputable def F_X28_isNumber (M : Mem) (v0 : Nat) : Option Int32 :=
  (gi M v0 1857).bind fun t1 =>
  (F_X20_isNumber t1).bind fun z2 =>
  some (z2 &&& 1)
noncomputable def F_X23_wider (v0 : Int32) (v1 : Int32) : Option Int32 :=
  (F_J7_max v0 v1).bind fun z1 =>
  (F_J7_max (4 : Int32) z1).bind fun z2 =>
  some z2
noncomputable def F_X20_isWhole_2_b15  (s0 : Int32) : Option Int32 :=
  some (s0 &&& 1)
noncomputable def F_X20_isWhole_2_b14   : Option Int32 :=
  F_X20_isWhole_2_b15  (0 : Int32)
noncomputable def F_X20_isWhole_2 (v0 : Int32) : Option Int32 :=
  if v0 < (1 : Int32) then
    F_X20_isWhole_2_b14  
  else
    if (5 : Int32) < v0 then
      F_X20_isWhole_2_b14  
    else
      F_X20_isWhole_2_b15  (1 : Int32)
noncomputable def F_X28_isWhole (M : Mem) (v0 : Nat) : Option Int32 :=
  (gi M v0 1857).bind fun t1 =>
  (F_X20_isWhole_2 t1).bind fun z2 =>
  some (z2 &&& 1)
noncomputable def F_X37_parameters_b16  (s0 : Int32) : Option Int32 :=
  some s0
noncomputable def F_X37_parameters_b15   : Option Int32 :=
  F_X37_parameters_b16  (1 : Int32)
noncomputable def F_X37_parameters (v0 : Int32) : Option Int32 :=
  if v0 < (2 : Int32) then
    F_X37_parameters_b15  
  else
    if (8 : Int32) < v0 then
      F_X37_parameters_b15  
    else
      F_X37_parameters_b16  (2 : Int32)
noncomputable def F_X37_lane_b96  (M : Mem) (s0 : Int32) : Option Int32 :=
  some s0
noncomputable def F_X37_lane_b69 (k33 : Mem → Int32 → Nat → Int32 → Int32 → Int32 → Option Int32) (M : Mem) (v0 : Int32) (v1 : Nat) (v2 : Int32) (v3 : Int32) (v4 : Int32) : Option Int32 :=
  (ai M v1 v4).bind fun t1 =>
  (F_X23_wider v3 t1).bind fun z2 =>
  let v4_3 : Int32 := v4 + (1 : Int32)
  k33 M v0 v1 v2 z2 v4_3
noncomputable def F_X37_lane_b67  (M : Mem) : Option Int32 :=
  some (-1 : Int32)
noncomputable def F_X37_lane_b33_st (k33 : Mem → Int32 → Nat → Int32 → Int32 → Int32 → Option Int32) (M : Mem) (v0 : Int32) (v1 : Nat) (v2 : Int32) (v3 : Int32) (v4 : Int32) : Option Int32 :=
  (an M v1).bind fun t4 =>
  if v4 < t4 then
    if v2 = 0 then
      (ai M v1 v4).bind fun t5 =>
      (F_X20_isNumber t5).bind fun z6 =>
      if z6 = 0 then
        F_X37_lane_b67  M
      else
        F_X37_lane_b69 k33 M v0 v1 v2 v3 v4
    else
      (ai M v1 v4).bind fun t7 =>
      (F_X20_isWhole_2 t7).bind fun z8 =>
      if z8 = 0 then
        F_X37_lane_b67  M
      else
        F_X37_lane_b69 k33 M v0 v1 v2 v3 v4
  else
    if v0 < (11 : Int32) then
      F_X37_lane_b96  M v3
    else
      F_X37_lane_b96  M (7 : Int32)
noncomputable def F_X37_lane_b33  (n : Nat) : Mem → Int32 → Nat → Int32 → Int32 → Int32 → Option Int32 :=
  Nat.rec (motive := fun _ => Mem → Int32 → Nat → Int32 → Int32 → Int32 → Option Int32) (fun _ _ _ _ _ _ => none) (fun _ ih => F_X37_lane_b33_st ih) n
noncomputable def F_X37_lane_b27  (M : Mem) (s0 : Int32) (v0 : Int32) (v1 : Nat) : Option Int32 :=
  F_X37_lane_b33  xN M v0 v1 s0 (4 : Int32) (0 : Int32)
noncomputable def F_X37_lane_b26  (M : Mem) (v0 : Int32) (v1 : Nat) : Option Int32 :=
  F_X37_lane_b27  M (0 : Int32) v0 v1
noncomputable def F_X37_lane (M : Mem) (v0 : Int32) (v1 : Nat) : Option Int32 :=
  (an M v1).bind fun t9 =>
  (F_X37_parameters v0).bind fun z10 =>
  if t9 = z10 then
    if v0 < (4 : Int32) then
      F_X37_lane_b26  M v0 v1
    else
      if (10 : Int32) < v0 then
        F_X37_lane_b26  M v0 v1
      else
        F_X37_lane_b27  M (1 : Int32) v0 v1
  else
    some (-1 : Int32)
noncomputable def F_X38_takes_b14_st (k14 : Mem → Nat → Nat → Int32 → Option Int32) (M : Mem) (v0 : Nat) (v1 : Nat) (v2 : Int32) : Option Int32 :=
  (an M v1).bind fun t1 =>
  if v2 < t1 then
    (ai M v1 v2).bind fun t2 =>
    (gr M v0 2498).bind fun t3 =>
    (ai M t3 v2).bind fun t4 =>
    (F_X20_fits t2 t4).bind fun z5 =>
    if z5 = 0 then
      some (0 : Int32)
    else
      let v2_6 : Int32 := v2 + (1 : Int32)
      k14 M v0 v1 v2_6
  else
    some (1 : Int32)
noncomputable def F_X38_takes_b14  (n : Nat) : Mem → Nat → Nat → Int32 → Option Int32 :=
  Nat.rec (motive := fun _ => Mem → Nat → Nat → Int32 → Option Int32) (fun _ _ _ _ => none) (fun _ ih => F_X38_takes_b14_st ih) n
noncomputable def F_X38_takes (M : Mem) (v0 : Nat) (v1 : Nat) : Option Int32 :=
  (an M v1).bind fun t7 =>
  (gr M v0 2498).bind fun t8 =>
  (an M t8).bind fun t9 =>
  if t7 = t9 then
    F_X38_takes_b14  xN M v0 v1 (0 : Int32)
  else
    some (0 : Int32)
noncomputable def F_X4_isMeant_b44  (M : Mem) (s0 : Int32) : Option Int32 :=
  some (s0 &&& 1)
noncomputable def F_X4_isMeant_b43  (M : Mem) : Option Int32 :=
  F_X4_isMeant_b44  M (0 : Int32)
noncomputable def F_X4_isMeant (M : Mem) (v0 : Nat) (v1 : Int32) (v2 : Nat) (v3 : Nat) : Option Int32 :=
  (gr M v0 320).bind fun t1 =>
  (vg M t1 67).bind fun _ =>
  (F_J6_get M t1 v1).bind fun z3 =>
  (cc M z3 39).bind fun _ =>
  (gr M z3 2496).bind fun t4 =>
  (vg M t4 76).bind fun _ =>
  (F_J15_equals M t4 v2).bind fun z6 =>
  if z6 = 0 then
    F_X4_isMeant_b43  M
  else
    (gr M v0 320).bind fun t7 =>
    (vg M t7 67).bind fun _ =>
    (F_J6_get M t7 v1).bind fun z9 =>
    (cc M z9 39).bind fun _ =>
    (vg M z9 39).bind fun _ =>
    (F_X38_takes M z9 v3).bind fun z11 =>
    if z11 = 0 then
      F_X4_isMeant_b43  M
    else
      F_X4_isMeant_b44  M (1 : Int32)
noncomputable def F_X4_choose_b127 (k6 : Mem → Nat → Nat → Nat → Int32 → Int32 → Option Int32) (M : Mem) (v0 : Nat) (v1 : Nat) (v2 : Nat) (v3 : Int32) (v4 : Int32) : Option Int32 :=
  let v4_1 : Int32 := v4 + (1 : Int32)
  k6 M v0 v1 v2 v3 v4_1
noncomputable def F_X4_choose_b119 (k6 : Mem → Nat → Nat → Nat → Int32 → Int32 → Option Int32) (M : Mem) (v0 : Nat) (v1 : Nat) (v2 : Nat) (v3 : Int32) (v4 : Int32) (v5 : Int32) : Option Int32 :=
  if v5 = 0 then
    F_X4_choose_b127 k6 M v0 v1 v2 v3 v4
  else
    F_X4_choose_b127 k6 M v0 v1 v2 v4 v4
noncomputable def F_X4_choose_b111 (k6 : Mem → Nat → Nat → Nat → Int32 → Int32 → Option Int32) (k45 : Mem → Nat → Nat → Nat → Int32 → Int32 → Int32 → Int32 → Option Int32) (M : Mem) (s0 : Int32) (v0 : Nat) (v1 : Nat) (v2 : Nat) (v3 : Int32) (v4 : Int32) (v6 : Int32) : Option Int32 :=
  let v6_2 : Int32 := v6 + (1 : Int32)
  k45 M v0 v1 v2 v3 v4 s0 v6_2
noncomputable def F_X4_choose_b106 (k6 : Mem → Nat → Nat → Nat → Int32 → Int32 → Option Int32) (k45 : Mem → Nat → Nat → Nat → Int32 → Int32 → Int32 → Int32 → Option Int32) (M : Mem) (v0 : Nat) (v1 : Nat) (v2 : Nat) (v3 : Int32) (v4 : Int32) (v6 : Int32) : Option Int32 :=
  F_X4_choose_b111 k6 k45 M (1 : Int32) v0 v1 v2 v3 v4 v6
noncomputable def F_X4_choose_b45_st (k6 : Mem → Nat → Nat → Nat → Int32 → Int32 → Option Int32) (k45 : Mem → Nat → Nat → Nat → Int32 → Int32 → Int32 → Int32 → Option Int32) (M : Mem) (v0 : Nat) (v1 : Nat) (v2 : Nat) (v3 : Int32) (v4 : Int32) (v5 : Int32) (v6 : Int32) : Option Int32 :=
  (gr M v0 320).bind fun t3 =>
  (vg M t3 67).bind fun _ =>
  (F_J6_size M t3).bind fun z5 =>
  if v6 < z5 then
    if v5 = 0 then
      F_X4_choose_b119 k6 M v0 v1 v2 v3 v4 v5
    else
      (vg M v0 5).bind fun _ =>
      (F_X4_isMeant M v0 v6 v1 v2).bind fun z7 =>
      if z7 = 0 then
        F_X4_choose_b106 k6 k45 M v0 v1 v2 v3 v4 v6
      else
        (gr M v0 320).bind fun t8 =>
        (vg M t8 67).bind fun _ =>
        (F_J6_get M t8 v6).bind fun z10 =>
        (cc M z10 39).bind fun _ =>
        (gr M v0 320).bind fun t11 =>
        (vg M t11 67).bind fun _ =>
        (F_J6_get M t11 v4).bind fun z13 =>
        (cc M z13 39).bind fun _ =>
        (gr M z13 2498).bind fun t14 =>
        (vg M z10 39).bind fun _ =>
        (F_X38_takes M z10 t14).bind fun z16 =>
        if z16 = 0 then
          F_X4_choose_b111 k6 k45 M (0 : Int32) v0 v1 v2 v3 v4 v6
        else
          F_X4_choose_b106 k6 k45 M v0 v1 v2 v3 v4 v6
  else
    F_X4_choose_b119 k6 M v0 v1 v2 v3 v4 v5
noncomputable def F_X4_choose_b45 (k6 : Mem → Nat → Nat → Nat → Int32 → Int32 → Option Int32) (n : Nat) : Mem → Nat → Nat → Nat → Int32 → Int32 → Int32 → Int32 → Option Int32 :=
  Nat.rec (motive := fun _ => Mem → Nat → Nat → Nat → Int32 → Int32 → Int32 → Int32 → Option Int32) (fun _ _ _ _ _ _ _ _ => none) (fun _ ih => F_X4_choose_b45_st k6 ih) n
noncomputable def F_X4_choose_b39 (k6 : Mem → Nat → Nat → Nat → Int32 → Int32 → Option Int32) (M : Mem) (v0 : Nat) (v1 : Nat) (v2 : Nat) (v3 : Int32) (v4 : Int32) : Option Int32 :=
  F_X4_choose_b45 k6 xN M v0 v1 v2 v3 v4 (1 : Int32) (0 : Int32)
noncomputable def F_X4_choose_b6_st (k6 : Mem → Nat → Nat → Nat → Int32 → Int32 → Option Int32) (M : Mem) (v0 : Nat) (v1 : Nat) (v2 : Nat) (v3 : Int32) (v4 : Int32) : Option Int32 :=
  (gr M v0 320).bind fun t17 =>
  (vg M t17 67).bind fun _ =>
  (F_J6_size M t17).bind fun z19 =>
  if v4 < z19 then
    (vg M v0 5).bind fun _ =>
    (F_X4_isMeant M v0 v4 v1 v2).bind fun z21 =>
    if z21 = 0 then
      F_X4_choose_b127 k6 M v0 v1 v2 v3 v4
    else
      if v3 < 0 then
        F_X4_choose_b39 k6 M v0 v1 v2 (-16 : Int32) v4
      else
        F_X4_choose_b39 k6 M v0 v1 v2 v3 v4
  else
    some v3
noncomputable def F_X4_choose_b6  (n : Nat) : Mem → Nat → Nat → Nat → Int32 → Int32 → Option Int32 :=
  Nat.rec (motive := fun _ => Mem → Nat → Nat → Nat → Int32 → Int32 → Option Int32) (fun _ _ _ _ _ _ => none) (fun _ ih => F_X4_choose_b6_st ih) n
noncomputable def F_X4_choose (M : Mem) (v0 : Nat) (v1 : Nat) (v2 : Nat) : Option Int32 :=
  F_X4_choose_b6  xN M v0 v1 v2 (-15 : Int32) (0 : Int32)
noncomputable def F_X35_check_b138 (r_V800 : Mem → Nat → Nat → Option (Mem ⊕ (Nat × Mem)))  (M : Mem) (s0 : Nat) (s1 : Int32) : Option (Mem ⊕ (Nat × Mem)) :=
  (pi M s0 1857 s1).bind fun M1 =>
  some (.inl M1)
noncomputable def F_X35_check_b79 (r_V800 : Mem → Nat → Nat → Option (Mem ⊕ (Nat × Mem)))  (M : Mem) (s0 : Int32) (v0 : Nat) (v1 : Nat) : Option (Mem ⊕ (Nat × Mem)) :=
  if s0 = 0 then
    (gi M v0 1856).bind fun t2 =>
    (vg M v1 37).bind fun _ =>
    (F_X36_wrong M v1 t2).bind fun z4 =>
    (ie z4.2 z4.1).bind fun _ => some (.inr (z4.1, z4.2))
  else
    (gr M v0 2305).bind fun t5 =>
    (gi M t5 1857).bind fun t6 =>
    (gr M v0 2306).bind fun t7 =>
    (gi M t7 1857).bind fun t8 =>
    if t6 = t8 then
      (gr M v0 2305).bind fun t9 =>
      (gi M t9 1857).bind fun t10 =>
      F_X35_check_b138 r_V800  M v0 t10
    else
      (gr M v0 2305).bind fun t11 =>
      (gi M t11 1857).bind fun t12 =>
      (gr M v0 2306).bind fun t13 =>
      (gi M t13 1857).bind fun t14 =>
      (F_X23_wider t12 t14).bind fun z15 =>
      F_X35_check_b138 r_V800  M v0 z15
noncomputable def F_X35_check_b78 (r_V800 : Mem → Nat → Nat → Option (Mem ⊕ (Nat × Mem)))  (M : Mem) (v0 : Nat) (v1 : Nat) : Option (Mem ⊕ (Nat × Mem)) :=
  F_X35_check_b79 r_V800  M (0 : Int32) v0 v1
noncomputable def F_X35_check_b74 (r_V800 : Mem → Nat → Nat → Option (Mem ⊕ (Nat × Mem)))  (M : Mem) (v0 : Nat) (v1 : Nat) : Option (Mem ⊕ (Nat × Mem)) :=
  F_X35_check_b79 r_V800  M (1 : Int32) v0 v1
noncomputable def F_X35_check_b54 (r_V800 : Mem → Nat → Nat → Option (Mem ⊕ (Nat × Mem)))  (M : Mem) (v0 : Nat) (v1 : Nat) : Option (Mem ⊕ (Nat × Mem)) :=
  (gr M v0 2305).bind fun t16 =>
  (vg M t16 29).bind fun _ =>
  (F_X28_isTruth M t16).bind fun z18 =>
  if z18 = 0 then
    F_X35_check_b78 r_V800  M v0 v1
  else
    (gr M v0 2306).bind fun t19 =>
    (vg M t19 29).bind fun _ =>
    (F_X28_isTruth M t19).bind fun z21 =>
    if z21 = 0 then
      F_X35_check_b78 r_V800  M v0 v1
    else
      F_X35_check_b74 r_V800  M v0 v1
noncomputable def F_X35_check_o (r_V800 : Mem → Nat → Nat → Option (Mem ⊕ (Nat × Mem))) (M : Mem) (v0 : Nat) (v1 : Nat) : Option (Mem ⊕ (Nat × Mem)) :=
  (gr M v0 2304).bind fun t22 =>
  (vg M t22 29).bind fun _ =>
  tb (r_V800 M t22 v1) fun z24 =>
  (gr z24 v0 2305).bind fun t25 =>
  (vg z24 t25 29).bind fun _ =>
  tb (r_V800 z24 t25 v1) fun z27 =>
  (gr z27 v0 2306).bind fun t28 =>
  (vg z27 t28 29).bind fun _ =>
  tb (r_V800 z27 t28 v1) fun z30 =>
  (gr z30 v0 2304).bind fun t31 =>
  (vg z30 t31 29).bind fun _ =>
  (F_X28_isTruth z30 t31).bind fun z33 =>
  if z33 = 0 then
    F_X35_check_b78 r_V800  z30 v0 v1
  else
    (gr z30 v0 2305).bind fun t34 =>
    (vg z30 t34 29).bind fun _ =>
    (F_X28_isNumber z30 t34).bind fun z36 =>
    if z36 = 0 then
      F_X35_check_b54 r_V800  z30 v0 v1
    else
      (gr z30 v0 2306).bind fun t37 =>
      (vg z30 t37 29).bind fun _ =>
      (F_X28_isNumber z30 t37).bind fun z39 =>
      if z39 = 0 then
        F_X35_check_b54 r_V800  z30 v0 v1
      else
        F_X35_check_b74 r_V800  z30 v0 v1
noncomputable def F_X29_check_b92 (r_V800 : Mem → Nat → Nat → Option (Mem ⊕ (Nat × Mem)))  (M : Mem) (s0 : Nat) (s1 : Int32) : Option (Mem ⊕ (Nat × Mem)) :=
  (pi M s0 1857 s1).bind fun M1 =>
  some (.inl M1)
noncomputable def F_X29_check_b53 (r_V800 : Mem → Nat → Nat → Option (Mem ⊕ (Nat × Mem)))  (M : Mem) (s0 : Int32) (v0 : Nat) (v1 : Nat) : Option (Mem ⊕ (Nat × Mem)) :=
  if s0 = 0 then
    (gi M v0 1856).bind fun t2 =>
    (vg M v1 37).bind fun _ =>
    (F_X36_wrong M v1 t2).bind fun z4 =>
    (ie z4.2 z4.1).bind fun _ => some (.inr (z4.1, z4.2))
  else
    (gi M v0 1920).bind fun t5 =>
    if t5 = (33 : Int32) then
      F_X29_check_b92 r_V800  M v0 (0 : Int32)
    else
      (gr M v0 1921).bind fun t6 =>
      (gi M t6 1857).bind fun t7 =>
      (F_X23_wider t7 (4 : Int32)).bind fun z8 =>
      F_X29_check_b92 r_V800  M v0 z8
noncomputable def F_X29_check_o (r_V800 : Mem → Nat → Nat → Option (Mem ⊕ (Nat × Mem))) (M : Mem) (v0 : Nat) (v1 : Nat) : Option (Mem ⊕ (Nat × Mem)) :=
  (gr M v0 1921).bind fun t9 =>
  (vg M t9 29).bind fun _ =>
  tb (r_V800 M t9 v1) fun z11 =>
  (gi z11 v0 1920).bind fun t12 =>
  if t12 = (33 : Int32) then
    (gr z11 v0 1921).bind fun t13 =>
    (vg z11 t13 29).bind fun _ =>
    (F_X28_isTruth z11 t13).bind fun z15 =>
    F_X29_check_b53 r_V800  z11 z15 v0 v1
  else
    (gi z11 v0 1920).bind fun t16 =>
    if t16 = (126 : Int32) then
      (gr z11 v0 1921).bind fun t17 =>
      (vg z11 t17 29).bind fun _ =>
      (F_X28_isWhole z11 t17).bind fun z19 =>
      F_X29_check_b53 r_V800  z11 z19 v0 v1
    else
      (gr z11 v0 1921).bind fun t20 =>
      (vg z11 t20 29).bind fun _ =>
      (F_X28_isNumber z11 t20).bind fun z22 =>
      F_X29_check_b53 r_V800  z11 z22 v0 v1
noncomputable def F_X34_check_b311 (r_V800 : Mem → Nat → Nat → Option (Mem ⊕ (Nat × Mem)))  (M : Mem) (s0 : Nat) (s1 : Int32) : Option (Mem ⊕ (Nat × Mem)) :=
  (pi M s0 1857 s1).bind fun M1 =>
  some (.inl M1)
noncomputable def F_X34_check_b295 (r_V800 : Mem → Nat → Nat → Option (Mem ⊕ (Nat × Mem)))  (M : Mem) (s0 : Int32) (v0 : Nat) : Option (Mem ⊕ (Nat × Mem)) :=
  if s0 = 0 then
    F_X34_check_b311 r_V800  M v0 (0 : Int32)
  else
    (gi M v0 2243).bind fun t2 =>
    F_X34_check_b311 r_V800  M v0 t2
noncomputable def F_X34_check_b290 (r_V800 : Mem → Nat → Nat → Option (Mem ⊕ (Nat × Mem)))  (M : Mem) (v0 : Nat) : Option (Mem ⊕ (Nat × Mem)) :=
  F_X34_check_b295 r_V800  M (1 : Int32) v0
noncomputable def F_X34_check_b294 (r_V800 : Mem → Nat → Nat → Option (Mem ⊕ (Nat × Mem)))  (M : Mem) (v0 : Nat) : Option (Mem ⊕ (Nat × Mem)) :=
  F_X34_check_b295 r_V800  M (0 : Int32) v0
noncomputable def F_X34_check_b265 (r_V800 : Mem → Nat → Nat → Option (Mem ⊕ (Nat × Mem)))  (M : Mem) (s0 : Nat) (s1 : Int32) (v0 : Nat) (v3 : Int32) : Option (Mem ⊕ (Nat × Mem)) :=
  (pi M s0 2243 s1).bind fun M3 =>
  (gi M3 v0 2240).bind fun t4 =>
  if (8 : Int32) < t4 then
    (gi M3 v0 2240).bind fun t5 =>
    if t5 < (15 : Int32) then
      F_X34_check_b294 r_V800  M3 v0
    else
      if v3 = 0 then
        F_X34_check_b294 r_V800  M3 v0
      else
        F_X34_check_b290 r_V800  M3 v0
  else
    F_X34_check_b290 r_V800  M3 v0
noncomputable def F_X34_check_b206 (r_V800 : Mem → Nat → Nat → Option (Mem ⊕ (Nat × Mem)))  (M : Mem) (v0 : Nat) (v1 : Nat) (v2 : Int32) (v3 : Int32) (v5 : Int32) (v6 : Int32) : Option (Mem ⊕ (Nat × Mem)) :=
  if v6 = 0 then
    (gi M v0 1856).bind fun t6 =>
    (vg M v1 37).bind fun _ =>
    (F_X36_wrong M v1 t6).bind fun z8 =>
    (ie z8.2 z8.1).bind fun _ => some (.inr (z8.1, z8.2))
  else
    if v5 = 0 then
      if v2 = 0 then
        F_X34_check_b265 r_V800  M v0 (0 : Int32) v0 v3
      else
        (gr M v0 2241).bind fun t9 =>
        (gi M t9 1857).bind fun t10 =>
        (gr M v0 2242).bind fun t11 =>
        (gi M t11 1857).bind fun t12 =>
        (F_X23_wider t10 t12).bind fun z13 =>
        F_X34_check_b265 r_V800  M v0 z13 v0 v3
    else
      (gr M v0 2241).bind fun t14 =>
      (gi M t14 1857).bind fun t15 =>
      (F_X23_wider t15 (4 : Int32)).bind fun z16 =>
      F_X34_check_b265 r_V800  M v0 z16 v0 v3
noncomputable def F_X34_check_b197 (r_V800 : Mem → Nat → Nat → Option (Mem ⊕ (Nat × Mem)))  (M : Mem) (s0 : Int32) (v0 : Nat) (v1 : Nat) (v2 : Int32) (v3 : Int32) (v5 : Int32) : Option (Mem ⊕ (Nat × Mem)) :=
  F_X34_check_b206 r_V800  M v0 v1 v2 v3 v5 s0
noncomputable def F_X34_check_b192 (r_V800 : Mem → Nat → Nat → Option (Mem ⊕ (Nat × Mem)))  (M : Mem) (v0 : Nat) (v1 : Nat) (v2 : Int32) (v3 : Int32) (v5 : Int32) : Option (Mem ⊕ (Nat × Mem)) :=
  F_X34_check_b197 r_V800  M (1 : Int32) v0 v1 v2 v3 v5
noncomputable def F_X34_check_b169 (r_V800 : Mem → Nat → Nat → Option (Mem ⊕ (Nat × Mem)))  (M : Mem) (s0 : Int32) (v0 : Nat) (v1 : Nat) (v2 : Int32) (v3 : Int32) (v5 : Int32) : Option (Mem ⊕ (Nat × Mem)) :=
  F_X34_check_b206 r_V800  M v0 v1 v2 v3 v5 s0
noncomputable def F_X34_check_b164 (r_V800 : Mem → Nat → Nat → Option (Mem ⊕ (Nat × Mem)))  (M : Mem) (v0 : Nat) (v1 : Nat) (v2 : Int32) (v3 : Int32) (v5 : Int32) : Option (Mem ⊕ (Nat × Mem)) :=
  F_X34_check_b169 r_V800  M (1 : Int32) v0 v1 v2 v3 v5
noncomputable def F_X34_check_b118 (r_V800 : Mem → Nat → Nat → Option (Mem ⊕ (Nat × Mem)))  (M : Mem) (s0 : Int32) (v0 : Nat) (v1 : Nat) (v2 : Int32) (v3 : Int32) (v4 : Int32) : Option (Mem ⊕ (Nat × Mem)) :=
  if s0 = 0 then
    (gi M v0 2240).bind fun t17 =>
    if (12 : Int32) < t17 then
      (gi M v0 2240).bind fun t18 =>
      if (14 : Int32) < t18 then
        (gi M v0 2240).bind fun t19 =>
        if (17 : Int32) < t19 then
          F_X34_check_b206 r_V800  M v0 v1 v2 v3 s0 v4
        else
          if v3 = 0 then
            if v4 = 0 then
              F_X34_check_b197 r_V800  M (0 : Int32) v0 v1 v2 v3 s0
            else
              F_X34_check_b192 r_V800  M v0 v1 v2 v3 s0
          else
            F_X34_check_b192 r_V800  M v0 v1 v2 v3 s0
      else
        if v2 = 0 then
          if v4 = 0 then
            F_X34_check_b169 r_V800  M (0 : Int32) v0 v1 v2 v3 s0
          else
            F_X34_check_b164 r_V800  M v0 v1 v2 v3 s0
        else
          F_X34_check_b164 r_V800  M v0 v1 v2 v3 s0
    else
      F_X34_check_b206 r_V800  M v0 v1 v2 v3 s0 v2
  else
    F_X34_check_b206 r_V800  M v0 v1 v2 v3 s0 v3
noncomputable def F_X34_check_b117 (r_V800 : Mem → Nat → Nat → Option (Mem ⊕ (Nat × Mem)))  (M : Mem) (v0 : Nat) (v1 : Nat) (v2 : Int32) (v3 : Int32) (v4 : Int32) : Option (Mem ⊕ (Nat × Mem)) :=
  F_X34_check_b118 r_V800  M (0 : Int32) v0 v1 v2 v3 v4
noncomputable def F_X34_check_b93 (r_V800 : Mem → Nat → Nat → Option (Mem ⊕ (Nat × Mem)))  (M : Mem) (s0 : Int32) (v0 : Nat) (v1 : Nat) (v2 : Int32) (v3 : Int32) : Option (Mem ⊕ (Nat × Mem)) :=
  (gi M v0 2240).bind fun t20 =>
  if t20 < (6 : Int32) then
    F_X34_check_b117 r_V800  M v0 v1 v2 v3 s0
  else
    (gi M v0 2240).bind fun t21 =>
    if (8 : Int32) < t21 then
      F_X34_check_b117 r_V800  M v0 v1 v2 v3 s0
    else
      F_X34_check_b118 r_V800  M (1 : Int32) v0 v1 v2 v3 s0
noncomputable def F_X34_check_b92 (r_V800 : Mem → Nat → Nat → Option (Mem ⊕ (Nat × Mem)))  (M : Mem) (v0 : Nat) (v1 : Nat) (v2 : Int32) (v3 : Int32) : Option (Mem ⊕ (Nat × Mem)) :=
  F_X34_check_b93 r_V800  M (0 : Int32) v0 v1 v2 v3
noncomputable def F_X34_check_b67 (r_V800 : Mem → Nat → Nat → Option (Mem ⊕ (Nat × Mem)))  (M : Mem) (s0 : Int32) (v0 : Nat) (v1 : Nat) (v2 : Int32) : Option (Mem ⊕ (Nat × Mem)) :=
  (gr M v0 2241).bind fun t22 =>
  (vg M t22 29).bind fun _ =>
  (F_X28_isTruth M t22).bind fun z24 =>
  if z24 = 0 then
    F_X34_check_b92 r_V800  M v0 v1 v2 s0
  else
    (gr M v0 2242).bind fun t25 =>
    (vg M t25 29).bind fun _ =>
    (F_X28_isTruth M t25).bind fun z27 =>
    if z27 = 0 then
      F_X34_check_b92 r_V800  M v0 v1 v2 s0
    else
      F_X34_check_b93 r_V800  M (1 : Int32) v0 v1 v2 s0
noncomputable def F_X34_check_b66 (r_V800 : Mem → Nat → Nat → Option (Mem ⊕ (Nat × Mem)))  (M : Mem) (v0 : Nat) (v1 : Nat) (v2 : Int32) : Option (Mem ⊕ (Nat × Mem)) :=
  F_X34_check_b67 r_V800  M (0 : Int32) v0 v1 v2
noncomputable def F_X34_check_b41 (r_V800 : Mem → Nat → Nat → Option (Mem ⊕ (Nat × Mem)))  (M : Mem) (s0 : Int32) (v0 : Nat) (v1 : Nat) : Option (Mem ⊕ (Nat × Mem)) :=
  (gr M v0 2241).bind fun t28 =>
  (vg M t28 29).bind fun _ =>
  (F_X28_isWhole M t28).bind fun z30 =>
  if z30 = 0 then
    F_X34_check_b66 r_V800  M v0 v1 s0
  else
    (gr M v0 2242).bind fun t31 =>
    (vg M t31 29).bind fun _ =>
    (F_X28_isWhole M t31).bind fun z33 =>
    if z33 = 0 then
      F_X34_check_b66 r_V800  M v0 v1 s0
    else
      F_X34_check_b67 r_V800  M (1 : Int32) v0 v1 s0
noncomputable def F_X34_check_b40 (r_V800 : Mem → Nat → Nat → Option (Mem ⊕ (Nat × Mem)))  (M : Mem) (v0 : Nat) (v1 : Nat) : Option (Mem ⊕ (Nat × Mem)) :=
  F_X34_check_b41 r_V800  M (0 : Int32) v0 v1
noncomputable def F_X34_check_o (r_V800 : Mem → Nat → Nat → Option (Mem ⊕ (Nat × Mem))) (M : Mem) (v0 : Nat) (v1 : Nat) : Option (Mem ⊕ (Nat × Mem)) :=
  (gr M v0 2241).bind fun t34 =>
  (vg M t34 29).bind fun _ =>
  tb (r_V800 M t34 v1) fun z36 =>
  (gr z36 v0 2242).bind fun t37 =>
  (vg z36 t37 29).bind fun _ =>
  tb (r_V800 z36 t37 v1) fun z39 =>
  (gr z39 v0 2241).bind fun t40 =>
  (vg z39 t40 29).bind fun _ =>
  (F_X28_isNumber z39 t40).bind fun z42 =>
  if z42 = 0 then
    F_X34_check_b40 r_V800  z39 v0 v1
  else
    (gr z39 v0 2242).bind fun t43 =>
    (vg z39 t43 29).bind fun _ =>
    (F_X28_isNumber z39 t43).bind fun z45 =>
    if z45 = 0 then
      F_X34_check_b40 r_V800  z39 v0 v1
    else
      F_X34_check_b41 r_V800  z39 (1 : Int32) v0 v1
noncomputable def F_X33_check_b48 (r_V800 : Mem → Nat → Nat → Option (Mem ⊕ (Nat × Mem)))  (M : Mem) : Option (Mem ⊕ (Nat × Mem)) :=
  some (.inl M)
noncomputable def F_X33_check_b39 (r_V800 : Mem → Nat → Nat → Option (Mem ⊕ (Nat × Mem)))  (M : Mem) (v0 : Nat) (v1 : Nat) : Option (Mem ⊕ (Nat × Mem)) :=
  (gi M v0 1856).bind fun t1 =>
  (vg M v1 37).bind fun _ =>
  (F_X36_wrong M v1 t1).bind fun z3 =>
  (ie z3.2 z3.1).bind fun _ => some (.inr (z3.1, z3.2))
noncomputable def F_X33_check_o (r_V800 : Mem → Nat → Nat → Option (Mem ⊕ (Nat × Mem))) (M : Mem) (v0 : Nat) (v1 : Nat) : Option (Mem ⊕ (Nat × Mem)) :=
  (gr M v0 2176).bind fun t4 =>
  (vg M t4 29).bind fun _ =>
  tb (r_V800 M t4 v1) fun z6 =>
  (gi z6 v0 1857).bind fun t7 =>
  (gr z6 v0 2176).bind fun t8 =>
  (gi z6 t8 1857).bind fun t9 =>
  if t7 = t9 then
    F_X33_check_b48 r_V800  z6
  else
    (vg z6 v0 34).bind fun _ =>
    (F_X28_isNumber z6 v0).bind fun z11 =>
    if z11 = 0 then
      F_X33_check_b39 r_V800  z6 v0 v1
    else
      (gr z6 v0 2176).bind fun t12 =>
      (vg z6 t12 29).bind fun _ =>
      (F_X28_isNumber z6 t12).bind fun z14 =>
      if z14 = 0 then
        F_X33_check_b39 r_V800  z6 v0 v1
      else
        F_X33_check_b48 r_V800  z6
noncomputable def F_X32_check_b15_st (r_V800 : Mem → Nat → Nat → Option (Mem ⊕ (Nat × Mem))) (k15 : Mem → Nat → Nat → Int32 → Nat → Int32 → Option (Mem ⊕ (Nat × Mem))) (M : Mem) (v0 : Nat) (v1 : Nat) (v2 : Int32) (v3 : Nat) (v4 : Int32) : Option (Mem ⊕ (Nat × Mem)) :=
  if v4 < v2 then
    (gr M v0 2113).bind fun t1 =>
    (vg M t1 67).bind fun _ =>
    (F_J6_get M t1 v4).bind fun z3 =>
    (cc M z3 29).bind fun _ =>
    (vg M z3 29).bind fun _ =>
    tb (r_V800 M z3 v1) fun z5 =>
    (gr z5 v0 2113).bind fun t6 =>
    (vg z5 t6 67).bind fun _ =>
    (F_J6_get z5 t6 v4).bind fun z8 =>
    (cc z5 z8 29).bind fun _ =>
    (gi z5 z8 1857).bind fun t9 =>
    (si z5 v3 v4 t9).bind fun M10 =>
    let v4_11 : Int32 := v4 + (1 : Int32)
    k15 M10 v0 v1 v2 v3 v4_11
  else
    (gr M v0 2112).bind fun t12 =>
    (F_X4_builtIn M t12).bind fun z13 =>
    (pi M v0 2115 z13).bind fun M14 =>
    (gi M14 v0 2115).bind fun t15 =>
    if t15 < 0 then
      (gr M14 v1 2369).bind fun t16 =>
      (gr M14 v0 2112).bind fun t17 =>
      (vg M14 t16 5).bind fun _ =>
      (F_X4_choose M14 t16 t17 v3).bind fun z19 =>
      (pi M14 v0 2114 z19).bind fun M20 =>
      (gi M20 v0 2114).bind fun t21 =>
      if t21 < 0 then
        (gi M20 v0 1856).bind fun t22 =>
        (vg M20 v1 37).bind fun _ =>
        (F_X36_wrong M20 v1 t22).bind fun z24 =>
        (ie z24.2 z24.1).bind fun _ => some (.inr (z24.1, z24.2))
      else
        (gr M20 v1 2369).bind fun t25 =>
        (gr M20 t25 320).bind fun t26 =>
        (gi M20 v0 2114).bind fun t27 =>
        (vg M20 t26 67).bind fun _ =>
        (F_J6_get M20 t26 t27).bind fun z29 =>
        (cc M20 z29 39).bind fun _ =>
        (gi M20 z29 2497).bind fun t30 =>
        (pi M20 v0 1857 t30).bind fun M31 =>
        (gr M31 v1 2369).bind fun t32 =>
        (gr M31 t32 320).bind fun t33 =>
        (gi M31 v0 2114).bind fun t34 =>
        (vg M31 t33 67).bind fun _ =>
        (F_J6_get M31 t33 t34).bind fun z36 =>
        (cc M31 z36 39).bind fun _ =>
        (pr M31 v0 2117 z36).bind fun M37 =>
        some (.inl M37)
    else
      (gi M14 v0 2115).bind fun t38 =>
      (F_X37_lane M14 t38 v3).bind fun z39 =>
      (pi M14 v0 2116 z39).bind fun M40 =>
      (gi M40 v0 2116).bind fun t41 =>
      if t41 < 0 then
        (gi M40 v0 1856).bind fun t42 =>
        (vg M40 v1 37).bind fun _ =>
        (F_X36_wrong M40 v1 t42).bind fun z44 =>
        (ie z44.2 z44.1).bind fun _ => some (.inr (z44.1, z44.2))
      else
        (gi M40 v0 2116).bind fun t45 =>
        (pi M40 v0 1857 t45).bind fun M46 =>
        some (.inl M46)
noncomputable def F_X32_check_b15 (r_V800 : Mem → Nat → Nat → Option (Mem ⊕ (Nat × Mem)))  (n : Nat) : Mem → Nat → Nat → Int32 → Nat → Int32 → Option (Mem ⊕ (Nat × Mem)) :=
  Nat.rec (motive := fun _ => Mem → Nat → Nat → Int32 → Nat → Int32 → Option (Mem ⊕ (Nat × Mem))) (fun _ _ _ _ _ _ => none) (fun _ ih => F_X32_check_b15_st r_V800 ih) n
noncomputable def F_X32_check_o (r_V800 : Mem → Nat → Nat → Option (Mem ⊕ (Nat × Mem))) (M : Mem) (v0 : Nat) (v1 : Nat) : Option (Mem ⊕ (Nat × Mem)) :=
  (gr M v0 2113).bind fun t47 =>
  (vg M t47 67).bind fun _ =>
  (F_J6_size M t47).bind fun z49 =>
  (mk M 1005 z49).bind fun M50 =>
  let v3_51 : Nat := (m_nx M)
  F_X32_check_b15 r_V800  xN M50 v0 v1 z49 v3_51 (0 : Int32)
noncomputable def R_1 (n : Nat) : ((Mem → Nat → Nat → Option (Mem ⊕ (Nat × Mem)))) :=
  Nat.rec (motive := fun _ => ((Mem → Nat → Nat → Option (Mem ⊕ (Nat × Mem))))) ((fun _ _ _ => none)) (fun _ ih => ((fun M a0 a1 => if m_tg M a0 = 30 then F_X29_check_o ih M a0 a1 else if m_tg M a0 = 31 then F_X30_check M a0 a1 else if m_tg M a0 = 32 then F_X31_check M a0 a1 else if m_tg M a0 = 33 then F_X32_check_o ih M a0 a1 else if m_tg M a0 = 34 then F_X33_check_o ih M a0 a1 else if m_tg M a0 = 35 then F_X34_check_o ih M a0 a1 else if m_tg M a0 = 36 then F_X35_check_o ih M a0 a1 else none))) n
noncomputable def F_V800 (M : Mem) (a0 : Nat) (a1 : Nat) : Option (Mem ⊕ (Nat × Mem)) := (R_1 xR) M a0 a1
noncomputable def F_X39_init (M : Mem) (v0 : Nat) : Option Mem :=
  (ng M v0).bind fun _ =>
  (mk M 1005 (64 : Int32)).bind fun M3 =>
  (pr M3 v0 2560 (m_nx M)).bind fun M4 =>
  some M4
noncomputable def F_X38_init (M : Mem) (v0 : Nat) (v1 : Nat) (v2 : Int32) (v3 : Nat) : Option Mem :=
  (ng M v0).bind fun _ =>
  let t4 : Nat := m_nx M
  let M3 : Mem := mo M 40
  (ng M3 t4).bind fun _ =>
  (F_X39_init M3 t4).bind fun z6 =>
  (pr z6 v0 2499 t4).bind fun M7 =>
  (pr M7 v0 2496 v1).bind fun M8 =>
  (pi M8 v0 2497 v2).bind fun M9 =>
  (pr M9 v0 2498 v3).bind fun M10 =>
  some M10
noncomputable def F_X39_add_b51  (M : Mem) (v0 : Nat) (v1 : Int32) : Option Mem :=
  (gr M v0 2560).bind fun t1 =>
  (gi M v0 2561).bind fun t2 =>
  (si M t1 t2 v1).bind fun M3 =>
  (gi M3 v0 2561).bind fun t4 =>
  (pi M3 v0 2561 (t4 + (1 : Int32))).bind fun M5 =>
  some M5
noncomputable def F_X39_add_b23_st (k23 : Mem → Nat → Int32 → Nat → Int32 → Option Mem) (M : Mem) (v0 : Nat) (v1 : Int32) (v2 : Nat) (v3 : Int32) : Option Mem :=
  (gi M v0 2561).bind fun t6 =>
  if v3 < t6 then
    (gr M v0 2560).bind fun t7 =>
    (ai M t7 v3).bind fun t8 =>
    (si M v2 v3 t8).bind fun M9 =>
    let v3_10 : Int32 := v3 + (1 : Int32)
    k23 M9 v0 v1 v2 v3_10
  else
    (pr M v0 2560 v2).bind fun M11 =>
    F_X39_add_b51  M11 v0 v1
noncomputable def F_X39_add_b23  (n : Nat) : Mem → Nat → Int32 → Nat → Int32 → Option Mem :=
  Nat.rec (motive := fun _ => Mem → Nat → Int32 → Nat → Int32 → Option Mem) (fun _ _ _ _ _ => none) (fun _ ih => F_X39_add_b23_st ih) n
noncomputable def F_X39_add (M : Mem) (v0 : Nat) (v1 : Int32) : Option Mem :=
  (gi M v0 2561).bind fun t12 =>
  (gr M v0 2560).bind fun t13 =>
  (an M t13).bind fun t14 =>
  if t12 = t14 then
    (gi M v0 2561).bind fun t15 =>
    (mk M 1005 ((2 : Int32) * t15)).bind fun M16 =>
    let v2_17 : Nat := (m_nx M)
    F_X39_add_b23  xN M16 v0 v1 v2_17 (0 : Int32)
  else
    F_X39_add_b51  M v0 v1
noncomputable def F_X39_open (M : Mem) (v0 : Nat) : Option (Int32 × Mem) :=
  (vg M v0 40).bind fun _ =>
  (F_X39_add M v0 (-1 : Int32)).bind fun z2 =>
  (gi z2 v0 2561).bind fun t3 =>
  some ((t3 - (1 : Int32)), z2)
noncomputable def F_X39_addLong (M : Mem) (v0 : Nat) (v1 : Int64) : Option Mem :=
  (vg M v0 40).bind fun _ =>
  (F_X39_add M v0 (v1.toInt32)).bind fun z2 =>
  (vg z2 v0 40).bind fun _ =>
  (F_X39_add z2 v0 ((j_lshr v1 (32 : Int32)).toInt32)).bind fun z4 =>
  some z4
noncomputable def F_X30_write (M : Mem) (v0 : Nat) (v1 : Nat) : Option Mem :=
  (vg M v1 40).bind fun _ =>
  (F_X39_add M v1 (0 : Int32)).bind fun z2 =>
  (gl z2 v0 1984).bind fun t3 =>
  (vg z2 v1 40).bind fun _ =>
  (F_X39_addLong z2 v1 t3).bind fun z5 =>
  some z5
noncomputable def F_X31_write (M : Mem) (v0 : Nat) (v1 : Nat) : Option Mem :=
  (gi M v0 2049).bind fun t1 =>
  (vg M v1 40).bind fun _ =>
  (F_X39_add M v1 t1).bind fun z3 =>
  (gi z3 v0 2050).bind fun t4 =>
  (vg z3 v1 40).bind fun _ =>
  (F_X39_add z3 v1 t4).bind fun z6 =>
  some z6
noncomputable def F_X35_write_o (r_V801 : Mem → Nat → Nat → Option Mem) (r_X28_writeAs : Mem → Nat → Nat → Int32 → Option Mem) (M : Mem) (v0 : Nat) (v1 : Nat) : Option Mem :=
  (gr M v0 2304).bind fun t1 =>
  (vg M t1 29).bind fun _ =>
  (r_V801 M t1 v1).bind fun z3 =>
  (vg z3 v1 40).bind fun _ =>
  (F_X39_add z3 v1 (11 : Int32)).bind fun z5 =>
  (vg z5 v1 40).bind fun _ =>
  (F_X39_open z5 v1).bind fun z7 =>
  (gr z7.2 v0 2305).bind fun t8 =>
  (gi z7.2 v0 1857).bind fun t9 =>
  (vg z7.2 t8 29).bind fun _ =>
  (r_X28_writeAs z7.2 t8 v1 t9).bind fun z11 =>
  (vg z11 v1 40).bind fun _ =>
  (F_X39_add z11 v1 (12 : Int32)).bind fun z13 =>
  (vg z13 v1 40).bind fun _ =>
  (F_X39_open z13 v1).bind fun z15 =>
  (gr z15.2 v1 2560).bind fun t16 =>
  (gi z15.2 v1 2561).bind fun t17 =>
  (si z15.2 t16 z7.1 t17).bind fun M18 =>
  (gr M18 v0 2306).bind fun t19 =>
  (gi M18 v0 1857).bind fun t20 =>
  (vg M18 t19 29).bind fun _ =>
  (r_X28_writeAs M18 t19 v1 t20).bind fun z22 =>
  (gr z22 v1 2560).bind fun t23 =>
  (gi z22 v1 2561).bind fun t24 =>
  (si z22 t23 z15.1 t24).bind fun M25 =>
  some M25
noncomputable def F_X29_write_b62 (r_V801 : Mem → Nat → Nat → Option Mem) (r_X28_writeAs : Mem → Nat → Nat → Int32 → Option Mem)  (M : Mem) : Option Mem :=
  some M
noncomputable def F_X29_write_b42 (r_V801 : Mem → Nat → Nat → Option Mem) (r_X28_writeAs : Mem → Nat → Nat → Int32 → Option Mem)  (M : Mem) (s0 : Nat) (s1 : Int32) (v0 : Nat) (v1 : Nat) : Option Mem :=
  (vg M s0 40).bind fun _ =>
  (F_X39_add M s0 s1).bind fun z2 =>
  (gi z2 v0 1920).bind fun t3 =>
  if t3 = (45 : Int32) then
    (gi z2 v0 1857).bind fun t4 =>
    (vg z2 v1 40).bind fun _ =>
    (F_X39_add z2 v1 t4).bind fun z6 =>
    F_X29_write_b62 r_V801 r_X28_writeAs  z6
  else
    F_X29_write_b62 r_V801 r_X28_writeAs  z2
noncomputable def F_X29_write_o (r_V801 : Mem → Nat → Nat → Option Mem) (r_X28_writeAs : Mem → Nat → Nat → Int32 → Option Mem) (M : Mem) (v0 : Nat) (v1 : Nat) : Option Mem :=
  (gr M v0 1921).bind fun t7 =>
  (gi M v0 1857).bind fun t8 =>
  (vg M t7 29).bind fun _ =>
  (r_X28_writeAs M t7 v1 t8).bind fun z10 =>
  (gi z10 v0 1920).bind fun t11 =>
  if t11 = (33 : Int32) then
    F_X29_write_b42 r_V801 r_X28_writeAs  z10 v1 (7 : Int32) v0 v1
  else
    (gi z10 v0 1920).bind fun t12 =>
    if t12 = (126 : Int32) then
      F_X29_write_b42 r_V801 r_X28_writeAs  z10 v1 (6 : Int32) v0 v1
    else
      F_X29_write_b42 r_V801 r_X28_writeAs  z10 v1 (5 : Int32) v0 v1
noncomputable def F_X34_write_b43 (r_V801 : Mem → Nat → Nat → Option Mem) (r_X28_writeAs : Mem → Nat → Nat → Int32 → Option Mem)  (M : Mem) (s0 : Nat) (s1 : Int32) (v0 : Nat) (v1 : Nat) : Option Mem :=
  (vg M s0 40).bind fun _ =>
  (F_X39_add M s0 s1).bind fun z2 =>
  (vg z2 v1 40).bind fun _ =>
  (F_X39_open z2 v1).bind fun z4 =>
  (gr z4.2 v0 2242).bind fun t5 =>
  (vg z4.2 t5 29).bind fun _ =>
  (r_V801 z4.2 t5 v1).bind fun z7 =>
  (gr z7 v1 2560).bind fun t8 =>
  (gi z7 v1 2561).bind fun t9 =>
  (si z7 t8 z4.1 t9).bind fun M10 =>
  some M10
noncomputable def F_X34_write_b18 (r_V801 : Mem → Nat → Nat → Option Mem) (r_X28_writeAs : Mem → Nat → Nat → Int32 → Option Mem)  (M : Mem) (v0 : Nat) (v1 : Nat) : Option Mem :=
  (gr M v0 2241).bind fun t11 =>
  (vg M t11 29).bind fun _ =>
  (r_V801 M t11 v1).bind fun z13 =>
  (gi z13 v0 2240).bind fun t14 =>
  if t14 = (18 : Int32) then
    F_X34_write_b43 r_V801 r_X28_writeAs  z13 v1 (9 : Int32) v0 v1
  else
    F_X34_write_b43 r_V801 r_X28_writeAs  z13 v1 (10 : Int32) v0 v1
noncomputable def F_X34_write_b133 (r_V801 : Mem → Nat → Nat → Option Mem) (r_X28_writeAs : Mem → Nat → Nat → Int32 → Option Mem)  (M : Mem) (v0 : Nat) (v1 : Nat) : Option Mem :=
  (vg M v1 40).bind fun _ =>
  (F_X39_add M v1 (8 : Int32)).bind fun z16 =>
  (gi z16 v0 2240).bind fun t17 =>
  (vg z16 v1 40).bind fun _ =>
  (F_X39_add z16 v1 t17).bind fun z19 =>
  (gi z19 v0 2243).bind fun t20 =>
  (vg z19 v1 40).bind fun _ =>
  (F_X39_add z19 v1 t20).bind fun z22 =>
  some z22
noncomputable def F_X34_write_b93 (r_V801 : Mem → Nat → Nat → Option Mem) (r_X28_writeAs : Mem → Nat → Nat → Int32 → Option Mem)  (M : Mem) (s0 : Int32) (v0 : Nat) (v1 : Nat) : Option Mem :=
  (gr M v0 2241).bind fun t23 =>
  (gi M v0 2243).bind fun t24 =>
  (vg M t23 29).bind fun _ =>
  (r_X28_writeAs M t23 v1 t24).bind fun z26 =>
  if s0 = 0 then
    (gr z26 v0 2242).bind fun t27 =>
    (gi z26 v0 2243).bind fun t28 =>
    (vg z26 t27 29).bind fun _ =>
    (r_X28_writeAs z26 t27 v1 t28).bind fun z30 =>
    F_X34_write_b133 r_V801 r_X28_writeAs  z30 v0 v1
  else
    (gr z26 v0 2242).bind fun t31 =>
    (vg z26 t31 29).bind fun _ =>
    (r_V801 z26 t31 v1).bind fun z33 =>
    F_X34_write_b133 r_V801 r_X28_writeAs  z33 v0 v1
noncomputable def F_X34_write_b92 (r_V801 : Mem → Nat → Nat → Option Mem) (r_X28_writeAs : Mem → Nat → Nat → Int32 → Option Mem)  (M : Mem) (v0 : Nat) (v1 : Nat) : Option Mem :=
  F_X34_write_b93 r_V801 r_X28_writeAs  M (0 : Int32) v0 v1
noncomputable def F_X34_write_o (r_V801 : Mem → Nat → Nat → Option Mem) (r_X28_writeAs : Mem → Nat → Nat → Int32 → Option Mem) (M : Mem) (v0 : Nat) (v1 : Nat) : Option Mem :=
  (gi M v0 2240).bind fun t34 =>
  if t34 = (18 : Int32) then
    F_X34_write_b18 r_V801 r_X28_writeAs  M v0 v1
  else
    (gi M v0 2240).bind fun t35 =>
    if t35 = (19 : Int32) then
      F_X34_write_b18 r_V801 r_X28_writeAs  M v0 v1
    else
      (gi M v0 2240).bind fun t36 =>
      if t36 < (6 : Int32) then
        F_X34_write_b92 r_V801 r_X28_writeAs  M v0 v1
      else
        (gi M v0 2240).bind fun t37 =>
        if (8 : Int32) < t37 then
          F_X34_write_b92 r_V801 r_X28_writeAs  M v0 v1
        else
          F_X34_write_b93 r_V801 r_X28_writeAs  M (1 : Int32) v0 v1
noncomputable def F_X33_write_o (r_V801 : Mem → Nat → Nat → Option Mem) (r_X28_writeAs : Mem → Nat → Nat → Int32 → Option Mem) (M : Mem) (v0 : Nat) (v1 : Nat) : Option Mem :=
  (gr M v0 2176).bind fun t1 =>
  (vg M t1 29).bind fun _ =>
  (r_V801 M t1 v1).bind fun z3 =>
  (vg z3 v1 40).bind fun _ =>
  (F_X39_add z3 v1 (16 : Int32)).bind fun z5 =>
  (vg z5 v1 40).bind fun _ =>
  (F_X39_add z5 v1 (4 : Int32)).bind fun z7 =>
  (gr z7 v0 2176).bind fun t8 =>
  (gi z7 t8 1857).bind fun t9 =>
  (vg z7 v1 40).bind fun _ =>
  (F_X39_add z7 v1 t9).bind fun z11 =>
  (gi z11 v0 1857).bind fun t12 =>
  (vg z11 v1 40).bind fun _ =>
  (F_X39_add z11 v1 t12).bind fun z14 =>
  some z14
noncomputable def F_X32_write_b112 (r_V801 : Mem → Nat → Nat → Option Mem) (r_X28_writeAs : Mem → Nat → Nat → Int32 → Option Mem)  (M : Mem) : Option Mem :=
  some M
noncomputable def F_X32_write_b94 (r_V801 : Mem → Nat → Nat → Option Mem) (r_X28_writeAs : Mem → Nat → Nat → Int32 → Option Mem)  (M : Mem) (s0 : Nat) (s1 : Int32) (v0 : Nat) (v1 : Nat) : Option Mem :=
  (vg M s0 40).bind fun _ =>
  (F_X39_add M s0 s1).bind fun z2 =>
  (gi z2 v0 2114).bind fun t3 =>
  if t3 < 0 then
    (gi z2 v0 2116).bind fun t4 =>
    (vg z2 v1 40).bind fun _ =>
    (F_X39_add z2 v1 t4).bind fun z6 =>
    F_X32_write_b112 r_V801 r_X28_writeAs  z6
  else
    F_X32_write_b112 r_V801 r_X28_writeAs  z2
noncomputable def F_X32_write_b72 (r_V801 : Mem → Nat → Nat → Option Mem) (r_X28_writeAs : Mem → Nat → Nat → Int32 → Option Mem)  (M : Mem) (s0 : Nat) (s1 : Int32) (v0 : Nat) (v1 : Nat) : Option Mem :=
  (vg M s0 40).bind fun _ =>
  (F_X39_add M s0 s1).bind fun z8 =>
  (gi z8 v0 2114).bind fun t9 =>
  if t9 < 0 then
    (gi z8 v0 2115).bind fun t10 =>
    F_X32_write_b94 r_V801 r_X28_writeAs  z8 v1 t10 v0 v1
  else
    (gi z8 v0 2114).bind fun t11 =>
    F_X32_write_b94 r_V801 r_X28_writeAs  z8 v1 t11 v0 v1
noncomputable def F_X32_write_b48 (r_V801 : Mem → Nat → Nat → Option Mem) (r_X28_writeAs : Mem → Nat → Nat → Int32 → Option Mem) (k2 : Mem → Nat → Nat → Int32 → Option Mem) (M : Mem) (s0 : Nat) (s1 : Nat) (s2 : Int32) (v0 : Nat) (v1 : Nat) (v2 : Int32) : Option Mem :=
  (vg M s0 29).bind fun _ =>
  (r_X28_writeAs M s0 s1 s2).bind fun z13 =>
  let v2_14 : Int32 := v2 + (1 : Int32)
  k2 z13 v0 v1 v2_14
noncomputable def F_X32_write_b2_st (r_V801 : Mem → Nat → Nat → Option Mem) (r_X28_writeAs : Mem → Nat → Nat → Int32 → Option Mem) (k2 : Mem → Nat → Nat → Int32 → Option Mem) (M : Mem) (v0 : Nat) (v1 : Nat) (v2 : Int32) : Option Mem :=
  (gr M v0 2113).bind fun t15 =>
  (vg M t15 67).bind fun _ =>
  (F_J6_size M t15).bind fun z17 =>
  if v2 < z17 then
    (gr M v0 2113).bind fun t18 =>
    (vg M t18 67).bind fun _ =>
    (F_J6_get M t18 v2).bind fun z20 =>
    (cc M z20 29).bind fun _ =>
    (gi M v0 2114).bind fun t21 =>
    if t21 < 0 then
      (gi M v0 2116).bind fun t22 =>
      F_X32_write_b48 r_V801 r_X28_writeAs k2 M z20 v1 t22 v0 v1 v2
    else
      (gr M v0 2117).bind fun t23 =>
      (gr M t23 2498).bind fun t24 =>
      (ai M t24 v2).bind fun t25 =>
      F_X32_write_b48 r_V801 r_X28_writeAs k2 M z20 v1 t25 v0 v1 v2
  else
    (gi M v0 2114).bind fun t26 =>
    if t26 < 0 then
      F_X32_write_b72 r_V801 r_X28_writeAs  M v1 (14 : Int32) v0 v1
    else
      F_X32_write_b72 r_V801 r_X28_writeAs  M v1 (13 : Int32) v0 v1
noncomputable def F_X32_write_b2 (r_V801 : Mem → Nat → Nat → Option Mem) (r_X28_writeAs : Mem → Nat → Nat → Int32 → Option Mem)  (n : Nat) : Mem → Nat → Nat → Int32 → Option Mem :=
  Nat.rec (motive := fun _ => Mem → Nat → Nat → Int32 → Option Mem) (fun _ _ _ _ => none) (fun _ ih => F_X32_write_b2_st r_V801 r_X28_writeAs ih) n
noncomputable def F_X32_write_o (r_V801 : Mem → Nat → Nat → Option Mem) (r_X28_writeAs : Mem → Nat → Nat → Int32 → Option Mem) (M : Mem) (v0 : Nat) (v1 : Nat) : Option Mem :=
  F_X32_write_b2 r_V801 r_X28_writeAs  xN M v0 v1 (0 : Int32)
noncomputable def F_X28_writeAs_o (r_V801 : Mem → Nat → Nat → Option Mem) (r_X28_writeAs : Mem → Nat → Nat → Int32 → Option Mem) (M : Mem) (v0 : Nat) (v1 : Nat) (v2 : Int32) : Option Mem :=
  (vg M v0 29).bind fun _ =>
  (r_V801 M v0 v1).bind fun z2 =>
  (gi z2 v0 1857).bind fun t3 =>
  if v2 = t3 then
    some z2
  else
    (vg z2 v1 40).bind fun _ =>
    (F_X39_add z2 v1 (4 : Int32)).bind fun z5 =>
    (gi z5 v0 1857).bind fun t6 =>
    (vg z5 v1 40).bind fun _ =>
    (F_X39_add z5 v1 t6).bind fun z8 =>
    (vg z8 v1 40).bind fun _ =>
    (F_X39_add z8 v1 v2).bind fun z10 =>
    some z10
noncomputable def R_2 (n : Nat) : ((Mem → Nat → Nat → Option Mem) × (Mem → Nat → Nat → Int32 → Option Mem)) :=
  Nat.rec (motive := fun _ => ((Mem → Nat → Nat → Option Mem) × (Mem → Nat → Nat → Int32 → Option Mem))) ((fun _ _ _ => none), (fun _ _ _ _ => none)) (fun _ ih => ((fun M a0 a1 => if m_tg M a0 = 30 then F_X29_write_o ih.1 ih.2 M a0 a1 else if m_tg M a0 = 31 then F_X30_write M a0 a1 else if m_tg M a0 = 32 then F_X31_write M a0 a1 else if m_tg M a0 = 33 then F_X32_write_o ih.1 ih.2 M a0 a1 else if m_tg M a0 = 34 then F_X33_write_o ih.1 ih.2 M a0 a1 else if m_tg M a0 = 35 then F_X34_write_o ih.1 ih.2 M a0 a1 else if m_tg M a0 = 36 then F_X35_write_o ih.1 ih.2 M a0 a1 else none), (F_X28_writeAs_o ih.1 ih.2))) n
noncomputable def F_V801 (M : Mem) (a0 : Nat) (a1 : Nat) : Option Mem := (R_2 xR).1 M a0 a1
noncomputable def F_X28_writeAs (M : Mem) (a0 : Nat) (a1 : Nat) (a2 : Int32) : Option Mem := (R_2 xR).2 M a0 a1 a2
noncomputable def F_X27_settle_b58  (M : Mem) (v0 : Nat) (v2 : Nat) : Option (Mem ⊕ (Nat × Mem)) :=
  (gi M v0 1794).bind fun t1 =>
  (vg M v2 2).bind fun _ =>
  (F_X1_at M v2 (2 : Int32) t1).bind fun z3 =>
  (ie z3.2 z3.1).bind fun _ => some (.inr (z3.1, z3.2))
noncomputable def F_X27_settle_b83_st (k71 : Mem → Nat → Nat → Nat → Nat → Int32 → Option (Mem ⊕ (Nat × Mem))) (k83 : Mem → Nat → Nat → Nat → Nat → Int32 → Int32 → Option (Mem ⊕ (Nat × Mem))) (M : Mem) (v0 : Nat) (v1 : Nat) (v2 : Nat) (v3 : Nat) (v4 : Int32) (v5 : Int32) : Option (Mem ⊕ (Nat × Mem)) :=
  if v5 < v4 then
    (gr M v0 1795).bind fun t4 =>
    (vg M t4 67).bind fun _ =>
    (F_J6_get M t4 v5).bind fun z6 =>
    (cc M z6 76).bind fun _ =>
    (gr M v0 1795).bind fun t7 =>
    (vg M t7 67).bind fun _ =>
    (F_J6_get M t7 v4).bind fun z9 =>
    (vg M z6 76).bind fun _ =>
    (F_J15_equals M z6 z9).bind fun z11 =>
    if z11 = 0 then
      let v5_12 : Int32 := v5 + (1 : Int32)
      k83 M v0 v1 v2 v3 v4 v5_12
    else
      (gr M v0 1797).bind fun t13 =>
      (ai M t13 v4).bind fun t14 =>
      (vg M v2 2).bind fun _ =>
      (F_X1_at M v2 (2 : Int32) t14).bind fun z16 =>
      (ie z16.2 z16.1).bind fun _ => some (.inr (z16.1, z16.2))
  else
    let v4_17 : Int32 := v4 + (1 : Int32)
    k71 M v0 v1 v2 v3 v4_17
noncomputable def F_X27_settle_b83 (k71 : Mem → Nat → Nat → Nat → Nat → Int32 → Option (Mem ⊕ (Nat × Mem))) (n : Nat) : Mem → Nat → Nat → Nat → Nat → Int32 → Int32 → Option (Mem ⊕ (Nat × Mem)) :=
  Nat.rec (motive := fun _ => Mem → Nat → Nat → Nat → Nat → Int32 → Int32 → Option (Mem ⊕ (Nat × Mem))) (fun _ _ _ _ _ _ _ => none) (fun _ ih => F_X27_settle_b83_st k71 ih) n
noncomputable def F_X27_settle_b71_st (k71 : Mem → Nat → Nat → Nat → Nat → Int32 → Option (Mem ⊕ (Nat × Mem))) (M : Mem) (v0 : Nat) (v1 : Nat) (v2 : Nat) (v3 : Nat) (v4 : Int32) : Option (Mem ⊕ (Nat × Mem)) :=
  (gi M v0 1798).bind fun t18 =>
  if v4 < t18 then
    F_X27_settle_b83 k71 xN M v0 v1 v2 v3 v4 (0 : Int32)
  else
    (gr M v0 1799).bind fun t19 =>
    (gi M t19 1858).bind fun t20 =>
    if (30 : Int32) < t20 then
      (gi M v0 1794).bind fun t21 =>
      (vg M v2 2).bind fun _ =>
      (F_X1_at M v2 (2 : Int32) t21).bind fun z23 =>
      (ie z23.2 z23.1).bind fun _ => some (.inr (z23.1, z23.2))
    else
      (gr M v0 1799).bind fun t24 =>
      let t26 : Nat := m_nx M
      let M25 : Mem := mo M 37
      (gr M25 v0 1795).bind fun t27 =>
      (ng M25 t26).bind fun _ =>
      (F_X36_init M25 t26 v2 v1 0 t27 v3).bind fun z29 =>
      (vg z29 t24 29).bind fun _ =>
      tb (F_V800 z29 t24 t26) fun z31 =>
      (gr z31 v0 1799).bind fun t32 =>
      (gi z31 t32 1857).bind fun t33 =>
      (gi z31 v0 1792).bind fun t34 =>
      (F_X20_fits t33 t34).bind fun z35 =>
      if z35 = 0 then
        (gi z31 v0 1794).bind fun t36 =>
        (vg z31 v2 2).bind fun _ =>
        (F_X1_at z31 v2 (2 : Int32) t36).bind fun z38 =>
        (ie z38.2 z38.1).bind fun _ => some (.inr (z38.1, z38.2))
      else
        let t40 : Nat := m_nx z31
        let M39 : Mem := mo z31 39
        (gr M39 v0 1793).bind fun t41 =>
        (gi M39 v0 1792).bind fun t42 =>
        (ng M39 t40).bind fun _ =>
        (F_X38_init M39 t40 t41 t42 v3).bind fun z44 =>
        (gr z44 v0 1799).bind fun t45 =>
        (gr z44 t40 2499).bind fun t46 =>
        (gi z44 v0 1792).bind fun t47 =>
        (vg z44 t45 29).bind fun _ =>
        (F_X28_writeAs z44 t45 t46 t47).bind fun z49 =>
        (gr z49 t40 2499).bind fun t50 =>
        (vg z49 t50 40).bind fun _ =>
        (F_X39_add z49 t50 (15 : Int32)).bind fun z52 =>
        (gr z52 v1 320).bind fun t53 =>
        (vg z52 t53 67).bind fun _ =>
        (F_J6_add z52 t53 t40).bind fun z55 =>
        some (.inl z55.2)
noncomputable def F_X27_settle_b71  (n : Nat) : Mem → Nat → Nat → Nat → Nat → Int32 → Option (Mem ⊕ (Nat × Mem)) :=
  Nat.rec (motive := fun _ => Mem → Nat → Nat → Nat → Nat → Int32 → Option (Mem ⊕ (Nat × Mem))) (fun _ _ _ _ _ _ => none) (fun _ ih => F_X27_settle_b71_st ih) n
noncomputable def F_X27_settle_b10_st (k10 : Mem → Nat → Nat → Nat → Nat → Int32 → Option (Mem ⊕ (Nat × Mem))) (M : Mem) (v0 : Nat) (v1 : Nat) (v2 : Nat) (v3 : Nat) (v4 : Int32) : Option (Mem ⊕ (Nat × Mem)) :=
  (gi M v0 1798).bind fun t56 =>
  if v4 < t56 then
    (gr M v0 1796).bind fun t57 =>
    (ai M t57 v4).bind fun t58 =>
    (si M v3 v4 t58).bind fun M59 =>
    let v4_60 : Int32 := v4 + (1 : Int32)
    k10 M59 v0 v1 v2 v3 v4_60
  else
    (gr M v0 1793).bind fun t61 =>
    (F_X4_builtIn M t61).bind fun z62 =>
    if z62 < 0 then
      (gr M v0 1793).bind fun t63 =>
      (vg M v1 5).bind fun _ =>
      (F_X4_has M v1 t63 v3).bind fun z65 =>
      if z65 = 0 then
        F_X27_settle_b71  xN M v0 v1 v2 v3 (0 : Int32)
      else
        F_X27_settle_b58  M v0 v2
    else
      F_X27_settle_b58  M v0 v2
noncomputable def F_X27_settle_b10  (n : Nat) : Mem → Nat → Nat → Nat → Nat → Int32 → Option (Mem ⊕ (Nat × Mem)) :=
  Nat.rec (motive := fun _ => Mem → Nat → Nat → Nat → Nat → Int32 → Option (Mem ⊕ (Nat × Mem))) (fun _ _ _ _ _ _ => none) (fun _ ih => F_X27_settle_b10_st ih) n
noncomputable def F_X27_settle (M : Mem) (v0 : Nat) (v1 : Nat) (v2 : Nat) : Option (Mem ⊕ (Nat × Mem)) :=
  (gi M v0 1798).bind fun t66 =>
  (mk M 1005 t66).bind fun M67 =>
  let v3_68 : Nat := (m_nx M)
  F_X27_settle_b10  xN M67 v0 v1 v2 v3_68 (0 : Int32)
noncomputable def F_X4_cut_b0_st (k0 : Mem → Nat → Int32 → Option Mem) (M : Mem) (v0 : Nat) (v1 : Int32) : Option Mem :=
  (gr M v0 320).bind fun t1 =>
  (vg M t1 67).bind fun _ =>
  (F_J6_size M t1).bind fun z3 =>
  if v1 < z3 then
    (gr M v0 320).bind fun t4 =>
    (gr M v0 320).bind fun t5 =>
    (vg M t5 67).bind fun _ =>
    (F_J6_size M t5).bind fun z7 =>
    (vg M t4 67).bind fun _ =>
    (F_J6_remove M t4 (z7 - (1 : Int32))).bind fun z9 =>
    k0 z9.2 v0 v1
  else
    some M
noncomputable def F_X4_cut_b0  (n : Nat) : Mem → Nat → Int32 → Option Mem :=
  Nat.rec (motive := fun _ => Mem → Nat → Int32 → Option Mem) (fun _ _ _ => none) (fun _ ih => F_X4_cut_b0_st ih) n
noncomputable def F_X4_cut (M : Mem) (v0 : Nat) (v1 : Int32) : Option Mem :=
  F_X4_cut_b0  xN M v0 v1
noncomputable def F_X0_functions_b115  (M : Mem) (s0 : Nat) (v0 : Nat) (v2 : Int32) : Option (Int32 × Mem) :=
  (gr M v0 70).bind fun t1 =>
  (vg M t1 5).bind fun _ =>
  (F_X4_cut M t1 v2).bind fun z3 =>
  (gr z3 v0 67).bind fun t4 =>
  (gi z3 t4 130).bind fun t5 =>
  (pi z3 v0 95 t5).bind fun M6 =>
  (gr M6 v0 67).bind fun t7 =>
  (gi M6 t7 129).bind fun t8 =>
  some (((-20 : Int32) - t8), M6)
noncomputable def F_X0_functions_b77_st (k77 : Mem → Nat → Int32 → Nat → Int32 → Option (Int32 × Mem)) (M : Mem) (v0 : Nat) (v2 : Int32) (v3 : Nat) (v4 : Int32) : Option (Int32 × Mem) :=
  (vg M v3 67).bind fun _ =>
  (F_J6_size M v3).bind fun z10 =>
  if v4 < z10 then
    (vg M v3 67).bind fun _ =>
    (F_J6_get M v3 v4).bind fun z12 =>
    (cc M z12 28).bind fun _ =>
    (gr M v0 70).bind fun t13 =>
    (gr M v0 67).bind fun t14 =>
    (vg M z12 28).bind fun _ =>
    tc (F_X27_settle M z12 t13 t14) (fun z16 =>
      let v4_18 : Int32 := v4 + (1 : Int32)
      k77 z16 v0 v2 v3 v4_18)
      (fun z17 =>
        F_X0_functions_b115  z17.2 z17.1 v0 v2)
  else
    (gi M v0 71).bind fun t19 =>
    (gr M v0 70).bind fun t20 =>
    (gr M t20 320).bind fun t21 =>
    (vg M t21 67).bind fun _ =>
    (F_J6_size M t21).bind fun z23 =>
    (pi M v0 71 (t19 + (z23 - v2))).bind fun M24 =>
    (gr M24 v0 70).bind fun t25 =>
    (gr M24 t25 320).bind fun t26 =>
    (vg M24 t26 67).bind fun _ =>
    (F_J6_size M24 t26).bind fun z28 =>
    some (z28, M24)
noncomputable def F_X0_functions_b77  (n : Nat) : Mem → Nat → Int32 → Nat → Int32 → Option (Int32 × Mem) :=
  Nat.rec (motive := fun _ => Mem → Nat → Int32 → Nat → Int32 → Option (Int32 × Mem)) (fun _ _ _ _ _ => none) (fun _ ih => F_X0_functions_b77_st ih) n
noncomputable def F_X0_functions (M : Mem) (v0 : Nat) : Option (Int32 × Mem) :=
  (pi M v0 95 (-1 : Int32)).bind fun M29 =>
  (gi M29 v0 97).bind fun t30 =>
  if t30 = 0 then
    (vg M29 v0 1).bind fun _ =>
    (F_X0_used M29 v0).bind fun z32 =>
    (gr z32.2 v0 70).bind fun t33 =>
    (gr z32.2 t33 320).bind fun t34 =>
    (vg z32.2 t34 67).bind fun _ =>
    (F_J6_size z32.2 t34).bind fun z36 =>
    (vg z32.2 v0 1).bind fun _ =>
    tc (F_X0_mustFit z32.2 v0 z32.1) (fun z38 =>
      (gr z38 v0 72).bind fun t40 =>
      (gr z38 v0 64).bind fun t41 =>
      (vg z38 t40 6).bind fun _ =>
      tc (F_X5_open z38 t40 t41 z32.1) (fun z43 =>
        let t46 : Nat := m_nx z43
        let M45 : Mem := mo z43 27
        (gr M45 v0 72).bind fun t47 =>
        (gr M45 v0 67).bind fun t48 =>
        (ng M45 t46).bind fun _ =>
        (F_X26_init M45 t46 t47 t48).bind fun z50 =>
        (gi z50 v0 71).bind fun t51 =>
        (vg z50 t46 27).bind fun _ =>
        tc (F_X26_functions z50 t46 ((40 : Int32) - t51)) (fun z53 =>
          F_X0_functions_b77  xN z53.2 v0 z36 z53.1 (0 : Int32))
          (fun z54 =>
            F_X0_functions_b115  z54.2 z54.1 v0 z36))
        (fun z44 =>
          F_X0_functions_b115  z44.2 z44.1 v0 z36))
      (fun z39 =>
        F_X0_functions_b115  z39.2 z39.1 v0 z36)
  else
    some ((-13 : Int32), M29)
noncomputable def F_X0_bind_b37  (M : Mem) : Option (Int32 × Mem) :=
  some ((-2 : Int32), M)
noncomputable def F_X0_bind_b27  (M : Mem) (v0 : Nat) (v1 : Int32) (v3 : Nat) : Option (Int32 × Mem) :=
  if v1 < 0 then
    F_X0_bind_b37  M
  else
    if (7 : Int32) < v1 then
      F_X0_bind_b37  M
    else
      (gr M v0 80).bind fun t1 =>
      (sr M t1 v1 v3).bind fun M2 =>
      some ((0 : Int32), M2)
noncomputable def F_X0_bind (M : Mem) (v0 : Nat) (v1 : Int32) (v2 : Int32) : Option (Int32 × Mem) :=
  (gi M v0 97).bind fun t3 =>
  if t3 = 0 then
    (vg M v0 1).bind fun _ =>
    (F_X0_find M v0 v2).bind fun z5 =>
    if z5 = 6 then
      none
    else
      if z5 = 0 then
        if v2 = 0 then
          F_X0_bind_b27  M v0 v1 z5
        else
          some ((-14 : Int32), M)
      else
        F_X0_bind_b27  M v0 v1 z5
  else
    some ((-13 : Int32), M)
noncomputable def F_X26_formula (M : Mem) (v0 : Nat) : Option ((Nat × Mem) ⊕ (Nat × Mem)) :=
  (vg M v0 27).bind fun _ =>
  tb (F_X26_expression M v0 (1 : Int32)) fun z2 =>
  (gr z2.2 v0 1728).bind fun t3 =>
  (gi z2.2 t3 387).bind fun t4 =>
  if t4 = 0 then
    some (.inl (z2.1, z2.2))
  else
    (gr z2.2 v0 1728).bind fun t5 =>
    (vg z2.2 t5 6).bind fun _ =>
    (F_X5_wrong z2.2 t5).bind fun z7 =>
    (ie z7.2 z7.1).bind fun _ => some (.inr (z7.1, z7.2))
noncomputable def F_X6_widen_b74 (k12 : Mem → Nat → Nat → Int32 → Int32 → Option (Int32 × Mem)) (M : Mem) (v0 : Nat) (v1 : Nat) (v2 : Int32) (v3 : Int32) : Option (Int32 × Mem) :=
  let v3_1 : Int32 := v3 + (1 : Int32)
  k12 M v0 v1 v2 v3_1
noncomputable def F_X6_widen_b64 (k12 : Mem → Nat → Nat → Int32 → Int32 → Option (Int32 × Mem)) (M : Mem) (v0 : Nat) (v1 : Nat) (v2 : Int32) (v3 : Int32) (v4 : Int32) : Option (Int32 × Mem) :=
  (gr M v0 456).bind fun t2 =>
  (si M t2 (v3 + v2) v4).bind fun M3 =>
  F_X6_widen_b74 k12 M3 v0 v1 v2 v3
noncomputable def F_X6_widen_b12_st (k12 : Mem → Nat → Nat → Int32 → Int32 → Option (Int32 × Mem)) (M : Mem) (v0 : Nat) (v1 : Nat) (v2 : Int32) (v3 : Int32) : Option (Int32 × Mem) :=
  (gi M v1 1409).bind fun t4 =>
  if v3 < t4 then
    (gr M v1 1410).bind fun t5 =>
    (ai M t5 v3).bind fun t6 =>
    if t6 = (1 : Int32) then
      F_X6_widen_b74 k12 M v0 v1 v2 v3
    else
      (gr M v0 456).bind fun t7 =>
      (ai M t7 (v3 + v2)).bind fun t8 =>
      if t8 = (1 : Int32) then
        F_X6_widen_b64 k12 M v0 v1 v2 v3 t6
      else
        (gr M v0 456).bind fun t9 =>
        (ai M t9 (v3 + v2)).bind fun t10 =>
        if t10 = t6 then
          F_X6_widen_b64 k12 M v0 v1 v2 v3 t6
        else
          some ((0 : Int32), M)
  else
    some ((1 : Int32), M)
noncomputable def F_X6_widen_b12  (n : Nat) : Mem → Nat → Nat → Int32 → Int32 → Option (Int32 × Mem) :=
  Nat.rec (motive := fun _ => Mem → Nat → Nat → Int32 → Int32 → Option (Int32 × Mem)) (fun _ _ _ _ _ => none) (fun _ ih => F_X6_widen_b12_st ih) n
noncomputable def F_X6_widen (M : Mem) (v0 : Nat) (v1 : Nat) : Option (Int32 × Mem) :=
  (gi M v0 457).bind fun t11 =>
  (gi M v1 1409).bind fun t12 =>
  let v2_13 : Int32 := (t11 - t12)
  F_X6_widen_b12  xN M v0 v1 v2_13 (0 : Int32)
noncomputable def F_X6_lay_b76 (k13 : Mem → Nat → Nat → Int32 → Int32 → Int32 → Option Mem) (M : Mem) (s0 : Nat) (s1 : Int32) (s2 : Int32) (v0 : Nat) (v1 : Nat) (v2 : Int32) (v3 : Int32) (v4 : Int32) : Option Mem :=
  (si M s0 s1 s2).bind fun M1 =>
  let v4_2 : Int32 := v4 + (1 : Int32)
  k13 M1 v0 v1 v2 v3 v4_2
noncomputable def F_X6_lay_b46 (k13 : Mem → Nat → Nat → Int32 → Int32 → Int32 → Option Mem) (M : Mem) (s0 : Int32) (v0 : Nat) (v1 : Nat) (v2 : Int32) (v3 : Int32) (v4 : Int32) : Option Mem :=
  (gr M v0 460).bind fun t3 =>
  if s0 = 0 then
    F_X6_lay_b76 k13 M t3 (((4 : Int32) * v2) + v4) (0 : Int32) v0 v1 v2 v3 v4
  else
    (gr M v1 1411).bind fun t4 =>
    (ai M t4 (v4 - v3)).bind fun t5 =>
    F_X6_lay_b76 k13 M t3 (((4 : Int32) * v2) + v4) t5 v0 v1 v2 v3 v4
noncomputable def F_X6_lay_b45 (k13 : Mem → Nat → Nat → Int32 → Int32 → Int32 → Option Mem) (M : Mem) (v0 : Nat) (v1 : Nat) (v2 : Int32) (v3 : Int32) (v4 : Int32) : Option Mem :=
  F_X6_lay_b46 k13 M (0 : Int32) v0 v1 v2 v3 v4
noncomputable def F_X6_lay_b13_st (k13 : Mem → Nat → Nat → Int32 → Int32 → Int32 → Option Mem) (M : Mem) (v0 : Nat) (v1 : Nat) (v2 : Int32) (v3 : Int32) (v4 : Int32) : Option Mem :=
  (gi M v0 457).bind fun t6 =>
  if v4 < t6 then
    if v4 < v3 then
      F_X6_lay_b45 k13 M v0 v1 v2 v3 v4
    else
      (gr M v1 1410).bind fun t7 =>
      (ai M t7 (v4 - v3)).bind fun t8 =>
      if t8 = (1 : Int32) then
        F_X6_lay_b45 k13 M v0 v1 v2 v3 v4
      else
        F_X6_lay_b46 k13 M (1 : Int32) v0 v1 v2 v3 v4
  else
    some M
noncomputable def F_X6_lay_b13  (n : Nat) : Mem → Nat → Nat → Int32 → Int32 → Int32 → Option Mem :=
  Nat.rec (motive := fun _ => Mem → Nat → Nat → Int32 → Int32 → Int32 → Option Mem) (fun _ _ _ _ _ _ => none) (fun _ ih => F_X6_lay_b13_st ih) n
noncomputable def F_X6_lay (M : Mem) (v0 : Nat) (v1 : Nat) (v2 : Int32) : Option Mem :=
  (gi M v0 457).bind fun t9 =>
  (gi M v1 1409).bind fun t10 =>
  let v3_11 : Int32 := (t9 - t10)
  F_X6_lay_b13  xN M v0 v1 v2 v3_11 (0 : Int32)
noncomputable def F_X6_join_b150 (k124 : Mem → Nat → Int32 → Option (Int32 × Mem)) (M : Mem) (v0 : Nat) (v3 : Int32) : Option (Int32 × Mem) :=
  let v3_1 : Int32 := v3 + (1 : Int32)
  k124 M v0 v3_1
noncomputable def F_X6_join_b124_st (k124 : Mem → Nat → Int32 → Option (Int32 × Mem)) (M : Mem) (v0 : Nat) (v3 : Int32) : Option (Int32 × Mem) :=
  if v3 < (8 : Int32) then
    (gr M v0 459).bind fun t2 =>
    (ar M t2 v3).bind fun t3 =>
    if t3 = 6 then
      none
    else
      if t3 = 0 then
        F_X6_join_b150 k124 M v0 v3
      else
        (gr M v0 459).bind fun t4 =>
        (ar M t4 v3).bind fun t5 =>
        (vg M v0 7).bind fun _ =>
        (F_X6_lay M v0 t5 v3).bind fun z7 =>
        F_X6_join_b150 k124 z7 v0 v3
  else
    some ((1 : Int32), M)
noncomputable def F_X6_join_b124  (n : Nat) : Mem → Nat → Int32 → Option (Int32 × Mem) :=
  Nat.rec (motive := fun _ => Mem → Nat → Int32 → Option (Int32 × Mem)) (fun _ _ _ => none) (fun _ ih => F_X6_join_b124_st ih) n
noncomputable def F_X6_join_b116 (k86 : Mem → Nat → Int32 → Option (Int32 × Mem)) (M : Mem) (v0 : Nat) (v3 : Int32) : Option (Int32 × Mem) :=
  let v3_8 : Int32 := v3 + (1 : Int32)
  k86 M v0 v3_8
noncomputable def F_X6_join_b86_st (k86 : Mem → Nat → Int32 → Option (Int32 × Mem)) (M : Mem) (v0 : Nat) (v3 : Int32) : Option (Int32 × Mem) :=
  if v3 < (8 : Int32) then
    (gr M v0 459).bind fun t9 =>
    (ar M t9 v3).bind fun t10 =>
    if t10 = 6 then
      none
    else
      if t10 = 0 then
        F_X6_join_b116 k86 M v0 v3
      else
        (gr M v0 459).bind fun t11 =>
        (ar M t11 v3).bind fun t12 =>
        (vg M v0 7).bind fun _ =>
        (F_X6_widen M v0 t12).bind fun z14 =>
        if z14.1 = 0 then
          some ((0 : Int32), z14.2)
        else
          F_X6_join_b116 k86 z14.2 v0 v3
  else
    F_X6_join_b124  xN M v0 (0 : Int32)
noncomputable def F_X6_join_b86  (n : Nat) : Mem → Nat → Int32 → Option (Int32 × Mem) :=
  Nat.rec (motive := fun _ => Mem → Nat → Int32 → Option (Int32 × Mem)) (fun _ _ _ => none) (fun _ ih => F_X6_join_b86_st ih) n
noncomputable def F_X6_join_b63_st (k63 : Mem → Nat → Int32 → Option (Int32 × Mem)) (M : Mem) (v0 : Nat) (v3 : Int32) : Option (Int32 × Mem) :=
  (gi M v0 457).bind fun t15 =>
  if v3 < t15 then
    (gr M v0 456).bind fun t16 =>
    (si M t16 v3 (1 : Int32)).bind fun M17 =>
    let v3_18 : Int32 := v3 + (1 : Int32)
    k63 M17 v0 v3_18
  else
    F_X6_join_b86  xN M v0 (0 : Int32)
noncomputable def F_X6_join_b63  (n : Nat) : Mem → Nat → Int32 → Option (Int32 × Mem) :=
  Nat.rec (motive := fun _ => Mem → Nat → Int32 → Option (Int32 × Mem)) (fun _ _ _ => none) (fun _ ih => F_X6_join_b63_st ih) n
noncomputable def F_X6_join_b55 (k7 : Mem → Nat → Nat → Nat → Int32 → Option (Int32 × Mem)) (M : Mem) (v0 : Nat) (v1 : Nat) (v2 : Nat) (v3 : Int32) : Option (Int32 × Mem) :=
  let v3_19 : Int32 := v3 + (1 : Int32)
  k7 M v0 v1 v2 v3_19
noncomputable def F_X6_join_b31 (k7 : Mem → Nat → Nat → Nat → Int32 → Option (Int32 × Mem)) (M : Mem) (s0 : Nat) (s1 : Int32) (s2 : Nat) (v0 : Nat) (v1 : Nat) (v2 : Nat) (v3 : Int32) : Option (Int32 × Mem) :=
  (sr M s0 s1 s2).bind fun M20 =>
  (ab M20 v2 v3).bind fun t21 =>
  if t21 = 0 then
    F_X6_join_b55 k7 M20 v0 v1 v2 v3
  else
    (gi M20 v0 457).bind fun t22 =>
    (ar M20 v1 v3).bind fun t23 =>
    (gi M20 t23 1409).bind fun t24 =>
    (F_J7_max t22 t24).bind fun z25 =>
    (pi M20 v0 457 z25).bind fun M26 =>
    F_X6_join_b55 k7 M26 v0 v1 v2 v3
noncomputable def F_X6_join_b7_st (k7 : Mem → Nat → Nat → Nat → Int32 → Option (Int32 × Mem)) (M : Mem) (v0 : Nat) (v1 : Nat) (v2 : Nat) (v3 : Int32) : Option (Int32 × Mem) :=
  if v3 < (8 : Int32) then
    (gr M v0 459).bind fun t27 =>
    (ab M v2 v3).bind fun t28 =>
    if t28 = 0 then
      F_X6_join_b31 k7 M t27 v3 0 v0 v1 v2 v3
    else
      (ar M v1 v3).bind fun t29 =>
      F_X6_join_b31 k7 M t27 v3 t29 v0 v1 v2 v3
  else
    F_X6_join_b63  xN M v0 (0 : Int32)
noncomputable def F_X6_join_b7  (n : Nat) : Mem → Nat → Nat → Nat → Int32 → Option (Int32 × Mem) :=
  Nat.rec (motive := fun _ => Mem → Nat → Nat → Nat → Int32 → Option (Int32 × Mem)) (fun _ _ _ _ _ => none) (fun _ ih => F_X6_join_b7_st ih) n
noncomputable def F_X6_join (M : Mem) (v0 : Nat) (v1 : Nat) (v2 : Nat) : Option (Int32 × Mem) :=
  (pi M v0 457 (0 : Int32)).bind fun M30 =>
  F_X6_join_b7  xN M30 v0 v1 v2 (0 : Int32)
noncomputable def F_X6_push (M : Mem) (v0 : Nat) (v1 : Int64) : Option Mem :=
  (gr M v0 450).bind fun t1 =>
  (gi M v0 451).bind fun t2 =>
  (sj M t1 t2 v1).bind fun M3 =>
  (gi M3 v0 451).bind fun t4 =>
  (pi M3 v0 451 (t4 + (1 : Int32))).bind fun M5 =>
  some M5
