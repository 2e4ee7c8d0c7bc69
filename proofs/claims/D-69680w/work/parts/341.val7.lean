/-! ===== VALUES, 7: the built-in functions ===== -/
/-- floor division's end -/
def flr (f : Int32) (q r b : Int64) : Int64 := if f = 4 then (if r ≠ 0 ∧ (r < 0 ↔ ¬ b < 0) then q - 1 else q) else (if r ≠ 0 ∧ (r < 0 ↔ ¬ b < 0) then r + b else r)
/-- a built-in function of values of a lane -/
noncomputable def blt (f k : Int32) (a b : Int64) : Option Int64 :=
  if f = 0 then (if k < 6 then some (if a < 0 then lnC k (0 - a) else a) else some (a &&& (if k = 6 then 2147483647 else 9223372036854775807)))
  else if f = 1 then some (if k < 6 then (ordi (compare (lnV k a) (lnV k 0))).toInt64 else lnB k (FP.l2d (ordi (compare (lnV k a) (lnV k 0))).toInt64))
  else if f = 2 then some (if lnT k b < lnT k a then b else a)
  else if f = 3 then some (if lnT k a < lnT k b then b else a)
  else if f = 4 ∨ f = 5 then (match ari 4 k a b, ari 5 k a b with | some q, some r => some (flr f q r b) | _, _ => none)
  else if f = 6 ∨ f = 7 ∨ f = 8 then exv (f - 6) k a b
  else if f = 9 then some (nl (bcn (un (if k = 4 then a &&& 4294967295 else a)) 64))
  else if f = 10 then some (iw (hbn (un (if k = 4 then a &&& 4294967295 else a)) 64)).toInt64
  else if f = 11 then (if rk (un a) < 0 then none else if un a % 2 ^ 63 = 0 ∨ un a % 2 ^ 63 = 2047 * 2 ^ 52 then some a else F_X24_root a)
  else some (rwh (if f = 12 then 0 else if f = 13 then 1 else 2) (un a)).toInt64
theorem vb_0 {k : Int32} (hk : Lk k) : vb k 0 := by
  rcases hk with rfl | rfl | rfl | rfl | rfl | rfl | rfl | rfl
  · exact Or.inl rfl
  · exact (vb_rng (by simp)).mpr (by decide)
  · exact (vb_rng (by simp)).mpr (by decide)
  · exact (vb_rng (by simp)).mpr (by decide)
  · exact (vb_rng (by simp)).mpr (by decide)
  · exact (vb_rng (by simp)).mpr (by decide)
  · exact vb_6.mpr ⟨by decide, by unfold okf; decide⟩
  · exact vb_7.mpr (by unfold okd; decide)
theorem Ak_Lk {k : Int32} (h : Ak k) : Lk k := by
  rcases h with rfl | rfl | rfl | rfl <;> simp [Lk]
theorem i2d_l2d (z : Int32) : FP.i2d z = FP.l2d z.toInt64 := by
  show UInt64.ofNat (FP.Core.fromInt FP.Core.b64 z.toInt) = UInt64.ofNat (FP.Core.fromInt FP.Core.b64 z.toInt64.toInt)
  rw [Int32.toInt_toInt64]
theorem E_blt_0 {k : Int32} {a b : Int64} {M : Mem} {st : Nat} (hk : Ak k) (ha : vb k a) : F_X37_work M 0 k a b st = eRes (blt 0 k a b) M st := by
  have e : F_X37_work M 0 k a b st = if k < 6 then (if a < 0 then tb (F_X23_arithmetic M 2 k 0 a st) fun z5 => F_X37_work_b129 z5.2 z5.1 else F_X37_work_b129 M a) else if k = 6 then F_X37_work_b106 M a 2147483647 else F_X37_work_b106 M a 9223372036854775807 := rfl
  have e2 : blt 0 k a b = if k < 6 then some (if a < 0 then lnC k (0 - a) else a) else some (a &&& (if k = 6 then 2147483647 else 9223372036854775807)) := by unfold blt; rw [if_pos rfl]
  rw [e, e2]
  by_cases h6 : k < 6
  · rw [if_pos h6, if_pos h6]
    by_cases h0 : a < 0
    · have e3 : ari 2 k 0 a = some (lnC k (0 - a)) := by
        unfold ari
        have : ¬ 5 < k := by rcases hk with rfl | rfl | rfl | rfl <;> first | decide | exact absurd h6 (by decide)
        rw [if_neg this, if_neg (by rintro ⟨h | h, -⟩ <;> exact absurd h (by decide)), if_neg (by decide), if_pos rfl]
      rw [if_pos h0, if_pos h0, E_ari (by simp [Wk]) hk (vb_0 (Ak_Lk hk)) ha, e3]
      rfl
    · rw [if_neg h0, if_neg h0]
      rfl
  · rw [if_neg h6, if_neg h6]
    by_cases h : k = 6
    · rw [if_pos h, if_pos h]
      rfl
    · rw [if_neg h, if_neg h]
      rfl
theorem E_blt_1 {k : Int32} {a b : Int64} {M : Mem} {st : Nat} (hk : Ak k) (ha : vb k a) : F_X37_work M 1 k a b st = eRes (blt 1 k a b) M st := by
  have e : F_X37_work M 1 k a b st = (F_X37_sign k a).bind fun z6 => some (.inl (z6, M)) := rfl
  have e2 : blt 1 k a b = some (if k < 6 then (ordi (compare (lnV k a) (lnV k 0))).toInt64 else lnB k (FP.l2d (ordi (compare (lnV k a) (lnV k 0))).toInt64)) := by
    unfold blt
    rw [if_neg (by decide), if_pos rfl]
  rw [e, e2]
  unfold F_X37_sign F_X37_sign_b24
  rw [E_compare ha (vb_0 (Ak_Lk hk))]
  simp only [Option.bind_some]
  by_cases h6 : k < 6
  · rw [if_pos h6, if_pos h6]
    rfl
  · rw [if_neg h6, if_neg h6, i2d_l2d, E_bits (l2d_ok _)]
    rfl
theorem E_blt_2 {k : Int32} {a b : Int64} {M : Mem} {st : Nat} (hk : Ak k) (ha : vb k a) (hb : vb k b) : F_X37_work M 2 k a b st = eRes (blt 2 k a b) M st := by
  have e : F_X37_work M 2 k a b st = (F_X23_order k a b).bind fun z7 => if 0 < z7 then F_X37_work_b152 M b else F_X37_work_b152 M a := rfl
  have e2 : blt 2 k a b = some (if lnT k b < lnT k a then b else a) := by
    unfold blt
    rw [if_neg (by decide), if_neg (by decide), if_pos rfl]
  rw [e, e2, E_order (Ak_Lk hk) ha hb]
  simp only [Option.bind_some, ordi_gt]
  split <;> rfl
theorem E_blt_3 {k : Int32} {a b : Int64} {M : Mem} {st : Nat} (hk : Ak k) (ha : vb k a) (hb : vb k b) : F_X37_work M 3 k a b st = eRes (blt 3 k a b) M st := by
  have e : F_X37_work M 3 k a b st = (F_X23_order k a b).bind fun z8 => if z8 < 0 then F_X37_work_b169 M b else F_X37_work_b169 M a := rfl
  have e2 : blt 3 k a b = some (if lnT k a < lnT k b then b else a) := by
    unfold blt
    rw [if_neg (by decide), if_neg (by decide), if_neg (by decide), if_pos rfl]
  rw [e, e2, E_order (Ak_Lk hk) ha hb]
  simp only [Option.bind_some, ordi_lt]
  split <;> rfl
theorem flr_E {f : Int32} {M : Mem} {q r b : Int64} (hf : f = 4 ∨ f = 5) : (if r = 0 then F_X37_floors_b62 M f b q r else if r < 0 then F_X37_floors_b43 M 1 f b q r else F_X37_floors_b43 M 0 f b q r) = some (.inl (flr f q r b, M)) := by
  unfold F_X37_floors_b43 F_X37_floors_b55 F_X37_floors_b62 F_X37_floors_b63 F_X37_floors_b84 F_X37_floors_b100 flr
  rcases hf with rfl | rfl <;> by_cases h0 : r = 0 <;> by_cases h1 : r < 0 <;> by_cases h2 : b < 0 <;> simp [h0, h1, h2]
theorem E_blt_45 {f k : Int32} {a b : Int64} {M : Mem} {st : Nat} (hf : f = 4 ∨ f = 5) (hk : k = 4 ∨ k = 5) (ha : vb k a) (hb : vb k b) : F_X37_work M f k a b st = eRes (blt f k a b) M st := by
  have hA : Ak k := by rcases hk with rfl | rfl <;> simp [Ak]
  have e : F_X37_work M f k a b st = tb (F_X37_floors M f k a b st) fun z2 => some (.inl (z2.1, z2.2)) := by rcases hf with rfl | rfl <;> rfl
  have e2 : blt f k a b = (match ari 4 k a b, ari 5 k a b with | some q, some r => some (flr f q r b) | _, _ => none) := by
    unfold blt
    rcases hf with rfl | rfl <;> simp
  rw [e, e2]
  unfold F_X37_floors
  rw [E_ari (by simp [Wk]) hA ha hb]
  have h5 : ¬ 5 < k := by rcases hk with rfl | rfl <;> decide
  by_cases hb0 : b = 0
  · have e3 : ari 4 k a b = none := by
      unfold ari
      rw [if_neg h5, if_pos ⟨Or.inl rfl, hb0⟩]
    rw [e3]
    show tb (tb (eTh M st 8) _) _ = eTh M st 8
    unfold tb eTh
    cases vg M st 2 with
    | none => rfl
    | some u =>
      simp only [Option.bind_some]
      cases F_X1_with M st 8 with
      | none => rfl
      | some z =>
        simp only [Option.bind_some]
        cases ie z.2 z.1 <;> rfl
  · obtain ⟨q, hq⟩ : ∃ q, ari 4 k a b = some q := by
      unfold ari
      rw [if_neg h5, if_neg (fun hh => hb0 hh.2)]
      exact ⟨_, rfl⟩
    obtain ⟨r, hr⟩ : ∃ r, ari 5 k a b = some r := by
      unfold ari
      rw [if_neg h5, if_neg (fun hh => hb0 hh.2)]
      exact ⟨_, rfl⟩
    rw [hq]
    show tb (tb (F_X23_arithmetic M 5 k a b st) _) _ = _
    rw [E_ari (by simp [Wk]) hA ha hb, hr]
    show tb (if r = 0 then F_X37_floors_b62 M f b q r else if r < 0 then F_X37_floors_b43 M 1 f b q r else F_X37_floors_b43 M 0 f b q r) _ = _
    rw [flr_E hf]
    rfl
theorem tb_e {r : Option Int64} {M : Mem} {st : Nat} : (tb (eRes r M st) fun z : Int64 × Mem => some (.inl (z.1, z.2))) = eRes r M st := by
  cases r with
  | some v => rfl
  | none =>
    show tb (eTh M st 8) _ = eTh M st 8
    unfold tb eTh
    cases vg M st 2 with
    | none => rfl
    | some u =>
      simp only [Option.bind_some]
      cases F_X1_with M st 8 with
      | none => rfl
      | some z =>
        simp only [Option.bind_some]
        cases ie z.2 z.1 <;> rfl
theorem E_blt_678 {f k : Int32} {a b : Int64} {M : Mem} {st : Nat} (hf : f = 6 ∨ f = 7 ∨ f = 8) : F_X37_work M f k a b st = eRes (blt f k a b) M st := by
  have e : F_X37_work M f k a b st = tb (F_X37_exact M f k a b st) fun z2 => some (.inl (z2.1, z2.2)) := by rcases hf with rfl | rfl | rfl <;> rfl
  have e2 : blt f k a b = exv (f - 6) k a b := by
    unfold blt
    rcases hf with rfl | rfl | rfl <;> simp
  rw [e, e2, E_exact hf, tb_e]
theorem E_blt_9 {k : Int32} {a b : Int64} {M : Mem} {st : Nat} : F_X37_work M 9 k a b st = eRes (blt 9 k a b) M st := by
  have e : F_X37_work M 9 k a b st = if k = 4 then F_X37_work_b195 M (a &&& 4294967295) else F_X37_work_b195 M a := rfl
  have e2 : blt 9 k a b = some (nl (bcn (un (if k = 4 then a &&& 4294967295 else a)) 64)) := by
    unfold blt
    simp
  rw [e, e2]
  unfold F_X37_work_b195
  simp only [E_ones, Option.bind_some]
  split <;> rfl
theorem E_blt_10 {k : Int32} {a b : Int64} {M : Mem} {st : Nat} : F_X37_work M 10 k a b st = eRes (blt 10 k a b) M st := by
  have e : F_X37_work M 10 k a b st = if k = 4 then F_X37_work_b213 M (a &&& 4294967295) else F_X37_work_b213 M a := rfl
  have e2 : blt 10 k a b = some (iw (hbn (un (if k = 4 then a &&& 4294967295 else a)) 64)).toInt64 := by
    unfold blt
    simp
  rw [e, e2]
  unfold F_X37_work_b213
  simp only [E_high, Option.bind_some]
  split <;> rfl
