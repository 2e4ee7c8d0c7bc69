/-! ===== READING, 9: what was written is read back ===== -/
theorem i2b_cg {a b : Int32} (h : bn a = bn b) : j_i2b a = j_i2b b := by
  have h1 := bn_int a
  have h2 := bn_int b
  have e : a.toInt % 256 = b.toInt % 256 := by omega
  rw [← Int32.toInt_inj]
  unfold j_i2b
  rw [Int8.toInt_toInt32, Int32.toInt_toInt8, Int8.toInt_toInt32, Int32.toInt_toInt8]
  show a.toInt.bmod 256 = b.toInt.bmod 256
  unfold Int.bmod
  show (if a.toInt % 256 < _ then a.toInt % 256 else a.toInt % 256 - _) = _
  rw [e]
  rfl
theorem i2s_cg {a b : Int32} (e : a.toInt % 65536 = b.toInt % 65536) : j_i2s a = j_i2s b := by
  rw [← Int32.toInt_inj]
  unfold j_i2s
  rw [Int16.toInt_toInt32, Int32.toInt_toInt16, Int16.toInt_toInt32, Int32.toInt_toInt16]
  show a.toInt.bmod 65536 = b.toInt.bmod 65536
  unfold Int.bmod
  show (if a.toInt % 65536 < _ then a.toInt % 65536 else a.toInt % 65536 - _) = _
  rw [e]
  rfl
theorem nl_un' (v : Int64) : nl (un v) = v := un_inj (by rw [un_nl, Nat.mod_eq_of_lt (by unfold un; exact v.toBitVec.isLt)])
theorem cvk_vb {k : Int32} {v : Int64} (hk : Lk k) (h : vb k v) : cvk k (nl (un v % 256 ^ wdt k)) = v := by
  have hu := un_int v
  have ul : un v < 2 ^ 64 := by unfold un; exact v.toBitVec.isLt
  have bl : ∀ m : Nat, m < 2 ^ 64 → (bn (nl m).toInt32 : Int) = (m : Int) % 256 := fun m hm => by
    have h1 := bn_l32 (nl m)
    have h2 := un_int (nl m)
    rw [un_nl' hm] at h2
    omega
  have sl : ∀ y : Int64, y.toInt32.toInt % 65536 = y.toInt % 65536 := fun y => by
    rw [Int64.toInt_toInt32, show (2 ^ 32 : Nat) = 4294967296 from rfl]
    have := Int.bmod_emod (x := y.toInt) (m := 4294967296)
    omega
  rcases hk with rfl | rfl | rfl | rfl | rfl | rfl | rfl | rfl
  · have : v = 0 ∨ v = 1 := h
    rcases this with rfl | rfl <;> rfl
  · have h' : v = (j_i2b v.toInt32).toInt64 := h
    show (j_i2b (nl (un v % 256)).toInt32).toInt64 = v
    rw [i2b_cg (b := v.toInt32)]
    · exact h'.symm
    · have h1 := bn_l32 v
      have h2 := bl (un v % 256) (by omega)
      omega
  · have h' : v = (j_i2s v.toInt32).toInt64 := h
    show (j_i2s (nl (un v % 65536)).toInt32).toInt64 = v
    rw [i2s_cg (b := v.toInt32)]
    · exact h'.symm
    · rw [sl, sl]
      have h2 := un_int (nl (un v % 65536))
      rw [un_nl' (by omega)] at h2
      omega
  · have h' : v = v &&& 65535 := h
    show nl (un v % 65536) = v
    have : un v < 65536 := by
      have h1 : un v = un v &&& (2 ^ 16 - 1) := by
        have := congrArg un h'
        rw [un_and] at this
        exact this
      rw [Nat.and_two_pow_sub_one_eq_mod] at h1
      omega
    rw [Nat.mod_eq_of_lt this, nl_un']
  · have h' : v = v.toInt32.toInt64 := h
    show (nl (un v % 4294967296)).toInt32.toInt64 = v
    have : (nl (un v % 4294967296)).toInt32 = v.toInt32 := by
      refine ui_inj ?_
      rw [un_i32, un_i32, un_nl' (by omega)]
      omega
    rw [this]
    exact h'.symm
  · show nl (un v % 18446744073709551616) = v
    rw [Nat.mod_eq_of_lt ul, nl_un']
  · have h' : v = zx v.toInt32.toUInt32 := h.1
    show nl (un v % 4294967296) = v
    have : un v < 4294967296 := by
      have h1 : un v = un (zx v.toInt32.toUInt32) := congrArg un h'
      unfold zx at h1
      rw [un_and, show un 4294967295 = 2 ^ 32 - 1 from rfl, Nat.and_two_pow_sub_one_eq_mod] at h1
      omega
    rw [Nat.mod_eq_of_lt this, nl_un']
  · show nl (un v % 18446744073709551616) = v
    rw [Nat.mod_eq_of_lt ul, nl_un']
/-- a number's place in the sizes, in the cells -/
theorem szl_at (z : Nat → Nat) : ∀ (e i j : Nat), j < e → ∀ x, x < 2 → (szl z e i).getD (2 * j + x) 0 = (nbs (iw (z (i + j))).toInt64 2).getD x 0
  | 0, _, _, h, _, _ => by omega
  | e + 1, i, 0, _, x, hx => by
    show (nbs (iw (z i)).toInt64 2 ++ szl z e (i + 1)).getD (2 * 0 + x) 0 = _
    rw [getD_app (by rw [nbs_len]; omega), Nat.mul_zero, Nat.zero_add, Nat.add_zero]
  | e + 1, i, j + 1, h, x, hx => by
    show (nbs (iw (z i)).toInt64 2 ++ szl z e (i + 1)).getD (2 * (j + 1) + x) 0 = _
    rw [getD_appr (by rw [nbs_len]; omega), nbs_len, show 2 * (j + 1) + x - 2 = 2 * j + x by omega, szl_at z e (i + 1) j (by omega) x hx, show i + 1 + j = i + (j + 1) by omega]
theorem cel_at (val : Nat → Int64) (w : Nat) : ∀ (e i j : Nat), j < e → ∀ x, x < w → (cel val w e i).getD (j * w + x) 0 = (nbs (val (i + j)) w).getD x 0
  | 0, _, _, h, _, _ => by omega
  | e + 1, i, 0, _, x, hx => by
    show (nbs (val i) w ++ cel val w e (i + 1)).getD (0 * w + x) 0 = _
    rw [getD_app (by rw [nbs_len]; omega), Nat.zero_mul, Nat.zero_add, Nat.add_zero]
  | e + 1, i, j + 1, h, x, hx => by
    show (nbs (val i) w ++ cel val w e (i + 1)).getD ((j + 1) * w + x) 0 = _
    rw [Nat.succ_mul, getD_appr (by rw [nbs_len]; omega), nbs_len, show j * w + w + x - w = j * w + x by omega, cel_at val w e (i + 1) j (by omega) x hx, show i + 1 + j = i + (j + 1) by omega]
theorem gby_sz {k : Int32} {n : Nat} {z : Nat → Nat} {val : Nat → Int64} {j x : Nat} (hj : j < n) (hx : x < 2) : (gby k n z val).getD (4 + 2 * j + x) 0 = (nbs (iw (z j)).toInt64 2).getD x 0 := by
  have l4 : [j_i2b 71, j_i2b 82, j_i2b k, j_i2b (iw (n : Int))].length = 4 := rfl
  unfold gby
  rw [getD_app (by rw [List.length_append, szl_len, l4]; omega), getD_appr (by rw [l4]; omega), l4, show 4 + 2 * j + x - 4 = 2 * j + x by omega, szl_at z n 0 j hj x hx, Nat.zero_add]
theorem gby_ce {k : Int32} {n : Nat} {z : Nat → Nat} {val : Nat → Int64} {j x : Nat} (hj : j < prd z n) (hx : x < wdt k) : (gby k n z val).getD (4 + 2 * n + j * wdt k + x) 0 = (nbs (val j) (wdt k)).getD x 0 := by
  have l4 : [j_i2b 71, j_i2b 82, j_i2b k, j_i2b (iw (n : Int))].length = 4 := rfl
  have ll : ([j_i2b 71, j_i2b 82, j_i2b k, j_i2b (iw (n : Int))] ++ szl z n 0).length = 4 + 2 * n := by rw [List.length_append, szl_len, l4]
  unfold gby
  rw [getD_appr (by rw [ll]; omega), ll, show 4 + 2 * n + j * wdt k + x - (4 + 2 * n) = j * wdt k + x by omega, cel_at val (wdt k) (prd z n) 0 j hj x hx, Nat.zero_add]
theorem bn_lane {k : Int32} (hk : Lk k) : bn (j_i2b k) ≤ 7 ∧ iw (bn (j_i2b k) : Nat) = k := by
  rcases hk with rfl | rfl | rfl | rfl | rfl | rfl | rfl | rfl <;> exact ⟨by decide, by decide⟩
theorem bn_sm {n : Nat} (h : n ≤ 4) : bn (j_i2b (iw (n : Int))) = n := by
  have : n = 0 ∨ n = 1 ∨ n = 2 ∨ n = 3 ∨ n = 4 := by omega
  rcases this with rfl | rfl | rfl | rfl | rfl <;> decide
theorem szE_ok {g : Nat → Int32} {e : Nat} {z : Nat → Nat} {n : Nat} (h : ∀ j, j < n → zRd g j = z j ∧ z j ≤ 4096) (he : 4 + 2 * n ≤ e) : ∀ m j, j + m = n → szE g e m j = none
  | 0, _, _ => rfl
  | m + 1, j, hj => by
    show (if e < 4 + 2 * j + 2 then some (4 + 2 * j) else if 4096 < zRd g j then some (4 + 2 * j) else szE g e m (j + 1)) = none
    have := h j (by omega)
    rw [if_neg (by omega), if_neg (by omega)]
    exact szE_ok h he m (j + 1) (by omega)
theorem clE_ok {g : Nat → Int32} {e a0 : Nat} {k : Int32} {T : Nat} (hk : Lk k) (h : ∀ j, j < T → vb k (cRd g k (a0 + j * wdt k))) (he : a0 + T * wdt k = e) : ∀ m i, i ≤ T → clE g e k T m i (a0 + i * wdt k) = none
  | 0, _, _ => rfl
  | m + 1, i, hi => by
    show (if i < T then (if e < a0 + i * wdt k + wdt k then some (a0 + i * wdt k) else if F_X23_isBits k (cRd g k (a0 + i * wdt k)) = some 0 then some (a0 + i * wdt k) else clE g e k T m (i + 1) (a0 + i * wdt k + wdt k)) else if a0 + i * wdt k < e then some (a0 + i * wdt k) else none) = none
    by_cases c : i < T
    · have : (i + 1) * wdt k ≤ T * wdt k := Nat.mul_le_mul_right _ c
      rw [Nat.succ_mul] at this
      obtain ⟨z, z1, -, -, z4⟩ := bits_eq hk (cRd g k (a0 + i * wdt k))
      have := z4.mpr (h i c)
      rw [if_pos c, if_neg (by omega), if_neg (by rw [z1, this]; decide)]
      have ih := clE_ok hk h he m (i + 1) (by omega)
      rw [Nat.succ_mul, ← Nat.add_assoc] at ih
      exact ih
    · have : i = T := by omega
      subst this
      rw [if_neg c, if_neg (by omega)]
/-- what was written is good -/
theorem rd_gbc {k : Int32} {n : Nat} {z : Nat → Nat} {val : Nat → Int64} {g : Nat → Int32} (hk : Lk k) (hn : n ≤ 4) (hz : ∀ i, i < n → z i ≤ 4096) (hv : ∀ i, i < prd z n → vb k (val i)) (hg : ∀ i, i < (gbc k n z val).length → g i = (gbc k n z val).getD i 0) : rdE g (gbc k n z val).length = none := by
  have hl := gbc_len k n z val
  have hy := gby_len k n z val
  obtain ⟨L, hL⟩ : ∃ L, L = (gbc k n z val).length := ⟨_, rfl⟩
  rw [← hL] at hg hl ⊢
  have g1 : ∀ i, i < L - 4 → g i = (gby k n z val).getD i 0 := fun i hi => by
    rw [hg i (by omega)]
    unfold gbc
    rw [getD_app (by omega)]
  have b0 : g 0 = j_i2b 71 := (g1 0 (by omega)).trans rfl
  have b1 : g 1 = j_i2b 82 := (g1 1 (by omega)).trans rfl
  have b2 : g 2 = j_i2b k := (g1 2 (by omega)).trans rfl
  have b3 : g 3 = j_i2b (iw (n : Int)) := (g1 3 (by omega)).trans rfl
  obtain ⟨k1, k2⟩ := bn_lane hk
  have n1 : bn (g 3) = n := by rw [b3]; exact bn_sm hn
  have k3 : iw (bn (g 2) : Nat) = k := by rw [b2]; exact k2
  have ck : ni (bev g (L - 4) 4) = crr g (L - 4) 0 (-1) := by
    have e1 : crr g (L - 4) 0 (-1) = crr (fun i => (gby k n z val).getD i 0) (gby k n z val).length 0 (-1) := by
      rw [show (gby k n z val).length = L - 4 by omega]
      exact crr_congr _ _ _ _ (fun x hx => by rw [Nat.zero_add]; exact g1 x hx)
    obtain ⟨c, hc⟩ : ∃ c, c = crr (fun i => (gby k n z val).getD i 0) (gby k n z val).length 0 (-1) := ⟨_, rfl⟩
    rw [e1, ← hc, nbs_bev c.toInt64 4 (L - 4) (by decide) (fun i hi => by
      rw [hg _ (by omega)]
      unfold gbc
      rw [getD_appr (by omega), ← hc, show L - 4 + i - (gby k n z val).length = i by omega])]
    refine ui_inj ?_
    have := un_int c.toInt64
    have h2 := ui_int c
    rw [Int32.toInt_toInt64] at this
    rw [ui_ni (by omega)]
    show un c.toInt64 % 4294967296 = ui c
    omega
  have hH : hdE g L = none := by
    unfold hdE
    rw [if_neg (by omega), if_neg (fun hh => hh ck), if_neg (by rw [b0]; decide), if_neg (by rw [b1]; decide), if_neg (by rw [b2]; omega), if_neg (by omega)]
  have zz : ∀ j, j < n → zRd g j = z j ∧ z j ≤ 4096 := fun j hj => by
    have := hz j hj
    refine ⟨?_, this⟩
    unfold zRd
    rw [nbs_bev (iw (z j)).toInt64 2 (4 + 2 * j) (by decide) (fun i hi => by rw [g1 _ (by omega), gby_sz hj hi]), un_i64 (by omega)]
    exact Nat.mod_eq_of_lt (by omega)
  have pz : prd (zRd g) n = prd z n := prd_cg n (fun i hi => (zz i hi).1)
  have w8 := (wdt_eq hk).2.2.2
  have vv : ∀ j, j < prd z n → vb k (cRd g k (4 + 2 * n + j * wdt k)) := fun j hj => by
    have : (j + 1) * wdt k ≤ prd z n * wdt k := Nat.mul_le_mul_right _ hj
    rw [Nat.succ_mul] at this
    have hh : wdt k * prd z n = prd z n * wdt k := Nat.mul_comm _ _
    unfold cRd
    rw [nbs_bev (val j) (wdt k) (4 + 2 * n + j * wdt k) w8 (fun i hi => by rw [g1 _ (by omega), gby_ce hj hi]), cvk_vb hk (hv j hj)]
    exact hv j hj
  have hC : clE g (L - 4) k (prd z n) L 0 (4 + 2 * n) = none := by
    have := clE_ok (g := g) (e := L - 4) (a0 := 4 + 2 * n) hk vv (by rw [hl, Nat.mul_comm (wdt k)]; omega) L 0 (Nat.zero_le _)
    rw [Nat.zero_mul, Nat.add_zero] at this
    exact this
  unfold rdE
  rw [hH, n1, k3, pz, szE_ok zz (by omega) n 0 (by omega)]
  exact hC
