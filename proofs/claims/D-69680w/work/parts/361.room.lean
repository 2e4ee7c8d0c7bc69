/-! ===== GRIDS, 6: room; strides of a new grid ===== -/
theorem J_max1 {x : Nat} (h : x ≤ 100000) : F_J7_max (iw (x : Int)) 1 = some (iw ((max x 1 : Nat) : Int)) := by
  unfold F_J7_max F_J7_max_b10
  have q : iw (x : Int) < 1 ↔ x < 1 := by rw [show (1 : Int32) = iw ((1 : Nat) : Int) from rfl, iw_le4 (by omega) (by omega)]
  by_cases c : x < 1
  · rw [if_pos (q.mpr c), show max x 1 = 1 by omega]
    rfl
  · rw [if_neg (fun hh => c (q.mp hh)), show max x 1 = x by omega]
/-- the product, a 0 counted as 1 -/
def pmx (z : Nat → Nat) : Nat → Nat
  | 0 => 1
  | m + 1 => pmx z m * max (z m) 1
theorem pmx_prd {z : Nat → Nat} : ∀ m, prd z m ≠ 0 → pmx z m = prd z m
  | 0, _ => rfl
  | m + 1, h => by
    have h1 : prd z m ≠ 0 := fun hh => h (by show prd z m * z m = 0; rw [hh, Nat.zero_mul])
    have h2 : z m ≠ 0 := fun hh => h (by show prd z m * z m = 0; rw [hh, Nat.mul_zero])
    show pmx z m * max (z m) 1 = prd z m * z m
    rw [pmx_prd m h1, show max (z m) 1 = z m by omega]
/-- a count that may be too great -/
def cnt (z : Nat → Nat) (n : Nat) : Int32 := if 100000 < prd z n then -1 else iw (prd z n : Nat)
theorem min_cap (a b : Nat) (hb : 1 ≤ b) : min (min a 100001 * b) 100001 = min (a * b) 100001 := by
  rcases Nat.lt_or_ge a 100001 with h | h
  · rw [show min a 100001 = a by omega]
  · rw [show min a 100001 = 100001 by omega]
    have h1 : 100001 * 1 ≤ 100001 * b := Nat.mul_le_mul_left _ hb
    have h2 : 100001 * b ≤ a * b := Nat.mul_le_mul_right _ h
    omega
theorem E_cnt_loop {M : Mem} {a L n : Nat} {z : Nat → Nat} (ht : m_tg M a = 1005) (hl : m_ln M a = L) (hL : L ≤ 4) (hn : n ≤ L) (hz : ∀ i, i < n → cI M a i = iw (z i) ∧ z i ≤ 4096) : ∀ (j N m : Nat), m + j = n → j + 1 ≤ N → F_X2_count_b8 N M a (iw (n : Int)) (nl (min (pmx z m) 100001)) (mr (decide (prd z m = 0))) (iw (m : Int)) = some (cnt z n) := by
  have mt : ¬ mr true = 0 := by decide
  have mf : mr false = 0 := by decide
  intro j
  induction j with
  | zero =>
    intro N m hm hN
    obtain ⟨N, rfl⟩ : ∃ x, N = x + 1 := ⟨N - 1, by omega⟩
    show F_X2_count_b8_st (F_X2_count_b8 N) M a _ _ _ _ = _
    unfold F_X2_count_b8_st F_X2_count_b80 cnt
    have : m = n := by omega
    subst this
    rw [if_neg (by rw [iw_le4 (by omega) (by omega)]; omega)]
    by_cases h0 : prd z m = 0
    · rw [decide_eq_true h0, if_neg mt, h0, if_neg (by decide)]
      rfl
    · rw [decide_eq_false h0, if_pos mf, pmx_prd m h0]
      have q : (100000 : Int64) < nl (min (prd z m) 100001) ↔ 100000 < prd z m := by
        rw [show (100000 : Int64) = nl 100000 from rfl, nl_lt (by decide) (by omega)]
        omega
      by_cases c : 100000 < prd z m
      · rw [if_pos (q.mpr c), if_pos c]
      · rw [if_neg (fun hh => c (q.mp hh)), if_neg c, nl_i32', show min (prd z m) 100001 = prd z m by omega]
  | succ j ih =>
    intro N m hm hN
    obtain ⟨N, rfl⟩ : ∃ x, N = x + 1 := ⟨N - 1, by omega⟩
    show F_X2_count_b8_st (F_X2_count_b8 N) M a _ _ _ _ = _
    unfold F_X2_count_b8_st F_X2_count_b26 F_X2_count_b31
    have hlt : m < n := by omega
    obtain ⟨hz1, hz2⟩ := hz m hlt
    have ha := ai_of (j := m) ht hl (by omega) (by omega)
    rw [hz1] at ha
    have e1 : nl (min (pmx z m) 100001) * (iw ((max (z m) 1 : Nat) : Int)).toInt64 = nl (min (pmx z m) 100001 * max (z m) 1) := by
      rw [i64_iw (by omega), nl_mul]
    have e2 : F_J7_min (nl (min (pmx z m) 100001 * max (z m) 1)) 100001 = some (nl (min (pmx z (m + 1)) 100001)) := by
      have hb : min (pmx z m) 100001 * max (z m) 1 < 2 ^ 63 := by
        have := Nat.mul_le_mul (show min (pmx z m) 100001 ≤ 100001 by omega) (show max (z m) 1 ≤ 4096 by omega)
        omega
      have hc := min_cap (pmx z m) (max (z m) 1) (by omega)
      have hp : pmx z (m + 1) = pmx z m * max (z m) 1 := rfl
      unfold F_J7_min F_J7_min_b11
      have q : (100001 : Int64) < nl (min (pmx z m) 100001 * max (z m) 1) ↔ 100001 < min (pmx z m) 100001 * max (z m) 1 := by
        rw [show (100001 : Int64) = nl 100001 from rfl, nl_lt (by decide) hb]
      by_cases c : 100001 < min (pmx z m) 100001 * max (z m) 1
      · rw [if_pos (q.mpr c), hp, ← hc, show min (min (pmx z m) 100001 * max (z m) 1) 100001 = 100001 by omega]
        rfl
      · rw [if_neg (fun hh => c (q.mp hh)), hp, ← hc, show min (min (pmx z m) 100001 * max (z m) 1) 100001 = min (pmx z m) 100001 * max (z m) 1 by omega]
    have e3 : iw (m : Int) + 1 = iw ((m + 1 : Nat) : Int) := by rw [show (1 : Int32) = iw 1 from rfl, iw_add]; rfl
    have ih' := ih N (m + 1) (by omega) (by omega)
    have q0 : iw (z m : Nat) = 0 ↔ z m = 0 := by rw [iw_eq0 (by omega) (by omega)]; omega
    rw [if_pos (by rw [iw_le4 (by omega) (by omega)]; exact hlt)]
    simp only [ha, Option.bind_some, J_max1 (show z m ≤ 100000 by omega), e1, e2, e3, q0]
    by_cases h0 : prd z m = 0
    · have h1 : prd z (m + 1) = 0 := by show prd z m * z m = 0; rw [h0, Nat.zero_mul]
      rw [decide_eq_true h1] at ih'
      rw [decide_eq_true h0, if_neg mt]
      exact ih'
    · rw [decide_eq_false h0, if_pos mf]
      by_cases h2 : z m = 0
      · have h1 : prd z (m + 1) = 0 := by show prd z m * z m = 0; rw [h2, Nat.mul_zero]
        rw [decide_eq_true h1] at ih'
        rw [if_pos h2]
        exact ih'
      · have h1 : ¬ prd z (m + 1) = 0 := Nat.mul_ne_zero h0 h2
        rw [decide_eq_false h1] at ih'
        rw [if_neg h2]
        exact ih'
theorem E_cnt {M : Mem} {a L n : Nat} {z : Nat → Nat} (ht : m_tg M a = 1005) (hl : m_ln M a = L) (hL : L ≤ 4) (hn : n ≤ L) (hz : ∀ i, i < n → cI M a i = iw (z i) ∧ z i ≤ 4096) : F_X2_count M a (iw (n : Int)) = some (cnt z n) := by
  unfold F_X2_count
  exact E_cnt_loop ht hl hL hn hz n xN 0 (by omega) (by have : xN = 1099511627776 := rfl; omega)
/-- whether there is room for so many grids and cells -/
def room (m w g c : Nat) : Bool := decide (m + g ≤ 400 ∧ c ≤ 100000 ∧ w + c ≤ 100000)
theorem E_room {M : Mem} {m w g : Nat} {z : Nat → Nat} {n : Nat} (h : ST M) (hm : m ≤ 400) (hw : w ≤ 100000) (hg : g ≤ 2) (k1 : cI M 1004 193 = iw m) (k2 : cI M 1004 194 = iw w) : F_X2_hasRoom M 1004 (iw (g : Int)) (cnt z n) = some (mr (room m w g (prd z n))) := by
  unfold F_X2_hasRoom F_X2_hasRoom_b31 F_X2_hasRoom_b32 cnt room
  by_cases c1 : 100000 < prd z n
  · rw [if_pos c1, if_pos (by decide), decide_eq_false (by omega)]
    rfl
  · rw [if_neg c1, if_neg (by rw [iw_lt0 (by omega) (by omega)]; omega), g1004_193 h, k1]
    simp only [Option.bind_some]
    rw [iw_add, show (400 : Int32) = iw ((400 : Nat) : Int) from rfl, ← Int.natCast_add]
    by_cases c2 : 400 < m + g
    · rw [if_pos (by rw [iw_le4 (by omega) (by omega)]; exact c2), decide_eq_false (by omega)]
      rfl
    · rw [if_neg (by rw [iw_le4 (by omega) (by omega)]; exact c2), g1004_194 h, k2]
      simp only [Option.bind_some]
      rw [iw_add, show (100000 : Int32) = iw ((100000 : Nat) : Int) from rfl, ← Int.natCast_add]
      by_cases c3 : 100000 < w + prd z n
      · rw [if_pos (by rw [iw_le4 (by omega) (by omega)]; exact c3), decide_eq_false (by omega)]
        rfl
      · rw [if_neg (by rw [iw_le4 (by omega) (by omega)]; exact c3), decide_eq_true (by omega)]
        rfl
theorem M_room {M : Mem} {m w g c : Nat} (h : ST M) (hm : m ≤ 400) (hw : w ≤ 100000) (hg : g ≤ 2) (hc : c < 2 ^ 62) (k1 : cI M 1068 1093 = iw m) (k2 : cI M 1068 1094 = iw w) : F_X16_isRoom M 1068 (nl c) (iw (g : Int)) = some (mr (room m w g c)) := by
  unfold F_X16_isRoom F_X16_isRoom_b38 F_X16_isRoom_b39 room
  rw [g1068_1093 h, k1]
  simp only [Option.bind_some]
  rw [iw_add, show (400 : Int32) = iw ((400 : Nat) : Int) from rfl, ← Int.natCast_add]
  by_cases c2 : 400 < m + g
  · rw [if_pos (by rw [iw_le4 (by omega) (by omega)]; exact c2), decide_eq_false (by omega)]
    rfl
  · rw [if_neg (by rw [iw_le4 (by omega) (by omega)]; exact c2), show (100000 : Int64) = nl 100000 from rfl]
    by_cases c1 : 100000 < c
    · rw [if_pos (by rw [nl_lt (by decide) (by omega)]; exact c1), decide_eq_false (by omega)]
      rfl
    · rw [if_neg (by rw [nl_lt (by decide) (by omega)]; exact c1), g1068_1094 h, k2]
      simp only [Option.bind_some]
      rw [i64_iw (by omega), nl_add]
      by_cases c3 : 100000 < w + c
      · rw [if_pos (by rw [nl_lt (by decide) (by omega)]; exact c3), decide_eq_false (by omega)]
        rfl
      · rw [if_neg (by rw [nl_lt (by decide) (by omega)]; exact c3), decide_eq_true (by omega)]
        rfl
/-- strides of a new grid, from the last axis on -/
def sfx (z : Nat → Nat) (n : Nat) : Nat → Nat
  | 0 => 1
  | d + 1 => sfx z n d * max (z (n - 1 - d)) 1
/-- the model's -/
def mfx (z : Nat → Nat) (n : Nat) : Nat → Nat
  | 0 => 1
  | d + 1 => if mfx z n d * max (z (n - 1 - d)) 1 ≤ 100000 then mfx z n d * max (z (n - 1 - d)) 1 else 1
theorem sfx_pos (z : Nat → Nat) (n : Nat) : ∀ d, 1 ≤ sfx z n d
  | 0 => Nat.le_refl _
  | d + 1 => by
    show 1 ≤ sfx z n d * max (z (n - 1 - d)) 1
    have := Nat.mul_le_mul (sfx_pos z n d) (show 1 ≤ max (z (n - 1 - d)) 1 by omega)
    omega
theorem sfx_prd {z : Nat → Nat} {n : Nat} (h : ∀ i, i < n → 0 < z i) : ∀ d, d ≤ n → prd z (n - d) * sfx z n d = prd z n
  | 0, _ => by rw [Nat.sub_zero]; exact Nat.mul_one _
  | d + 1, hd => by
    have ih := sfx_prd h d (by omega)
    show prd z (n - (d + 1)) * (sfx z n d * max (z (n - 1 - d)) 1) = _
    have e : n - d = (n - (d + 1)) + 1 := by omega
    rw [e] at ih
    have ih : prd z (n - (d + 1)) * z (n - (d + 1)) * sfx z n d = prd z n := ih
    have hz := h (n - (d + 1)) (by omega)
    rw [show n - 1 - d = n - (d + 1) by omega, show max (z (n - (d + 1))) 1 = z (n - (d + 1)) by omega, ← ih]
    ac_rfl
theorem sfx_le {z : Nat → Nat} {n : Nat} (h : ∀ i, i < n → 0 < z i) {d : Nat} (hd : d ≤ n) : sfx z n d ≤ prd z n := by
  have := sfx_prd h d hd
  have h1 : prd z (n - d) ≠ 0 := (prd_pos _).mpr (fun i hi => h i (by omega))
  rw [← this]
  have := Nat.mul_le_mul_right (sfx z n d) (show 1 ≤ prd z (n - d) by omega)
  omega
theorem mfx_eq {z : Nat → Nat} {n : Nat} (h : ∀ i, i < n → 0 < z i) (hp : prd z n ≤ 100000) : ∀ d, d ≤ n → mfx z n d = sfx z n d
  | 0, _ => rfl
  | d + 1, hd => by
    show (if mfx z n d * max (z (n - 1 - d)) 1 ≤ 100000 then mfx z n d * max (z (n - 1 - d)) 1 else 1) = sfx z n d * max (z (n - 1 - d)) 1
    rw [mfx_eq h hp d (by omega)]
    have := sfx_le h (d := d + 1) hd
    have e : sfx z n (d + 1) = sfx z n d * max (z (n - 1 - d)) 1 := rfl
    rw [if_pos (by omega)]
theorem mfx_le (z : Nat → Nat) (n : Nat) : ∀ d, mfx z n d ≤ 100000
  | 0 => by show 1 ≤ 100000; decide
  | d + 1 => by
    show (if mfx z n d * max (z (n - 1 - d)) 1 ≤ 100000 then mfx z n d * max (z (n - 1 - d)) 1 else 1) ≤ 100000
    split <;> omega
/-- every spot of a new grid lies among its cells -/
theorem new_sum {z : Nat → Nat} {n : Nat} (h : ∀ i, i < n → 0 < z i) (hp : prd z n ≤ 100000) {ix : Nat → Nat} (hi : ∀ i, i < n → ix i < z i) : ∀ m, m ≤ n → 0 ≤ sm (fun i => iw (sfx z n (n - 1 - i) : Nat)) ix m ∧ sm (fun i => iw (sfx z n (n - 1 - i) : Nat)) ix m + (sfx z n (n - m) : Int) ≤ (prd z m : Int) * (sfx z n (n - m) : Int)
  | 0, _ => ⟨Int.le_refl _, by
    show (0 : Int) + (sfx z n n : Int) ≤ ((1 : Nat) : Int) * (sfx z n n : Int)
    omega⟩
  | m + 1, hm => by
    obtain ⟨i1, i2⟩ := new_sum h hp hi m (by omega)
    have hs := sfx_le h (d := n - (m + 1)) (by omega)
    have e1 : (iw (sfx z n (n - 1 - m) : Nat)).toInt = (sfx z n (n - (m + 1)) : Int) := by
      rw [show n - 1 - m = n - (m + 1) by omega, iw_toInt (by omega) (by omega)]
    have e2 : sfx z n (n - m) = sfx z n (n - (m + 1)) * z m := by
      have hz := h m (by omega)
      rw [show n - m = (n - (m + 1)) + 1 by omega]
      show sfx z n (n - (m + 1)) * max (z (n - 1 - (n - (m + 1)))) 1 = _
      rw [show n - 1 - (n - (m + 1)) = m by omega, show max (z m) 1 = z m by omega]
    have hx := hi m (by omega)
    show 0 ≤ (ix m : Int) * (iw (sfx z n (n - 1 - m) : Nat)).toInt + _ ∧ (ix m : Int) * (iw (sfx z n (n - 1 - m) : Nat)).toInt + _ + _ ≤ _
    rw [e1]
    rw [e2] at i2
    generalize sfx z n (n - (m + 1)) = V at *
    generalize sm (fun i => iw (sfx z n (n - 1 - i) : Nat)) ix m = Sm at *
    have e3 : prd z (m + 1) = prd z m * z m := rfl
    rw [e3]
    have a1 : (ix m + 1) * V ≤ z m * V := Nat.mul_le_mul_right _ hx
    rw [Nat.add_mul, Nat.one_mul] at a1
    have a2 : prd z m * (V * z m) = prd z m * z m * V := by ac_rfl
    have a3 : V * z m = z m * V := Nat.mul_comm _ _
    rw [← Int.natCast_mul] at i2 ⊢
    rw [← Int.natCast_mul, ← a2]
    rw [a3] at i2 ⊢
    generalize prd z m * (z m * V) = B at *
    generalize ix m * V = A at *
    generalize z m * V = W at *
    omega
theorem new_VL {z : Nat → Nat} {n : Nat} (h : ∀ i, i < n → 0 < z i) (hp : prd z n ≤ 100000) : VL n z (fun i => iw (sfx z n (n - 1 - i) : Nat)) 0 (prd z n) := by
  intro ix hi
  rw [sm_fold]
  obtain ⟨a, b⟩ := new_sum h hp hi n (Nat.le_refl _)
  rw [Nat.sub_self] at b
  have b : sm _ ix n + ((1 : Nat) : Int) ≤ (prd z n : Int) * ((1 : Nat) : Int) := b
  have e0 : (0 : Int32).toInt = 0 := rfl
  rw [e0]
  omega
