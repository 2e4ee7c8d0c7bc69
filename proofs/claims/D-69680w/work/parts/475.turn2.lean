/-! ===== NUMBERS, 6: the engine turns a row's places round ===== -/
theorem bits10 : ∀ t, t < 10 → ∀ j, j < 2 ^ (t + 1) → ((j &&& 2 ^ t = 0 ↔ j < 2 ^ t) ∧ (j < 2 ^ t → j ||| 2 ^ t = j + 2 ^ t) ∧ (2 ^ t ≤ j → j ^^^ 2 ^ t = j - 2 ^ t)) := by decide +kernel
theorem iw_nand {a b : Nat} (ha : a < 2147483648) (hb : b < 2147483648) : iw (a : Int) &&& iw (b : Int) = iw ((a &&& b : Nat) : Int) := by
  rw [iw_ni, iw_ni, iw_ni]
  refine ui_inj ?_
  have : a &&& b ≤ a := Nat.and_le_left
  rw [ui_and, ui_ni (by omega), ui_ni (by omega), ui_ni (by omega)]
theorem iw_nor {a b : Nat} (ha : a < 2147483648) (hb : b < 2147483648) : iw (a : Int) ||| iw (b : Int) = iw ((a ||| b : Nat) : Int) := by
  rw [iw_ni, iw_ni, iw_ni]
  refine ui_inj ?_
  have : a ||| b < 2 ^ 32 := Nat.or_lt_two_pow (by omega) (by omega)
  rw [ui_or, ui_ni (by omega), ui_ni (by omega), ui_ni (by omega)]
theorem iw_nxor {a b : Nat} (ha : a < 2147483648) (hb : b < 2147483648) : iw (a : Int) ^^^ iw (b : Int) = iw ((a ^^^ b : Nat) : Int) := by
  rw [iw_ni, iw_ni, iw_ni]
  refine ui_inj ?_
  have : a ^^^ b < 2 ^ 32 := Nat.xor_lt_two_pow (by omega) (by omega)
  rw [show ui (ni a ^^^ ni b) = ui (ni a) ^^^ ui (ni b) from BitVec.toNat_xor _ _, ui_ni (by omega), ui_ni (by omega), ui_ni (by omega)]
/-- the places of k and j exchanged, if k is the smaller -/
noncomputable def xch (M : Mem) (k j : Nat) : Mem := if k < j then wJ (wJ M 1036 k (cJ M 1036 j)) 1036 j (cJ M 1036 k) else M
theorem pow10 {t : Nat} (h : t < 10) : 0 < 2 ^ t ∧ 2 ^ t ≤ 512 := by
  refine ⟨Nat.pow_pos (by decide), ?_⟩
  have : 2 ^ t ≤ 2 ^ 9 := Nat.pow_le_pow_right (by decide) (by omega)
  exact this
theorem turn_in {k4 : Mem → Nat → Int32 → Int32 → Int32 → Option Mem} {M : Mem} {n k : Nat} (h : ST M) (hk : k < 1024) : ∀ (t N j : Nat), t < 10 → j + 1 < 2 ^ (t + 1) → F_X10_turn_b14 k4 (N + 1 + t) M 1035 (iw (n : Int)) (iw (j : Int)) (iw (k : Int)) (iw ((2 ^ t : Nat) : Int)) = k4 (xch M k (rinc (t + 1) j)) 1035 (iw (n : Int)) (iw (rinc (t + 1) j : Nat)) (iw ((k + 1 : Nat) : Int)) := by
  have n2 : ¬ (2 : Int32) = 0 := by decide
  have fin : ∀ (K : Mem → Nat → Int32 → Int32 → Int32 → Int32 → Option Mem) (t j : Nat), t < 10 → j < 2 ^ t → F_X10_turn_b14_st k4 K M 1035 (iw (n : Int)) (iw (j : Int)) (iw (k : Int)) (iw ((2 ^ t : Nat) : Int)) = k4 (xch M k (j + 2 ^ t)) 1035 (iw (n : Int)) (iw ((j + 2 ^ t : Nat) : Int)) (iw ((k + 1 : Nat) : Int)) := fun K t j ht hj => by
    obtain ⟨p0, p1⟩ := pow10 ht
    obtain ⟨b1, b2, b3⟩ := bits10 t ht j (by rw [Nat.pow_succ]; omega)
    obtain ⟨b, hb⟩ : ∃ b, b = 2 ^ t := ⟨_, rfl⟩
    rw [← hb] at p0 p1 b1 b2 b3 hj ⊢
    unfold F_X10_turn_b14_st F_X10_turn_b73 xch
    rw [iw_nand (by omega) (by omega), iw_nor (by omega) (by omega), b2 hj, b1.mpr hj, if_pos (show iw ((0 : Nat) : Int) = 0 from rfl)]
    have q : iw (k : Int) < iw ((j + b : Nat) : Int) ↔ k < j + b := iw_le4 (by omega) (by omega)
    by_cases c : k < j + b
    · obtain ⟨A, hA⟩ : ∃ A, A = wJ M 1036 k (cJ M 1036 (j + b)) := ⟨_, rfl⟩
      have sA : ST A := hA ▸ h
      rw [if_pos (q.mpr c), if_pos c, ← hA]
      simp only [g1035_704, h, al_of (t1036 h) (l1036 h) (show k < 1024 by omega) (show (1024 : Nat) < 2147483648 by decide), al_of (t1036 h) (l1036 h) (show j + b < 1024 by omega) (show (1024 : Nat) < 2147483648 by decide), sj_of _ (t1036 h) (l1036 h) (show k < 1024 by omega) (show (1024 : Nat) < 2147483648 by decide), ← hA, Option.bind_some]
      simp only [g1035_704, sA, sj_of _ (t1036 sA) (l1036 sA) (show j + b < 1024 by omega) (show (1024 : Nat) < 2147483648 by decide), Option.bind_some, iw_succ]
    · rw [if_neg (fun hh => c (q.mp hh)), if_neg c, iw_succ]
  intro t
  induction t with
  | zero =>
    intro N j ht hj
    have j0 : j = 0 := by have : j + 1 < 2 := hj; omega
    subst j0
    show F_X10_turn_b14_st k4 (F_X10_turn_b14 k4 N) M 1035 _ _ _ _ = _
    exact fin _ 0 0 (by decide) (by decide)
  | succ t ih =>
    intro N j ht hj
    have s : F_X10_turn_b14 k4 (N + 1 + (t + 1)) M 1035 (iw (n : Int)) (iw (j : Int)) (iw (k : Int)) (iw ((2 ^ (t + 1) : Nat) : Int)) = F_X10_turn_b14_st k4 (F_X10_turn_b14 k4 (N + 1 + t)) M 1035 (iw (n : Int)) (iw (j : Int)) (iw (k : Int)) (iw ((2 ^ (t + 1) : Nat) : Int)) := rfl
    have er : rinc (t + 1 + 1) j = if 2 ^ (t + 1) ≤ j then rinc (t + 1) (j - 2 ^ (t + 1)) else j + 2 ^ (t + 1) := rfl
    rw [s, er]
    by_cases c : 2 ^ (t + 1) ≤ j
    · obtain ⟨p0, p1⟩ := pow10 (t := t + 1) ht
      rw [Nat.pow_succ] at hj
      obtain ⟨b1, b2, b3⟩ := bits10 (t + 1) ht j (by rw [Nat.pow_succ]; omega)
      have ih' := ih N (j - 2 ^ (t + 1)) (by omega) (by omega)
      rw [if_pos c]
      have hne : ¬ (j &&& 2 ^ (t + 1)) = 0 := fun e => by have := b1.mp e; omega
      have hle : j &&& 2 ^ (t + 1) ≤ j := Nat.and_le_left
      have e2 : iw ((2 ^ (t + 1) : Nat) : Int) / (2 : Int32) = iw ((2 ^ t : Nat) : Int) := by
        rw [show iw ((2 ^ (t + 1) : Nat) : Int) / (2 : Int32) = iw ((2 ^ (t + 1) / 2 : Nat) : Int) from idiv_n (b := 2) (by omega) (by decide) (by decide), Nat.pow_succ, Nat.mul_div_cancel _ (by decide)]
      unfold F_X10_turn_b14_st
      rw [iw_nand (by omega) (by omega), if_neg (by rw [iw_eq0 (by omega) (by omega)]; omega), if_neg n2, iw_nxor (by omega) (by omega), b3 c, e2]
      exact ih'
    · rw [if_neg c]
      exact fin _ (t + 1) j ht (by omega)
