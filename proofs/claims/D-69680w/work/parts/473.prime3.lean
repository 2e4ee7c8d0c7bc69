/-! ===== NUMBERS, 4: both look for primes alike; powers ===== -/
theorem prm_of {p d : Nat} (h2 : 2 ≤ p) (hno : ∀ e, 2 ≤ e → e < d → ¬ e ∣ p) (hd : p < d * d) : Prm p := by
  refine ⟨h2, fun x hx => ?_⟩
  obtain ⟨y, hy⟩ := hx
  have x0 : 0 < x := Nat.pos_of_ne_zero (fun e => by rw [e, Nat.zero_mul] at hy; omega)
  have y0 : 0 < y := Nat.pos_of_ne_zero (fun e => by rw [e, Nat.mul_zero] at hy; omega)
  by_cases c1 : x = 1
  · exact Or.inl c1
  · by_cases c2 : y = 1
    · right; rw [hy, c2, Nat.mul_one]
    · exfalso
      by_cases c3 : x < d
      · exact hno x (by omega) c3 ⟨y, hy⟩
      · by_cases c4 : y < d
        · exact hno y (by omega) c4 ⟨x, by rw [hy, Nat.mul_comm]⟩
        · have := Nat.mul_le_mul (show d ≤ x by omega) (show d ≤ y by omega)
          omega
theorem prm_no {p d : Nat} (hd2 : 2 ≤ d) (hdd : d * d ≤ p) (h : p % d = 0) : ¬ Prm p := fun hp => by
  have hlt : 2 * d ≤ d * d := Nat.mul_le_mul_right _ hd2
  rcases hp.2 d (Nat.dvd_of_mod_eq_zero h) with e | e
  · omega
  · omega
theorem irem_n {a b : Nat} (ha : a < 2147483648) (hb : b < 2147483648) (h0 : 0 < b) : j_irem (iw (a : Int)) (iw (b : Int)) = iw ((a % b : Nat) : Int) := by
  rw [iw_rem (by omega) (by omega) (by omega) (by omega), Int.tmod_eq_emod_of_nonneg (by omega)]
  rfl
theorem psq_lt {p d : Nat} (hp : p ≤ 1000000007) (hd : d ≤ 40001) : (iw (p : Int)).toInt64 < (iw (d : Int)).toInt64 * (iw (d : Int)).toInt64 ↔ p < d * d := by
  have : d * d ≤ 40001 * 40001 := Nat.mul_le_mul hd hd
  rw [i64_iw (by omega), i64_iw (by omega), nl_mul, nl_lt (by omega) (by omega)]
theorem E_prm_l {p : Nat} (h2 : 3 ≤ p) (hp : p ≤ 1000000007) (hodd : p % 2 = 1) : ∀ (e N d : Nat), 40000 ≤ d + e → d ≤ 40001 → 3 ≤ d → d % 2 = 1 → (∀ x, 2 ≤ x → x < d → ¬ x ∣ p) → ∃ z : Int32, F_X10_isPrime_b15 (N + 1 + e) (iw (p : Int)) (iw (d : Int)) = some z ∧ (z = 0 ∨ z = 1) ∧ (z = 1 ↔ Prm p) := by
  intro e
  induction e with
  | zero =>
    intro N d h1 h3 h4 h5 h6
    have big : 40000 * 40000 ≤ d * d := Nat.mul_le_mul (by omega) (by omega)
    refine ⟨1, ?_, Or.inr rfl, ⟨fun _ => prm_of (by omega) h6 (by omega), fun _ => rfl⟩⟩
    show F_X10_isPrime_b15_st (F_X10_isPrime_b15 N) _ _ = _
    unfold F_X10_isPrime_b15_st
    rw [if_pos ((psq_lt hp h3).mpr (by omega))]
  | succ e ih =>
    intro N d h1 h3 h4 h5 h6
    have st : F_X10_isPrime_b15 (N + 1 + (e + 1)) (iw (p : Int)) (iw (d : Int)) = F_X10_isPrime_b15_st (F_X10_isPrime_b15 (N + 1 + e)) (iw (p : Int)) (iw (d : Int)) := rfl
    rw [st]
    unfold F_X10_isPrime_b15_st
    by_cases c : p < d * d
    · exact ⟨1, by rw [if_pos ((psq_lt hp h3).mpr c)], Or.inr rfl, ⟨fun _ => prm_of (by omega) h6 c, fun _ => rfl⟩⟩
    · have hd40 : d ≤ 39999 := by
        refine Classical.byContradiction (fun hh => c ?_)
        have big : 40000 * 40000 ≤ d * d := Nat.mul_le_mul (by omega) (by omega)
        omega
      rw [if_neg (fun hh => c ((psq_lt hp h3).mp hh)), if_neg (by rw [iw_eq0 (by omega) (by omega)]; omega), irem_n (by omega) (by omega) (by omega)]
      by_cases cz : p % d = 0
      · refine ⟨0, by rw [cz, if_pos (show iw ((0 : Nat) : Int) = 0 from rfl)], Or.inl rfl, ⟨fun hh => absurd hh (by decide), fun hh => absurd hh (prm_no (by omega) (by omega) cz)⟩⟩
      · have hm := Nat.mod_lt p (show 0 < d by omega)
        rw [if_neg (by rw [iw_eq0 (by omega) (by omega)]; omega), show iw (d : Int) + (2 : Int32) = iw ((d + 2 : Nat) : Int) from iw_nad d 2]
        refine ih N (d + 2) (by omega) (by omega) (by omega) (by omega) (fun x hx1 hx2 hdv => ?_)
        by_cases e1 : x < d
        · exact h6 x hx1 e1 hdv
        · by_cases e2 : x = d
          · rw [e2] at hdv
            exact cz (Nat.mod_eq_zero_of_dvd hdv)
          · have e3 : x = d + 1 := by omega
            have : 2 ∣ p := Nat.dvd_trans (by rw [e3]; exact ⟨(d + 1) / 2, by omega⟩) hdv
            omega
theorem E_prm {p : Nat} (h2 : 3 ≤ p) (hp : p ≤ 1000000007) : ∃ z : Int32, F_X10_isPrime (iw (p : Int)) = some z ∧ (z = 0 ∨ z = 1) ∧ (z = 1 ↔ Prm p) := by
  have hxN : xN = 1099511627776 := rfl
  have e2 : j_irem (iw (p : Int)) 2 = iw ((p % 2 : Nat) : Int) := irem_n (b := 2) (by omega) (by decide) (by decide)
  unfold F_X10_isPrime F_X10_isPrime_b11
  rw [if_neg (by rw [show (3 : Int32) = iw ((3 : Nat) : Int) from rfl, iw_le4 (by omega) (by omega)]; omega), if_neg (by decide), e2]
  by_cases c : p % 2 = 0
  · rw [c, if_pos (show iw ((0 : Nat) : Int) = 0 from rfl)]
    refine ⟨0, rfl, Or.inl rfl, ⟨fun hh => absurd hh (by decide), fun hh => absurd hh (prm_no (d := 2) (by decide) (by omega) c)⟩⟩
  · rw [if_neg (by rw [iw_eq0 (by omega) (by omega)]; omega)]
    obtain ⟨E, hE⟩ : ∃ E, E = 39997 := ⟨_, rfl⟩
    obtain ⟨N, hN⟩ : ∃ N, N + 1 + E = xN := ⟨xN - 1 - E, by omega⟩
    rw [← hN]
    exact E_prm_l h2 hp (by omega) E N 3 (by omega) (by omega) (by omega) (by decide) (fun x h1 h2 hd => by
      have : x = 2 := by omega
      subst this
      omega)
theorem M_prm_l {p : Nat} (h2 : 3 ≤ p) (hp : p ≤ 1000000007) : ∀ (e N d : Nat), 40000 ≤ d + e → d ≤ 40001 → 2 ≤ d → (∀ x, 2 ≤ x → x < d → ¬ x ∣ p) → ∃ z : Int32, F_X16_isPrime_b2 (N + 1 + e) (iw (p : Int)) (iw (d : Int)) = some z ∧ (z = 0 ∨ z = 1) ∧ (z = 1 ↔ Prm p) := by
  intro e
  induction e with
  | zero =>
    intro N d h1 h3 h4 h6
    have big : 40000 * 40000 ≤ d * d := Nat.mul_le_mul (by omega) (by omega)
    refine ⟨1, ?_, Or.inr rfl, ⟨fun _ => prm_of (by omega) h6 (by omega), fun _ => rfl⟩⟩
    show F_X16_isPrime_b2_st (F_X16_isPrime_b2 N) _ _ = _
    unfold F_X16_isPrime_b2_st
    rw [if_pos ((psq_lt hp h3).mpr (by omega))]
  | succ e ih =>
    intro N d h1 h3 h4 h6
    have st : F_X16_isPrime_b2 (N + 1 + (e + 1)) (iw (p : Int)) (iw (d : Int)) = F_X16_isPrime_b2_st (F_X16_isPrime_b2 (N + 1 + e)) (iw (p : Int)) (iw (d : Int)) := rfl
    rw [st]
    unfold F_X16_isPrime_b2_st
    by_cases c : p < d * d
    · exact ⟨1, by rw [if_pos ((psq_lt hp h3).mpr c)], Or.inr rfl, ⟨fun _ => prm_of (by omega) h6 c, fun _ => rfl⟩⟩
    · have hd40 : d ≤ 39999 := by
        refine Classical.byContradiction (fun hh => c ?_)
        have big : 40000 * 40000 ≤ d * d := Nat.mul_le_mul (by omega) (by omega)
        omega
      rw [if_neg (fun hh => c ((psq_lt hp h3).mp hh)), if_neg (by rw [iw_eq0 (by omega) (by omega)]; omega), irem_n (by omega) (by omega) (by omega)]
      by_cases cz : p % d = 0
      · refine ⟨0, by rw [cz, if_pos (show iw ((0 : Nat) : Int) = 0 from rfl)], Or.inl rfl, ⟨fun hh => absurd hh (by decide), fun hh => absurd hh (prm_no (by omega) (by omega) cz)⟩⟩
      · have hm := Nat.mod_lt p (show 0 < d by omega)
        rw [if_neg (by rw [iw_eq0 (by omega) (by omega)]; omega), iw_succ]
        refine ih N (d + 1) (by omega) (by omega) (by omega) (fun x hx1 hx2 hdv => ?_)
        by_cases e1 : x < d
        · exact h6 x hx1 e1 hdv
        · have e2 : x = d := by omega
          rw [e2] at hdv
          exact cz (Nat.mod_eq_zero_of_dvd hdv)
theorem M_prm {p : Nat} (h2 : 3 ≤ p) (hp : p ≤ 1000000007) : ∃ z : Int32, F_X16_isPrime (iw (p : Int)) = some z ∧ (z = 0 ∨ z = 1) ∧ (z = 1 ↔ Prm p) := by
  have hxN : xN = 1099511627776 := rfl
  obtain ⟨E, hE⟩ : ∃ E, E = 39998 := ⟨_, rfl⟩
  obtain ⟨N, hN⟩ : ∃ N, N + 1 + E = xN := ⟨xN - 1 - E, by omega⟩
  unfold F_X16_isPrime
  rw [← hN]
  exact M_prm_l h2 hp E N 2 (by omega) (by omega) (by omega) (fun x h1 h2 => by omega)
/-- powers -/
theorem pw_step {r b k p : Nat} : (if k % 2 = 1 then r * b % p else r) * (b * b % p) ^ (k / 2) % p = r * b ^ k % p := by
  have e : b ^ k = b ^ (k % 2) * (b * b) ^ (k / 2) := by
    rw [Nat.mul_pow, ← Nat.pow_add, ← Nat.pow_add]
    exact congrArg (b ^ ·) (by omega)
  rw [Nat.mul_mod, ← Nat.pow_mod (b * b), ← Nat.mul_mod, e]
  rcases Nat.mod_two_eq_zero_or_one k with c | c
  · rw [c, if_neg (by decide), Nat.pow_zero, Nat.one_mul]
  · rw [c, if_pos rfl, Nat.pow_one, ← Nat.mul_assoc, Nat.mul_mod, Nat.mod_mod, ← Nat.mul_mod]
theorem M_pw_l {p : Nat} (h2 : 2 ≤ p) (hp : p ≤ 1000000007) : ∀ (e N r b k : Nat), k < 2 ^ e → k < 2 ^ 62 → r < p → b < 2147483648 → F_X16_power_b13 (N + 1 + e) (iw (p : Int)) (nl r) (nl b) (nl k) = some (nl (r * b ^ k % p)) := by
  have n2 : ¬ (2 : Int64) = 0 := by decide
  have e64 : (iw (p : Int)).toInt64 = nl p := i64_iw (by omega)
  have np : ¬ nl p = 0 := fun hh => by
    have := (nl_eq (m := p) (n := 0) (by omega) (by omega)).mp hh
    omega
  intro e
  induction e with
  | zero =>
    intro N r b k hk hk2 hr hb
    have k0 : k = 0 := by have : k < 1 := hk; omega
    subst k0
    show F_X16_power_b13_st (F_X16_power_b13 N) _ _ _ _ = _
    unfold F_X16_power_b13_st
    rw [if_neg (by decide), Nat.pow_zero, Nat.mul_one, Nat.mod_eq_of_lt hr]
  | succ e ih =>
    intro N r b k hk hk2 hr hb
    have st : F_X16_power_b13 (N + 1 + (e + 1)) (iw (p : Int)) (nl r) (nl b) (nl k) = F_X16_power_b13_st (F_X16_power_b13 (N + 1 + e)) (iw (p : Int)) (nl r) (nl b) (nl k) := rfl
    rw [st]
    unfold F_X16_power_b13_st F_X16_power_b42
    have q0 : (0 : Int64) < nl k ↔ 0 < k := by rw [show (0 : Int64) = nl 0 from rfl, nl_lt (by decide) (by omega)]
    by_cases c : 0 < k
    · have hbb : b * b ≤ 2147483648 * 2147483648 := Nat.mul_le_mul (by omega) (by omega)
      have hrb : r * b ≤ 1000000007 * 2147483648 := Nat.mul_le_mul (by omega) (by omega)
      have e1 : j_lrem (nl k) 2 = nl (k % 2) := nl_rem (b := 2) (by omega) (by decide)
      have q1 : nl (k % 2) = 1 ↔ k % 2 = 1 := by rw [show (1 : Int64) = nl 1 from rfl, nl_eq (by omega) (by decide)]
      have e2 : nl k / 2 = nl (k / 2) := nl_div (b := 2) (by omega) (by decide)
      have m1 := Nat.mod_lt (b * b) (show 0 < p by omega)
      have m2 := Nat.mod_lt (r * b) (show 0 < p by omega)
      rw [if_pos (q0.mpr c), if_neg n2, e1, e64]
      have hk' : k / 2 < 2 ^ e := by rw [Nat.pow_succ] at hk; omega
      have hs := pw_step (r := r) (b := b) (k := k) (p := p)
      by_cases c1 : k % 2 = 1
      · rw [if_pos (q1.mpr c1), if_neg np, if_neg np, if_neg n2, nl_mul, nl_mul, nl_rem (by omega) (by omega), nl_rem (by omega) (by omega), e2]
        rw [if_pos c1] at hs
        rw [ih N (r * b % p) (b * b % p) (k / 2) hk' (by omega) m2 (by omega), hs]
      · rw [if_neg (fun hh => c1 (q1.mp hh)), if_neg np, if_neg n2, nl_mul, nl_rem (by omega) (by omega), e2]
        rw [if_neg c1] at hs
        rw [ih N r (b * b % p) (k / 2) hk' (by omega) hr (by omega), hs]
    · have k0 : k = 0 := by omega
      subst k0
      rw [if_neg (by decide), Nat.pow_zero, Nat.mul_one, Nat.mod_eq_of_lt hr]
theorem M_pw {p a n : Nat} (h2 : 2 ≤ p) (hp : p ≤ 1000000007) (ha : a < 2147483648) (hn : n < 2147483648) : F_X16_power (nl a) (nl n) (iw (p : Int)) = some (nl (a ^ n % p)) := by
  have hxN : xN = 1099511627776 := rfl
  have e64 : (iw (p : Int)).toInt64 = nl p := i64_iw (by omega)
  have np : ¬ nl p = 0 := fun hh => by
    have := (nl_eq (m := p) (n := 0) (by omega) (by omega)).mp hh
    omega
  have m1 := Nat.mod_lt a (show 0 < p by omega)
  obtain ⟨N, hN⟩ : ∃ N, N + 1 + 31 = xN := ⟨xN - 1 - 31, by omega⟩
  unfold F_X16_power
  rw [e64, if_neg np, nl_rem (by omega) (by omega), ← hN]
  have := M_pw_l h2 hp 31 N 1 (a % p) n (by omega) (by omega) (by omega) (by omega)
  rw [Nat.one_mul, ← Nat.pow_mod] at this
  exact this
