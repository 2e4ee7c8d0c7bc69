/-! ===== NUMBERS, 5: the engine's powers; both find the same root of one ===== -/
theorem E_pw_l {M : Mem} {p : Nat} (h : ST M) (hP : cJ M 1035 705 = nl p) (h2 : 2 ≤ p) (hp : p ≤ 1000000007) : ∀ (e N r b k : Nat), k < 2 ^ e → k < 2 ^ 62 → r < p → b < 2147483648 → F_X10_power_b9 (N + 1 + e) M 1035 (nl r) (nl b) (nl k) = some (nl (r * b ^ k % p)) := by
  have n2 : ¬ (2 : Int64) = 0 := by decide
  have np : ¬ nl p = 0 := fun hh => by
    have := (nl_eq (m := p) (n := 0) (by omega) (by omega)).mp hh
    omega
  intro e
  induction e with
  | zero =>
    intro N r b k hk hk2 hr hb
    have k0 : k = 0 := by have : k < 1 := hk; omega
    subst k0
    show F_X10_power_b9_st (F_X10_power_b9 N) _ _ _ _ _ = _
    unfold F_X10_power_b9_st
    rw [if_neg (by decide), Nat.pow_zero, Nat.mul_one, Nat.mod_eq_of_lt hr]
  | succ e ih =>
    intro N r b k hk hk2 hr hb
    have st : F_X10_power_b9 (N + 1 + (e + 1)) M 1035 (nl r) (nl b) (nl k) = F_X10_power_b9_st (F_X10_power_b9 (N + 1 + e)) M 1035 (nl r) (nl b) (nl k) := rfl
    rw [st]
    unfold F_X10_power_b9_st F_X10_power_b39
    have q0 : (0 : Int64) < nl k ↔ 0 < k := by rw [show (0 : Int64) = nl 0 from rfl, nl_lt (by decide) (by omega)]
    by_cases c : 0 < k
    · have hbb : b * b ≤ 2147483648 * 2147483648 := Nat.mul_le_mul (by omega) (by omega)
      have hrb : r * b ≤ 1000000007 * 2147483648 := Nat.mul_le_mul (by omega) (by omega)
      have e1 : j_lrem (nl k) 2 = nl (k % 2) := nl_rem (b := 2) (by omega) (by decide)
      have q1 : nl (k % 2) = 1 ↔ k % 2 = 1 := by rw [show (1 : Int64) = nl 1 from rfl, nl_eq (by omega) (by decide)]
      have e2 : nl k / 2 = nl (k / 2) := nl_div (b := 2) (by omega) (by decide)
      have m1 := Nat.mod_lt (b * b) (show 0 < p by omega)
      have m2 := Nat.mod_lt (r * b) (show 0 < p by omega)
      rw [if_pos (q0.mpr c), if_neg n2, e1]
      simp only [g1035_705, h, hP, Option.bind_some]
      have hk' : k / 2 < 2 ^ e := by rw [Nat.pow_succ] at hk; omega
      have hs := pw_step (r := r) (b := b) (k := k) (p := p)
      by_cases c1 : k % 2 = 1
      · rw [if_pos (q1.mpr c1), if_neg np, if_neg np, if_neg n2, nl_mul, nl_mul, nl_rem (by omega) (by omega), nl_rem (by omega) (by omega), e2]
        rw [if_pos c1] at hs
        rw [ih N (r * b % p) (b * b % p) (k / 2) hk' (by omega) m2 (by omega), hs]
      · rw [if_neg (fun hh => c1 (q1.mp hh)), if_neg np, if_neg n2, nl_mul, nl_rem (by omega) (by omega), e2]
        rw [if_neg c1] at hs
        rw [ih N r (b * b % p) (k / 2) hk' (by omega) hr (by omega), hs]
    · have k0 : k = 0 := by omega
      subst k0
      rw [if_neg (by decide), Nat.pow_zero, Nat.mul_one, Nat.mod_eq_of_lt hr]
theorem E_pw {M : Mem} {p a n : Nat} (h : ST M) (hP : cJ M 1035 705 = nl p) (h2 : 2 ≤ p) (hp : p ≤ 1000000007) (ha : a < 2147483648) (hn : n < 2147483648) : F_X10_power M 1035 (nl a) (nl n) = some (nl (a ^ n % p)) := by
  have hxN : xN = 1099511627776 := rfl
  obtain ⟨N, hN⟩ : ∃ N, N + 1 + 31 = xN := ⟨xN - 1 - 31, by omega⟩
  have := E_pw_l h hP h2 hp 31 N 1 a n (by omega) (by omega) (by omega) ha
  unfold F_X10_power
  rw [← hN]
  rw [Nat.one_mul] at this
  exact this
/-- the least that has it -/
theorem least_of {P : Nat → Prop} : ∀ m, P m → ∃ k, k ≤ m ∧ P k ∧ ∀ j, j < k → ¬ P j := fun m => by
  induction m using Nat.strongRecOn with
  | ind m ih =>
    intro hm
    by_cases c : ∃ j, j < m ∧ P j
    · obtain ⟨j, j1, j2⟩ := c
      obtain ⟨k, k1, k2, k3⟩ := ih j j1 j2
      exact ⟨k, by omega, k2, k3⟩
    · exact ⟨m, Nat.le_refl _, hm, fun j hj hP => c ⟨j, hj, hP⟩⟩
/-- h's power is a root of one of order n -/
def tst (p n h : Nat) : Prop := (h ^ ((p - 1) / n) % p) ^ (n / 2) % p = p - 1
theorem tst_ex {p n : Nat} (h : Prm p) (h3 : 3 ≤ p) (hn : 2 ≤ n) (he : n % 2 = 0) (hd : (p - 1) % n = 0) : ∃ h0, 2 ≤ h0 ∧ h0 < p ∧ tst p n h0 ∧ ∀ j, 2 ≤ j → j < h0 → ¬ tst p n j := by
  obtain ⟨q, hq⟩ := Nat.dvd_of_mod_eq_zero hd
  have hqe : (p - 1) / n = q := by rw [hq]; exact Nat.mul_div_cancel_left _ (by omega)
  obtain ⟨r, hr⟩ : ∃ r, n = 2 * r := ⟨n / 2, by omega⟩
  have hre : n / 2 = r := by omega
  have e1 : 2 * (r * q) = p - 1 := by rw [hq, hr, Nat.mul_assoc]
  have q0 : 0 < q := Nat.pos_of_ne_zero (fun e => by rw [e, Nat.mul_zero] at hq; omega)
  have rq : 1 ≤ r * q := Nat.mul_pos (by omega) q0
  obtain ⟨a, a1, a2, a3⟩ := nonres h rq e1
  have ta : 2 ≤ a ∧ tst p n a := by
    refine ⟨a1, ?_⟩
    unfold tst
    rw [hqe, hre, ← Nat.pow_mod, ← Nat.pow_mul, Nat.mul_comm q r]
    exact a3
  obtain ⟨k, k1, k2, k3⟩ := least_of (P := fun x => 2 ≤ x ∧ tst p n x) a ta
  exact ⟨k, k2.1, by omega, k2.2, fun j hj hjk ht => k3 j hjk ⟨hj, ht⟩⟩
theorem E_root_l {M : Mem} {p n h0 : Nat} (h : ST M) (hP : cJ M 1035 705 = nl p) (h3 : 3 ≤ p) (hp : p ≤ 1000000007) (hn : 2 ≤ n) (hn2 : n ≤ 1024) (hh0 : h0 < p) (t0 : tst p n h0) (tn : ∀ j, 2 ≤ j → j < h0 → ¬ tst p n j) : ∀ (e N x : Nat), x + e = h0 → 2 ≤ x → F_X10_root_b11 (N + 1 + e) M 1035 (iw (n : Int)) (nl x) = some (nl (h0 ^ ((p - 1) / n) % p)) := by
  have n2 : ¬ (2 : Int32) = 0 := by decide
  have en : (iw (n : Int)).toInt64 = nl n := i64_iw (by omega)
  have nn0 : ¬ nl n = 0 := fun hh => by
    have := (nl_eq (m := n) (n := 0) (by omega) (by omega)).mp hh
    omega
  have e1 : nl p - (1 : Int64) = nl (p - 1) := nl_sub (n := 1) (by omega) (by omega)
  have e2 : nl (p - 1) / nl n = nl ((p - 1) / n) := nl_div (by omega) (by omega)
  have qle : (p - 1) / n ≤ p - 1 := Nat.div_le_self _ _
  have e3 : (iw (n : Int) / (2 : Int32)).toInt64 = nl (n / 2) := by
    have : iw (n : Int) / (2 : Int32) = iw ((n / 2 : Nat) : Int) := by
      rw [← Int32.toInt_inj, Int32.toInt_div, iw_toInt (by omega) (by omega), iw_toInt (by omega) (by omega), show (2 : Int32).toInt = 2 from rfl, Int.tdiv_eq_ediv_of_nonneg (by omega)]
      have := Int.bmod_emod (x := (n : Int) / 2) (m := 4294967296)
      show ((n : Int) / 2).bmod 4294967296 = _
      rw [Int.bmod_eq_of_le (by omega) (by omega)]
      omega
    rw [this, i64_iw (by omega)]
  have st : ∀ (K : Mem → Nat → Int32 → Int64 → Option Int64) (x : Nat), x < p → F_X10_root_b11_st K M 1035 (iw (n : Int)) (nl x) = if (x ^ ((p - 1) / n) % p) ^ (n / 2) % p = p - 1 then some (nl (x ^ ((p - 1) / n) % p)) else K M 1035 (iw (n : Int)) (nl (x + 1)) := fun K x hx => by
    have ml := Nat.mod_lt (x ^ ((p - 1) / n)) (show 0 < p by omega)
    have ml2 := Nat.mod_lt ((x ^ ((p - 1) / n) % p) ^ (n / 2)) (show 0 < p by omega)
    unfold F_X10_root_b11_st
    rw [en]
    simp only [g1035_705, h, hP, e1, e2, v1035, E_pw h hP (show 2 ≤ p by omega) hp (show x < 2147483648 by omega) (show (p - 1) / n < 2147483648 by omega), e3, E_pw h hP (show 2 ≤ p by omega) hp (show x ^ ((p - 1) / n) % p < 2147483648 by omega) (show n / 2 < 2147483648 by omega), nn0, n2, if_false, Option.bind_some]
    have q : nl ((x ^ ((p - 1) / n) % p) ^ (n / 2) % p) = nl (p - 1) ↔ (x ^ ((p - 1) / n) % p) ^ (n / 2) % p = p - 1 := nl_eq (by omega) (by omega)
    by_cases c : (x ^ ((p - 1) / n) % p) ^ (n / 2) % p = p - 1
    · rw [if_pos (q.mpr c), if_pos c]
    · rw [if_neg (fun hh => c (q.mp hh)), if_neg c, show nl x + (1 : Int64) = nl (x + 1) from nl_add x 1]
  intro e
  induction e with
  | zero =>
    intro N x hx hx2
    have : x = h0 := by omega
    subst this
    show F_X10_root_b11_st (F_X10_root_b11 N) _ _ _ _ = _
    have t0' : (x ^ ((p - 1) / n) % p) ^ (n / 2) % p = p - 1 := t0
    rw [st _ _ hh0, if_pos t0']
  | succ e ih =>
    intro N x hx hx2
    have s : F_X10_root_b11 (N + 1 + (e + 1)) M 1035 (iw (n : Int)) (nl x) = F_X10_root_b11_st (F_X10_root_b11 (N + 1 + e)) M 1035 (iw (n : Int)) (nl x) := rfl
    have tx : ¬ (x ^ ((p - 1) / n) % p) ^ (n / 2) % p = p - 1 := tn x hx2 (by omega)
    rw [s, st _ _ (by omega), if_neg tx]
    exact ih N (x + 1) (by omega) (by omega)
theorem idiv_n {a b : Nat} (ha : a < 2147483648) (hb : b < 2147483648) (h0 : 0 < b) : iw (a : Int) / iw (b : Int) = iw ((a / b : Nat) : Int) := by
  obtain ⟨q, hq⟩ : ∃ q : Nat, q = a / b := ⟨_, rfl⟩
  have hle : q ≤ a := by rw [hq]; exact Nat.div_le_self a b
  have e : (a : Int) / (b : Int) = (q : Int) := by rw [hq]; rfl
  rw [← hq, ← Int32.toInt_inj, Int32.toInt_div, iw_toInt (by omega) (by omega), iw_toInt (by omega) (by omega), iw_toInt (by omega) (by omega), Int.tdiv_eq_ediv_of_nonneg (by omega), e]
  show ((q : Int)).bmod 4294967296 = _
  rw [Int.bmod_eq_of_le (by omega) (by omega)]
theorem M_root_l {p n h0 : Nat} (h3 : 3 ≤ p) (hp : p ≤ 1000000007) (hn : 2 ≤ n) (hn2 : n ≤ 1024) (hh0 : h0 < p) (t0 : tst p n h0) (tn : ∀ j, 2 ≤ j → j < h0 → ¬ tst p n j) : ∀ (e N w x : Nat), x + e = h0 → 2 ≤ x → w < p → ¬ w ^ (n / 2) % p = p - 1 → F_X16_rootOf_b14 (N + 1 + 1 + e) (iw (n : Int)) (iw (p : Int)) (nl w) (nl x) = some (nl (h0 ^ ((p - 1) / n) % p)) := by
  have n2 : ¬ (2 : Int32) = 0 := by decide
  have nn0 : ¬ iw (n : Int) = 0 := by rw [iw_eq0 (by omega) (by omega)]; omega
  have e0 : (iw (n : Int) / (2 : Int32)).toInt64 = nl (n / 2) := by
    rw [show iw (n : Int) / (2 : Int32) = iw ((n / 2 : Nat) : Int) from idiv_n (b := 2) (by omega) (by decide) (by decide), i64_iw (by omega)]
  have e1 : iw (p : Int) - (1 : Int32) = iw ((p - 1 : Nat) : Int) := by rw [show (1 : Int32) = iw ((1 : Nat) : Int) from rfl, iw_nsub (by omega)]
  have qle : (p - 1) / n ≤ p - 1 := Nat.div_le_self _ _
  have e2 : (iw ((p - 1 : Nat) : Int) / iw (n : Int)).toInt64 = nl ((p - 1) / n) := by rw [idiv_n (by omega) (by omega) (by omega), i64_iw (by omega)]
  have e3 : (iw ((p - 1 : Nat) : Int)).toInt64 = nl (p - 1) := i64_iw (by omega)
  have st : ∀ (K : Int32 → Int32 → Int64 → Int64 → Option Int64) (w x : Nat), w < p → x < p → F_X16_rootOf_b14_st K (iw (n : Int)) (iw (p : Int)) (nl w) (nl x) = if w ^ (n / 2) % p = p - 1 then some (nl w) else K (iw (n : Int)) (iw (p : Int)) (nl (x ^ ((p - 1) / n) % p)) (nl (x + 1)) := fun K w x hw hx => by
    have ml2 := Nat.mod_lt (w ^ (n / 2)) (show 0 < p by omega)
    unfold F_X16_rootOf_b14_st
    rw [e1]
    simp only [e0, e2, e3, M_pw (show 2 ≤ p by omega) hp (show w < 2147483648 by omega) (show n / 2 < 2147483648 by omega), M_pw (show 2 ≤ p by omega) hp (show x < 2147483648 by omega) (show (p - 1) / n < 2147483648 by omega), n2, nn0, if_false, Option.bind_some]
    have q : nl (w ^ (n / 2) % p) = nl (p - 1) ↔ w ^ (n / 2) % p = p - 1 := nl_eq (by omega) (by omega)
    by_cases c : w ^ (n / 2) % p = p - 1
    · rw [if_pos (q.mpr c), if_pos c]
    · rw [if_neg (fun hh => c (q.mp hh)), if_neg c, show nl x + (1 : Int64) = nl (x + 1) from nl_add x 1]
  intro e
  induction e with
  | zero =>
    intro N w x hx hx2 hw hf
    have : x = h0 := by omega
    subst this
    have t0' : (x ^ ((p - 1) / n) % p) ^ (n / 2) % p = p - 1 := t0
    have ml := Nat.mod_lt (x ^ ((p - 1) / n)) (show 0 < p by omega)
    show F_X16_rootOf_b14_st (F_X16_rootOf_b14 (N + 1)) _ _ _ _ = _
    rw [st _ _ _ hw hh0, if_neg hf]
    show F_X16_rootOf_b14_st (F_X16_rootOf_b14 N) _ _ _ _ = _
    by_cases cx : x + 1 < p
    · rw [st _ _ _ ml cx, if_pos t0']
    · unfold F_X16_rootOf_b14_st
      rw [e1]
      simp only [e0, e2, e3, M_pw (show 2 ≤ p by omega) hp (show x ^ ((p - 1) / n) % p < 2147483648 by omega) (show n / 2 < 2147483648 by omega), n2, if_false, Option.bind_some]
      rw [t0', if_pos rfl]
  | succ e ih =>
    intro N w x hx hx2 hw hf
    have tx : ¬ (x ^ ((p - 1) / n) % p) ^ (n / 2) % p = p - 1 := tn x hx2 (by omega)
    have ml := Nat.mod_lt (x ^ ((p - 1) / n)) (show 0 < p by omega)
    have s : F_X16_rootOf_b14 (N + 1 + 1 + (e + 1)) (iw (n : Int)) (iw (p : Int)) (nl w) (nl x) = F_X16_rootOf_b14_st (F_X16_rootOf_b14 (N + 1 + 1 + e)) (iw (n : Int)) (iw (p : Int)) (nl w) (nl x) := rfl
    rw [s, st _ _ _ hw (by omega), if_neg hf]
    exact ih N (x ^ ((p - 1) / n) % p) (x + 1) (by omega) (by omega) ml tx
/-- both roots -/
theorem roots {M : Mem} {p n : Nat} (h : ST M) (hP : cJ M 1035 705 = nl p) (hpr : Prm p) (h3 : 3 ≤ p) (hp : p ≤ 1000000007) (hn : 1 ≤ n) (hn2 : n ≤ 1024) (he : n = 1 ∨ n % 2 = 0) (hd : (p - 1) % n = 0) : ∃ W : Nat, W < p ∧ F_X10_root M 1035 (iw (n : Int)) = some (nl W) ∧ F_X16_rootOf (iw (n : Int)) (iw (p : Int)) = some (nl W) ∧ (n = 1 → W = 1) ∧ (n ≠ 1 → W ^ (n / 2) % p = p - 1) := by
  have hxN : xN = 1099511627776 := rfl
  by_cases c : n = 1
  · subst c
    exact ⟨1, by omega, rfl, rfl, fun _ => rfl, fun hh => absurd rfl hh⟩
  · have he' := he.resolve_left c
    obtain ⟨h0, a1, a2, a3, a4⟩ := tst_ex hpr h3 (by omega) he' hd
    refine ⟨h0 ^ ((p - 1) / n) % p, Nat.mod_lt _ (by omega), ?_, ?_, fun hh => absurd hh c, fun _ => a3⟩
    · obtain ⟨N, hN⟩ : ∃ N, N + 1 + (h0 - 2) = xN := ⟨xN - 1 - (h0 - 2), by omega⟩
      unfold F_X10_root
      rw [if_neg (by rw [show (1 : Int32) = iw 1 from rfl, iw_eq (by omega) (by omega) (by omega) (by omega)]; omega), ← hN]
      exact E_root_l h hP h3 hp (by omega) hn2 a2 a3 a4 (h0 - 2) N 2 (by omega) (by omega)
    · obtain ⟨N, hN⟩ : ∃ N, N + 1 + 1 + (h0 - 2) = xN := ⟨xN - 2 - (h0 - 2), by omega⟩
      unfold F_X16_rootOf
      rw [if_neg (by rw [show (1 : Int32) = iw 1 from rfl, iw_eq (by omega) (by omega) (by omega) (by omega)]; omega), ← hN]
      exact M_root_l h3 hp (by omega) hn2 a2 a3 a4 (h0 - 2) N 1 2 (by omega) (by omega) (by omega) (by rw [Nat.one_pow, Nat.mod_eq_of_lt (by omega)]; omega)
