/-! ===== EXACT SOLUTIONS, 3: loops; the engine's great numbers ===== -/
def Dw (P : Nat → Nat → Prop) (M M' : Mem) : Prop := Df P n2 n2 M M' ∧ m_nx M' = m_nx M ∧ m_sl M' = m_sl M
theorem Dw.refl (P : Nat → Nat → Prop) (M : Mem) : Dw P M M := ⟨Df.refl _ _ _ _, rfl, rfl⟩
theorem Dw.trans {P : Nat → Nat → Prop} {M A B : Mem} (h : Dw P M A) (k : Dw P A B) : Dw P M B := ⟨h.1.trans k.1, k.2.1.trans h.2.1, k.2.2.trans h.2.2⟩
theorem Dw.mono {P P' : Nat → Nat → Prop} {M A : Mem} (h : Dw P M A) (hp : ∀ a i, P a i → P' a i) : Dw P' M A := ⟨h.1.mono hp (fun _ _ q => q) (fun _ _ q => q), h.2.1, h.2.2⟩
theorem Dw.w {P : Nat → Nat → Prop} {M : Mem} {a i : Nat} (v : Int32) (h : P a i) : Dw P M (wI M a i v) := ⟨Df.wI v h, rfl, rfl⟩
theorem Dw.st {P : Nat → Nat → Prop} {M A : Mem} (d : Dw P M A) (h : ST M) : ST A := h.n d.1
theorem Dw.ci {P : Nat → Nat → Prop} {M A : Mem} (d : Dw P M A) (h : ST M) {a i : Nat} (ha : a < 1334) (hn : ¬ P a i) : cI A a i = cI M a i := d.1.cI (by have := h.1; omega) hn
/-- a loop upwards -/
theorem upl {β σ : Type} (F : Nat → Mem → σ → Int32 → β) (n : Nat) (J : Nat → Mem → σ → Prop) (st : ∀ N M s i, i < n → J i M s → ∃ M' s', F (N + 1) M s (iw (i : Int)) = F N M' s' (iw ((i + 1 : Nat) : Int)) ∧ J (i + 1) M' s') : ∀ (e N i : Nat) (M : Mem) (s : σ), i + e = n → J i M s → ∃ M' s', F (N + e) M s (iw (i : Int)) = F N M' s' (iw (n : Int)) ∧ J n M' s' := by
  intro e
  induction e with
  | zero =>
    intro N i M s hi hJ
    have : i = n := by omega
    subst this
    exact ⟨M, s, rfl, hJ⟩
  | succ e ih =>
    intro N i M s hi hJ
    obtain ⟨M1, s1, e1, j1⟩ := st (N + e) M s i (by omega) hJ
    obtain ⟨M2, s2, e2, j2⟩ := ih N (i + 1) M1 s1 (by omega) j1
    exact ⟨M2, s2, e1.trans e2, j2⟩
theorem upl0 {β σ : Type} (F : Nat → Mem → σ → Int32 → β) {n : Nat} (hn : n < 1000000) (J : Nat → Mem → σ → Prop) (st : ∀ N M s i, i < n → J i M s → ∃ M' s', F (N + 1) M s (iw (i : Int)) = F N M' s' (iw ((i + 1 : Nat) : Int)) ∧ J (i + 1) M' s') {M : Mem} {s : σ} (h : J 0 M s) : ∃ K M' s', F xN M s 0 = F (K + 1) M' s' (iw (n : Int)) ∧ J n M' s' := by
  have hxN : xN = 1099511627776 := rfl
  obtain ⟨K, hK⟩ : ∃ K, K + 1 + n = xN := ⟨xN - 1 - n, by omega⟩
  obtain ⟨M', s', e1, j1⟩ := upl F n J st n (K + 1) 0 M s (by omega) h
  rw [hK] at e1
  exact ⟨K, M', s', e1, j1⟩
/-- a loop downwards -/
theorem dnl {β σ : Type} (F : Nat → Mem → σ → Int32 → β) (J : Nat → Mem → σ → Prop) : ∀ (n N : Nat) (M : Mem) (s : σ), (∀ N M s i, i < n → J (i + 1) M s → ∃ M' s', F (N + 1) M s (iw (i : Int)) = F N M' s' (iw ((i : Int) - 1)) ∧ J i M' s') → J n M s → ∃ M' s', F (N + n) M s (iw ((n : Int) - 1)) = F N M' s' (iw (-1)) ∧ J 0 M' s' := by
  intro n
  induction n with
  | zero => exact fun N M s _ hJ => ⟨M, s, rfl, hJ⟩
  | succ n ih =>
    intro N M s st hJ
    obtain ⟨M1, s1, e1, j1⟩ := st (N + n) M s n (Nat.lt_succ_self n) hJ
    obtain ⟨M2, s2, e2, j2⟩ := ih N M1 s1 (fun N M s i hi => st N M s i (by omega)) j1
    refine ⟨M2, s2, Eq.trans ?_ (e1.trans e2), j2⟩
    show F (N + n + 1) M s (iw (((n + 1 : Nat) : Int) - 1)) = F (N + n + 1) M s (iw (n : Int))
    congr 2
    omega
theorem dnl0 {β σ : Type} (F : Nat → Mem → σ → Int32 → β) {n : Nat} (hn : n < 1000000) (J : Nat → Mem → σ → Prop) (st : ∀ N M s i, i < n → J (i + 1) M s → ∃ M' s', F (N + 1) M s (iw (i : Int)) = F N M' s' (iw ((i : Int) - 1)) ∧ J i M' s') {M : Mem} {s : σ} (h : J n M s) : ∃ K M' s', F xN M s (iw ((n : Int) - 1)) = F (K + 1) M' s' (iw (-1)) ∧ J 0 M' s' := by
  have hxN : xN = 1099511627776 := rfl
  obtain ⟨K, hK⟩ : ∃ K, K + 1 + n = xN := ⟨xN - 1 - n, by omega⟩
  obtain ⟨M', s', e1, j1⟩ := dnl F J n (K + 1) M s st h
  rw [hK] at e1
  exact ⟨K, M', s', e1, j1⟩
/-! bits -/
theorem ui_iw (a : Int) : (ui (iw a) : Int) = a % 4294967296 := by
  rw [ui_int]
  unfold iw
  rw [Int32.toInt_ofInt]
  exact Int.bmod_emod (m := 4294967296)
theorem imk (a : Int) {k : Nat} (hk : k ≤ 31) : iw a &&& iw ((2 ^ k - 1 : Nat) : Int) = iw (a % ((2 ^ k : Nat) : Int)) := by
  have hp : 2 ^ k ≤ 2 ^ 31 := Nat.pow_le_pow_right (by decide) hk
  have p0 : 0 < 2 ^ k := Nat.pow_pos (by decide)
  apply ui_inj
  have e1 : ui (iw ((2 ^ k - 1 : Nat) : Int)) = 2 ^ k - 1 := by
    have := ui_iw ((2 ^ k - 1 : Nat) : Int)
    omega
  rw [ui_and, e1, Nat.and_two_pow_sub_one_eq_mod]
  have h1 := ui_iw a
  have h2 := ui_iw (a % ((2 ^ k : Nat) : Int))
  have h3 : a % 4294967296 % ((2 ^ k : Nat) : Int) = a % ((2 ^ k : Nat) : Int) := by
    refine Int.emod_emod_of_dvd a ?_
    exact Int.natCast_dvd_natCast.mpr (show 2 ^ k ∣ 4294967296 from Nat.pow_dvd_pow 2 (show k ≤ 32 by omega))
  have h4 := Int.emod_nonneg a (show ((2 ^ k : Nat) : Int) ≠ 0 by omega)
  have h5 := Int.emod_lt_of_pos a (show (0 : Int) < ((2 ^ k : Nat) : Int) by omega)
  have h6 : ((ui (iw a) % 2 ^ k : Nat) : Int) = a % ((2 ^ k : Nat) : Int) := by
    rw [Int.natCast_emod, h1, h3]
  generalize a % ((2 ^ k : Nat) : Int) = z at *
  omega
theorem im16 (a : Int) : iw a &&& 65535 = iw (a % 65536) := imk a (k := 16) (by decide)
theorem im28 (a : Int) : iw a &&& 268435455 = iw (a % 268435456) := imk a (k := 28) (by decide)
theorem ishr_n {a : Int} (h1 : -2147483648 ≤ a) (h2 : a < 2147483648) {k : Nat} (hk : k < 32) : j_ishr (iw a) (iw (k : Int)) = iw (a / ((2 ^ k : Nat) : Int)) := by
  have p0 : 0 < 2 ^ k := Nat.pow_pos (by decide)
  have e1 : ui (iw (k : Int)) = k := by
    have := ui_iw (k : Int)
    omega
  have b1 : -2147483648 ≤ a / ((2 ^ k : Nat) : Int) := by
    rw [Int.le_ediv_iff_mul_le (by omega)]
    have : -2147483648 * ((2 ^ k : Nat) : Int) ≤ -2147483648 * 1 := by omega
    omega
  have b2 : a / ((2 ^ k : Nat) : Int) < 2147483648 := by
    rw [Int.ediv_lt_iff_lt_mul (by omega)]
    omega
  apply Int32.toInt_inj.mp
  rw [ish_r, iw_toInt h1 h2, iw_toInt b1 b2, e1, Nat.mod_eq_of_lt hk]
  congr 1
theorem ishr16 {a : Int} (h1 : -2147483648 ≤ a) (h2 : a < 2147483648) : j_ishr (iw a) 16 = iw (a / 65536) := ishr_n h1 h2 (k := 16) (by decide)
theorem ishr28 {a : Int} (h1 : -2147483648 ≤ a) (h2 : a < 2147483648) : j_ishr (iw a) 28 = iw (a / 268435456) := ishr_n h1 h2 (k := 28) (by decide)
theorem lmk (x : Int64) {k : Nat} (hk : k ≤ 31) : (x &&& nl (2 ^ k - 1)).toInt32 = iw (x.toInt % ((2 ^ k : Nat) : Int)) := by
  have hp : 2 ^ k ≤ 2 ^ 31 := Nat.pow_le_pow_right (by decide) hk
  have p0 : 0 < 2 ^ k := Nat.pow_pos (by decide)
  apply ui_inj
  rw [un_i32, and_mask x k (by omega)]
  have h1 := un_int x
  have h2 := ui_iw (x.toInt % ((2 ^ k : Nat) : Int))
  have h3 : x.toInt % 18446744073709551616 % ((2 ^ k : Nat) : Int) = x.toInt % ((2 ^ k : Nat) : Int) := by
    refine Int.emod_emod_of_dvd _ ?_
    exact Int.natCast_dvd_natCast.mpr (show 2 ^ k ∣ 18446744073709551616 from Nat.pow_dvd_pow 2 (show k ≤ 64 by omega))
  have h4 := Int.emod_nonneg x.toInt (show ((2 ^ k : Nat) : Int) ≠ 0 by omega)
  have h5 := Int.emod_lt_of_pos x.toInt (show (0 : Int) < ((2 ^ k : Nat) : Int) by omega)
  have h6 : ((un x % 2 ^ k : Nat) : Int) = x.toInt % ((2 ^ k : Nat) : Int) := by
    rw [Int.natCast_emod, h1, h3]
  generalize x.toInt % ((2 ^ k : Nat) : Int) = z at *
  generalize un x % 2 ^ k = y at *
  omega
theorem lm16 (x : Int64) : (x &&& 65535).toInt32 = iw (x.toInt % 65536) := lmk x (k := 16) (by decide)
theorem lm28 (x : Int64) : (x &&& 268435455).toInt32 = iw (x.toInt % 268435456) := lmk x (k := 28) (by decide)
theorem lsh16 (x : Int64) : (j_lshr x 16).toInt = x.toInt / 65536 := lsh_r x (b := 16) (by decide)
theorem lsh28 (x : Int64) : (j_lshr x 28).toInt = x.toInt / 268435456 := lsh_r x (b := 28) (by decide)
theorem i64_i (x : Int) (h1 : -2147483648 ≤ x) (h2 : x < 2147483648) : (iw x).toInt64.toInt = x := by rw [Int32.toInt_toInt64, iw_toInt h1 h2]
theorem ldiv_i (v : Int64) {p : Nat} (h2 : 2 ≤ p) (hp : p ≤ 1000000007) : (v / nl p).toInt = v.toInt.tdiv (p : Int) := by
  have r := i64_rng v
  have ep : (nl p).toInt = (p : Int) := nl_int (by omega)
  have hq : (v.toInt.tdiv (p : Int)).natAbs ≤ v.toInt.natAbs / 2 := by
    rw [Int.natAbs_tdiv]
    exact Nat.div_le_div_left (by omega) (by decide)
  rw [Int64.toInt_div, ep]
  exact bw64 (by omega) (by omega)
theorem i60 (p k : Nat) : (60 : Int32) * iw (p : Int) + iw (k : Int) = iw ((60 * p + k : Nat) : Int) := by
  rw [show (60 : Int32) = iw ((60 : Nat) : Int) from rfl, iw_mul, iw_add]
  congr 1
theorem i60' (p : Nat) : (60 : Int32) * iw (p : Int) = iw ((60 * p : Nat) : Int) := by
  rw [show (60 : Int32) = iw ((60 : Nat) : Int) from rfl, iw_mul]
  congr 1
theorem iw_m1 (n : Nat) : iw ((n + 1 : Nat) : Int) - 1 = iw (n : Int) := by
  rw [show (1 : Int32) = iw 1 from rfl, iw_sub]
  congr 1
  omega
theorem iw_p1 (a : Int) : iw a + (-1) = iw (a - 1) := by
  rw [show (-1 : Int32) = iw (-1) from rfl, iw_add]
  rfl
/-! the engine's numbers -/
def EA (M : Mem) (p v : Nat) : Prop := p < 130 ∧ ∃ (n : Nat) (D : Nat → Nat), n ≤ 60 ∧ cI M 1028 p = iw (n : Int) ∧ (∀ k, k < n → cI M 1027 (60 * p + k) = iw (D k : Nat) ∧ D k < 65536) ∧ Vl 65536 D n = v ∧ (0 < n → D (n - 1) ≠ 0)
def ES (M : Mem) (p : Nat) (x : Int) : Prop := (cI M 1029 p = 0 ∨ cI M 1029 p = 1) ∧ (x ≠ 0 → (cI M 1029 p = 1 ↔ x < 0))
def EB (M : Mem) (p : Nat) (x : Int) : Prop := EA M p x.natAbs ∧ ES M p x
def pA (p : Nat) : Nat → Nat → Prop := fun a i => (a = 1027 ∧ 60 * p ≤ i ∧ i < 60 * p + 60) ∨ (a = 1028 ∧ i = p)
def pB (p : Nat) : Nat → Nat → Prop := fun a i => (a = 1027 ∧ 60 * p ≤ i ∧ i < 60 * p + 60) ∨ (a = 1028 ∧ i = p) ∨ (a = 1029 ∧ i = p)
theorem pA_B {p : Nat} : ∀ a i, pA p a i → pB p a i := fun a i q => by unfold pA at q; unfold pB; omega
theorem EA.dw {P : Nat → Nat → Prop} {M A : Mem} {p v : Nat} (e : EA M p v) (h : ST M) (d : Dw P M A) (hP : ∀ a i, pA p a i → ¬ P a i) : EA A p v := by
  obtain ⟨hp, n, D, h1, h2, h3, h4, h5⟩ := e
  refine ⟨hp, n, D, h1, ?_, fun k hk => ⟨?_, (h3 k hk).2⟩, h4, h5⟩
  · rw [d.ci h (by decide) (hP _ _ (Or.inr ⟨rfl, rfl⟩))]; exact h2
  · rw [d.ci h (by decide) (hP _ _ (Or.inl ⟨rfl, by omega, by omega⟩))]; exact (h3 k hk).1
theorem ES.dw {P : Nat → Nat → Prop} {M A : Mem} {p : Nat} {x : Int} (e : ES M p x) (h : ST M) (d : Dw P M A) (hP : ¬ P 1029 p) : ES A p x := by
  unfold ES at *
  rw [d.ci h (by decide) hP]
  exact e
theorem EB.dw {P : Nat → Nat → Prop} {M A : Mem} {p : Nat} {x : Int} (e : EB M p x) (h : ST M) (d : Dw P M A) (hP : ∀ a i, pB p a i → ¬ P a i) : EB A p x :=
  ⟨e.1.dw h d (fun a i q => hP a i (pA_B a i q)), e.2.dw h d (hP _ _ (Or.inr (Or.inr ⟨rfl, rfl⟩)))⟩
/-- the digits of a place, as they stand -/
theorem ai27 {M : Mem} (h : ST M) {j : Nat} (hj : j < 7800) : ai M 1027 (iw (j : Int)) = some (cI M 1027 j) := ai_of (t1027 h) (l1027 h) hj (by decide)
theorem ai28 {M : Mem} (h : ST M) {j : Nat} (hj : j < 130) : ai M 1028 (iw (j : Int)) = some (cI M 1028 j) := ai_of (t1028 h) (l1028 h) hj (by decide)
theorem ab29 {M : Mem} (h : ST M) {j : Nat} (hj : j < 130) : ab M 1029 (iw (j : Int)) = some (cI M 1029 j) := ab_of (Or.inl (t1029 h)) (l1029 h) hj (by decide)
theorem si27 {M : Mem} (h : ST M) {j : Nat} (hj : j < 7800) (v : Int32) : si M 1027 (iw (j : Int)) v = some (wI M 1027 j v) := si_of v (t1027 h) (l1027 h) hj (by decide)
theorem si28 {M : Mem} (h : ST M) {j : Nat} (hj : j < 130) (v : Int32) : si M 1028 (iw (j : Int)) v = some (wI M 1028 j v) := si_of v (t1028 h) (l1028 h) hj (by decide)
theorem sb29 {M : Mem} (h : ST M) {j : Nat} (hj : j < 130) {v : Int32} (hv : v = 0 ∨ v = 1) : sb M 1029 (iw (j : Int)) v = some (wI M 1029 j v) := by
  have hi : m_in M 1029 (iw (j : Int)) = true := by
    have := ab29 h hj
    unfold ab at this
    split at this
    · rename_i q; exact q.2
    · exact absurd this (by simp)
  unfold sb
  rw [if_pos hi, if_pos (t1029 h), iw_clamp (by omega) (by omega)]
  congr 2
  rcases hv with rfl | rfl <;> rfl
/-- what is left of digits without the zeros at the top -/
theorem E_trim {M : Mem} {p n : Nat} {D : Nat → Nat} (h : ST M) (hp : p < 130) (hn : n ≤ 60) (hd : ∀ k, k < n → cI M 1027 (60 * p + k) = iw (D k : Nat) ∧ D k < 65536) : F_X9_trim M 1026 (iw (p : Int)) (iw (n : Int)) = some (wI M 1028 p (iw (trl D n : Nat))) := by
  have fin : ∀ m : Nat, F_X9_trim_b28 M 1026 (iw (p : Int)) (iw (m : Int)) = some (wI M 1028 p (iw (m : Int))) := fun m => by
    simp only [F_X9_trim_b28, g1026_641, h, si28 h hp, Option.bind_some]
  have lp : ∀ (n N : Nat), n ≤ 60 → (∀ k, k < n → cI M 1027 (60 * p + k) = iw (D k : Nat) ∧ D k < 65536) → F_X9_trim_b2 (N + 1 + n) M 1026 (iw (p : Int)) (iw (n : Int)) = some (wI M 1028 p (iw (trl D n : Nat))) := by
    intro n
    induction n with
    | zero =>
      intro N _ _
      show F_X9_trim_b2_st (F_X9_trim_b2 N) M 1026 _ _ = _
      unfold F_X9_trim_b2_st
      rw [if_neg (by rw [iw_0lt (by omega) (by omega)]; omega)]
      exact fin 0
    | succ n ih =>
      intro N hn hd
      show F_X9_trim_b2_st (F_X9_trim_b2 (N + 1 + n)) M 1026 _ _ = _
      unfold F_X9_trim_b2_st
      rw [if_pos (by rw [iw_0lt (by omega) (by omega)]; omega), i60, show 60 * p + (n + 1) = 60 * p + n + 1 by omega, iw_m1]
      simp only [g1026_640, h, ai27 h (show 60 * p + n < 7800 by omega), (hd n (by omega)).1, Option.bind_some]
      have h2 := (hd n (by omega)).2
      by_cases c : D n = 0
      · rw [if_pos (by rw [iw_eq0 (by omega) (by omega)]; omega), iw_p1, show ((n + 1 : Nat) : Int) - 1 = (n : Int) by omega, ih N (by omega) (fun k hk => hd k (by omega))]
        simp only [trl, c, if_true]
      · rw [if_neg (by rw [iw_eq0 (by omega) (by omega)]; omega), fin]
        simp only [trl, c, if_false]
  have hxN : xN = 1099511627776 := rfl
  obtain ⟨N, hN⟩ : ∃ N, N + 1 + n = xN := ⟨xN - 1 - n, by omega⟩
  unfold F_X9_trim
  rw [← hN]
  exact lp n N hn hd
theorem EA.trim {M : Mem} {p n v : Nat} {D : Nat → Nat} (hp : p < 130) (hn : n ≤ 60) (hd : ∀ k, k < n → cI M 1027 (60 * p + k) = iw (D k : Nat) ∧ D k < 65536) (hv : Vl 65536 D n = v) : EA (wI M 1028 p (iw (trl D n : Nat))) p v := by
  have l := trl_le D n
  refine ⟨hp, trl D n, D, by omega, by rw [cI_wI, if_pos ⟨rfl, rfl⟩], fun k hk => ⟨?_, (hd k (by omega)).2⟩, by rw [Vl_trl]; exact hv, trl_top⟩
  rw [cI_wI, if_neg (by omega)]
  exact (hd k (by omega)).1
theorem k16 : (65536 : Int64) = nl 65536 := nl_lit 65536
theorem n16 : ¬ nl 65536 = 0 := fun z => absurd ((nl_eq (m := 65536) (n := 0) (by decide) (by decide)).mp z) (by decide)
theorem dgs (v : Int64) {p : Nat} (h2 : 2 ≤ p) (hp : p ≤ 1000000007) : (v / nl p).toInt.natAbs = v.toInt.natAbs / p ∧ (j_lrem v (nl p)).toInt.natAbs = v.toInt.natAbs % p := by
  rw [ldiv_i v h2 hp, lrem_i v h2 hp, Int.natAbs_tdiv, Int.natAbs_tmod, Int.natAbs_natCast]
  exact ⟨rfl, rfl⟩
/-- set -/
theorem E_set_l {p : Nat} (hp : p < 130) : ∀ (e N k : Nat) (M : Mem) (v : Int64), v.toInt.natAbs < 65536 ^ e → k + e ≤ 60 → ST M → ∃ (M' : Mem) (n : Nat) (D : Nat → Nat), F_X9_set_b23 (N + 1 + e) M 1026 (iw (p : Int)) v (iw (k : Int)) = some M' ∧ n ≤ e ∧ Vl 65536 D n = v.toInt.natAbs ∧ (0 < n → D (n - 1) ≠ 0) ∧ (∀ i, i < n → cI M' 1027 (60 * p + (k + i)) = iw (D i : Nat) ∧ D i < 65536) ∧ cI M' 1028 p = iw ((k + n : Nat) : Int) ∧ (∀ i, i < k → cI M' 1027 (60 * p + i) = cI M 1027 (60 * p + i)) ∧ Dw (pA p) M M' := by
  intro e
  induction e with
  | zero =>
    intro N k M v hv hk h
    have hv0 : v = 0 := by
      rw [i64_eq]
      have : (0 : Int64).toInt = 0 := by decide
      rw [Nat.pow_zero] at hv
      omega
    subst hv0
    refine ⟨wI M 1028 p (iw (k : Int)), 0, fun _ => 0, ?_, Nat.le_refl _, rfl, fun q => absurd q (Nat.lt_irrefl 0), fun i hi => absurd hi (by omega), by rw [cI_wI, if_pos ⟨rfl, rfl⟩]; rfl, fun i hi => by rw [cI_wI, if_neg (by omega)], Dw.w _ (Or.inr ⟨rfl, rfl⟩)⟩
    show F_X9_set_b23_st (F_X9_set_b23 N) M 1026 _ _ _ = _
    unfold F_X9_set_b23_st
    rw [if_pos rfl]
    simp only [g1026_641, h, si28 h hp, Option.bind_some]
  | succ e ih =>
    intro N k M v hv hk h
    by_cases hv0 : v = 0
    · subst hv0
      refine ⟨wI M 1028 p (iw (k : Int)), 0, fun _ => 0, ?_, by omega, rfl, fun q => absurd q (Nat.lt_irrefl 0), fun i hi => absurd hi (by omega), by rw [cI_wI, if_pos ⟨rfl, rfl⟩]; rfl, fun i hi => by rw [cI_wI, if_neg (by omega)], Dw.w _ (Or.inr ⟨rfl, rfl⟩)⟩
      show F_X9_set_b23_st (F_X9_set_b23 (N + 1 + e)) M 1026 _ _ _ = _
      unfold F_X9_set_b23_st
      rw [if_pos rfl]
      simp only [g1026_641, h, si28 h hp, Option.bind_some]
    · have z0 : v.toInt ≠ 0 := fun q => hv0 (i64_eq.mpr (q.trans (by decide)))
      obtain ⟨a1, a2⟩ := dgs v (p := 65536) (by decide) (by decide)
      obtain ⟨v', hv'⟩ : ∃ v', v' = v / nl 65536 := ⟨_, rfl⟩
      obtain ⟨w, hw⟩ : ∃ w, w = j_lrem v (nl 65536) := ⟨_, rfl⟩
      rw [← hv'] at a1
      rw [← hw] at a2
      obtain ⟨d, hd⟩ : ∃ d, d = v.toInt.natAbs % 65536 := ⟨_, rfl⟩
      have dlt : d < 65536 := by rw [hd]; exact Nat.mod_lt _ (by decide)
      obtain ⟨M1, hM1⟩ : ∃ M1, M1 = wI M 1027 (60 * p + k) (iw (d : Nat)) := ⟨_, rfl⟩
      have s1 : ST M1 := hM1 ▸ h
      obtain ⟨M', n, D, r1, r2, r3, r4, r5, r6, r7, r8⟩ := ih N (k + 1) M1 v' (by
        rw [a1]
        rw [Nat.pow_succ] at hv
        exact Nat.div_lt_of_lt_mul (by rw [Nat.mul_comm]; exact hv)) (by omega) s1
      have dw1 : Dw (pA p) M M1 := hM1 ▸ Dw.w _ (Or.inl ⟨rfl, by omega, by omega⟩)
      refine ⟨M', n + 1, fun i => if i = 0 then d else D (i - 1), ?_, by omega, ?_, ?_, ?_, by rw [r6]; congr 2; omega, ?_, dw1.trans r8⟩
      · rw [← r1]
        show F_X9_set_b23_st (F_X9_set_b23 (N + 1 + e)) M 1026 _ _ _ = _
        unfold F_X9_set_b23_st
        simp only [k16, ← hw]
        rw [if_neg hv0, if_neg n16]
        have q : w.toInt32 = iw (w.toInt) := by
          apply ui_inj
          rw [un_i32]
          have h1 := un_int w
          have h2 := ui_iw w.toInt
          omega
        have a2' : w.toInt.natAbs = d := a2.trans hd.symm
        simp only [g1026_640, h, Option.bind_some, i60, q, F_X9_set_b63, k16, ← hv']
        by_cases c : w.toInt < 0
        · rw [if_pos (by rw [iw_lt0 (by omega) (by omega)]; exact c), iw_neg', show -w.toInt = (d : Int) by omega, si27 h (by omega), ← hM1]
          simp only [Option.bind_some, iw_succ]
          rw [if_neg n16]
        · rw [if_neg (by rw [iw_lt0 (by omega) (by omega)]; exact c), show w.toInt = (d : Int) by omega, si27 h (by omega), ← hM1]
          simp only [Option.bind_some, iw_succ]
          rw [if_neg n16]
      · rw [Vl_head]
        have : Vl 65536 (fun k => if k + 1 = 0 then d else D (k + 1 - 1)) n = Vl 65536 D n := Vl_congr (fun k _ => by rw [if_neg (by omega)]; rfl)
        show (if 0 = 0 then d else D (0 - 1)) + 65536 * Vl 65536 (fun k => if k + 1 = 0 then d else D (k + 1 - 1)) n = _
        rw [this, r3, a1, if_pos rfl, hd]
        omega
      · intro _
        show (if n + 1 - 1 = 0 then d else D (n + 1 - 1 - 1)) ≠ 0
        by_cases c : n = 0
        · subst c
          rw [if_pos rfl]
          have r3' : 0 = v'.toInt.natAbs := r3
          rw [a1] at r3'
          omega
        · rw [if_neg (by omega)]
          exact r4 (by omega)
      · intro i hi
        show cI M' 1027 (60 * p + (k + i)) = iw ((if i = 0 then d else D (i - 1) : Nat) : Int) ∧ (if i = 0 then d else D (i - 1)) < 65536
        by_cases c : i = 0
        · subst c
          rw [if_pos rfl]
          refine ⟨?_, dlt⟩
          have := r7 k (by omega)
          rw [Nat.add_zero, this, hM1, cI_wI, if_pos ⟨rfl, rfl⟩]
        · rw [if_neg c]
          have := r5 (i - 1) (by omega)
          rw [show k + 1 + (i - 1) = k + i by omega] at this
          exact this
      · intro i hi
        rw [r7 i (by omega), hM1, cI_wI, if_neg (by omega)]
theorem E_set {M : Mem} (h : ST M) {p : Nat} (hp : p < 130) (v : Int64) : ∃ M', F_X9_set M 1026 (iw (p : Int)) v = some M' ∧ EB M' p v.toInt ∧ Dw (pB p) M M' := by
  have hxN : xN = 1099511627776 := rfl
  have r := i64_rng v
  have z0 : (0 : Int64).toInt = 0 := by decide
  obtain ⟨b, hb⟩ : ∃ b : Int32, b = if v < 0 then 1 else 0 := ⟨_, rfl⟩
  have hb1 : b = 0 ∨ b = 1 := by rw [hb]; split <;> simp
  have vl : v < 0 ↔ v.toInt < 0 := by rw [Int64.lt_iff_toInt_lt, z0]
  obtain ⟨N, hN⟩ : ∃ N, N + 1 + 4 = xN := ⟨xN - 5, by omega⟩
  obtain ⟨M', n, D, r1, r2, r3, r4, r5, r6, r7, r8⟩ := E_set_l hp 4 N 0 (wI M 1029 p b) v (by
    have : (65536 : Nat) ^ 4 = 18446744073709551616 := by decide
    omega) (by omega) h
  rw [hN] at r1
  refine ⟨M', ?_, ⟨⟨hp, n, D, by omega, by rw [r6, Nat.zero_add], fun k hk => by have := r5 k hk; rw [Nat.zero_add] at this; exact this, r3, r4⟩, ?_⟩, (Dw.w b (Or.inr (Or.inr ⟨rfl, rfl⟩))).trans (r8.mono pA_B)⟩
  · unfold F_X9_set F_X9_set_b16
    rw [g1026_642 h, Option.bind_some]
    rw [hb] at r1
    split
    · rename_i c
      rw [if_pos c] at r1
      rw [sb29 h hp (Or.inr rfl), Option.bind_some]
      exact r1
    · rename_i c
      rw [if_neg c] at r1
      rw [sb29 h hp (Or.inl rfl), Option.bind_some]
      exact r1
  · have e : cI M' 1029 p = b := by
      rw [r8.ci (M := wI M 1029 p b) h (by decide) (by unfold pA; omega), cI_wI, if_pos ⟨rfl, rfl⟩]
    unfold ES
    rw [e]
    refine ⟨hb1, fun hx => ?_⟩
    rw [hb, ← vl]
    split
    · rename_i c; simp [c]
    · rename_i c; simp [c]
