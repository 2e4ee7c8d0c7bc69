/-! ===== EXACT SOLUTIONS, 13: elimination in the abstract; the engine clears a row ===== -/
def pvt (A : Nat → Vc) (n k : Nat) : Nat → Nat
  | 0 => n
  | e + 1 => if A (n - (e + 1)) k = 0 then pvt A n k e else n - (e + 1)
/-- one step: row r comes up to k -/
def stp (A : Nat → Vc) (k r : Nat) (q : Int) : Nat → Vc := fun i j => if i = k then A (swr k r k) j else (A (swr k r k) k * A (swr k r i) j - A (swr k r i) k * A (swr k r k) j).tdiv q
def red (n : Nat) : Nat → Nat → Int → (Nat → Vc) → Option (Int × (Nat → Vc))
  | 0, _, q, A => some (q, A)
  | e + 1, k, q, A => if pvt A n k (n - k) = n then none else red n e (k + 1) (A (pvt A n k (n - k)) k) (stp A k (pvt A n k (n - k)) q)
theorem pvt_ge {A : Nat → Vc} {n k : Nat} : ∀ e, e ≤ n → n - e ≤ pvt A n k e ∧ pvt A n k e ≤ n ∧ (pvt A n k e < n → A (pvt A n k e) k ≠ 0) := by
  intro e
  induction e with
  | zero => intro _; exact ⟨by show n - 0 ≤ n; omega, Nat.le_refl _, fun q => absurd q (Nat.lt_irrefl n)⟩
  | succ e ih =>
    intro he
    have := ih (by omega)
    unfold pvt
    split
    · exact ⟨by omega, this.2⟩
    · rename_i c
      exact ⟨Nat.le_refl _, by omega, fun _ => c⟩
theorem Ba.stp {n b k : Nat} {q : Int} {A A0 : Nat → Vc} (h : Ba n b k q A A0) (hb : 1 ≤ b) (hk : k < n) (hr : pvt A n k (n - k) ≠ n) : ∃ A0', Ba n b (k + 1) (A (pvt A n k (n - k)) k) (stp A k (pvt A n k (n - k)) q) A0' ∧ Ba n b k q (fun i => A (swr k (pvt A n k (n - k)) i)) A0' := by
  obtain ⟨p1, p2, p3⟩ := pvt_ge (A := A) (k := k) (n := n) (n - k) (by omega)
  obtain ⟨r, hrr⟩ : ∃ r, r = pvt A n k (n - k) := ⟨_, rfl⟩
  rw [← hrr] at p1 p2 p3 hr ⊢
  have hs := h.swap (r := r) hk (by omega) (by omega)
  have skk : swr k r k = r := by unfold swr; rw [if_pos rfl]
  have pk : A (swr k r k) k ≠ 0 := by rw [skk]; exact p3 (by omega)
  refine ⟨fun i => A0 (swr k r i), ?_, hs⟩
  have := hs.step (A' := Jvm.Pilot.CGridEngineLaw_law_r3943_d802ca.stp A k r q) hb hk pk (by funext j; unfold Jvm.Pilot.CGridEngineLaw_law_r3943_d802ca.stp; rw [if_pos rfl]) (fun i hi hik j => by
    obtain ⟨D, d1, -⟩ := hs.quo hb hk pk hi hik j
    unfold Jvm.Pilot.CGridEngineLaw_law_r3943_d802ca.stp
    rw [if_neg hik, d1, Int.mul_tdiv_cancel_left _ h.q0])
  rw [show A (swr k r k) k = A r k by rw [skk]] at this
  exact this
theorem fct10 {n : Nat} (h : n ≤ 10) : fct n * 2147483648 ^ n < 2 ^ 336 := by
  have h1 := fct_mono h
  have h2 : 2147483648 ^ n ≤ 2147483648 ^ 10 := Nat.pow_le_pow_right (by decide) h
  have h3 : fct n * 2147483648 ^ n ≤ fct 10 * 2147483648 ^ 10 := Nat.mul_le_mul h1 h2
  have h4 : fct 10 * 2147483648 ^ 10 < 2 ^ 336 := by decide +kernel
  omega
theorem mul336 {a b : Nat} (ha : a < 2 ^ 336) (hb : b < 2 ^ 336) : a * b < 2 ^ 672 := by
  have h1 : a * b < 2 ^ 336 * 2 ^ 336 := Nat.mul_lt_mul'' ha hb
  rw [← Nat.pow_add] at h1
  exact h1
theorem p16_21 : (65536 : Nat) ^ 21 = 2 ^ 336 := by rw [show (65536 : Nat) = 2 ^ 16 from rfl, ← Nat.pow_mul]
theorem p28_12 : (268435456 : Nat) ^ 12 = 2 ^ 336 := by rw [show (268435456 : Nat) = 2 ^ 28 from rfl, ← Nat.pow_mul]
theorem p16_59 : 2 ^ 672 + 2 ^ 672 ≤ (65536 : Nat) ^ 59 := by rw [show (65536 : Nat) = 2 ^ 16 from rfl, ← Nat.pow_mul]; decide +kernel
theorem p28_39 : 2 ^ 672 + 2 ^ 672 ≤ (268435456 : Nat) ^ 39 := by rw [show (268435456 : Nat) = 2 ^ 28 from rfl, ← Nat.pow_mul]; decide +kernel
/-- places of the engine's numbers that may change -/
def pT (S : Nat → Prop) : Nat → Nat → Prop := fun a c => (a = 1027 ∧ S (c / 60)) ∨ ((a = 1028 ∨ a = 1029) ∧ S c) ∨ a = 1030 ∨ a = 1031
theorem pB_T {S : Nat → Prop} {t : Nat} (h : S t) : ∀ a c, pB t a c → pT S a c := fun a c q => by
  rcases q with ⟨q1, q2, q3⟩ | ⟨q1, q2⟩ | ⟨q1, q2⟩
  · exact Or.inl ⟨q1, by rw [show c / 60 = t by omega]; exact h⟩
  · exact Or.inr (Or.inl ⟨Or.inl q1, by rw [q2]; exact h⟩)
  · exact Or.inr (Or.inl ⟨Or.inr q1, by rw [q2]; exact h⟩)
theorem pB_nT {S : Nat → Prop} {t : Nat} (h : ¬ S t) : ∀ a c, pB t a c → ¬ pT S a c := fun a c q z => by
  rcases q with ⟨q1, q2, q3⟩ | ⟨q1, q2⟩ | ⟨q1, q2⟩
  · rcases z with ⟨z1, z2⟩ | ⟨z1, z2⟩ | z | z
    · exact h (by rw [show c / 60 = t by omega] at z2; exact z2)
    · omega
    · omega
    · omega
  · rcases z with ⟨z1, z2⟩ | ⟨z1, z2⟩ | z | z
    · omega
    · exact h (by rw [q2] at z2; exact z2)
    · omega
    · omega
  · rcases z with ⟨z1, z2⟩ | ⟨z1, z2⟩ | z | z
    · omega
    · exact h (by rw [q2] at z2; exact z2)
    · omega
    · omega
theorem pD_T {S : Nat → Prop} {t u : Nat} (h : S t) (k : S u) : ∀ a c, pD t u a c → pT S a c := fun a c q => by
  rcases q with q | q | q | q
  · exact pB_T h a c q
  · exact pB_T k a c q
  · exact Or.inr (Or.inr (Or.inl q))
  · exact Or.inr (Or.inr (Or.inr q))
theorem pT_mono {S S' : Nat → Prop} (h : ∀ t, S t → S' t) : ∀ a c, pT S a c → pT S' a c := fun a c q => by
  rcases q with ⟨q1, q2⟩ | ⟨q1, q2⟩ | q
  · exact Or.inl ⟨q1, h _ q2⟩
  · exact Or.inr (Or.inl ⟨q1, h _ q2⟩)
  · exact Or.inr (Or.inr q)
theorem EB.dt {S : Nat → Prop} {M A : Mem} {t : Nat} {x : Int} (e : EB M t x) (h : ST M) (d : Dw (pT S) M A) (hs : ¬ S t) : EB A t x := e.dw h d (pB_nT hs)
/-- the engine's rows -/
def ERw (M : Mem) (n : Nat) (ρ : Nat → Nat) (A : Nat → Vc) : Prop := n ≤ 10 ∧ cI M 1025 577 = iw (n : Int) ∧ (∀ i, i < n → cI M 1032 i = iw (ρ i : Nat) ∧ ρ i < 10) ∧ (∀ i j, i < n → j < n → ρ i = ρ j → i = j) ∧ ∀ i, i < n → ∀ j, j ≤ n → EB M (11 * ρ i + j) (A i j)
def ERr (M : Mem) (n : Nat) (ρ : Nat → Nat) : Prop := n ≤ 10 ∧ cI M 1025 577 = iw (n : Int) ∧ (∀ i, i < n → cI M 1032 i = iw (ρ i : Nat) ∧ ρ i < 10) ∧ (∀ i j, i < n → j < n → ρ i = ρ j → i = j)
theorem E_plc {M : Mem} (h : ST M) {n : Nat} {ρ : Nat → Nat} {i : Nat} (j : Nat) (hi : i < 10) (hr : cI M 1032 i = iw (ρ i : Nat)) : F_X8_place M 1025 (iw (i : Int)) (iw (j : Int)) = some (iw ((11 * ρ i + j : Nat) : Int)) := by
  simp only [F_X8_place, g1025_578, h, ai_of (t1032 h) (l1032 h) hi (by decide), hr, Option.bind_some]
  rw [show (11 : Int32) = iw ((11 : Nat) : Int) from rfl, iw_mul, iw_add]
  congr 2
  have : ((11 * ρ i + j : Nat) : Int) = (ρ i : Int) * ((11 : Nat) : Int) + (j : Int) := by omega
  exact this.symm
theorem bnd21 {x : Int} (h : x.natAbs < 2 ^ 336) : x.natAbs < 65536 ^ 21 ∧ x.natAbs < 268435456 ^ 12 := ⟨by rw [p16_21]; exact h, by rw [p28_12]; exact h⟩
def sRow (r : Nat) : Nat → Prop := fun s => (r ≤ s ∧ s < r + 11) ∨ (120 ≤ s ∧ s ≤ 123)
/-- the end of one number's work -/
theorem E_b87 {M : Mem} (h : ST M) {ρ : Nat → Nat} {i j : Nat} {k : Int32} {a b q : Int} {k5 : Mem → Nat → Int32 → Int32 → Int32 → Option Mem} (e0 : EB M 120 a) (e1 : EB M 121 b) (e5 : EB M 125 q) (q0 : q ≠ 0) (ha : a.natAbs < 65536 ^ 59) (hb : b.natAbs < 65536 ^ 59) (hi : i < 10) (hr : cI M 1032 i = iw (ρ i : Nat)) (hr2 : ρ i < 10) (hj : j ≤ 10) :
    ∃ M', F_X8_clearRow_b87 k5 M 1025 (iw (i : Int)) k (iw (j : Int)) = k5 M' 1025 (iw (i : Int)) k (iw ((j : Int) - 1)) ∧ EB M' (11 * ρ i + j) ((a - b).tdiv q) ∧ Dw (pT (fun s => s = 11 * ρ i + j ∨ s = 122 ∨ s = 123)) M M' := by
  obtain ⟨A, a1, a2, a3⟩ := E_sub (to := 122) h e0 e1 ha hb (by decide) (by decide) (by decide)
  have sA := a3.st h
  have hrA : cI A 1032 i = iw (ρ i : Nat) := by rw [a3.ci h (by decide) (by unfold pB; omega)]; exact hr
  have pl := E_plc (n := 10) sA j hi hrA
  obtain ⟨B, b1, b2, b3, b4⟩ := E_div (p := 122) (q := 125) (to := 11 * ρ i + j) (lf := 123) sA a2 (e5.dw h a3 (fun a c z => by unfold pB at *; omega)) q0 (by omega) (by decide) (by omega) (by omega) (by decide) (by decide) (by omega)
  refine ⟨B, ?_, b2, (a3.mono (pB_T (Or.inr (Or.inl rfl)))).trans (b4.mono (pD_T (Or.inl rfl) (Or.inr (Or.inr rfl))))⟩
  have a1' : F_X9_subtract M 1026 120 121 122 = some A := a1
  have b1' : F_X9_divide A 1026 122 125 (iw ((11 * ρ i + j : Nat) : Int)) 123 = some B := b1
  simp only [F_X8_clearRow_b87, g1025_576, v1026, v1025, h, a1', sA, pl, b1', Option.bind_some, F_X8_clearRow_b119, iw_p1]
theorem E_clearRow {M : Mem} (h : ST M) {n k i : Nat} {ρ : Nat → Nat} {A A0 : Nat → Vc} {q : Int} (er : ERr M n ρ) (mi : ∀ j, j ≤ n → EB M (11 * ρ i + j) (A i j)) (mk : ∀ j, j ≤ n → EB M (11 * ρ k + j) (A k j)) (e5 : EB M 125 q) (ba : Ba n 2147483648 k q A A0) (hk : k < n) (hp : A k k ≠ 0) (hi : i < n) (hik : i ≠ k) :
    ∃ M', F_X8_clearRow M 1025 (iw (i : Int)) (iw (k : Int)) = some M' ∧ (∀ j, j ≤ n → EB M' (11 * ρ i + j) ((A k k * A i j - A i k * A k j).tdiv q)) ∧ Dw (pT (sRow (11 * ρ i))) M M' := by
  obtain ⟨n10, c577, rows, inj⟩ := er
  have q0 := ba.q0
  have B336 : ∀ x y, x < n → y ≤ n → (A x y).natAbs < 2 ^ 336 := fun x y hx hy => Nat.lt_of_le_of_lt (ba.cc x hx y hy) (fct10 n10)
  have ri := rows i hi
  have rk := rows k hk
  have rne : ρ i ≠ ρ k := fun z => hik (inj i k hi hk z)
  have dz : ∀ j, j < k → j ≠ i → A i j = 0 ∧ (A k k * A i j - A i k * A k j).tdiv q = 0 := fun j hj hji => by
    have z1 : A i j = 0 := ba.z j hj i hi (fun z => hji z.symm)
    have z2 : A k j = 0 := ba.z j hj k hk (by omega)
    exact ⟨z1, by rw [z1, z2, Int.mul_zero, Int.mul_zero]; exact Int.zero_tdiv q⟩
  have dk : (A k k * A i k - A i k * A k k).tdiv q = 0 := by
    rw [Int.mul_comm, Int.sub_self]
    exact Int.zero_tdiv q
  have cond : ∀ {B : Mem}, Dw (pT (sRow (11 * ρ i))) M B → ST B ∧ cI B 1032 i = iw (ρ i : Nat) ∧ cI B 1032 k = iw (ρ k : Nat) ∧ EB B 125 q ∧ ∀ j, j ≤ n → EB B (11 * ρ k + j) (A k j) := fun {B} d => by
    refine ⟨d.st h, ?_, ?_, e5.dt h d (by unfold sRow; omega), fun j hj => (mk j hj).dt h d (by unfold sRow; omega)⟩
    · rw [d.ci h (by decide) (by unfold pT; omega)]; exact ri.1
    · rw [d.ci h (by decide) (by unfold pT; omega)]; exact rk.1
  have one : ∀ (N : Nat) (B : Mem) (j : Nat), j ≤ n → j ≠ k → (j < k → j = i) → Dw (pT (sRow (11 * ρ i))) M B → EB B (11 * ρ i + j) (A i j) → EB B (11 * ρ i + k) (A i k) → ∃ B', F_X8_clearRow_b5 (N + 1) B 1025 (iw (i : Int)) (iw (k : Int)) (iw (j : Int)) = F_X8_clearRow_b5 N B' 1025 (iw (i : Int)) (iw (k : Int)) (iw ((j : Int) - 1)) ∧ EB B' (11 * ρ i + j) ((A k k * A i j - A i k * A k j).tdiv q) ∧ Dw (pT (fun s => s = 11 * ρ i + j ∨ (120 ≤ s ∧ s ≤ 123))) B B' := by
    intro N B j hj hjk hji d ej ek
    obtain ⟨sB, c1, c2, c5, ck⟩ := cond d
    obtain ⟨C, m1, m2, m3⟩ := E_mul (to := 120) (a := 21) (b := 21) sB (ck k (by omega)) ej (bnd21 (B336 k k hk (by omega))).1 (bnd21 (B336 i j hi hj)).1 (by decide) (by decide) (by omega) (by omega)
    have sC := m3.st sB
    have hd : F_X8_clearRow_b5 (N + 1) B 1025 (iw (i : Int)) (iw (k : Int)) (iw (j : Int)) = F_X8_clearRow_b19 (F_X8_clearRow_b5 N) B 1025 (iw (i : Int)) (iw (k : Int)) (iw (j : Int)) := by
      show F_X8_clearRow_b5_st (F_X8_clearRow_b5 N) B 1025 _ _ _ = _
      unfold F_X8_clearRow_b5_st
      rw [if_neg (by rw [iw_lt0 (by omega) (by omega)]; omega)]
      by_cases c : j < k
      · rw [if_pos (by rw [iw_le4 (by omega) (by omega)]; exact c), if_pos (by rw [hji c])]
      · rw [if_neg (by rw [iw_le4 (by omega) (by omega)]; exact c)]
    have njk : ¬ iw (j : Int) = iw (k : Int) := fun z => hjk (by have := (iw_eq (by omega) (by omega) (by omega) (by omega)).mp z; omega)
    have plk := E_plc (n := n) sB k (show k < 10 by omega) c2
    have plj := E_plc (n := n) sB j (show i < 10 by omega) c1
    have c1C : cI C 1032 i = iw (ρ i : Nat) := by rw [m3.ci sB (by decide) (by unfold pB; omega)]; exact c1
    have c2C : cI C 1032 k = iw (ρ k : Nat) := by rw [m3.ci sB (by decide) (by unfold pB; omega)]; exact c2
    have m1' : F_X9_multiply B 1026 (iw ((11 * ρ k + k : Nat) : Int)) (iw ((11 * ρ i + j : Nat) : Int)) 120 = some C := m1
    have n1 : (A k k * A i j).natAbs < 2 ^ 672 := by rw [Int.natAbs_mul]; exact mul336 (B336 k k hk (by omega)) (B336 i j hi hj)
    have n2 : (A i k * A k j).natAbs < 2 ^ 672 := by rw [Int.natAbs_mul]; exact mul336 (B336 i k hi (by omega)) (B336 k j hk hj)
    have p59 := p16_59
    by_cases c : j < k
    · -- the second part is 0
      have z2 : A k j = 0 := ba.z j c k hk (by omega)
      obtain ⟨E, s1, s2, s3⟩ := E_set (p := 121) sC (by decide) 0
      have sE := s3.st sC
      have s1' : F_X9_set C 1026 121 0 = some E := s1
      obtain ⟨B', f1, f2, f3⟩ := E_b87 (ρ := ρ) (i := i) (j := j) (k := iw (k : Int)) (k5 := F_X8_clearRow_b5 N) (q := q) sE (m2.dw sC s3 (fun a c z => by unfold pB at *; omega)) s2 ((c5.dw sB m3 (fun a c z => by unfold pB at *; omega)).dw sC s3 (fun a c z => by unfold pB at *; omega)) q0 (by omega) (by decide) (by omega) (by rw [s3.ci sC (by decide) (by unfold pB; omega)]; exact c1C) ri.2 (by omega)
      refine ⟨B', ?_, ?_, ((m3.mono (pB_T (Or.inr (by decide)))).trans (s3.mono (pB_T (Or.inr (by decide))))).trans (f3.mono (pT_mono (fun t z => by omega)))⟩
      · rw [hd]
        unfold F_X8_clearRow_b19
        rw [if_neg njk]
        simp only [g1025_576, v1025, v1026, sB, plk, plj, m1', Option.bind_some]
        rw [if_pos (by rw [iw_le4 (by omega) (by omega)]; exact c)]
        simp only [g1025_576, v1026, sC, s1', Option.bind_some]
        exact f1
      · rw [z2, Int.mul_zero]
        exact f2
    · obtain ⟨E, s1, s2, s3⟩ := E_mul (to := 121) (a := 21) (b := 21) sC (ek.dw sB m3 (fun a c z => by unfold pB at *; omega)) ((ck j hj).dw sB m3 (fun a c z => by unfold pB at *; omega)) (bnd21 (B336 i k hi (by omega))).1 (bnd21 (B336 k j hk hj)).1 (by decide) (by decide) (by omega) (by omega)
      have sE := s3.st sC
      have s1' : F_X9_multiply C 1026 (iw ((11 * ρ i + k : Nat) : Int)) (iw ((11 * ρ k + j : Nat) : Int)) 121 = some E := s1
      have pik := E_plc (n := n) sC k (show i < 10 by omega) c1C
      have pkj := E_plc (n := n) sC j (show k < 10 by omega) c2C
      obtain ⟨B', f1, f2, f3⟩ := E_b87 (ρ := ρ) (i := i) (j := j) (k := iw (k : Int)) (k5 := F_X8_clearRow_b5 N) (q := q) sE (m2.dw sC s3 (fun a c z => by unfold pB at *; omega)) s2 ((c5.dw sB m3 (fun a c z => by unfold pB at *; omega)).dw sC s3 (fun a c z => by unfold pB at *; omega)) q0 (by omega) (by omega) (by omega) (by rw [s3.ci sC (by decide) (by unfold pB; omega)]; exact c1C) ri.2 (by omega)
      refine ⟨B', ?_, f2, ((m3.mono (pB_T (Or.inr (by decide)))).trans (s3.mono (pB_T (Or.inr (by decide))))).trans (f3.mono (pT_mono (fun t z => by omega)))⟩
      rw [hd]
      unfold F_X8_clearRow_b19
      rw [if_neg njk]
      simp only [g1025_576, v1025, v1026, sB, plk, plj, m1', Option.bind_some]
      rw [if_neg (by rw [iw_le4 (by omega) (by omega)]; exact c)]
      simp only [g1025_576, v1025, v1026, sC, pik, pkj, s1', Option.bind_some]
      exact f1
  obtain ⟨K, B, -, e1, d1, f1⟩ := dnl0 (σ := Unit) (fun N M _ j => F_X8_clearRow_b5 N M 1025 (iw (i : Int)) (iw (k : Int)) j) (n := n + 1) (by omega) (fun c B _ => Dw (pT (sRow (11 * ρ i))) M B ∧ ∀ j, j ≤ n → EB B (11 * ρ i + j) (if j ≠ k ∧ c ≤ j then (A k k * A i j - A i k * A k j).tdiv q else A i j))
    (fun N B _ j hj hJ => by
      obtain ⟨d, f⟩ := hJ
      have sB := d.st h
      -- nothing is done for this one
      have skip : F_X8_clearRow_b5 (N + 1) B 1025 (iw (i : Int)) (iw (k : Int)) (iw (j : Int)) = F_X8_clearRow_b5 N B 1025 (iw (i : Int)) (iw (k : Int)) (iw ((j : Int) - 1)) → (j = k ∨ (A k k * A i j - A i k * A k j).tdiv q = A i j) → ∃ M' s', F_X8_clearRow_b5 (N + 1) B 1025 (iw (i : Int)) (iw (k : Int)) (iw (j : Int)) = F_X8_clearRow_b5 N M' 1025 (iw (i : Int)) (iw (k : Int)) (iw ((j : Int) - 1)) ∧ (Dw (pT (sRow (11 * ρ i))) M M' ∧ ∀ x, x ≤ n → EB M' (11 * ρ i + x) (if x ≠ k ∧ j ≤ x then (A k k * A i x - A i k * A k x).tdiv q else A i x)) := fun hh hv => ⟨B, (), hh, d, fun x hx => by
        have := f x hx
        by_cases c : x = j
        · subst c
          rw [if_neg (by omega)] at this
          rcases hv with hv | hv
          · rw [if_neg (by omega)]; exact this
          · split
            · rw [hv]; exact this
            · exact this
        · by_cases c2 : x ≠ k ∧ j ≤ x
          · rw [if_pos ⟨c2.1, by omega⟩] at this
            rw [if_pos c2]; exact this
          · rw [if_neg (fun z => c2 ⟨z.1, by omega⟩)] at this
            rw [if_neg c2]; exact this⟩
      by_cases cjk : j = k
      · refine skip ?_ (Or.inl cjk)
        show F_X8_clearRow_b5_st (F_X8_clearRow_b5 N) B 1025 _ _ _ = _
        unfold F_X8_clearRow_b5_st F_X8_clearRow_b19 F_X8_clearRow_b119
        subst cjk
        rw [if_neg (by rw [iw_lt0 (by omega) (by omega)]; omega), if_neg (by rw [iw_le4 (by omega) (by omega)]; omega), if_pos rfl, iw_p1]
      · by_cases cs : j < k ∧ j ≠ i
        · refine skip ?_ (Or.inr (by have := dz j cs.1 cs.2; rw [this.1, ← this.1, this.2, this.1]))
          show F_X8_clearRow_b5_st (F_X8_clearRow_b5 N) B 1025 _ _ _ = _
          unfold F_X8_clearRow_b5_st F_X8_clearRow_b119
          rw [if_neg (by rw [iw_lt0 (by omega) (by omega)]; omega), if_pos (by rw [iw_le4 (by omega) (by omega)]; exact cs.1), if_neg (fun z => cs.2 (by have := (iw_eq (by omega) (by omega) (by omega) (by omega)).mp z; omega)), iw_p1]
        · have ej := f j (by omega)
          rw [if_neg (by omega)] at ej
          have ek := f k (by omega)
          rw [if_neg (by omega)] at ek
          obtain ⟨B', g1, g2, g3⟩ := one N B j (by omega) cjk (fun z => Decidable.byContradiction (fun w => cs ⟨z, w⟩)) d ej ek
          refine ⟨B', (), g1, d.trans (g3.mono (pT_mono (fun t z => by unfold sRow; omega))), fun x hx => ?_⟩
          by_cases c : x = j
          · subst c
            rw [if_pos ⟨cjk, Nat.le_refl _⟩]
            exact g2
          · have := (f x hx).dt sB g3 (by omega)
            by_cases c2 : x ≠ k ∧ j ≤ x
            · rw [if_pos ⟨c2.1, by omega⟩] at this
              rw [if_pos c2]; exact this
            · rw [if_neg (fun z => c2 ⟨z.1, by omega⟩)] at this
              rw [if_neg c2]; exact this) (M := M) (s := ()) ⟨Dw.refl _ _, fun j hj => by rw [if_neg (by omega)]; exact mi j hj⟩
  rw [show (((n + 1 : Nat) : Int) - 1) = (n : Int) by omega] at e1
  obtain ⟨sB, c1, c2, c5, ck⟩ := cond d1
  obtain ⟨C, s1, s2, s3⟩ := E_set (p := 11 * ρ i + k) sB (by omega) 0
  have pik := E_plc (n := n) sB k (show i < 10 by omega) c1
  refine ⟨C, ?_, fun j hj => ?_, d1.trans (s3.mono (pB_T (by unfold sRow; omega)))⟩
  · unfold F_X8_clearRow
    rw [show gi M 1025 577 = some (cI M 1025 577) from gi_of (t1025 h) (by decide), Option.bind_some, c577]
    refine Eq.trans e1 ?_
    show F_X8_clearRow_b5_st (F_X8_clearRow_b5 K) B 1025 _ _ _ = _
    unfold F_X8_clearRow_b5_st
    rw [if_pos (by decide)]
    simp only [g1025_576, v1025, v1026, sB, pik, s1, Option.bind_some]
  · by_cases c : j = k
    · subst c
      rw [dk]
      exact s2
    · have := (f1 j hj).dw sB s3 (fun a x z => by unfold pB at *; omega)
      rw [if_pos ⟨c, Nat.zero_le _⟩] at this
      exact this
