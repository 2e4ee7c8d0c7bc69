/-! ===== RUNNING FOLDS, 1: which cell, and what it holds ===== -/
def clo (B len lk i : Nat) : Nat := (lk / B * len + i) * B + lk % B
def lco (B len c : Nat) : Nat := c / B / len * B + c % B
def ico (B len c : Nat) : Nat := c / B % len
theorem clo_back {B len c : Nat} (hB : 0 < B) : clo B len (lco B len c) (ico B len c) = c := by
  unfold clo lco ico
  rw [(md_add (Nat.mod_lt c hB)).1, (md_add (Nat.mod_lt c hB)).2]
  have e1 := Nat.div_add_mod (c / B) len
  rw [Nat.mul_comm] at e1
  rw [e1]
  have e2 := Nat.div_add_mod c B
  rw [Nat.mul_comm] at e2
  exact e2
theorem lco_clo {B len lk i : Nat} (hB : 0 < B) (hi : i < len) : lco B len (clo B len lk i) = lk ∧ ico B len (clo B len lk i) = i := by
  unfold clo lco ico
  rw [(md_add (Nat.mod_lt lk hB)).1, (md_add (Nat.mod_lt lk hB)).2, (md_add hi).1, (md_add hi).2]
  refine ⟨?_, rfl⟩
  have e2 := Nat.div_add_mod lk B
  rw [Nat.mul_comm] at e2
  exact e2
theorem clo_mono {B len lk i i' : Nat} (h : i ≤ i') : clo B len lk i ≤ clo B len lk i' := by
  unfold clo
  have := Nat.mul_le_mul_right B (show lk / B * len + i ≤ lk / B * len + i' by omega)
  omega
theorem clo_lt {B len lk i H : Nat} (hB : 0 < B) (hi : i < len) (hl : lk < H * B) : clo B len lk i < H * len * B := by
  unfold clo
  have h1 : lk / B < H := Nat.div_lt_of_lt_mul (by rw [Nat.mul_comm]; exact hl)
  have h2 := Nat.mul_le_mul_right len (show lk / B + 1 ≤ H by omega)
  rw [Nat.add_mul] at h2
  have h3 := Nat.mul_le_mul_right B (show lk / B * len + i + 1 ≤ H * len by omega)
  rw [Nat.add_mul] at h3
  have h4 := Nat.mod_lt lk hB
  omega
theorem lco_lt {B len c H : Nat} (hB : 0 < B) (hl : c < H * len * B) : lco B len c < H * B := by
  unfold lco
  have h1 : c / B < H * len := Nat.div_lt_of_lt_mul (by rw [Nat.mul_comm]; exact hl)
  have h2 : c / B / len < H := Nat.div_lt_of_lt_mul (by rw [Nat.mul_comm]; exact h1)
  have h3 := Nat.mul_le_mul_right B (show c / B / len + 1 ≤ H by omega)
  rw [Nat.add_mul] at h3
  have h4 := Nat.mod_lt c hB
  omega
/-- the sizes behind an axis -/
def bh (z : Nat → Nat) (a : Nat) : Nat → Nat
  | 0 => 1
  | m + 1 => if a < m then bh z a m * z m else 1
theorem cn_lo {z : Nat → Nat} {a i : Nat} : ∀ m k, m ≤ a → k < prd z m → cn z a i m k = k
  | 0, k, _, h => by
    have h : k < 1 := h
    show 0 = k
    omega
  | m + 1, k, hm, h => by
    have h' : k < prd z m * z m := h
    show (if m = a then cn z a i m k * z m + i else cn z a i m (k / z m) * z m + k % z m) = k
    rw [if_neg (by omega), cn_lo m (k / z m) (by omega) (Nat.div_lt_of_lt_mul (by rw [Nat.mul_comm]; exact h'))]
    have e2 := Nat.div_add_mod k (z m)
    rw [Nat.mul_comm] at e2
    exact e2
theorem pw_lo' {z : Nat → Nat} {a : Nat} : ∀ m, m ≤ a → pw z a m = prd z m
  | 0, _ => rfl
  | m + 1, h => by
    show (if m = a then pw z a m else pw z a m * z m) = prd z m * z m
    rw [if_neg (by omega), pw_lo' m (by omega)]
theorem pw_bh {z : Nat → Nat} {a : Nat} : ∀ m, a < m → pw z a m = prd z a * bh z a m ∧ prd z m = prd z a * z a * bh z a m
  | 0, h => absurd h (by omega)
  | m + 1, h => by
    have e1 : pw z a (m + 1) = if m = a then pw z a m else pw z a m * z m := rfl
    have e2 : bh z a (m + 1) = if a < m then bh z a m * z m else 1 := rfl
    have e3 : prd z (m + 1) = prd z m * z m := rfl
    by_cases c : m = a
    · rw [e1, e2, e3, if_pos c, if_neg (by omega), pw_lo' m (by omega), c, Nat.mul_one, Nat.mul_one]
      exact ⟨rfl, rfl⟩
    · obtain ⟨i1, i2⟩ := pw_bh m (show a < m by omega)
      rw [e1, e2, e3, if_neg c, if_pos (by omega), i1, i2, Nat.mul_assoc, Nat.mul_assoc]
      exact ⟨rfl, rfl⟩
theorem cn_clo {z : Nat → Nat} {a i : Nat} : ∀ m k, a < m → k < pw z a m → cn z a i m k = clo (bh z a m) (z a) k i
  | 0, k, h, _ => absurd h (by omega)
  | m + 1, k, h, hk => by
    have e1 : pw z a (m + 1) = if m = a then pw z a m else pw z a m * z m := rfl
    have e2 : bh z a (m + 1) = if a < m then bh z a m * z m else 1 := rfl
    have e3 : cn z a i (m + 1) k = if m = a then cn z a i m k * z m + i else cn z a i m (k / z m) * z m + k % z m := rfl
    by_cases c : m = a
    · rw [e1, if_pos c, pw_lo' m (by omega)] at hk
      rw [e2, e3, if_pos c, if_neg (by omega), cn_lo m k (by omega) hk, c]
      unfold clo
      rw [Nat.div_one, Nat.mul_one, Nat.mod_one]
      rfl
    · rw [e1, if_neg c] at hk
      rw [e2, e3, if_neg c, if_pos (by omega), cn_clo m (k / z m) (by omega) (Nat.div_lt_of_lt_mul (by rw [Nat.mul_comm]; exact hk))]
      unfold clo
      rw [Nat.div_div_eq_div_mul, Nat.mul_comm (bh z a m) (z m), Nat.mod_mul, Nat.add_mul]
      generalize k / (z m * bh z a m) * z a + i = q
      generalize k / z m % bh z a m = t
      rw [Nat.mul_assoc, Nat.mul_comm (bh z a m) (z m), Nat.mul_comm t (z m)]
      omega
/-- a fold up to a place, one more -/
theorem fogo_snoc {w k : Int32} {v : Nat → Int64} : ∀ (e i : Nat) (so : Int64), fogo w k v i (e + 1) so = (fogo w k v i e so).bind (fun x => foS w k x (v (i + e)))
  | 0, i, so => by
    show (match foS w k so (v i) with | none => none | some r => some r) = foS w k so (v (i + 0))
    rw [Nat.add_zero]
    cases foS w k so (v i) <;> rfl
  | e + 1, i, so => by
    cases h : foS w k so (v i) with
    | none => rw [fogo_none h, fogo_none h]; rfl
    | some r =>
      rw [fogo_some h, fogo_some h, fogo_snoc e (i + 1) r, show i + 1 + e = i + (e + 1) by omega]
theorem fogo_pre {w k : Int32} {v : Nat → Int64} {so : Int64} {i : Nat} (h : fogo w k v 0 i so = none) : ∀ e, fogo w k v 0 (i + e) so = none
  | 0 => h
  | e + 1 => by
    rw [show i + (e + 1) = (i + e) + 1 from rfl, fogo_snoc, fogo_pre h e]
    rfl
/-- what stands in a cell of a running fold -/
noncomputable def rnv (w k : Int32) (val : Nat → Int64) (B len : Nat) : Nat → Option Int64 := fun c => fogo w k (fun i => val (clo B len (lco B len c) i)) 0 (ico B len c + 1) (foB w k (val (clo B len (lco B len c) 0)))
theorem rnv_clo {w k : Int32} {val : Nat → Int64} {B len lk i : Nat} (hB : 0 < B) (hi : i < len) : rnv w k val B len (clo B len lk i) = fogo w k (fun i => val (clo B len lk i)) 0 (i + 1) (foB w k (val (clo B len lk 0))) := by
  unfold rnv
  rw [(lco_clo hB hi).1, (lco_clo hB hi).2]
/-- the first failure -/
theorem ff_least {r : Nat → Option Int64} {q : Nat} (hq : r q = none) (hl : ∀ c, c < q → r c ≠ none) : ∀ (e i : Nat), i ≤ q → q < i + e → ff r i e = some q
  | 0, i, h1, h2 => absurd h2 (by omega)
  | e + 1, i, h1, h2 => by
    by_cases c : i = q
    · rw [c]; exact ff_none hq
    · cases hr : r i with
      | none => exact absurd hr (hl i (by omega))
      | some v => rw [ff_some hr]; exact ff_least hq hl e (i + 1) (by omega) (by omega)
theorem ff_no {r : Nat → Option Int64} : ∀ (e i : Nat), (∀ c, i ≤ c → c < i + e → r c ≠ none) → ff r i e = none
  | 0, i, _ => rfl
  | e + 1, i, h => by
    cases hr : r i with
    | none => exact absurd hr (h i (Nat.le_refl _) (by omega))
    | some v => rw [ff_some hr]; exact ff_no e (i + 1) (fun c h1 h2 => h c (by omega) (by omega))
/-- a loop in row order: the cells before have been worked out -/
theorem wloop3 {β : Type} (B : Nat → Mem → Int32 → Option β) (fl : Mem → Nat → Option β) (arr n : Nat) (r : Nat → Option Int64) (J : Mem → Prop) (Jf : Nat → Mem → Prop)
    (ok : ∀ N M i v, J M → i < n → (∀ x, x < i → ∃ u, r x = some u ∧ cJ M arr x = u) → r i = some v → ∃ M', B (N + 1) M (iw (i : Int)) = B N M' (iw ((i + 1 : Nat) : Int)) ∧ J M' ∧ cJ M' arr i = v ∧ ∀ x, x < i → cJ M' arr x = cJ M arr x)
    (no : ∀ N M i, J M → i < n → (∀ x, x < i → ∃ u, r x = some u ∧ cJ M arr x = u) → r i = none → ∃ M', B (N + 1) M (iw (i : Int)) = fl M' i ∧ Jf i M') :
    ∀ (e N i : Nat) (M : Mem), i + e = n → J M → (∀ x, x < i → ∃ u, r x = some u ∧ cJ M arr x = u) →
      (ff r i e = none ∧ ∃ M', J M' ∧ B (N + e) M (iw (i : Int)) = B N M' (iw (n : Int)) ∧ ∀ x, x < n → cJ M' arr x = (r x).getD 0) ∨ (∃ q M', ff r i e = some q ∧ q < n ∧ r q = none ∧ Jf q M' ∧ B (N + e) M (iw (i : Int)) = fl M' q) := by
  intro e
  induction e with
  | zero =>
    intro N i M hi hJ hx
    have : i = n := by omega
    subst this
    refine Or.inl ⟨rfl, M, hJ, rfl, fun x hx' => ?_⟩
    obtain ⟨u, u1, u2⟩ := hx x hx'
    rw [u2, u1]
    rfl
  | succ e ih =>
    intro N i M hi hJ hx
    cases hr : r i with
    | none =>
      right
      obtain ⟨M', f1, f2⟩ := no (N + e) M i hJ (by omega) hx hr
      exact ⟨i, M', ff_none hr, by omega, hr, f2, f1⟩
    | some v =>
      obtain ⟨M', f1, f2, f3, f4⟩ := ok (N + e) M i v hJ (by omega) hx hr
      rw [ff_some hr, show N + (e + 1) = N + e + 1 from rfl, f1]
      exact ih N (i + 1) M' (by omega) f2 (fun x hx' => by
        by_cases c : x = i
        · exact ⟨v, by rw [c]; exact hr, by rw [c]; exact f3⟩
        · obtain ⟨u, u1, u2⟩ := hx x (by omega)
          exact ⟨u, u1, by rw [f4 x (by omega)]; exact u2⟩)
