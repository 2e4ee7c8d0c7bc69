/-! ===== VIEWS, 18: what a view's cells are ===== -/
theorem i32_q (X Y : Int) (h : Y = X.bmod 4294967296) : ∃ q : Int, Y = X + q * 4294967296 := by
  have := Int.bmod_emod (x := X) (m := 4294967296)
  exact ⟨(Y - X) / 4294967296, by omega⟩
theorem add_q (a b : Int32) : ∃ q : Int, (a + b).toInt = a.toInt + b.toInt + q * 4294967296 := i32_q _ _ (Int32.toInt_add a b)
theorem mul_q (a b : Int32) : ∃ q : Int, (a * b).toInt = a.toInt * b.toInt + q * 4294967296 := i32_q _ _ (Int32.toInt_mul a b)
theorem sm_cg {s s' : Nat → Int32} {ix ix' : Nat → Nat} : ∀ m, (∀ i, i < m → s i = s' i ∧ ix i = ix' i) → sm s ix m = sm s' ix' m
  | 0, _ => rfl
  | m + 1, h => by
    show (ix m : Int) * (s m).toInt + sm s ix m = (ix' m : Int) * (s' m).toInt + sm s' ix' m
    rw [(h m (by omega)).1, (h m (by omega)).2, sm_cg m (fun i hi => h i (by omega))]
theorem sm_put {s : Nat → Int32} {ix : Nat → Nat} {m : Nat} {w : Int32} : sm (putn s m w) ix (m + 1) = (ix m : Int) * w.toInt + sm s ix m := by
  show (ix m : Int) * (putn s m w m).toInt + sm (putn s m w) ix m = _
  rw [sm_cg (s := putn s m w) (s' := s) (ix := ix) (ix' := ix) m (fun i hi => ⟨by unfold putn; rw [if_neg (by omega)], rfl⟩)]
  unfold putn
  rw [if_pos rfl]
theorem sm_ix {s : Nat → Int32} {ix : Nat → Nat} {m v : Nat} : sm s (putn ix m v) (m + 1) = (v : Int) * (s m).toInt + sm s ix m := by
  show ((putn ix m v m : Nat) : Int) * (s m).toInt + sm s (putn ix m v) m = _
  rw [sm_cg (s := s) (s' := s) (ix := putn ix m v) (ix' := ix) m (fun i hi => ⟨rfl, by unfold putn; rw [if_neg (by omega)]⟩)]
  unfold putn
  rw [if_pos rfl]
theorem prd_put {z : Nat → Nat} {m v : Nat} : prd (putn z m v) (m + 1) = prd z m * v := by
  show prd (putn z m v) m * putn z m v m = _
  rw [prd_cg m (z := putn z m v) (z' := z) (fun i hi => by unfold putn; rw [if_neg (by omega)])]
  unfold putn
  rw [if_pos rfl]
/-- what holds of a view on the way -/
def VI (nn : Nat) (z : Nat → Nat) (s t : Nat → Int32) (x : Int32) (σ τ : VS) : Prop :=
  σ.1 = τ.1 ∧ σ.2.1 = τ.2.1 ∧ σ.2.2.2.1 = τ.2.2.2.1 ∧ (∀ j, j < σ.1 → σ.2.2.2.1 j ≤ 4096) ∧ σ.2.1 ≤ nn ∧ prd σ.2.2.2.1 σ.1 ≤ prd z σ.2.1 ∧ (prd z σ.2.1 = 0 → prd σ.2.2.2.1 σ.1 = 0) ∧
  ((∀ i, i < nn → 0 < z i) → (σ.2.2.1 = τ.2.2.1 ∧ ∀ j, j < σ.1 → 1 < σ.2.2.2.1 j → σ.2.2.2.2 j = τ.2.2.2.2 j)) ∧
  ∀ ix : Nat → Nat, (∀ j, j < σ.1 → ix j < σ.2.2.2.1 j) → ∃ iy : Nat → Nat, (∀ i, i < σ.2.1 → iy i < z i) ∧ ∃ q : Int, σ.2.2.1.toInt + sm σ.2.2.2.2 ix σ.1 = x.toInt + sm s iy σ.2.1 + q * 4294967296
theorem VI.start {nn : Nat} {z : Nat → Nat} {s t : Nat → Int32} {x y : Int32} (h : (∀ i, i < nn → 0 < z i) → x = y) : VI nn z s t x (0, 0, x, fun _ => 0, fun _ => 0) (0, 0, y, fun _ => 0, fun _ => 0) :=
  ⟨rfl, rfl, rfl, fun j hj => absurd hj (Nat.not_lt_zero j), Nat.zero_le _, Nat.le_refl _, fun hh => hh, fun hp => ⟨h hp, fun j hj => absurd hj (Nat.not_lt_zero j)⟩, fun ix _ => ⟨ix, fun i hi => absurd hi (Nat.not_lt_zero i), 0, by show x.toInt + 0 = x.toInt + 0 + 0 * 4294967296; omega⟩⟩
section
variable {nn : Nat} {z : Nat → Nat} {s t : Nat → Int32} {x : Int32} {σ τ : VS}
/-- an axis that comes from axis d, or a new one -/
theorem VI.axis (h : VI nn z s t x σ τ) (hz : ∀ i, i < nn → z i ≤ 4096) (hst : (∀ i, i < nn → 0 < z i) → ∀ i, i < nn → 1 < z i → s i = t i) (hd : σ.2.1 < nn) {c : Nat} (hc : c ≤ z σ.2.1) {be bm we wm : Int32} (hb : (∀ i, i < nn → 0 < z i) → be = bm ∧ (1 < c → we = wm)) (hpos : ∀ ii, ii < c → ∃ jj : Nat, jj < z σ.2.1 ∧ ∃ q : Int, be.toInt + (ii : Int) * we.toInt = σ.2.2.1.toInt + (jj : Int) * (s σ.2.1).toInt + q * 4294967296) :
    VI nn z s t x (σ.1 + 1, σ.2.1 + 1, be, putn σ.2.2.2.1 σ.1 c, putn σ.2.2.2.2 σ.1 we) (τ.1 + 1, τ.2.1 + 1, bm, putn τ.2.2.2.1 τ.1 c, putn τ.2.2.2.2 τ.1 wm) := by
  obtain ⟨h1, h2, h3, h4, h5, h6, h7, h8, h9⟩ := h
  refine ⟨by show σ.1 + 1 = τ.1 + 1; omega, by show σ.2.1 + 1 = τ.2.1 + 1; omega, by show putn σ.2.2.2.1 σ.1 c = putn τ.2.2.2.1 τ.1 c; rw [h1, h3], fun j hj => ?_, hd, ?_, fun hh => ?_, fun hp => ⟨(hb hp).1, fun j hj hj1 => ?_⟩, fun ix hi => ?_⟩
  · have hj' : j < σ.1 + 1 := hj
    show putn σ.2.2.2.1 σ.1 c j ≤ 4096
    unfold putn
    by_cases e : j = σ.1
    · rw [if_pos e]
      have := hz _ hd
      omega
    · rw [if_neg e]
      exact h4 j (by omega)
  · show prd (putn σ.2.2.2.1 σ.1 c) (σ.1 + 1) ≤ prd z σ.2.1 * z σ.2.1
    rw [prd_put]
    exact Nat.mul_le_mul h6 hc
  · have hh' : prd z σ.2.1 * z σ.2.1 = 0 := hh
    show prd (putn σ.2.2.2.1 σ.1 c) (σ.1 + 1) = 0
    rw [prd_put]
    rcases Nat.mul_eq_zero.mp hh' with e | e
    · rw [h7 e, Nat.zero_mul]
    · rw [show c = 0 by omega, Nat.mul_zero]
  · have hj' : j < σ.1 + 1 := hj
    have hj1' : 1 < putn σ.2.2.2.1 σ.1 c j := hj1
    show putn σ.2.2.2.2 σ.1 we j = putn τ.2.2.2.2 τ.1 wm j
    unfold putn at hj1' ⊢
    rw [← h1]
    by_cases e : j = σ.1
    · rw [if_pos e] at hj1'
      rw [if_pos e, if_pos e]
      exact (hb hp).2 hj1'
    · rw [if_neg e] at hj1'
      rw [if_neg e, if_neg e]
      exact (h8 hp).2 j (by omega) hj1'
  · have hi' : ∀ j, j < σ.1 + 1 → ix j < putn σ.2.2.2.1 σ.1 c j := hi
    have e0 : ix σ.1 < c := by
      have := hi' σ.1 (by omega)
      unfold putn at this
      rw [if_pos rfl] at this
      exact this
    obtain ⟨iy, k1, q, k2⟩ := h9 ix (fun j hj => by
      have := hi' j (by omega)
      unfold putn at this
      rw [if_neg (by omega)] at this
      exact this)
    obtain ⟨jj, m1, q', m2⟩ := hpos (ix σ.1) e0
    refine ⟨putn iy σ.2.1 jj, fun i hi2 => ?_, q + q', ?_⟩
    · have hi2' : i < σ.2.1 + 1 := hi2
      unfold putn
      by_cases e : i = σ.2.1
      · rw [if_pos e, e]; exact m1
      · rw [if_neg e]; exact k1 i (by omega)
    · show be.toInt + sm (putn σ.2.2.2.2 σ.1 we) ix (σ.1 + 1) = x.toInt + sm s (putn iy σ.2.1 jj) (σ.2.1 + 1) + (q + q') * 4294967296
      rw [sm_put, sm_ix]
      generalize (ix σ.1 : Int) * we.toInt = A at m2 ⊢
      generalize (jj : Int) * (s σ.2.1).toInt = B at m2 ⊢
      omega
theorem VI.new (h : VI nn z s t x σ τ) : VI nn z s t x (vax σ 1 0) (vax τ 1 0) := by
  obtain ⟨h1, h2, h3, h4, h5, h6, h7, h8, h9⟩ := h
  refine ⟨by show σ.1 + 1 = τ.1 + 1; omega, h2, by show putn σ.2.2.2.1 σ.1 1 = putn τ.2.2.2.1 τ.1 1; rw [h1, h3], fun j hj => ?_, h5, ?_, fun hh => ?_, fun hp => ⟨(h8 hp).1, fun j hj hj1 => ?_⟩, fun ix hi => ?_⟩
  · have hj' : j < σ.1 + 1 := hj
    show putn σ.2.2.2.1 σ.1 1 j ≤ 4096
    unfold putn
    by_cases e : j = σ.1
    · rw [if_pos e]; decide
    · rw [if_neg e]; exact h4 j (by omega)
  · show prd (putn σ.2.2.2.1 σ.1 1) (σ.1 + 1) ≤ _
    rw [prd_put, Nat.mul_one]
    exact h6
  · show prd (putn σ.2.2.2.1 σ.1 1) (σ.1 + 1) = 0
    rw [prd_put, Nat.mul_one]
    exact h7 hh
  · have hj' : j < σ.1 + 1 := hj
    have hj1' : 1 < putn σ.2.2.2.1 σ.1 1 j := hj1
    show putn σ.2.2.2.2 σ.1 0 j = putn τ.2.2.2.2 τ.1 0 j
    unfold putn at hj1' ⊢
    rw [← h1]
    by_cases e : j = σ.1
    · rw [if_pos e, if_pos e]
    · rw [if_neg e] at hj1'
      rw [if_neg e, if_neg e]
      exact (h8 hp).2 j (by omega) hj1'
  · have hi' : ∀ j, j < σ.1 + 1 → ix j < putn σ.2.2.2.1 σ.1 1 j := hi
    obtain ⟨iy, k1, q, k2⟩ := h9 ix (fun j hj => by
      have := hi' j (by omega)
      unfold putn at this
      rw [if_neg (by omega)] at this
      exact this)
    refine ⟨iy, k1, q, ?_⟩
    show σ.2.2.1.toInt + sm (putn σ.2.2.2.2 σ.1 0) ix (σ.1 + 1) = _
    rw [sm_put, show (0 : Int32).toInt = 0 from rfl, Int.mul_zero, Int.zero_add]
    exact k2
theorem VI.one (h : VI nn z s t x σ τ) (hst : (∀ i, i < nn → 0 < z i) → ∀ i, i < nn → 1 < z i → s i = t i) (hz : ∀ i, i < nn → z i ≤ 4096) (hd : σ.2.1 < nn) {v : Int} (hv : 0 ≤ v ∧ v < z σ.2.1) : VI nn z s t x (σ.1, σ.2.1 + 1, σ.2.2.1 + iw v * s σ.2.1, σ.2.2.2.1, σ.2.2.2.2) (τ.1, τ.2.1 + 1, τ.2.2.1 + iw v * t τ.2.1, τ.2.2.2.1, τ.2.2.2.2) := by
  obtain ⟨h1, h2, h3, h4, h5, h6, h7, h8, h9⟩ := h
  have hz' := hz _ hd
  refine ⟨h1, by show σ.2.1 + 1 = τ.2.1 + 1; omega, h3, h4, hd, ?_, fun hh => ?_, fun hp => ⟨?_, (h8 hp).2⟩, fun ix hi => ?_⟩
  · show prd σ.2.2.2.1 σ.1 ≤ prd z σ.2.1 * z σ.2.1
    have : prd z σ.2.1 * 1 ≤ prd z σ.2.1 * z σ.2.1 := Nat.mul_le_mul_left _ (by omega)
    omega
  · have hh' : prd z σ.2.1 * z σ.2.1 = 0 := hh
    rcases Nat.mul_eq_zero.mp hh' with e | e
    · exact h7 e
    · omega
  · show σ.2.2.1 + iw v * s σ.2.1 = τ.2.2.1 + iw v * t τ.2.1
    rw [(h8 hp).1, ← h2]
    by_cases c : 1 < z σ.2.1
    · rw [hst hp _ hd c]
    · rw [show v = 0 by omega, show iw 0 = (0 : Int32) from rfl, Int32.zero_mul, Int32.zero_mul]
  · obtain ⟨iy, k1, q, k2⟩ := h9 ix hi
    obtain ⟨q1, e1⟩ := add_q σ.2.2.1 (iw v * s σ.2.1)
    obtain ⟨q2, e2⟩ := mul_q (iw v) (s σ.2.1)
    rw [iw_toInt (by omega) (by omega)] at e2
    refine ⟨putn iy σ.2.1 v.toNat, fun i hi2 => ?_, q + q1 + q2, ?_⟩
    · have hi2' : i < σ.2.1 + 1 := hi2
      unfold putn
      by_cases e : i = σ.2.1
      · rw [if_pos e, e]; omega
      · rw [if_neg e]; exact k1 i (by omega)
    · show (σ.2.2.1 + iw v * s σ.2.1).toInt + sm σ.2.2.2.2 ix σ.1 = x.toInt + sm s (putn iy σ.2.1 v.toNat) (σ.2.1 + 1) + (q + q1 + q2) * 4294967296
      rw [sm_ix, e1, e2, show ((v.toNat : Nat) : Int) = v by omega]
      generalize v * (s σ.2.1).toInt = B
      omega
end
