/-! ===== FORMULAS, 40: the rank of a sign, the model ===== -/
theorem M_rankOf {M : Mem} (k0 : K0 M) {s : Nat} (h : s ∈ sgA) : F_X16_rankOf M s = some ((if opS s = 0 then -1 else iw (lvO (opS s) : Nat)), M) := by
  have q : s = 23 ∨ s = 24 ∨ s = 25 ∨ s = 26 ∨ s = 27 ∨ s = 28 ∨ s = 30 ∨ s = 31 ∨ s = 32 ∨ s = 33 ∨ s = 34 ∨ s = 35 ∨ s = 37 ∨ s = 38 ∨ s = 39 ∨ s = 40 ∨ s = 41 ∨ s = 42 ∨ s = 43 ∨ s = 44 ∨ s = 45 ∨ s = 46 ∨ s = 47 ∨ s = 48 ∨ s = 49 ∨ s = 62 ∨ s = 63 ∨ s = 64 := by
    have hh : sgA.all (fun s => decide (s = 23) || decide (s = 24) || decide (s = 25) || decide (s = 26) || decide (s = 27) || decide (s = 28) || decide (s = 30) || decide (s = 31) || decide (s = 32) || decide (s = 33) || decide (s = 34) || decide (s = 35) || decide (s = 37) || decide (s = 38) || decide (s = 39) || decide (s = 40) || decide (s = 41) || decide (s = 42) || decide (s = 43) || decide (s = 44) || decide (s = 45) || decide (s = 46) || decide (s = 47) || decide (s = 48) || decide (s = 49) || decide (s = 62) || decide (s = 63) || decide (s = 64)) = true := by decide
    have := List.all_eq_true.mp hh s h
    simpa only [Bool.or_eq_true, decide_eq_true_eq, or_assoc] using this
  have e : ∀ a b : Nat, 20 ≤ a → a < 65 → 20 ≤ b → b < 65 → F_J15_equals M a b = some (if a = b then 1 else 0) := fun a b a1 a2 b1 b2 => k0.eq a1 a2 b1 b2
  have v : ∀ a : Nat, 20 ≤ a → a < 65 → vg M a 76 = some () := fun a a1 a2 => k0.vg a1 a2
  rcases q with rfl | rfl | rfl | rfl | rfl | rfl | rfl | rfl | rfl | rfl | rfl | rfl | rfl | rfl | rfl | rfl | rfl | rfl | rfl | rfl | rfl | rfl | rfl | rfl | rfl | rfl | rfl | rfl
  · have hc : F_J15_hashCode M 23 = some (33, M) := (k0.hash (a := 23) (by decide) (by decide)).trans (by rw [show (cty 23).2.1 = 33 by decide +kernel])
    unfold F_X16_rankOf
    simp [v, hc, e, F_X16_rankOf_b467, F_X16_rankOf_b570, F_X16_rankOf_b572, F_X16_rankOf_b575, F_X16_rankOf_b578, F_X16_rankOf_b581]
    first | rfl | decide
  · have hc : F_J15_hashCode M 24 = some (1084, M) := (k0.hash (a := 24) (by decide) (by decide)).trans (by rw [show (cty 24).2.1 = 1084 by decide +kernel])
    unfold F_X16_rankOf
    simp [v, hc, e, F_X16_rankOf_b467, F_X16_rankOf_b570, F_X16_rankOf_b572, F_X16_rankOf_b575, F_X16_rankOf_b578, F_X16_rankOf_b581]
    first | rfl | decide
  · have hc : F_J15_hashCode M 25 = some (37, M) := (k0.hash (a := 25) (by decide) (by decide)).trans (by rw [show (cty 25).2.1 = 37 by decide +kernel])
    unfold F_X16_rankOf
    simp [v, hc, e, F_X16_rankOf_b467, F_X16_rankOf_b570, F_X16_rankOf_b572, F_X16_rankOf_b575, F_X16_rankOf_b578, F_X16_rankOf_b581]
    first | rfl | decide
  · have hc : F_J15_hashCode M 26 = some (38, M) := (k0.hash (a := 26) (by decide) (by decide)).trans (by rw [show (cty 26).2.1 = 38 by decide +kernel])
    unfold F_X16_rankOf
    simp [v, hc, e, F_X16_rankOf_b467, F_X16_rankOf_b570, F_X16_rankOf_b572, F_X16_rankOf_b575, F_X16_rankOf_b578, F_X16_rankOf_b581]
    first | rfl | decide
  · have hc : F_J15_hashCode M 27 = some (1216, M) := (k0.hash (a := 27) (by decide) (by decide)).trans (by rw [show (cty 27).2.1 = 1216 by decide +kernel])
    unfold F_X16_rankOf
    simp [v, hc, e, F_X16_rankOf_b467, F_X16_rankOf_b570, F_X16_rankOf_b572, F_X16_rankOf_b575, F_X16_rankOf_b578, F_X16_rankOf_b581]
    first | rfl | decide
  · have hc : F_J15_hashCode M 28 = some (40, M) := (k0.hash (a := 28) (by decide) (by decide)).trans (by rw [show (cty 28).2.1 = 40 by decide +kernel])
    unfold F_X16_rankOf
    simp [v, hc, e, F_X16_rankOf_b467, F_X16_rankOf_b570, F_X16_rankOf_b572, F_X16_rankOf_b575, F_X16_rankOf_b578, F_X16_rankOf_b581]
    first | rfl | decide
  · have hc : F_J15_hashCode M 30 = some (41, M) := (k0.hash (a := 30) (by decide) (by decide)).trans (by rw [show (cty 30).2.1 = 41 by decide +kernel])
    unfold F_X16_rankOf
    simp [v, hc, e, F_X16_rankOf_b467, F_X16_rankOf_b570, F_X16_rankOf_b572, F_X16_rankOf_b575, F_X16_rankOf_b578, F_X16_rankOf_b581]
    first | rfl | decide
  · have hc : F_J15_hashCode M 31 = some (42, M) := (k0.hash (a := 31) (by decide) (by decide)).trans (by rw [show (cty 31).2.1 = 42 by decide +kernel])
    unfold F_X16_rankOf
    simp [v, hc, e, F_X16_rankOf_b467, F_X16_rankOf_b570, F_X16_rankOf_b572, F_X16_rankOf_b575, F_X16_rankOf_b578, F_X16_rankOf_b581]
    first | rfl | decide
  · have hc : F_J15_hashCode M 32 = some (43, M) := (k0.hash (a := 32) (by decide) (by decide)).trans (by rw [show (cty 32).2.1 = 43 by decide +kernel])
    unfold F_X16_rankOf
    simp [v, hc, e, F_X16_rankOf_b467, F_X16_rankOf_b570, F_X16_rankOf_b572, F_X16_rankOf_b575, F_X16_rankOf_b578, F_X16_rankOf_b581]
    first | rfl | decide
  · have hc : F_J15_hashCode M 33 = some (44, M) := (k0.hash (a := 33) (by decide) (by decide)).trans (by rw [show (cty 33).2.1 = 44 by decide +kernel])
    unfold F_X16_rankOf
    simp [v, hc, e, F_X16_rankOf_b467, F_X16_rankOf_b570, F_X16_rankOf_b572, F_X16_rankOf_b575, F_X16_rankOf_b578, F_X16_rankOf_b581]
    first | rfl | decide
  · have hc : F_J15_hashCode M 34 = some (45, M) := (k0.hash (a := 34) (by decide) (by decide)).trans (by rw [show (cty 34).2.1 = 45 by decide +kernel])
    unfold F_X16_rankOf
    simp [v, hc, e, F_X16_rankOf_b467, F_X16_rankOf_b570, F_X16_rankOf_b572, F_X16_rankOf_b575, F_X16_rankOf_b578, F_X16_rankOf_b581]
    first | rfl | decide
  · have hc : F_J15_hashCode M 35 = some (47, M) := (k0.hash (a := 35) (by decide) (by decide)).trans (by rw [show (cty 35).2.1 = 47 by decide +kernel])
    unfold F_X16_rankOf
    simp [v, hc, e, F_X16_rankOf_b467, F_X16_rankOf_b570, F_X16_rankOf_b572, F_X16_rankOf_b575, F_X16_rankOf_b578, F_X16_rankOf_b581]
    first | rfl | decide
  · have hc : F_J15_hashCode M 37 = some (58, M) := (k0.hash (a := 37) (by decide) (by decide)).trans (by rw [show (cty 37).2.1 = 58 by decide +kernel])
    unfold F_X16_rankOf
    simp [v, hc, e, F_X16_rankOf_b467, F_X16_rankOf_b570, F_X16_rankOf_b572, F_X16_rankOf_b575, F_X16_rankOf_b578, F_X16_rankOf_b581]
    first | rfl | decide
  · have hc : F_J15_hashCode M 38 = some (59, M) := (k0.hash (a := 38) (by decide) (by decide)).trans (by rw [show (cty 38).2.1 = 59 by decide +kernel])
    unfold F_X16_rankOf
    simp [v, hc, e, F_X16_rankOf_b467, F_X16_rankOf_b570, F_X16_rankOf_b572, F_X16_rankOf_b575, F_X16_rankOf_b578, F_X16_rankOf_b581]
    first | rfl | decide
  · have hc : F_J15_hashCode M 39 = some (60, M) := (k0.hash (a := 39) (by decide) (by decide)).trans (by rw [show (cty 39).2.1 = 60 by decide +kernel])
    unfold F_X16_rankOf
    simp [v, hc, e, F_X16_rankOf_b467, F_X16_rankOf_b570, F_X16_rankOf_b572, F_X16_rankOf_b575, F_X16_rankOf_b578, F_X16_rankOf_b581]
    first | rfl | decide
  · have hc : F_J15_hashCode M 40 = some (1920, M) := (k0.hash (a := 40) (by decide) (by decide)).trans (by rw [show (cty 40).2.1 = 1920 by decide +kernel])
    unfold F_X16_rankOf
    simp [v, hc, e, F_X16_rankOf_b467, F_X16_rankOf_b570, F_X16_rankOf_b572, F_X16_rankOf_b575, F_X16_rankOf_b578, F_X16_rankOf_b581]
    first | rfl | decide
  · have hc : F_J15_hashCode M 41 = some (1921, M) := (k0.hash (a := 41) (by decide) (by decide)).trans (by rw [show (cty 41).2.1 = 1921 by decide +kernel])
    unfold F_X16_rankOf
    simp [v, hc, e, F_X16_rankOf_b467, F_X16_rankOf_b570, F_X16_rankOf_b572, F_X16_rankOf_b575, F_X16_rankOf_b578, F_X16_rankOf_b581]
    first | rfl | decide
  · have hc : F_J15_hashCode M 42 = some (61, M) := (k0.hash (a := 42) (by decide) (by decide)).trans (by rw [show (cty 42).2.1 = 61 by decide +kernel])
    unfold F_X16_rankOf
    simp [v, hc, e, F_X16_rankOf_b467, F_X16_rankOf_b570, F_X16_rankOf_b572, F_X16_rankOf_b575, F_X16_rankOf_b578, F_X16_rankOf_b581]
    first | rfl | decide
  · have hc : F_J15_hashCode M 43 = some (1952, M) := (k0.hash (a := 43) (by decide) (by decide)).trans (by rw [show (cty 43).2.1 = 1952 by decide +kernel])
    unfold F_X16_rankOf
    simp [v, hc, e, F_X16_rankOf_b467, F_X16_rankOf_b570, F_X16_rankOf_b572, F_X16_rankOf_b575, F_X16_rankOf_b578, F_X16_rankOf_b581]
    first | rfl | decide
  · have hc : F_J15_hashCode M 44 = some (62, M) := (k0.hash (a := 44) (by decide) (by decide)).trans (by rw [show (cty 44).2.1 = 62 by decide +kernel])
    unfold F_X16_rankOf
    simp [v, hc, e, F_X16_rankOf_b467, F_X16_rankOf_b570, F_X16_rankOf_b572, F_X16_rankOf_b575, F_X16_rankOf_b578, F_X16_rankOf_b581]
    first | rfl | decide
  · have hc : F_J15_hashCode M 45 = some (1983, M) := (k0.hash (a := 45) (by decide) (by decide)).trans (by rw [show (cty 45).2.1 = 1983 by decide +kernel])
    unfold F_X16_rankOf
    simp [v, hc, e, F_X16_rankOf_b467, F_X16_rankOf_b570, F_X16_rankOf_b572, F_X16_rankOf_b575, F_X16_rankOf_b578, F_X16_rankOf_b581]
    first | rfl | decide
  · have hc : F_J15_hashCode M 46 = some (1984, M) := (k0.hash (a := 46) (by decide) (by decide)).trans (by rw [show (cty 46).2.1 = 1984 by decide +kernel])
    unfold F_X16_rankOf
    simp [v, hc, e, F_X16_rankOf_b467, F_X16_rankOf_b570, F_X16_rankOf_b572, F_X16_rankOf_b575, F_X16_rankOf_b578, F_X16_rankOf_b581]
    first | rfl | decide
  · have hc : F_J15_hashCode M 47 = some (61566, M) := (k0.hash (a := 47) (by decide) (by decide)).trans (by rw [show (cty 47).2.1 = 61566 by decide +kernel])
    unfold F_X16_rankOf
    simp [v, hc, e, F_X16_rankOf_b467, F_X16_rankOf_b570, F_X16_rankOf_b572, F_X16_rankOf_b575, F_X16_rankOf_b578, F_X16_rankOf_b581]
    first | rfl | decide
  · have hc : F_J15_hashCode M 48 = some (63, M) := (k0.hash (a := 48) (by decide) (by decide)).trans (by rw [show (cty 48).2.1 = 63 by decide +kernel])
    unfold F_X16_rankOf
    simp [v, hc, e, F_X16_rankOf_b467, F_X16_rankOf_b570, F_X16_rankOf_b572, F_X16_rankOf_b575, F_X16_rankOf_b578, F_X16_rankOf_b581]
    first | rfl | decide
  · have hc : F_J15_hashCode M 49 = some (94, M) := (k0.hash (a := 49) (by decide) (by decide)).trans (by rw [show (cty 49).2.1 = 94 by decide +kernel])
    unfold F_X16_rankOf
    simp [v, hc, e, F_X16_rankOf_b467, F_X16_rankOf_b570, F_X16_rankOf_b572, F_X16_rankOf_b575, F_X16_rankOf_b578, F_X16_rankOf_b581]
    first | rfl | decide
  · have hc : F_J15_hashCode M 62 = some (124, M) := (k0.hash (a := 62) (by decide) (by decide)).trans (by rw [show (cty 62).2.1 = 124 by decide +kernel])
    unfold F_X16_rankOf
    simp [v, hc, e, F_X16_rankOf_b467, F_X16_rankOf_b570, F_X16_rankOf_b572, F_X16_rankOf_b575, F_X16_rankOf_b578, F_X16_rankOf_b581]
    first | rfl | decide
  · have hc : F_J15_hashCode M 63 = some (3968, M) := (k0.hash (a := 63) (by decide) (by decide)).trans (by rw [show (cty 63).2.1 = 3968 by decide +kernel])
    unfold F_X16_rankOf
    simp [v, hc, e, F_X16_rankOf_b467, F_X16_rankOf_b570, F_X16_rankOf_b572, F_X16_rankOf_b575, F_X16_rankOf_b578, F_X16_rankOf_b581]
    first | rfl | decide
  · have hc : F_J15_hashCode M 64 = some (126, M) := (k0.hash (a := 64) (by decide) (by decide)).trans (by rw [show (cty 64).2.1 = 126 by decide +kernel])
    unfold F_X16_rankOf
    simp [v, hc, e, F_X16_rankOf_b467, F_X16_rankOf_b570, F_X16_rankOf_b572, F_X16_rankOf_b575, F_X16_rankOf_b578, F_X16_rankOf_b581]
    first | rfl | decide
