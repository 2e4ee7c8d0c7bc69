/-! ===== VIEWS, 19: both sides' views are alike ===== -/
section
variable {nn : Nat} {z : Nat → Nat} {s t : Nat → Int32} {x : Int32}
theorem vap_rel {σ τ : VS} {it : Nat → Int} (h : VI nn z s t x σ τ) (hz : ∀ i, i < nn → z i ≤ 4096) (hst : (∀ i, i < nn → 0 < z i) → ∀ i, i < nn → 1 < z i → s i = t i) (hI : IT it) :
    (∃ p, vap nn z s it σ = .inl p ∧ vap nn z t it τ = .inl p) ∨ (∃ σ' τ', vap nn z s it σ = .inr σ' ∧ vap nn z t it τ = .inr τ' ∧ VI nn z s t x σ' τ') := by
  have h' := h
  obtain ⟨h1, h2, h3, h4, h5, h6, h7, h8, h9⟩ := h'
  have hI' := hI
  obtain ⟨⟨p, p1, p2⟩, i1, i2, i3, i4, i5, i6, i7⟩ := hI'
  unfold vap
  by_cases c3 : it 1 = 3
  · rw [if_pos c3, if_pos c3]
    exact Or.inr ⟨_, _, rfl, rfl, h.new⟩
  · rw [if_neg c3, if_neg c3]
    by_cases cd : σ.2.1 = nn
    · rw [if_pos cd, if_pos (show τ.2.1 = nn by omega)]
      exact Or.inl ⟨_, rfl, rfl⟩
    · have hd : σ.2.1 < nn := by omega
      have hz' := hz _ hd
      rw [if_neg cd, if_neg (show ¬ τ.2.1 = nn by omega)]
      by_cases c1 : it 1 = 1
      · rw [if_pos c1, if_pos c1, ← h2]
        by_cases cr : it 3 < -(z σ.2.1 : Int) ∨ (z σ.2.1 : Int) ≤ it 3
        · rw [if_pos cr, if_pos cr]
          exact Or.inl ⟨_, rfl, rfl⟩
        · rw [if_neg cr, if_neg cr]
          have hv : 0 ≤ (if it 3 < 0 then it 3 + (z σ.2.1 : Int) else it 3) ∧ (if it 3 < 0 then it 3 + (z σ.2.1 : Int) else it 3) < z σ.2.1 := by
            by_cases c5 : it 3 < 0
            · rw [if_pos c5]; omega
            · rw [if_neg c5]; omega
          have := h.one hst hz hd hv
          rw [← h2] at this
          exact Or.inr ⟨_, _, rfl, rfl, this⟩
      · rw [if_neg c1, if_neg c1]
        by_cases cs : vstp it = 0
        · rw [if_pos cs, if_pos cs]
          exact Or.inl ⟨_, rfl, rfl⟩
        · rw [if_neg cs, if_neg cs, ← h2]
          have hst' : -1000000000 < vstp it ∧ vstp it < 1000000000 := by
            unfold vstp
            by_cases c6 : it 6 = 1
            · rw [if_pos c6]; exact i7
            · rw [if_neg c6]; exact ⟨by decide, by decide⟩
          have bc := sct_le (n := (z σ.2.1 : Int)) (st := vstp it) (hf := it 2) (fr := it 3) (ht := it 4) (to := it 5) (by omega) cs
          have bi := fun (i : Nat) hi => sct_in (n := (z σ.2.1 : Int)) (st := vstp it) (hf := it 2) (fr := it 3) (ht := it 4) (to := it 5) (by omega) cs (i := i) hi
          have bs := sct_st (n := (z σ.2.1 : Int)) (st := vstp it) (hf := it 2) (fr := it 3) (ht := it 4) (to := it 5) (by omega) cs
          have ba := sla_b (n := (z σ.2.1 : Int)) (st := vstp it) (hf := it 2) (fr := it 3) (by omega)
          obtain ⟨a, ha⟩ : ∃ a, a = vsa z it σ.2.1 := ⟨_, rfl⟩
          obtain ⟨c, hc⟩ : ∃ c, c = vsc z it σ.2.1 := ⟨_, rfl⟩
          have ha' : sla (z σ.2.1 : Int) (vstp it) (it 2) (it 3) = a := ha.symm
          have hc' : sct (vstp it) (sla (z σ.2.1 : Int) (vstp it) (it 2) (it 3)) (slb (z σ.2.1 : Int) (vstp it) (it 4) (it 5)) = c := hc.symm
          rw [hc'] at bc bs
          rw [hc', ha'] at bi
          rw [ha'] at ba
          have ba2 : -1 ≤ a ∧ a ≤ 4096 := by
            unfold slo shi at ba
            by_cases c0 : 0 < vstp it
            · rw [if_pos c0, if_pos c0] at ba; omega
            · rw [if_neg c0, if_neg c0] at ba; omega
          rw [← ha, ← hc]
          have := h.axis hz hst hd (c := c) (be := if 0 < c then σ.2.2.1 + iw a * s σ.2.1 else σ.2.2.1) (bm := if 0 < c then τ.2.2.1 + iw a * t σ.2.1 else τ.2.2.1) (we := if 1 < c then iw (vstp it) * s σ.2.1 else 0) (wm := if 1 < c then iw (vstp it) * t σ.2.1 else 0) (by omega) (fun hp => ?_) (fun ii hii => ?_)
          · rw [← h2] at this
            exact Or.inr ⟨_, _, rfl, rfl, this⟩
          · rw [(h8 hp).1]
            refine ⟨?_, fun h1c => ?_⟩
            · by_cases c0 : 0 < c
              · rw [if_pos c0, if_pos c0]
                by_cases cz : 1 < z σ.2.1
                · rw [hst hp _ hd cz]
                · have b0 := bi 0 c0
                  rw [show a = 0 by omega, show iw 0 = (0 : Int32) from rfl, Int32.zero_mul, Int32.zero_mul]
              · rw [if_neg c0, if_neg c0]
            · rw [if_pos h1c, if_pos h1c, hst hp _ hd (by omega)]
          · have b0 := bi ii hii
            refine ⟨(a + (ii : Int) * vstp it).toNat, by omega, ?_⟩
            rw [show (((a + (ii : Int) * vstp it).toNat : Nat) : Int) = a + (ii : Int) * vstp it by omega, if_pos (show 0 < c by omega)]
            obtain ⟨q1, e1⟩ := add_q σ.2.2.1 (iw a * s σ.2.1)
            obtain ⟨q2, e2⟩ := mul_q (iw a) (s σ.2.1)
            rw [iw_toInt (by omega) (by omega)] at e2
            obtain ⟨q3, e3⟩ := mul_q (iw (vstp it)) (s σ.2.1)
            rw [iw_toInt (by omega) (by omega)] at e3
            rw [Int.add_mul, Int.mul_assoc, e1, e2]
            by_cases c2 : 1 < c
            · rw [if_pos c2, e3, Int.mul_add, ← Int.mul_assoc (ii : Int) q3]
              refine ⟨q1 + q2 + (ii : Int) * q3, ?_⟩
              generalize a * (s σ.2.1).toInt = A
              generalize (ii : Int) * (vstp it * (s σ.2.1).toInt) = B
              generalize (ii : Int) * q3 = D
              omega
            · have i0 : ii = 0 := by omega
              subst i0
              rw [if_neg c2, show (0 : Int32).toInt = 0 from rfl, Int.mul_zero]
              refine ⟨q1 + q2, ?_⟩
              rw [show ((0 : Nat) : Int) = 0 from rfl, Int.zero_mul]
              generalize a * (s σ.2.1).toInt = A
              omega
theorem vall_rel (hz : ∀ i, i < nn → z i ≤ 4096) (hst : (∀ i, i < nn → 0 < z i) → ∀ i, i < nn → 1 < z i → s i = t i) : ∀ (l : List (Nat → Int)) (σ τ : VS), (∀ it, it ∈ l → IT it) → VI nn z s t x σ τ → (∃ p, vall nn z s l σ = .inl p ∧ vall nn z t l τ = .inl p) ∨ (∃ σ' τ', vall nn z s l σ = .inr σ' ∧ vall nn z t l τ = .inr τ' ∧ VI nn z s t x σ' τ')
  | [], σ, τ, _, h => Or.inr ⟨σ, τ, rfl, rfl, h⟩
  | it :: l, σ, τ, hI, h => by
    have e1 : vall nn z s (it :: l) σ = match vap nn z s it σ with | .inl p => .inl p | .inr σ' => vall nn z s l σ' := rfl
    have e2 : vall nn z t (it :: l) τ = match vap nn z t it τ with | .inl p => .inl p | .inr σ' => vall nn z t l σ' := rfl
    rw [e1, e2]
    rcases vap_rel h hz hst (hI it (List.mem_cons_self ..)) with ⟨p, a1, a2⟩ | ⟨σ', τ', a1, a2, a3⟩
    · rw [a1, a2]
      exact Or.inl ⟨p, rfl, rfl⟩
    · rw [a1, a2]
      exact vall_rel hz hst l σ' τ' (fun i hi => hI i (List.mem_cons_of_mem _ hi)) a3
theorem vrs_rel (hz : ∀ i, i < nn → z i ≤ 4096) (hst : (∀ i, i < nn → 0 < z i) → ∀ i, i < nn → 1 < z i → s i = t i) : ∀ (r : Nat) (σ τ : VS), σ.2.1 + r = nn → VI nn z s t x σ τ → VI nn z s t x (vrs z s r σ) (vrs z t r τ) ∧ (vrs z s r σ).2.1 = nn
  | 0, σ, τ, hr, h => ⟨h, hr⟩
  | r + 1, σ, τ, hr, h => by
    have hd : σ.2.1 < nn := by omega
    have h2 := h.2.1
    refine vrs_rel hz hst r (σ.1 + 1, σ.2.1 + 1, σ.2.2.1, putn σ.2.2.2.1 σ.1 (z σ.2.1), putn σ.2.2.2.2 σ.1 (s σ.2.1)) (τ.1 + 1, τ.2.1 + 1, τ.2.2.1, putn τ.2.2.2.1 τ.1 (z τ.2.1), putn τ.2.2.2.2 τ.1 (t τ.2.1)) (by show σ.2.1 + 1 + r = nn; omega) ?_
    rw [show z τ.2.1 = z σ.2.1 by rw [h2]]
    refine h.axis hz hst hd (Nat.le_refl _) (fun hp => ⟨(h.2.2.2.2.2.2.2.1 hp).1, fun h1 => by rw [← h2]; exact hst hp _ hd h1⟩) (fun ii hii => ⟨ii, hii, 0, by omega⟩)
end
/-- places by their remainders -/
theorem VL_mod {n' L : Nat} {zs : Nat → Nat} {ts : Nat → Int32} {b : Int32} (hn : n' ≤ 4) (hz : ∀ j, j < n' → zs j ≤ 4096) (hL : L ≤ 100000) (h : ∀ ix : Nat → Nat, (∀ j, j < n' → ix j < zs j) → ∃ P : Int, 0 ≤ P ∧ P < L ∧ ∃ q : Int, b.toInt + sm ts ix n' = P + q * 4294967296) : VL n' zs ts b L := by
  intro ix hi
  rw [sm_fold]
  have hpos : ∀ j, j < n' → 0 < zs j := fun j hj => by have := hi j hj; omega
  have s0 : ∀ m, sm ts (fun _ => 0) m = 0 := fun m => by
    induction m with
    | zero => rfl
    | succ m ih =>
      show ((0 : Nat) : Int) * (ts m).toInt + sm ts (fun _ => 0) m = 0
      rw [ih, show ((0 : Nat) : Int) = 0 from rfl, Int.zero_mul]
      rfl
  have bl := Int32.toInt_lt b
  have bg := Int32.le_toInt b
  obtain ⟨P0, p1, p2, q0, p3⟩ := h (fun _ => 0) hpos
  rw [s0] at p3
  have hb : b.toInt = P0 := by omega
  have su : ∀ (j m : Nat), sm ts (fun i => if i = j then 1 else 0) m = if j < m then (ts j).toInt else 0 := fun j m => by
    induction m with
    | zero => rw [if_neg (by omega)]; rfl
    | succ m ih =>
      show (((if m = j then 1 else 0 : Nat)) : Int) * (ts m).toInt + sm ts (fun i => if i = j then 1 else 0) m = _
      rw [ih]
      by_cases c : m = j
      · subst c
        rw [if_pos rfl, if_neg (by omega), if_pos (by omega), show ((1 : Nat) : Int) = 1 from rfl, Int.one_mul]
        omega
      · rw [if_neg c, show ((0 : Nat) : Int) = 0 from rfl, Int.zero_mul]
        by_cases c2 : j < m
        · rw [if_pos c2, if_pos (by omega)]; omega
        · rw [if_neg c2, if_neg (by omega)]; rfl
  have tb : ∀ j, j < n' → 1 < zs j → -100000 < (ts j).toInt ∧ (ts j).toInt < 100000 := fun j hj hj1 => by
    obtain ⟨P1, r1, r2, q1, r3⟩ := h (fun i => if i = j then 1 else 0) (fun i hi' => by
      by_cases c : i = j
      · rw [if_pos c, c]; exact hj1
      · rw [if_neg c]; exact hpos i hi')
    rw [su, if_pos hj] at r3
    have tl := Int32.toInt_lt (ts j)
    have tg := Int32.le_toInt (ts j)
    omega
  have sb : ∀ m, m ≤ n' → -(m : Int) * 409600000 ≤ sm ts ix m ∧ sm ts ix m ≤ (m : Int) * 409600000 := fun m => by
    induction m with
    | zero => intro _; show -((0 : Nat) : Int) * 409600000 ≤ 0 ∧ (0 : Int) ≤ ((0 : Nat) : Int) * 409600000; omega
    | succ m ih =>
      intro hm
      have ⟨i1, i2⟩ := ih (by omega)
      have hx := hi m (by omega)
      have hzm := hz m (by omega)
      have key : -409600000 ≤ (ix m : Int) * (ts m).toInt ∧ (ix m : Int) * (ts m).toInt ≤ 409600000 := by
        by_cases c : 1 < zs m
        · have ⟨t1, t2⟩ := tb m (by omega) c
          have k1 : (ix m : Int) * (ts m).toInt ≤ (ix m : Int) * 100000 := Int.mul_le_mul_of_nonneg_left (by omega) (by omega)
          have k2 : (ix m : Int) * (-100000) ≤ (ix m : Int) * (ts m).toInt := Int.mul_le_mul_of_nonneg_left (by omega) (by omega)
          omega
        · rw [show ix m = 0 by omega, show ((0 : Nat) : Int) = 0 from rfl, Int.zero_mul]
          omega
      show _ ≤ (ix m : Int) * (ts m).toInt + sm ts ix m ∧ (ix m : Int) * (ts m).toInt + sm ts ix m ≤ _
      omega
  obtain ⟨P, r1, r2, q, r3⟩ := h ix hi
  have ⟨b1, b2⟩ := sb n' (Nat.le_refl _)
  omega
theorem vfin_rel {n nn L : Nat} {z : Nat → Nat} {s t : Nat → Int32} {x y : Int32} {l : List (Nat → Int)} (hz : ∀ i, i < nn → z i ≤ 4096) (hL : L ≤ 100000) (hI : ∀ it, it ∈ l → IT it) (hv : (∀ i, i < nn → 0 < z i) → x = y ∧ (∀ i, i < nn → 1 < z i → s i = t i) ∧ VL nn z s x L) :
    (∃ p, vfin n nn z s x l = .inl p ∧ vfin n nn z t y l = .inl p) ∨ (∃ σ τ, vfin n nn z s x l = .inr σ ∧ vfin n nn z t y l = .inr τ ∧ σ.1 = τ.1 ∧ σ.2.2.2.1 = τ.2.2.2.1 ∧ σ.1 ≤ 4 ∧ (∀ j, j < σ.1 → σ.2.2.2.1 j ≤ 4096) ∧ prd σ.2.2.2.1 σ.1 ≤ prd z nn ∧ (prd z nn = 0 → prd σ.2.2.2.1 σ.1 = 0) ∧ ((∀ i, i < nn → 0 < z i) → σ.2.2.1 = τ.2.2.1 ∧ (∀ j, j < σ.1 → 1 < σ.2.2.2.1 j → σ.2.2.2.2 j = τ.2.2.2.2 j) ∧ VL σ.1 σ.2.2.2.1 σ.2.2.2.2 σ.2.2.1 L)) := by
  have hst : (∀ i, i < nn → 0 < z i) → ∀ i, i < nn → 1 < z i → s i = t i := fun hp => (hv hp).2.1
  unfold vfin
  rcases vall_rel (x := x) hz hst l (0, 0, x, fun _ => 0, fun _ => 0) (0, 0, y, fun _ => 0, fun _ => 0) hI (VI.start (fun hp => (hv hp).1)) with ⟨p, a1, a2⟩ | ⟨σ, τ, a1, a2, a3⟩
  · rw [a1, a2]
    exact Or.inl ⟨p, rfl, rfl⟩
  · rw [a1, a2]
    have h2 := a3.2.1
    have h5 := a3.2.2.2.2.1
    obtain ⟨b1, b2⟩ := vrs_rel hz hst (nn - σ.2.1) σ τ (by omega) a3
    show (∃ p, (if 4 < (vrs z s (nn - σ.2.1) σ).1 then (.inl n : Nat ⊕ VS) else .inr (vrs z s (nn - σ.2.1) σ)) = .inl p ∧ (if 4 < (vrs z t (nn - τ.2.1) τ).1 then (.inl n : Nat ⊕ VS) else .inr (vrs z t (nn - τ.2.1) τ)) = .inl p) ∨ (∃ σ' τ', (if 4 < (vrs z s (nn - σ.2.1) σ).1 then (.inl n : Nat ⊕ VS) else .inr (vrs z s (nn - σ.2.1) σ)) = .inr σ' ∧ (if 4 < (vrs z t (nn - τ.2.1) τ).1 then (.inl n : Nat ⊕ VS) else .inr (vrs z t (nn - τ.2.1) τ)) = .inr τ' ∧ _)
    rw [← h2]
    obtain ⟨σ', hσ'⟩ : ∃ σ', σ' = vrs z s (nn - σ.2.1) σ := ⟨_, rfl⟩
    obtain ⟨τ', hτ'⟩ : ∃ τ', τ' = vrs z t (nn - σ.2.1) τ := ⟨_, rfl⟩
    rw [← hσ'] at b1 b2 ⊢
    rw [← hτ'] at b1 ⊢
    obtain ⟨c1, c2, c3, c4, c5, c6, c7, c8, c9⟩ := b1
    rw [b2] at c6 c7 c9
    by_cases c : 4 < σ'.1
    · rw [if_pos c, if_pos (by omega)]
      exact Or.inl ⟨n, rfl, rfl⟩
    · rw [if_neg c, if_neg (by omega)]
      refine Or.inr ⟨σ', τ', rfl, rfl, c1, c3, by omega, c4, c6, c7, fun hp => ⟨(c8 hp).1, (c8 hp).2, VL_mod (by omega) c4 hL (fun ix hi => ?_)⟩⟩
      obtain ⟨iy, k1, q, k2⟩ := c9 ix hi
      have := (hv hp).2.2.pos k1
      exact ⟨_, this.1, this.2, q, k2⟩
