/-! ===== TABLES, 65: the numbers of words (plain) ===== -/
/-- a word's number in its column -/
noncomputable def cwv (d : TD) (c r : Nat) : Int64 := pif (msg (ccl d c r)) (-1) (nl (ct (befM d c (kyc d c r)) d.2.1))
noncomputable def rki (d : TD) (c r : Nat) : Int := pif (msg (ccl d c r)) (-1) (ct (befE d c (kyc d c r)) d.2.1 : Nat)
theorem rki_m {d : TD} {c r : Nat} (h : msg (ccl d c r)) : rki d c r = -1 := by unfold rki; rw [tpif h]
theorem rki_n {d : TD} {c r : Nat} (h : ¬ msg (ccl d c r)) : rki d c r = (ct (befE d c (kyc d c r)) d.2.1 : Nat) := by unfold rki; rw [fpif h]
theorem rkv_i {d : TD} {c r : Nat} (hR : d.2.1 < 500) : (rkv d c r).toInt = rki d c r := by
  unfold rkv rki
  have := ct_le (befE d c (kyc d c r)) d.2.1
  by_cases q : msg (ccl d c r)
  · rw [tpif q, tpif q]; rfl
  · rw [fpif q, fpif q, nl_ofInt, Int64.toInt_ofInt_of_le (by omega) (by omega)]
theorem rki_lt {d : TD} {c r s : Nat} (hr : r < d.2.1) (h1 : ¬ msg (ccl d c r)) (h2 : ¬ msg (ccl d c s)) (h : kyc d c r < kyc d c s) : rki d c r < rki d c s := by
  rw [rki_n h1, rki_n h2]
  have := ct_lt (P := befE d c (kyc d c r)) (Q := befE d c (kyc d c s)) hr (fun q => by have := q.2; omega) ⟨h1, h⟩ (fun k _ q => ⟨q.1, by have := q.2; omega⟩)
  omega
theorem rki_key {d : TD} {c r s : Nat} (hr : r < d.2.1) (hs : s < d.2.1) (h1 : ¬ msg (ccl d c r)) (h2 : ¬ msg (ccl d c s)) : (rki d c r < rki d c s ↔ kyc d c r < kyc d c s) ∧ (rki d c r = rki d c s ↔ kyc d c r = kyc d c s) := by
  rcases Nat.lt_trichotomy (kyc d c r) (kyc d c s) with q | q | q
  · have := rki_lt hr h1 h2 q
    exact ⟨⟨fun _ => q, fun _ => this⟩, ⟨fun k => by omega, fun k => by omega⟩⟩
  · have : rki d c r = rki d c s := by rw [rki_n h1, rki_n h2, q]
    exact ⟨⟨fun k => by omega, fun k => by omega⟩, ⟨fun _ => q, fun _ => this⟩⟩
  · have := rki_lt hs h2 h1 q
    exact ⟨⟨fun k => by omega, fun k => by omega⟩, ⟨fun k => by omega, fun k => by omega⟩⟩
/-- the first row that has a row's word -/
theorem frs {d : TD} {c : Nat} : ∀ (p : Nat), ¬ msg (ccl d c p) → ∃ j, j ≤ p ∧ ¬ msg (ccl d c j) ∧ kyc d c j = kyc d c p ∧ ∀ q, q < j → msg (ccl d c q) ∨ kyc d c q ≠ kyc d c p := by
  intro p
  induction p using Nat.strongRecOn with
  | ind p ih =>
    intro hp
    by_cases h : ∀ q, q < p → msg (ccl d c q) ∨ kyc d c q ≠ kyc d c p
    · exact ⟨p, Nat.le_refl _, hp, rfl, h⟩
    · obtain ⟨q, hq⟩ := Classical.not_forall.mp h
      obtain ⟨hq1, hq2⟩ := Classical.not_imp.mp hq
      have q1 : ¬ msg (ccl d c q) := fun k => hq2 (Or.inl k)
      have q2 : kyc d c q = kyc d c p := Classical.byContradiction fun k => hq2 (Or.inr k)
      obtain ⟨j, j1, j2, j3, j4⟩ := ih q hq1 q1
      exact ⟨j, by omega, j2, by omega, fun x hx => by rw [← q2]; exact j4 x hx⟩
theorem bef_next {d : TD} {c p r : Nat} (hp : p < d.2.1) (h1 : ¬ msg (ccl d c p)) (h : kyc d c p < kyc d c r) (hb : ∀ x, x < d.2.1 → ¬ msg (ccl d c x) → kyc d c x < kyc d c r → kyc d c x ≤ kyc d c p) : ct (befM d c (kyc d c r)) d.2.1 = ct (befM d c (kyc d c p)) d.2.1 + 1 := by
  obtain ⟨j, j1, j2, j3, j4⟩ := frs p h1
  refine ct_one (j := j) d.2.1 (by omega) (fun q => by have := q.1.2; omega) (fun k hk => ⟨fun q => ?_, fun q => ?_⟩)
  · obtain ⟨⟨a1, a2⟩, a3⟩ := q
    have b := hb k hk a1 a2
    by_cases e : kyc d c k = kyc d c p
    · refine Or.inr ?_
      rcases Nat.lt_trichotomy k j with x | x | x
      · exact ((j4 k x).elim (fun z => absurd z a1) (fun z => absurd e z))
      · exact x
      · exact ((a3 j x).elim (fun z => absurd z j2) (fun z => absurd (by omega) z))
    · exact Or.inl ⟨⟨a1, by omega⟩, a3⟩
  · rcases q with q | q
    · exact ⟨⟨q.1.1, by have := q.1.2; omega⟩, q.2⟩
    · rw [q]
      exact ⟨⟨j2, by omega⟩, fun x hx => by rw [j3]; exact j4 x hx⟩
theorem bef_none {d : TD} {c r : Nat} (hb : ∀ x, x < d.2.1 → ¬ msg (ccl d c x) → ¬ kyc d c x < kyc d c r) : ct (befM d c (kyc d c r)) d.2.1 = 0 := ct_no _ (fun k hk q => hb k hk q.1.1 q.1.2)
/-- what sorting by ranks gives -/
def SRk (d : TD) (c : Nat) (P : Nat → Nat) : Prop := (∀ q, q < d.2.1 → P q < d.2.1) ∧ (∀ q q', q < q' → q' < d.2.1 → rki d c (P q) ≤ rki d c (P q')) ∧ ∀ y, y < d.2.1 → ∃ q, q < d.2.1 ∧ P q = y
theorem srk_ok {d : TD} {c : Nat} (hR : d.2.1 < 500) : SRk d c (srt 0 5 (rkv d c) d.2.1) := by
  obtain ⟨a1, a2⟩ := srt_ok (kd := 5) (v := rkv d c) (n := d.2.1) (by omega)
  refine ⟨a1, fun q q' h1 h2 => ?_, srt_surj (by omega)⟩
  have e : ∀ i, lnT 5 (rkv d c i) = rki d c i := fun i => by
    unfold lnT
    rw [if_pos (by decide), rkv_i hR]
  have := a2 q q' h1 h2
  unfold lex2 at this
  simp only [e] at this
  omega
/-- the number that the engine has before a place -/
noncomputable def nbv (d : TD) (c : Nat) (P : Nat → Nat) : Nat → Int64
  | 0 => -1
  | k + 1 => cwv d c (P k)
theorem rki_ge {d : TD} {c r : Nat} : -1 ≤ rki d c r ∧ (rki d c r = -1 ↔ msg (ccl d c r)) := by
  by_cases q : msg (ccl d c r)
  · rw [rki_m q]; exact ⟨by omega, ⟨fun _ => q, fun _ => rfl⟩⟩
  · rw [rki_n q]; exact ⟨by omega, ⟨fun k => by omega, fun k => absurd k q⟩⟩
theorem nbv_0 {d : TD} {c : Nat} {P : Nat → Nat} (s : SRk d c P) {k : Nat} (hk : k < d.2.1) (hm : msg (ccl d c (P k))) : nbv d c P k = -1 := by
  cases k with
  | zero => rfl
  | succ k =>
    have a := s.2.1 k (k + 1) (by omega) hk
    have b := rki_ge (d := d) (c := c) (r := P k)
    rw [rki_m hm] at a
    show cwv d c (P k) = -1
    unfold cwv
    rw [tpif (b.2.mp (by omega))]
/-- rows of smaller ranks stand ahead -/
theorem srk_at {d : TD} {c : Nat} {P : Nat → Nat} (s : SRk d c P) {k x : Nat} (hk : k < d.2.1) (hx : x < d.2.1) (h : rki d c x < rki d c (P k)) : ∃ q, q < k ∧ P q = x := by
  obtain ⟨q, q1, q2⟩ := s.2.2 x hx
  refine ⟨q, ?_, q2⟩
  rcases Nat.lt_trichotomy q k with y | y | y
  · exact y
  · rw [← q2, y] at h; omega
  · have := s.2.1 k q y q1
    rw [q2] at this
    omega
theorem nbv_f {d : TD} {c : Nat} {P : Nat → Nat} (s : SRk d c P) (hk : 0 < d.2.1) (hm : ¬ msg (ccl d c (P 0))) : cwv d c (P 0) = nbv d c P 0 + 1 := by
  unfold cwv
  rw [fpif hm, bef_none (fun x hx h1 h2 => by
    have := rki_lt hx h1 hm h2
    obtain ⟨q, q1, -⟩ := srk_at s hk hx this
    omega)]
  show nl 0 = (-1 : Int64) + 1
  decide
theorem nbv_e {d : TD} {c : Nat} {P : Nat → Nat} (s : SRk d c P) {k : Nat} (hk : k + 1 < d.2.1) (hm : ¬ msg (ccl d c (P (k + 1)))) (h : rki d c (P k) = rki d c (P (k + 1))) : cwv d c (P (k + 1)) = nbv d c P (k + 1) := by
  have a := rki_ge (d := d) (c := c) (r := P (k + 1))
  have b := rki_ge (d := d) (c := c) (r := P k)
  have m2 : ¬ msg (ccl d c (P k)) := fun q => by
    have := b.2.mpr q
    exact hm (a.2.mp (by omega))
  have e := (rki_key (s.1 k (by omega)) (s.1 (k + 1) hk) m2 hm).2.mp h
  show cwv d c (P (k + 1)) = cwv d c (P k)
  unfold cwv
  rw [fpif hm, fpif m2, e]
theorem nbv_n {d : TD} {c : Nat} {P : Nat → Nat} (s : SRk d c P) {k : Nat} (hk : k + 1 < d.2.1) (hm : ¬ msg (ccl d c (P (k + 1)))) (h : ¬ rki d c (P k) = rki d c (P (k + 1))) : cwv d c (P (k + 1)) = nbv d c P (k + 1) + 1 := by
  have b := rki_ge (d := d) (c := c) (r := P k)
  have o := s.2.1 k (k + 1) (by omega) hk
  show cwv d c (P (k + 1)) = cwv d c (P k) + 1
  unfold cwv
  rw [fpif hm]
  by_cases m2 : msg (ccl d c (P k))
  · rw [tpif m2, bef_none (fun x hx h1 h2 => by
      have l := rki_lt hx h1 hm h2
      obtain ⟨q, q1, q2⟩ := srk_at s hk hx l
      have b2 := b.2.mpr m2
      have b3 := rki_ge (d := d) (c := c) (r := x)
      have le : rki d c (P q) ≤ rki d c (P k) := by
        rcases Nat.lt_or_ge q k with y | y
        · exact s.2.1 q k y (by omega)
        · rw [show q = k by omega]; exact Int.le_refl _
      rw [q2] at le
      exact h1 (b3.2.mp (by omega)))]
    rfl
  · rw [fpif m2, bef_next (s.1 k (by omega)) m2 ((rki_key (s.1 k (by omega)) (s.1 (k + 1) hk) m2 hm).1.mp (by omega)) (fun x hx h1 h2 => by
      have l := rki_lt hx h1 hm h2
      obtain ⟨q, q1, q2⟩ := srk_at s hk hx l
      have le : rki d c (P q) ≤ rki d c (P k) := by
        rcases Nat.lt_or_ge q k with y | y
        · exact s.2.1 q k y (by omega)
        · rw [show q = k by omega]; exact Int.le_refl _
      rw [q2] at le
      rcases Nat.lt_or_ge (kyc d c (P k)) (kyc d c x) with y | y
      · have := rki_lt (s.1 k (by omega)) m2 h1 y; omega
      · exact y), ← nl_add]
    rfl
theorem cwv_vb (d : TD) (c r : Nat) (hR : d.2.1 < 500) : vb 4 (cwv d c r) := by
  unfold cwv
  have := ct_le (befM d c (kyc d c r)) d.2.1
  by_cases q : msg (ccl d c r)
  · rw [tpif q]; exact vb4 (-1)
  · rw [fpif q, nl_ofInt, ← iw_64 (by omega)]; exact vb4 _
