/-! ===== GRIDS, 5: the spot at hand; get, put ===== -/
theorem E_spot_loop {M : Mem} {a : Nat} {k : Int32} {n : Nat} {z : Nat → Nat} {s : Nat → Int32} {b : Int32} {c : Nat} {p : Int32} (h : ST M) (g : GE M a k n z s b c p) (hn : n ≤ 4) (hz : ∀ i, i < n → z i ≤ 4096) (w : Nat → Int32) (hw : ∀ i, i < n → cI M 1061 i = w i) : ∀ (j N m : Nat) (t : Int32), m + j = n → j + 1 ≤ N →
    ((∀ i, m ≤ i → i < n → 0 ≤ (w i).toInt ∧ (w i).toInt < z i) → F_X0_spotOf_b18 N M 1000 a (iw (n : Int)) t (iw (m : Int)) = some (t + iw (sm s (fun i => (w i).toInt.toNat) n - sm s (fun i => (w i).toInt.toNat) m))) ∧
    (¬ (∀ i, m ≤ i → i < n → 0 ≤ (w i).toInt ∧ (w i).toInt < z i) → F_X0_spotOf_b18 N M 1000 a (iw (n : Int)) t (iw (m : Int)) = some (-2)) := by
  obtain ⟨g1, g2, g3, g4, g5, g6, g7, g8, g9, g10⟩ := g
  intro j
  induction j with
  | zero =>
    intro N m t hm hN
    obtain ⟨N, rfl⟩ : ∃ x, N = x + 1 := ⟨N - 1, by omega⟩
    have : m = n := by omega
    subst this
    refine ⟨fun _ => ?_, fun hh => absurd (fun i h1 h2 => by omega) hh⟩
    show F_X0_spotOf_b18_st (F_X0_spotOf_b18 N) M 1000 a _ _ _ = _
    unfold F_X0_spotOf_b18_st
    simp only [iw_le4 (show m ≤ 2147483647 by omega) (show m ≤ 2147483647 by omega), Nat.lt_irrefl, if_false, Int.sub_self]
    rw [show iw 0 = 0 from rfl, Int32.add_zero]
  | succ j ih =>
    intro N m t hm hN
    obtain ⟨N, rfl⟩ : ∃ x, N = x + 1 := ⟨N - 1, by omega⟩
    have hlt : m < n := by omega
    have hzm := hz m hlt
    have sp : ai M 1061 (iw (m : Int)) = some (w m) := by rw [ai_of (t1061 h) (l1061 h) (show m < 4 by omega) (by decide), hw m hlt]
    have st : F_X0_spotOf_b18 (N + 1) M 1000 a (iw (n : Int)) t (iw (m : Int)) = if w m < 0 then some (-2) else if w m < iw (z m : Nat) then F_X0_spotOf_b18 N M 1000 a (iw (n : Int)) (t + w m * s m) (iw ((m + 1 : Nat) : Int)) else some (-2) := by
      show F_X0_spotOf_b18_st (F_X0_spotOf_b18 N) M 1000 a _ _ _ = _
      unfold F_X0_spotOf_b18_st F_X0_spotOf_b51
      have e2 : iw (m : Int) + 1 = iw ((m + 1 : Nat) : Int) := by rw [show (1 : Int32) = iw 1 from rfl, iw_add]; rfl
      simp only [iw_le4 (show m ≤ 2147483647 by omega) (show n ≤ 2147483647 by omega), hlt, if_true, g1000_86, h, sp, Option.bind_some, gr_of g3 (show x_fr 22 1410 = true by decide), gr_of g3 (show x_fr 22 1411 = true by decide), g6.ai hn hlt, g7.ai hn hlt, e2]
    rw [st]
    have q1 : w m < 0 ↔ (w m).toInt < 0 := by rw [Int32.lt_iff_toInt_lt]; rfl
    have q2 : w m < iw (z m : Nat) ↔ (w m).toInt < z m := by rw [Int32.lt_iff_toInt_lt, iw_toInt (by omega) (by omega)]
    obtain ⟨i1, i2⟩ := ih N (m + 1) (t + w m * s m) (by omega) (by omega)
    by_cases c1 : w m < 0
    · rw [if_pos c1]
      exact ⟨fun hh => by have := (hh m (Nat.le_refl _) hlt).1; have := q1.mp c1; omega, fun _ => rfl⟩
    · rw [if_neg c1]
      by_cases c2 : w m < iw (z m : Nat)
      · rw [if_pos c2]
        have r0 : 0 ≤ (w m).toInt ∧ (w m).toInt < z m := ⟨by rw [q1] at c1; omega, q2.mp c2⟩
        refine ⟨fun hh => ?_, fun hh => ?_⟩
        · rw [i1 (fun i h1 h2 => hh i (by omega) h2), Int32.add_assoc]
          refine congrArg (fun y => some (t + y)) ?_
          have e4 : w m * s m = iw (((w m).toInt.toNat : Int) * (s m).toInt) := by
            rw [← iw_mul, iw_of, show (((w m).toInt.toNat : Nat) : Int) = (w m).toInt by omega, iw_of]
          rw [e4, iw_add]
          refine congrArg iw ?_
          show _ + (sm s _ n - (((w m).toInt.toNat : Int) * (s m).toInt + sm s _ m)) = _
          omega
        · refine i2 (fun h2 => hh (fun i h3 h4 => ?_))
          by_cases e : i = m
          · subst e; exact r0
          · exact h2 i (by omega) h4
      · rw [if_neg c2]
        exact ⟨fun hh => by have := (hh m (Nat.le_refl _) hlt).2; exact absurd (q2.mpr this) c2, fun _ => rfl⟩
theorem M_spot_loop {M : Mem} {a : Nat} {k : Int32} {n : Nat} {z : Nat → Nat} {s : Nat → Int32} {b : Int32} {c : Nat} {p : Int32} (h : ST M) (g : GM M a k n z s b c p) (hn : n ≤ 4) (hz : ∀ i, i < n → z i ≤ 4096) (w : Nat → Int32) (hw : ∀ i, i < n → cI M 1072 i = w i) : ∀ (j N m : Nat) (t : Int32), m + j = n → j + 1 ≤ N →
    ((∀ i, m ≤ i → i < n → 0 ≤ (w i).toInt ∧ (w i).toInt < z i) → F_X16_spotIn_b18 N M 1068 a (iw (n : Int)) t (iw (m : Int)) = some (t + iw (sm s (fun i => (w i).toInt.toNat) n - sm s (fun i => (w i).toInt.toNat) m))) ∧
    (¬ (∀ i, m ≤ i → i < n → 0 ≤ (w i).toInt ∧ (w i).toInt < z i) → F_X16_spotIn_b18 N M 1068 a (iw (n : Int)) t (iw (m : Int)) = some (-2)) := by
  obtain ⟨g1, g2, g3, g4, g6, g7, g8, g9, g10⟩ := g
  intro j
  induction j with
  | zero =>
    intro N m t hm hN
    obtain ⟨N, rfl⟩ : ∃ x, N = x + 1 := ⟨N - 1, by omega⟩
    have : m = n := by omega
    subst this
    refine ⟨fun _ => ?_, fun hh => absurd (fun i h1 h2 => by omega) hh⟩
    show F_X16_spotIn_b18_st (F_X16_spotIn_b18 N) M 1068 a _ _ _ = _
    unfold F_X16_spotIn_b18_st
    simp only [iw_le4 (show m ≤ 2147483647 by omega) (show m ≤ 2147483647 by omega), Nat.lt_irrefl, if_false, Int.sub_self]
    rw [show iw 0 = 0 from rfl, Int32.add_zero]
  | succ j ih =>
    intro N m t hm hN
    obtain ⟨N, rfl⟩ : ∃ x, N = x + 1 := ⟨N - 1, by omega⟩
    have hlt : m < n := by omega
    have hzm := hz m hlt
    have sp : ai M 1072 (iw (m : Int)) = some (w m) := by rw [ai_of (t1072 h) (l1072 h) (show m < 4 by omega) (by decide), hw m hlt]
    have st : F_X16_spotIn_b18 (N + 1) M 1068 a (iw (n : Int)) t (iw (m : Int)) = if w m < 0 then some (-2) else if w m < iw (z m : Nat) then F_X16_spotIn_b18 N M 1068 a (iw (n : Int)) (t + w m * s m) (iw ((m + 1 : Nat) : Int)) else some (-2) := by
      show F_X16_spotIn_b18_st (F_X16_spotIn_b18 N) M 1068 a _ _ _ = _
      unfold F_X16_spotIn_b18_st F_X16_spotIn_b51
      have e2 : iw (m : Int) + 1 = iw ((m + 1 : Nat) : Int) := by rw [show (1 : Int32) = iw 1 from rfl, iw_add]; rfl
      simp only [iw_le4 (show m ≤ 2147483647 by omega) (show n ≤ 2147483647 by omega), hlt, if_true, g1068_1097, h, sp, Option.bind_some, gr_of g3 (show x_fr 23 1473 = true by decide), gr_of g3 (show x_fr 23 1474 = true by decide), g6.ai hn hlt, g7.ai hn hlt, e2]
    rw [st]
    have q1 : w m < 0 ↔ (w m).toInt < 0 := by rw [Int32.lt_iff_toInt_lt]; rfl
    have q2 : w m < iw (z m : Nat) ↔ (w m).toInt < z m := by rw [Int32.lt_iff_toInt_lt, iw_toInt (by omega) (by omega)]
    obtain ⟨i1, i2⟩ := ih N (m + 1) (t + w m * s m) (by omega) (by omega)
    by_cases c1 : w m < 0
    · rw [if_pos c1]
      exact ⟨fun hh => by have := (hh m (Nat.le_refl _) hlt).1; have := q1.mp c1; omega, fun _ => rfl⟩
    · rw [if_neg c1]
      by_cases c2 : w m < iw (z m : Nat)
      · rw [if_pos c2]
        have r0 : 0 ≤ (w m).toInt ∧ (w m).toInt < z m := ⟨by rw [q1] at c1; omega, q2.mp c2⟩
        refine ⟨fun hh => ?_, fun hh => ?_⟩
        · rw [i1 (fun i h1 h2 => hh i (by omega) h2), Int32.add_assoc]
          refine congrArg (fun y => some (t + y)) ?_
          have e4 : w m * s m = iw (((w m).toInt.toNat : Int) * (s m).toInt) := by
            rw [← iw_mul, iw_of, show (((w m).toInt.toNat : Nat) : Int) = (w m).toInt by omega, iw_of]
          rw [e4, iw_add]
          refine congrArg iw ?_
          show _ + (sm s _ n - (((w m).toInt.toNat : Int) * (s m).toInt + sm s _ m)) = _
          omega
        · refine i2 (fun h2 => hh (fun i h3 h4 => ?_))
          by_cases e : i = m
          · subst e; exact r0
          · exact h2 i (by omega) h4
      · rw [if_neg c2]
        exact ⟨fun hh => by have := (hh m (Nat.le_refl _) hlt).2; exact absurd (q2.mpr this) c2, fun _ => rfl⟩
/-- the spot at hand in a grid: -1, -2 or a place -/
def spv (n : Nat) (z : Nat → Nat) (s : Nat → Int32) (x : Int32) (u : Nat) (w : Nat → Int32) : Int32 :=
  if u = n then (if ∀ i, i < u → (0 ≤ (w i).toInt ∧ (w i).toInt < z i) then iw (x.toInt + sm s (fun i => (w i).toInt.toNat) u) else -2) else -1
theorem GP.spot {M : Mem} {a b : Nat} {k : Int32} {n : Nat} {z : Nat → Nat} {s t : Nat → Int32} {x y : Int32} {c d L : Nat} {p : Int32} (h : ST M) (g : GP M a b k n z s t x y c d L p) {u : Nat} (hu : u ≤ 4) (w : Nat → Int32) (hw : ∀ i, i < u → cI M 1061 i = w i ∧ cI M 1072 i = w i) :
    F_X0_spotOf M 1000 a (iw (u : Int)) = some (spv n z s x u w) ∧ F_X16_spotIn M 1068 b (iw (u : Int)) = some (spv n z s x u w) ∧
    ((spv n z s x u w = -1 ∧ u ≠ n) ∨ (spv n z s x u w = -2 ∧ u = n) ∨ ∃ q : Nat, q < L ∧ spv n z s x u w = iw (q : Int) ∧ u = n) := by
  obtain ⟨gE, gM, hk, hn, hz, hc, hp, hC, hv⟩ := g
  have eq : iw (u : Int) = iw (n : Int) ↔ u = n := by rw [iw_eq (by omega) (by omega) (by omega) (by omega)]; omega
  unfold spv
  by_cases hun : u = n
  · subst hun
    have lE := E_spot_loop h gE hn hz w (fun i hi => (hw i hi).1) u xN 0 x (by omega) (by have : xN = 1099511627776 := rfl; omega)
    have lM := M_spot_loop h gM hn hz w (fun i hi => (hw i hi).2) u xN 0 y (by omega) (by have : xN = 1099511627776 := rfl; omega)
    have uE : F_X0_spotOf M 1000 a (iw (u : Int)) = F_X0_spotOf_b18 xN M 1000 a (iw (u : Int)) x (iw ((0 : Nat) : Int)) := by
      unfold F_X0_spotOf
      simp only [gi_of gE.2.2.1 (show x_fi 22 1409 = true by decide), gi_of gE.2.2.1 (show x_fi 22 1412 = true by decide), gE.2.2.2.2.1, gE.2.2.2.2.2.2.2.1, Option.bind_some, if_true]
      rfl
    have uM : F_X16_spotIn M 1068 b (iw (u : Int)) = F_X16_spotIn_b18 xN M 1068 b (iw (u : Int)) y (iw ((0 : Nat) : Int)) := by
      unfold F_X16_spotIn
      simp only [vg_of gM.2.2.1 (show x_isa 23 23 = true by decide), M_axes gM, gi_of gM.2.2.1 (show x_fi 23 1475 = true by decide), gM.2.2.2.2.2.2.1, Option.bind_some, if_true]
      rfl
    rw [uE, uM, if_pos rfl]
    by_cases ha : ∀ i, i < u → (0 ≤ (w i).toInt ∧ (w i).toInt < z i)
    · have ha' : ∀ i, 0 ≤ i → i < u → 0 ≤ (w i).toInt ∧ (w i).toInt < z i := fun i _ hi => ha i hi
      have h0 : prd z u ≠ 0 := (prd_pos u).mpr (fun i hi => by have := ha i hi; omega)
      obtain ⟨v1, v2, v3⟩ := hv h0
      have hix : ∀ i, i < u → (fun i => (w i).toInt.toNat) i < z i := fun i hi => by
        have := ha i hi
        show (w i).toInt.toNat < z i
        omega
      have hr := v3.pos hix
      have e0 : ∀ s' : Nat → Int32, sm s' (fun i => (w i).toInt.toNat) 0 = 0 := fun _ => rfl
      have ex : x = iw x.toInt := (iw_of _).symm
      rw [if_pos ha]
      refine ⟨?_, ?_, Or.inr (Or.inr ⟨(x.toInt + sm s (fun i => (w i).toInt.toNat) u).toNat, by omega, ?_, rfl⟩)⟩
      · rw [lE.1 ha', e0, Int.sub_zero, ex, iw_add, ← ex]
      · rw [lM.1 ha', e0, Int.sub_zero, ← v1, ← sm_ag u hix v2, ex, iw_add, ← ex]
      · refine congrArg iw ?_
        omega
    · have ha' : ¬ ∀ i, 0 ≤ i → i < u → 0 ≤ (w i).toInt ∧ (w i).toInt < z i := fun hh => ha (fun i hi => hh i (Nat.zero_le _) hi)
      rw [if_neg ha]
      exact ⟨lE.2 ha', lM.2 ha', Or.inr (Or.inl ⟨rfl, rfl⟩)⟩
  · have hne : ¬ iw (u : Int) = iw (n : Int) := fun hh => hun (eq.mp hh)
    rw [if_neg hun]
    refine ⟨?_, ?_, Or.inl ⟨rfl, hun⟩⟩
    · unfold F_X0_spotOf
      simp only [gi_of gE.2.2.1 (show x_fi 22 1409 = true by decide), gE.2.2.2.2.1, Option.bind_some, hne, if_false]
    · unfold F_X16_spotIn
      simp only [vg_of gM.2.2.1 (show x_isa 23 23 = true by decide), M_axes gM, Option.bind_some, hne, if_false]
theorem wI_wI (M : Mem) (a i : Nat) (v w : Int32) : wI (wI M a i v) a i w = wI M a i w := by
  unfold wI uI
  refine Prod.ext rfl (Prod.ext rfl (Prod.ext rfl (Prod.ext rfl (Prod.ext ?_ rfl))))
  funext b
  by_cases hb : b = a
  · subst hb
    simp only [if_true]
    funext j
    unfold c_up cI
    by_cases hj : j = i
    · simp [hj]
    · simp [hj]
  · simp [hb]
