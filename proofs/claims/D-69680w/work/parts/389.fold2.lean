/-! ===== FOLDS, 2: a row is folded ===== -/
noncomputable def fogo (w k : Int32) (v : Nat → Int64) : Nat → Nat → Int64 → Option Int64
  | _, 0, so => some so
  | i, e + 1, so => match foS w k so (v i) with
    | none => none
    | some r => fogo w k v (i + 1) e r
theorem fogo_none {w k : Int32} {v : Nat → Int64} {i e : Nat} {so : Int64} (h : foS w k so (v i) = none) : fogo w k v i (e + 1) so = none := by
  show (match foS w k so (v i) with | none => none | some r => fogo w k v (i + 1) e r) = _
  rw [h]
theorem fogo_some {w k : Int32} {v : Nat → Int64} {i e : Nat} {so r : Int64} (h : foS w k so (v i) = some r) : fogo w k v i (e + 1) so = fogo w k v (i + 1) e r := by
  show (match foS w k so (v i) with | none => none | some r => fogo w k v (i + 1) e r) = _
  rw [h]
theorem fogo_vb {w k : Int32} {v : Nat → Int64} (hw : Wy w) (hk : Lk k) (ht : foT w k = true) (h8 : w ≠ 8) : ∀ (e i : Nat) (so r : Int64), (∀ x, i ≤ x → x < i + e → vb k (v x)) → foV w k i so → fogo w k v i e so = some r → foV w k (i + e) r
  | 0, i, so, r, _, h2, h3 => by
    have := Option.some.inj h3
    rw [← this]
    exact h2
  | e + 1, i, so, r, h1, h2, h3 => by
    cases hc : foS w k so (v i) with
    | none => rw [fogo_none hc] at h3; cases h3
    | some q =>
      rw [fogo_some hc] at h3
      have := fogo_vb hw hk ht h8 e (i + 1) q r (fun x a b => h1 x (by omega) (by omega)) (foS_vb hw hk ht h8 h2 (h1 i (Nat.le_refl _) (by omega)) hc) h3
      rw [show i + (e + 1) = i + 1 + e by omega]
      exact this
/-- by pairs -/
noncomputable def fopr (k : Int32) (v : Nat → Int64) : Nat → Nat → Nat → Option Int64
  | 0, _, _ => none
  | f + 1, i, n => if n = 0 then some 0 else if n = 1 then some (v i) else match fopr k v f i (n / 2) with
    | none => none
    | some a => match fopr k v f (i + n / 2) (n - n / 2) with
      | none => none
      | some b => ari 1 k a b
theorem fopr_s {k : Int32} {v : Nat → Int64} {f i n : Nat} (h0 : n ≠ 0) (h1 : n ≠ 1) : fopr k v (f + 1) i n = match fopr k v f i (n / 2) with
    | none => none
    | some a => match fopr k v f (i + n / 2) (n - n / 2) with
      | none => none
      | some b => ari 1 k a b := by
  show (if n = 0 then some 0 else if n = 1 then some (v i) else _) = _
  rw [if_neg h0, if_neg h1]
theorem fopr_vb {k : Int32} {v : Nat → Int64} (hk : k = 6 ∨ k = 7) : ∀ (f i n : Nat) (r : Int64), (∀ x, i ≤ x → x < i + n → vb k (v x)) → fopr k v f i n = some r → vb k r := by
  have ak : Ak k := by rcases hk with q | q <;> simp [Ak, q]
  intro f
  induction f with
  | zero => intro i n r _ h; cases h
  | succ f ih =>
    intro i n r hv h
    by_cases c0 : n = 0
    · have : some (0 : Int64) = some r := by rw [← h, c0]; rfl
      rw [← Option.some.inj this]
      exact vb_0 (Ak_Lk ak)
    · by_cases c1 : n = 1
      · have : some (v i) = some r := by rw [← h, c1]; rfl
        rw [← Option.some.inj this]
        exact hv i (Nat.le_refl _) (by omega)
      · rw [fopr_s c0 c1] at h
        cases ha : fopr k v f i (n / 2) with
        | none => rw [ha] at h; cases h
        | some a =>
          cases hb : fopr k v f (i + n / 2) (n - n / 2) with
          | none => rw [ha, hb] at h; cases h
          | some b =>
            rw [ha, hb] at h
            exact ari_vb (by unfold Wk; decide) ak (ih _ _ _ (fun x q1 q2 => hv x (by omega) (by omega)) ha) (ih _ _ _ (fun x q1 q2 => hv x (by omega) (by omega)) hb) h
/-- the fold of a row -/
noncomputable def foAll (w k : Int32) (v : Nat → Int64) (n : Nat) : Option Int64 := if w = 8 then fopr k v 30 0 n else fogo w k v 0 n (foB w k (if 0 < n then v 0 else 0))
theorem foAll_vb {w k : Int32} {v : Nat → Int64} {n : Nat} {r : Int64} (hw : Wy w) (hk : Lk k) (ht : foT w k = true) (hn : n < 2147483648) (hv : ∀ x, x < n → vb k (v x)) (h : foAll w k v n = some r) : vb (foL w k) r := by
  unfold foAll at h
  by_cases h8 : w = 8
  · rw [if_pos h8] at h
    subst h8
    have hk' : k = 6 ∨ k = 7 := by rcases hk with rfl | rfl | rfl | rfl | rfl | rfl | rfl | rfl <;> first | exact absurd ht (by decide) | exact Or.inl rfl | exact Or.inr rfl
    exact fopr_vb hk' 30 0 n r (fun x _ q => hv x (by omega)) h
  · rw [if_neg h8] at h
    have := fogo_vb hw hk ht h8 n 0 _ r (fun x _ q => hv x (by omega)) (foB_V hw hk ht h8 (by
      by_cases c : 0 < n
      · rw [if_pos c]; exact hv 0 c
      · rw [if_neg c]; exact vb_0 hk)) h
    exact foV_vb this (by omega)
theorem iw_half {n : Nat} (h : n < 2147483648) : iw (n : Int) / 2 = iw ((n / 2 : Nat) : Int) := by
  rw [show (2 : Int32) = iw 2 from rfl, iw_div (by omega) (by omega) (by decide) (by decide)]
  rfl
theorem iw_nsub {n m : Nat} (h : m ≤ n) : iw (n : Int) - iw (m : Int) = iw ((n - m : Nat) : Int) := by
  rw [iw_sub]
  congr 1
  omega
theorem iw_nad (n m : Nat) : iw (n : Int) + iw (m : Int) = iw ((n + m : Nat) : Int) := by
  rw [iw_add]
  rfl
theorem n20 : ¬ (2 : Int32) = 0 := by decide
theorem E_paired {M : Mem} {k : Int32} {v : Nat → Int64} {row W : Nat} (hk : k = 6 ∨ k = 7) (t : m_tg M row = 1006) (l : m_ln M row = W) (hW : W ≤ 100000) (hv : ∀ x, x < W → cJ M row x = v x) : ∀ (f F i n : Nat), n ≤ 2 ^ f → f + 1 ≤ F → i + n ≤ W → (∀ x, i ≤ x → x < i + n → vb k (v x)) →
    R_3 F M k row (iw (i : Int)) (iw (n : Int)) 1002 = eRes (fopr k v (f + 1) i n) M 1002 := by
  have ak : Ak k := by rcases hk with q | q <;> simp [Ak, q]
  intro f
  induction f with
  | zero =>
    intro F i n h1 h2 h3 h4
    obtain ⟨F, rfl⟩ : ∃ y, F = y + 1 := ⟨F - 1, by omega⟩
    have : n = 0 ∨ n = 1 := by simp at h1; omega
    rcases this with rfl | rfl
    · rfl
    · show (al M row (iw (i : Int))).bind _ = _
      rw [al_of t l (by omega) (by omega), hv i (by omega)]
      rfl
  | succ f ih =>
    intro F i n h1 h2 h3 h4
    obtain ⟨F, rfl⟩ : ∃ y, F = y + 1 := ⟨F - 1, by omega⟩
    show F_X51_paired_o (R_3 F) M k row (iw (i : Int)) (iw (n : Int)) 1002 = _
    unfold F_X51_paired_o
    by_cases c0 : n = 0
    · subst c0
      rfl
    · rw [if_neg (by rw [iw_eq0 (by omega) (by omega)]; omega)]
      by_cases c1 : n = 1
      · subst c1
        rw [if_pos (show iw ((1 : Nat) : Int) = 1 from rfl), al_of t l (by omega) (by omega), hv i (by omega)]
        rfl
      · rw [if_neg (by rw [show (1 : Int32) = iw ((1 : Nat) : Int) from rfl, iw_eq (by omega) (by omega) (by omega) (by omega)]; omega)]
        simp only [n20, if_false, iw_half (show n < 2147483648 by omega), iw_nsub (Nat.div_le_self n 2), iw_nad]
        have hp : 2 ^ (f + 1) = 2 * 2 ^ f := by rw [Nat.pow_succ, Nat.mul_comm]
        rw [ih F i (n / 2) (by omega) (by omega) (by omega) (fun x q1 q2 => h4 x (by omega) (by omega)), fopr_s c0 c1]
        cases ha : fopr k v (f + 1) i (n / 2) with
        | none => exact tb_ei
        | some a =>
          show (tb (R_3 F M k row _ _ 1002) fun z3 => tb (F_X23_arithmetic z3.2 1 k a z3.1 1002) fun z4 => some (.inl (z4.1, z4.2))) = _
          rw [ih F (i + n / 2) (n - n / 2) (by omega) (by omega) (by omega) (fun x q1 q2 => h4 x (by omega) (by omega))]
          cases hb : fopr k v (f + 1) (i + n / 2) (n - n / 2) with
          | none => exact tb_ei
          | some b =>
            show (tb (F_X23_arithmetic M 1 k a b 1002) fun z4 => some (.inl (z4.1, z4.2))) = _
            rw [E_ari (by unfold Wk; decide) ak (fopr_vb hk _ _ _ _ (fun x q1 q2 => h4 x (by omega) (by omega)) ha) (fopr_vb hk _ _ _ _ (fun x q1 q2 => h4 x (by omega) (by omega)) hb)]
            exact tb_e
theorem E_all_loop {M : Mem} {w k : Int32} {v : Nat → Int64} {row W n : Nat} (hw : Wy w) (hk : Lk k) (ht : foT w k = true) (h8 : w ≠ 8) (t : m_tg M row = 1006) (l : m_ln M row = W) (hW : W ≤ 100000) (hn : n ≤ W) (hv : ∀ x, x < n → cJ M row x = v x ∧ vb k (v x)) : ∀ (e N i : Nat) (so : Int64), i + e = n → e + 1 ≤ N → foV w k i so →
    F_X51_all_b47 N M w k row 0 (iw (n : Int)) 1002 (foL w k) so (iw (i : Int)) = eRes (fogo w k v i e so) M 1002 := by
  intro e
  induction e with
  | zero =>
    intro N i so h1 h2 h3
    obtain ⟨N, rfl⟩ : ∃ y, N = y + 1 := ⟨N - 1, by omega⟩
    show F_X51_all_b47_st (F_X51_all_b47 N) M w k row 0 (iw (n : Int)) 1002 (foL w k) so (iw (i : Int)) = _
    unfold F_X51_all_b47_st
    rw [if_neg (by rw [iw_le4 (by omega) (by omega)]; omega)]
    rfl
  | succ e ih =>
    intro N i so h1 h2 h3
    obtain ⟨N, rfl⟩ : ∃ y, N = y + 1 := ⟨N - 1, by omega⟩
    show F_X51_all_b47_st (F_X51_all_b47 N) M w k row 0 (iw (n : Int)) 1002 (foL w k) so (iw (i : Int)) = _
    unfold F_X51_all_b47_st
    have hvi := hv i (by omega)
    rw [if_pos (by rw [iw_le4 (by omega) (by omega)]; omega), Int32.zero_add, al_of t l (show i < W by omega) (by omega), hvi.1]
    simp only [Option.bind_some]
    rw [E_fadd hw hk ht h8 h3.1 hvi.2]
    cases hc : foS w k so (v i) with
    | none =>
      rw [fogo_none hc]
      exact tb_ei
    | some r =>
      rw [fogo_some hc]
      show F_X51_all_b47 N M w k row 0 (iw (n : Int)) 1002 (foL w k) r (iw (i : Int) + 1) = _
      rw [iw_succ, ih N (i + 1) r (by omega) (by omega) (foS_vb hw hk ht h8 h3 hvi.2 hc)]
theorem E_all {M : Mem} {w k : Int32} {v : Nat → Int64} {row W n : Nat} (hw : Wy w) (hk : Lk k) (ht : foT w k = true) (t : m_tg M row = 1006) (l : m_ln M row = W) (hW : W ≤ 100000) (hn : n ≤ W) (hv : ∀ x, x < n → cJ M row x = v x ∧ vb k (v x)) :
    F_X51_all M w k row 0 (iw (n : Int)) 1002 = eRes (foAll w k v n) M 1002 := by
  have hxN : xN = 1099511627776 := rfl
  unfold F_X51_all foAll
  by_cases h8 : w = 8
  · rw [if_pos h8, if_pos h8]
    subst h8
    have hk' : k = 6 ∨ k = 7 := by rcases hk with rfl | rfl | rfl | rfl | rfl | rfl | rfl | rfl <;> first | exact absurd ht (by decide) | exact Or.inl rfl | exact Or.inr rfl
    show (tb (R_3 xR M k row (iw ((0 : Nat) : Int)) (iw (n : Int)) 1002) fun z5 => some (.inl (z5.1, z5.2))) = _
    have e : ∀ f i m, (∀ x, i ≤ x → x < i + m → x < n) → fopr k v f i m = fopr k (fun x => cJ M row x) f i m := by
      intro f
      induction f with
      | zero => intro i m _; rfl
      | succ f ih =>
        intro i m h
        by_cases c0 : m = 0
        · subst c0; rfl
        · by_cases c1 : m = 1
          · subst c1
            show some (v i) = some (cJ M row i)
            rw [(hv i (h i (Nat.le_refl _) (by omega))).1]
          · rw [fopr_s c0 c1, fopr_s c0 c1, ih i (m / 2) (fun x q1 q2 => h x (by omega) (by omega)), ih (i + m / 2) (m - m / 2) (fun x q1 q2 => h x (by omega) (by omega))]
    rw [e 30 0 n (fun x _ q => by omega), E_paired (v := fun x => cJ M row x) hk' t l hW (fun x _ => rfl) 29 xR 0 n (by omega) (by decide) (by omega) (fun x _ q => by rw [(hv x (by omega)).1]; exact (hv x (by omega)).2)]
    exact tb_e
  · rw [if_neg h8, if_neg h8, (E_takes hw hk).2.1]
    simp only [Option.bind_some]
    by_cases c : 0 < n
    · rw [if_pos (by rw [show (0 : Int32) = iw ((0 : Nat) : Int) from rfl, iw_le4 (by omega) (by omega)]; exact c), if_pos c, show (0 : Int32) = iw ((0 : Nat) : Int) from rfl, al_of t l (show 0 < W by omega) (by omega), (hv 0 c).1]
      simp only [Option.bind_some, F_X51_all_b39]
      rw [E_begin hw h8]
      simp only [Option.bind_some]
      exact E_all_loop hw hk ht h8 t l hW hn hv n xN 0 _ (by omega) (by omega) (foB_V hw hk ht h8 (hv 0 c).2)
    · rw [if_neg (by rw [show (0 : Int32) = iw ((0 : Nat) : Int) from rfl, iw_le4 (by omega) (by omega)]; exact c), if_neg c]
      simp only [F_X51_all_b39]
      rw [E_begin hw h8]
      simp only [Option.bind_some]
      exact E_all_loop hw hk ht h8 t l hW hn hv n xN 0 _ (by omega) (by omega) (foB_V hw hk ht h8 (vb_0 hk))
theorem M_paired {M : Mem} {k : Int32} {v : Nat → Int64} {row W : Nat} (h : K0 M) (hs : ST M) (hk : k = 6 ∨ k = 7) (t : m_tg M row = 1006) (l : m_ln M row = W) (hW : W ≤ 100000) (hv : ∀ x, x < W → cJ M row x = v x) : ∀ (f F i n : Nat), n ≤ 2 ^ f → f + 1 ≤ F → i + n ≤ W → (∀ x, i ≤ x → x < i + n → vb k (v x)) →
    R_5 F M 1068 8 k k row (iw (i : Int)) (iw (n : Int)) = mRes (fopr k v (f + 1) i n) M 1068 := by
  have ak : Ak k := by rcases hk with q | q <;> simp [Ak, q]
  intro f
  induction f with
  | zero =>
    intro F i n h1 h2 h3 h4
    obtain ⟨F, rfl⟩ : ∃ y, F = y + 1 := ⟨F - 1, by omega⟩
    have : n = 0 ∨ n = 1 := by simp at h1; omega
    rcases this with rfl | rfl
    · rfl
    · show (al M row (iw (i : Int))).bind _ = _
      rw [al_of t l (by omega) (by omega), hv i (by omega)]
      rfl
  | succ f ih =>
    intro F i n h1 h2 h3 h4
    obtain ⟨F, rfl⟩ : ∃ y, F = y + 1 := ⟨F - 1, by omega⟩
    show F_X16_foldRow_o (R_5 F) M 1068 8 k k row (iw (i : Int)) (iw (n : Int)) = _
    unfold F_X16_foldRow_o
    rw [if_pos rfl]
    by_cases c0 : n = 0
    · subst c0
      rfl
    · rw [if_neg (by rw [iw_eq0 (by omega) (by omega)]; omega)]
      by_cases c1 : n = 1
      · subst c1
        rw [if_pos (show iw ((1 : Nat) : Int) = 1 from rfl), al_of t l (by omega) (by omega), hv i (by omega)]
        rfl
      · rw [if_neg (by rw [show (1 : Int32) = iw ((1 : Nat) : Int) from rfl, iw_eq (by omega) (by omega) (by omega) (by omega)]; omega)]
        simp only [n20, if_false, iw_half (show n < 2147483648 by omega), iw_nsub (Nat.div_le_self n 2), iw_nad, v1068 hs, Option.bind_some]
        have hp : 2 ^ (f + 1) = 2 * 2 ^ f := by rw [Nat.pow_succ, Nat.mul_comm]
        rw [ih F i (n / 2) (by omega) (by omega) (by omega) (fun x q1 q2 => h4 x (by omega) (by omega)), fopr_s c0 c1]
        cases ha : fopr k v (f + 1) i (n / 2) with
        | none => exact tb_mi
        | some a =>
          show ((vg M 1068 17).bind fun _ => tb (R_5 F M 1068 8 k k row _ _) fun z12 => (vg z12.2 1068 17).bind fun _ => tb (F_X16_arithmetic z12.2 1068 32 k a z12.1) fun z14 => some (.inl (z14.1, z14.2))) = _
          rw [v1068 hs]
          simp only [Option.bind_some]
          rw [ih F (i + n / 2) (n - n / 2) (by omega) (by omega) (by omega) (fun x q1 q2 => h4 x (by omega) (by omega))]
          cases hb : fopr k v (f + 1) (i + n / 2) (n - n / 2) with
          | none => exact tb_mi
          | some b =>
            show ((vg M 1068 17).bind fun _ => tb (F_X16_arithmetic M 1068 32 k a b) fun z14 => some (.inl (z14.1, z14.2))) = _
            rw [v1068 hs]
            simp only [Option.bind_some]
            rw [show (32 : Nat) = sgn 1 from rfl, M_ari h hs (by unfold Wk; decide) ak (fopr_vb hk _ _ _ _ (fun x q1 q2 => h4 x (by omega) (by omega)) ha) (fopr_vb hk _ _ _ _ (fun x q1 q2 => h4 x (by omega) (by omega)) hb)]
            exact tb_m
theorem M_row_loop {M : Mem} {w k : Int32} {v : Nat → Int64} {row W n : Nat} (rr : Mem → Nat → Int32 → Int32 → Int32 → Nat → Int32 → Int32 → Option ((Int64 × Mem) ⊕ (Nat × Mem))) (h : K0 M) (hs : ST M) (hw : Wy w) (hk : Lk k) (ht : foT w k = true) (h8 : w ≠ 8) (t : m_tg M row = 1006) (l : m_ln M row = W) (hW : W ≤ 100000) (hn : n ≤ W) (hv : ∀ x, x < n → cJ M row x = v x ∧ vb k (v x)) : ∀ (e N i : Nat) (so so' : Int64), i + e = n → e + 1 ≤ N → foV w k i so → (i = 0 → (w = 3 ∨ w = 4) → 0 < e → so = v 0) → (¬ (i = 0 ∧ (w = 3 ∨ w = 4) ∧ 0 < e) → so' = so) →
    F_X16_foldRow_b107 rr N M 1068 w k (foL w k) row 0 (iw (n : Int)) so' (iw (i : Int)) = mRes (fogo w k v i e so) M 1068 := by
  intro e
  induction e with
  | zero =>
    intro N i so so' h1 h2 h3 h4 h5
    obtain ⟨N, rfl⟩ : ∃ y, N = y + 1 := ⟨N - 1, by omega⟩
    show F_X16_foldRow_b107_st rr (F_X16_foldRow_b107 rr N) M 1068 w k (foL w k) row 0 (iw (n : Int)) so' (iw (i : Int)) = _
    unfold F_X16_foldRow_b107_st
    rw [if_neg (by rw [iw_le4 (by omega) (by omega)]; omega), h5 (fun q => absurd q.2.2 (by omega))]
    rfl
  | succ e ih =>
    intro N i so so' h1 h2 h3 h4 h5
    obtain ⟨N, rfl⟩ : ∃ y, N = y + 1 := ⟨N - 1, by omega⟩
    show F_X16_foldRow_b107_st rr (F_X16_foldRow_b107 rr N) M 1068 w k (foL w k) row 0 (iw (n : Int)) so' (iw (i : Int)) = _
    unfold F_X16_foldRow_b107_st F_X16_foldRow_b138
    have hvi := hv i (by omega)
    rw [if_pos (by rw [iw_le4 (by omega) (by omega)]; omega), Int32.zero_add, al_of t l (show i < W by omega) (by omega), hvi.1]
    simp only [Option.bind_some, v1068 hs]
    have key : ∀ fi : Int32, (fi = 1 ∧ i = 0) ∨ (fi = 0 ∧ i ≠ 0) → (tb (F_X16_folded M 1068 w k (foL w k) so' (v i) fi) fun z2 => F_X16_foldRow_b107 rr N z2.2 1068 w k (foL w k) row 0 (iw (n : Int)) z2.1 (iw (i : Int) + 1)) = mRes (fogo w k v i (e + 1) so) M 1068 := by
      intro fi hfi
      have hso : w ≠ 5 → fi = 0 ∨ (w ≠ 3 ∧ w ≠ 4) → vb (foL w k) so' := fun q1 q2 => by
        rw [h5 (fun q => by
          rcases q2 with q2 | q2
          · rcases hfi with ⟨a, b⟩ | ⟨a, b⟩
            · rw [a] at q2; exact absurd q2 (by decide)
            · exact b q.1
          · exact q.2.1.elim q2.1 q2.2)]
        exact h3.1 q1
      rw [M_fadd h hs hw hk ht h8 hso hvi.2 (hfi.elim (fun q => Or.inr q.1) (fun q => Or.inl q.1))]
      have es : (if fi = 1 ∧ (w = 3 ∨ w = 4) then v i else so') = so := by
        rcases hfi with ⟨a, b⟩ | ⟨a, b⟩
        · by_cases c : w = 3 ∨ w = 4
          · rw [if_pos ⟨a, c⟩, b]
            exact (h4 b c (by omega)).symm
          · rw [if_neg (fun q => c q.2)]
            exact h5 (fun q => c q.2.1)
        · rw [if_neg (fun q => by rw [a] at q; exact absurd q.1 (by decide))]
          exact h5 (fun q => b q.1)
      rw [es]
      cases hc : foS w k so (v i) with
      | none =>
        rw [fogo_none hc]
        exact tb_mi
      | some r =>
        rw [fogo_some hc]
        show F_X16_foldRow_b107 rr N M 1068 w k (foL w k) row 0 (iw (n : Int)) r (iw (i : Int) + 1) = _
        rw [iw_succ, ih N (i + 1) r r (by omega) (by omega) (foS_vb hw hk ht h8 h3 hvi.2 hc) (fun q => by omega) (fun _ => rfl)]
    by_cases c : i = 0
    · rw [if_pos (by rw [c]; rfl)]
      exact key 1 (Or.inl ⟨rfl, c⟩)
    · rw [if_neg (by rw [iw_eq0 (by omega) (by omega)]; omega)]
      exact key 0 (Or.inr ⟨rfl, c⟩)
theorem M_foldRow {M : Mem} {w k : Int32} {v : Nat → Int64} {row W n : Nat} (h : K0 M) (hs : ST M) (hw : Wy w) (hk : Lk k) (ht : foT w k = true) (t : m_tg M row = 1006) (l : m_ln M row = W) (hW : W ≤ 100000) (hn : n ≤ W) (hv : ∀ x, x < n → cJ M row x = v x ∧ vb k (v x)) (he : ¬ (n = 0 ∧ (w = 3 ∨ w = 4))) :
    F_X16_foldRow M 1068 w k (foL w k) row 0 (iw (n : Int)) = mRes (foAll w k v n) M 1068 := by
  have hxN : xN = 1099511627776 := rfl
  unfold F_X16_foldRow foAll
  by_cases h8 : w = 8
  · rw [if_pos h8]
    subst h8
    have hk' : k = 6 ∨ k = 7 := by rcases hk with rfl | rfl | rfl | rfl | rfl | rfl | rfl | rfl <;> first | exact absurd ht (by decide) | exact Or.inl rfl | exact Or.inr rfl
    show R_5 xR M 1068 8 k k row (iw ((0 : Nat) : Int)) (iw (n : Int)) = _
    have e : ∀ f i m, (∀ x, i ≤ x → x < i + m → x < n) → fopr k v f i m = fopr k (fun x => cJ M row x) f i m := by
      intro f
      induction f with
      | zero => intro i m _; rfl
      | succ f ih =>
        intro i m h
        by_cases c0 : m = 0
        · subst c0; rfl
        · by_cases c1 : m = 1
          · subst c1
            show some (v i) = some (cJ M row i)
            rw [(hv i (h i (Nat.le_refl _) (by omega))).1]
          · rw [fopr_s c0 c1, fopr_s c0 c1, ih i (m / 2) (fun x q1 q2 => h x (by omega) (by omega)), ih (i + m / 2) (m - m / 2) (fun x q1 q2 => h x (by omega) (by omega))]
    rw [e 30 0 n (fun x _ q => by omega), M_paired (v := fun x => cJ M row x) h hs hk' t l hW (fun x _ => rfl) 29 xR 0 n (by omega) (by decide) (by omega) (fun x _ q => by rw [(hv x (by omega)).1]; exact (hv x (by omega)).2)]
  · rw [if_neg h8]
    show F_X16_foldRow_o (R_5 1499) M 1068 w k (foL w k) row 0 (iw (n : Int)) = _
    unfold F_X16_foldRow_o F_X16_foldRow_b97
    rw [if_neg h8, M_begin hw hk ht h8]
    simp only [Option.bind_some]
    have key : F_X16_foldRow_b107 (R_5 1499) xN M 1068 w k (foL w k) row 0 (iw (n : Int)) (foM w k) 0 = mRes (fogo w k v 0 n (foB w k (if 0 < n then v 0 else 0))) M 1068 := by
      refine M_row_loop (R_5 1499) h hs hw hk ht h8 t l hW hn hv n xN 0 _ _ (by omega) (by omega) (foB_V hw hk ht h8 ?_) (fun _ q1 q2 => ?_) (fun q => ?_)
      · by_cases c : 0 < n
        · rw [if_pos c]; exact (hv 0 c).2
        · rw [if_neg c]; exact vb_0 hk
      · rw [if_pos q2]
        rcases q1 with rfl | rfl <;> rfl
      · refine (foB_M ?_).symm
        by_cases c : w = 3 ∨ w = 4
        · exfalso
          exact q ⟨rfl, c, Nat.pos_of_ne_zero (fun z => he ⟨z, c⟩)⟩
        · exact ⟨fun e => c (Or.inl e), fun e => c (Or.inr e)⟩
    by_cases c0 : n = 0
    · rw [if_pos (by rw [c0]; rfl), if_neg (fun q => he ⟨c0, Or.inl q⟩), if_neg (fun q => he ⟨c0, Or.inr q⟩)]
      exact key
    · rw [if_neg (by rw [iw_eq0 (by omega) (by omega)]; omega)]
      exact key
theorem M_foldEmpty {M : Mem} {w k : Int32} {row : Nat} (hw : w = 3 ∨ w = 4) : F_X16_foldRow M 1068 w k (foL w k) row 0 0 = mTh M 1068 4 := by
  show F_X16_foldRow_o (R_5 1499) M 1068 w k (foL w k) row 0 0 = _
  unfold F_X16_foldRow_o
  rcases hw with rfl | rfl <;> rfl
