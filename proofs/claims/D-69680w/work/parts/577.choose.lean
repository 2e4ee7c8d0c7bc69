/-! ===== CALLS: choose ===== -/
theorem bt_all : (List.range 256).all (fun k => decide (¬ (255 : Int32) < j_i2c (iw ((k : Int) - 128) &&& 255)) && decide (j_i2b (j_i2c (iw ((k : Int) - 128) &&& 255)) = iw ((k : Int) - 128)) && decide (j_i2b (iw ((k : Int) - 128)) = iw ((k : Int) - 128))) = true := by decide +kernel
theorem bt_chr {b : Int32} (h : bt b) : ¬ (255 : Int32) < j_i2c (b &&& 255) ∧ j_i2b (j_i2c (b &&& 255)) = b ∧ j_i2b b = b := by
  obtain ⟨h1, h2⟩ := h
  obtain ⟨k, hk, rfl⟩ : ∃ k : Nat, k < 256 ∧ b = iw ((k : Int) - 128) := ⟨(b.toInt + 128).toNat, by omega, by
    have : ((b.toInt + 128).toNat : Int) - 128 = b.toInt := by omega
    rw [this]
    exact (iw_of b).symm⟩
  have q := List.all_eq_true.mp bt_all k (List.mem_range.mpr hk)
  simp only [Bool.and_eq_true, decide_eq_true_eq] at q
  exact ⟨q.1.1, q.1.2, q.2⟩
/-- any byte -/
theorem BD.app2 {M : Mem} {a ds c : Nat} {x : List Int32} {b : Int32} (h : BD M a ds c x) (hb : bt b) (hl : x.length ≤ 70000) (h0 : 1334 ≤ m_nx M) : ∃ M' ds' c', F_J14_append M a (j_i2c (b &&& 255)) = some (a, M') ∧ BD M' a ds' c' (x ++ [b]) ∧ (ds' = ds ∨ m_nx M ≤ ds') ∧ Df (fun y _ => y = a ∨ y = ds) n2 (at1 a) M M' ∧
    c ≤ c' ∧ c' ≤ max c (2 * x.length + 2) ∧ m_nx M' + c ≤ m_nx M + c' ∧ m_sl M' + 2 * c ≤ m_sl M + 2 * c' := by
  obtain ⟨N, ds', c', e1, e2, e3, e4, e5, e6, e7, e8, e9⟩ := h.ens hl h0
  rw [iw_succ] at e1
  have ht := h.2.1
  have hc5 := h.2.2.2.2.1
  obtain ⟨h1, h2, h3, h4, h5, h6, h7, h8, h9, h10, h11, h12, h13⟩ := e2
  obtain ⟨v1, v2, v3⟩ := bt_chr hb
  obtain ⟨A, hA⟩ : ∃ A, A = wI N a 4739 (iw ((x.length + 1 : Nat) : Int)) := ⟨_, rfl⟩
  obtain ⟨B, hB⟩ : ∃ B, B = wI A ds' x.length b := ⟨_, rfl⟩
  have hl' : (x ++ [b]).length = x.length + 1 := by rw [List.length_append, List.length_singleton]
  have nz : ¬ (1 : Int32) = 0 := by decide
  have ce : F_J17_canEncode (j_i2c (b &&& 255)) = some 1 := by
    unfold F_J17_canEncode
    rw [if_neg v1]
    rfl
  have sbv : sb A ds' (iw (x.length : Nat)) b = some B := by
    rw [sb_of (n := c') b (by rw [hA]; exact h9) (by rw [hA]; exact h10) e3 (by omega), v3, ← hB]
  refine ⟨B, ds', c', ?_, ⟨by rw [hB, hA]; exact h1, by rw [hB, hA]; exact h2, by rw [hB, hA]; exact h3, ?_, ?_, h6, by rw [hB, hA]; exact h7, h8, by rw [hB, hA]; exact h9, by rw [hB, hA]; exact h10, by omega, h12, fun i hi => ?_⟩, e4, ?_, e6, e7, by rw [hB, hA]; exact e8, by rw [hB, hA]; exact e9⟩
  · unfold F_J14_append F_J13_append F_J13_append_b75
    rw [ng_of ht (by decide), gi_of ht (show x_fi 75 4739 = true by decide), hc5]
    simp only [Option.bind_some, vg_of ht (show x_isa 75 74 = true by decide), e1, vg_of h2 (show x_isa 75 74 = true by decide), BD.lat h2 h4, nz, if_false, ce, gr_of h2 (show x_fr 75 4736 = true by decide), gi_of h2 (show x_fi 75 4739 = true by decide), h3, h5, iw_succ, pi_of _ h2 (show x_wi 75 4739 = true by decide) (fit_4739 _), ← hA, v2, sbv]
  · rw [hB, cI_wI, if_neg (by omega)]; rw [hA, cI_wI, if_neg (by omega)]; exact h4
  · rw [hB, cI_wI, if_neg (by omega)]; rw [hA, cI_wI, if_pos ⟨rfl, rfl⟩, hl']
  · rw [hl'] at hi
    rw [hB, cI_wI, List.getD_eq_getElem?_getD]
    by_cases k : i = x.length
    · rw [if_pos ⟨rfl, k⟩, k, List.getElem?_append_right (Nat.le_refl _), Nat.sub_self]
      rfl
    · rw [if_neg (fun q => k q.2), List.getElem?_append_left (by omega), ← List.getD_eq_getElem?_getD, hA, cI_wI, if_neg (by omega)]
      exact h13 i (by omega)
  · have d1 : Df (fun y _ => y = a ∨ y = ds') n2 n2 N B := by
      rw [hB, hA]
      exact (Df.wI (P := fun y _ => y = a ∨ y = ds') (Q := n2) (R := n2) _ (Or.inl rfl)).trans (Df.wI _ (Or.inr rfl))
    refine (e5.mono (P' := fun y _ => y = a ∨ y = ds) (fun _ _ q => q.elim) (fun _ _ q => q) (fun _ _ q => q)).then d1 (fun y i hy q => ?_) (fun _ _ _ q => q) (fun _ _ _ q => q.elim)
    rcases q with q | q
    · exact Or.inl q
    · rcases e4 with k | k
      · exact Or.inr (by omega)
      · omega
/-- bytes as a row -/
def bsl (f : Nat → Int32) (n : Nat) : List Int32 := (List.range n).map f
theorem bsl_len (f : Nat → Int32) (n : Nat) : (bsl f n).length = n := by unfold bsl; rw [List.length_map, List.length_range]
theorem bsl_succ (f : Nat → Int32) (n : Nat) : bsl f (n + 1) = bsl f n ++ [f n] := by unfold bsl; rw [List.range_succ, List.map_append]; rfl
/-- a name that is being built, over an older memory -/
def NB (B : Mem) (a t : Nat) (f : Nat → Int32) (i : Nat) (M : Mem) : Prop := ∃ ds c, BD M a ds c (bsl f i) ∧ Df n2 n2 n2 B M ∧ m_nx B ≤ a ∧ m_nx B ≤ ds ∧ c ≤ 2 * t + 16 ∧ m_nx M ≤ m_nx B + 2 + c ∧ m_sl M ≤ m_sl B + 8 + 2 * c
theorem NB.step {B M : Mem} {a t i : Nat} {f : Nat → Int32} (h : NB B a t f i M) (h0 : 1334 ≤ m_nx B) (ht : t ≤ 60000) (hi : i < t) (hb : bt (f i)) : ∃ M', F_J14_append M a (j_i2c (f i &&& 255)) = some (a, M') ∧ NB B a t f (i + 1) M' := by
  obtain ⟨ds, c, h1, h2, h3, h4, h5, h6, h7⟩ := h
  have nn := h2.1
  obtain ⟨M', ds', c', e1, e2, e3, e4, e5, e6, e7, e8⟩ := h1.app2 hb (by rw [bsl_len]; omega) (by omega)
  rw [bsl_len] at e6
  refine ⟨M', e1, ds', c', by rw [bsl_succ]; exact e2, h2.then e4 (fun x j hx q => ?_) (fun _ _ _ q => q) (fun x j hx q => ?_), h3, ?_, by omega, by omega, by omega⟩
  · exact (show False by rcases q with q | q <;> omega)
  · exact (show False by unfold at1 at q; omega)
  · rcases e3 with q | q
    · omega
    · omega
/-- lanes that were collected -/
theorem M_firstR {M : Mem} {src n : Nat} (h1 : m_tg M src = 1005) (h2 : m_ln M src = 4) (hs : src < m_nx M) (hn : n ≤ 4) (h0 : 1334 ≤ m_nx M) (hs2 : src < 1334) : ∃ M', F_X16_first M src (iw (n : Int)) = some (m_nx M, M') ∧ RIl M' (m_nx M) (bsl (cI M src) n) ∧ Df n2 n2 n2 M M' ∧ m_nx M' = m_nx M + 1 ∧ m_sl M' = m_sl M + n := by
  obtain ⟨A, hA⟩ : ∃ A, A = m_new M 1005 n := ⟨_, rfl⟩
  have dA : Df n2 n2 n2 M A := by rw [hA]; exact Df.new _ _
  have nA : m_nx A = m_nx M + 1 := by rw [hA]; rfl
  have tA : m_tg A (m_nx M) = 1005 ∧ m_ln A (m_nx M) = n := by rw [hA]; exact ⟨by rw [tg_new, if_pos rfl], by rw [ln_new, if_pos rfl]⟩
  have u := dA.2.2 src hs
  have J : ∀ (e N i : Nat) (K : Mem), i + e = n → e + 1 ≤ N → (Df n2 n2 n2 M K ∧ m_nx K = m_nx A ∧ m_sl K = m_sl A ∧ m_tg K (m_nx M) = 1005 ∧ m_ln K (m_nx M) = n ∧ ∀ j, j < i → cI K (m_nx M) j = cI M src j) → ∃ M', F_X16_first_b6 N K src (iw (n : Int)) (m_nx M) (iw (i : Int)) = some (m_nx M, M') ∧ Df n2 n2 n2 M M' ∧ m_nx M' = m_nx A ∧ m_sl M' = m_sl A ∧ m_tg M' (m_nx M) = 1005 ∧ m_ln M' (m_nx M) = n ∧ ∀ j, j < n → cI M' (m_nx M) j = cI M src j := by
    intro e
    induction e with
    | zero =>
      intro N i K hi hN hK
      obtain ⟨N', rfl⟩ : ∃ N', N = N' + 1 := ⟨N - 1, by omega⟩
      obtain rfl : i = n := by omega
      refine ⟨K, ?_, hK⟩
      show F_X16_first_b6_st _ K _ _ _ _ = _
      unfold F_X16_first_b6_st
      rw [if_neg (by rw [iw_le4 (by omega) (by omega)]; omega)]
    | succ e ih =>
      intro N i K hi hN hK
      obtain ⟨N', rfl⟩ : ∃ N', N = N' + 1 := ⟨N - 1, by omega⟩
      obtain ⟨k1, k2, k3, k4, k5, k6⟩ := hK
      have w := k1.2.2 src hs
      obtain ⟨M', e1, e2⟩ := ih N' (i + 1) (wI K (m_nx M) i (cI M src i)) (by omega) (by omega) ⟨k1.then (Df.wI (P := fun x _ => x = m_nx M) (Q := n2) (R := n2) _ rfl) (fun x j hx q => (show False by omega)) (fun _ _ _ q => q) (fun _ _ _ q => q), k2, k3, k4, k5, fun j hj => by
        rw [cI_wI]
        by_cases q : j = i
        · rw [if_pos ⟨rfl, q⟩, q]
        · rw [if_neg (fun x => q x.2)]; exact k6 j (by omega)⟩
      refine ⟨M', ?_, e2⟩
      rw [← e1]
      show F_X16_first_b6_st (F_X16_first_b6 N') K _ _ _ _ = _
      unfold F_X16_first_b6_st
      simp only [if_pos ((iw_le4 (show i ≤ 2147483647 by omega) (show n ≤ 2147483647 by omega)).mpr (by omega)), ai_of (w.1.trans h1) (w.2.1.trans h2) (show i < 4 by omega) (by decide), si_of _ k4 k5 (show i < n by omega) (by omega), k1.cI hs (fun q => q), Option.bind_some, iw_succ]
  obtain ⟨M', e1, e2, e3, e4, e5, e6, e7⟩ := J n xN 0 A (by omega) (by have : xN = 1099511627776 := rfl; omega) ⟨dA, rfl, rfl, tA.1, tA.2, fun j hj => by omega⟩
  refine ⟨M', ?_, ⟨e5, by rw [bsl_len]; exact e6, fun i hi => ?_⟩, e2, by omega, by rw [e4, hA]; rfl⟩
  · unfold F_X16_first
    rw [mk_of (by omega), Option.bind_some, ← hA]
    exact e1
  · rw [bsl_len] at hi
    rw [e7 i hi]
    unfold bsl
    rw [List.getD_eq_getElem?_getD, List.getElem?_map, List.getElem?_range hi]
    rfl
