/-! ===== THE LOG, 11: the engine opens it again, whole ===== -/
/-- two records have the same name -/
def sam (f : Nat → Int32) (a b : Nat) : Bool := decide (f (a + 4) = f (b + 4)) && eqn (fun k => f (a + 5 + k)) (fun k => f (b + 5 + k)) (f (a + 4)).toInt.toNat 0
theorem sam_iff {f : Nat → Int32} {a b : Nat} : sam f a b = true ↔ f (a + 4) = f (b + 4) ∧ ∀ k, k < (f (a + 4)).toInt.toNat → f (a + 5 + k) = f (b + 5 + k) := by
  unfold sam
  rw [Bool.and_eq_true, decide_eq_true_eq, eqn_iff]
  exact ⟨fun q => ⟨q.1, fun k hk => q.2 k (by omega) (by omega)⟩, fun q => ⟨q.1, fun k _ hk => q.2 k (by omega)⟩⟩
theorem sam_s {f : Nat → Int32} {a b : Nat} (h : sam f a b = true) : sam f b a = true := by
  rw [sam_iff] at h ⊢
  exact ⟨h.1.symm, fun k hk => (h.2 k (by rw [h.1]; exact hk)).symm⟩
theorem sam_t {f : Nat → Int32} {a b c : Nat} (h1 : sam f a b = true) (h2 : sam f b c = true) : sam f a c = true := by
  rw [sam_iff] at h1 h2 ⊢
  exact ⟨h1.1.trans h2.1, fun k hk => (h1.2 k hk).trans (h2.2 k (by rw [← h1.1]; exact hk))⟩
theorem mtc_sam {f : Nat → Int32} {a b nl : Nat} (hn : nl ≤ 20) (h : f (b + 4) = iw (nl : Int)) : mtc f nl (fun k => f (b + 5 + k)) a = sam f a b := by
  unfold mtc sam
  rw [h]
  by_cases c : f (a + 4) = iw (nl : Int)
  · rw [decide_eq_true c, c, iw_toInt (by omega) (by omega)]
    rfl
  · rw [decide_eq_false c, Bool.false_and, Bool.false_and]
def nmR (f : Nat → Int32) (rs : List Nat) : Nat → Nat → Bool := fun i j => sam f (lst rs i) (lst rs j)
def pOp : Nat → Nat → Prop := fun a i => (a = 1051 ∧ i = 962) ∨ (a = 1052 ∧ i = 1025)
theorem fany_congr {p q : Nat → Bool} : ∀ e i, (∀ j, i ≤ j → j < i + e → p j = q j) → fany p e i = fany q e i
  | 0, _, _ => rfl
  | e + 1, i, h => by
    show (p i || fany p e (i + 1)) = (q i || fany q e (i + 1))
    rw [h i (Nat.le_refl _) (by omega), fany_congr e (i + 1) (fun j h1 h2 => h j (by omega) (by omega))]
theorem whr_eq {f t : Nat → Int32} {rs : List Nat} {n : Nat} : ∀ i, (∀ j, j < i → whr f t rs n j = true) → i ≤ rs.length → lst rs i ≤ n ∧ ∀ j, j < lst rs i → f j = t j
  | 0, _, _ => ⟨Nat.zero_le _, fun j hj => by
    have : lst rs 0 = 0 := rfl
    omega⟩
  | i + 1, h, hi => by
    have ih := whr_eq (f := f) (t := t) (rs := rs) (n := n) i (fun j hj => h j (by omega)) (by omega)
    have hw := h i (by omega)
    unfold whr at hw
    rw [Bool.and_eq_true, decide_eq_true_eq, eqn_iff] at hw
    have ls := lst_succ (rs := rs) (i := i) (by omega)
    refine ⟨hw.1, fun j hj => ?_⟩
    by_cases c : j < lst rs i
    · exact ih.2 j c
    · exact hw.2 j (by omega) (by omega)
theorem E_open_loop {rs : List Nat} {n : Nat} (hs : rs.sum ≤ 60000) (hn : n ≤ rs.sum) (hl13 : 13 * rs.length ≤ rs.sum) : ∀ (e N i : Nat) (M : Mem), i + e = rs.length → ST M → cI M 1052 1025 = iw (n : Int) → RcS (cI M 1055) rs rs.length → (∀ j, j < i → whr (cI M 1053) (cI M 1055) rs n j = true) → ∃ (z : Int32) (M' : Mem), F_X14_behind M 1051 (iw (lst rs i : Nat)) = some z ∧ F_X14_open_b10 (N + 1 + e) M 1051 (iw (lst rs i : Nat)) (iw (ctb (fst1 (nmR (cI M 1053) rs)) i : Nat)) z = some (iw (ctb (fst1 (nmR (cI M 1053) rs)) (gdn (whr (cI M 1053) (cI M 1055) rs n) e i) : Nat), M') ∧ cI M' 1052 1025 = iw (lst rs (gdn (whr (cI M 1053) (cI M 1055) rs n) e i) : Nat) ∧ (i < gdn (whr (cI M 1053) (cI M 1055) rs n) e i → cI M' 1051 962 = iw (lst rs (gdn (whr (cI M 1053) (cI M 1055) rs n) e i - 1) : Nat)) ∧ (gdn (whr (cI M 1053) (cI M 1055) rs n) e i = i → cI M' 1051 962 = cI M 1051 962) ∧ Df pOp n2 n2 M M' ∧ m_nx M' = m_nx M ∧ m_sl M' = m_sl M := by
  have hxN : xN = 1099511627776 := rfl
  have fin : ∀ (N i : Nat) (M : Mem) (k : Int32), ST M → F_X14_open_b10 (N + 1) M 1051 (iw (lst rs i : Nat)) k (-1) = some (k, wI M 1052 1025 (iw (lst rs i : Nat))) := fun N i M k sM => by
    show F_X14_open_b10_st (F_X14_open_b10 N) M _ _ _ _ = _
    unfold F_X14_open_b10_st
    rw [if_pos (by decide)]
    simp only [g1051_960, p1052_1025, sM, Option.bind_some]
  intro e
  induction e with
  | zero =>
    intro N i M hi sM hc ht hw
    have : i = rs.length := by omega
    subst this
    refine ⟨-1, _, E_behind0 sM hs hn hc, fin N rs.length M _ sM, by rw [cI_wI, if_pos ⟨rfl, rfl⟩]; rfl, fun q => absurd q (Nat.lt_irrefl _), fun _ => by rw [cI_wI, if_neg (by omega)], Df.wI _ (Or.inr ⟨rfl, rfl⟩), rfl, rfl⟩
  | succ e ih =>
    intro N i M hi sM hc ht hw
    have h0 := sM.1
    have hb := E_behind sM hs hn hc ht (show i < rs.length by omega)
    have e1 : gdn (whr (cI M 1053) (cI M 1055) rs n) (e + 1) i = if whr (cI M 1053) (cI M 1055) rs n i = true then gdn (whr (cI M 1053) (cI M 1055) rs n) e (i + 1) else i := rfl
    by_cases cw : whr (cI M 1053) (cI M 1055) rs n i = true
    · rw [if_pos cw] at hb e1
      rw [e1]
      obtain ⟨A, hA⟩ : ∃ A, A = wI M 1051 962 (iw (lst rs i : Nat)) := ⟨_, rfl⟩
      have sA : ST A := by rw [hA]; exact sM
      have dA : Df pOp n2 n2 M A := by rw [hA]; exact Df.wI _ (Or.inl ⟨rfl, rfl⟩)
      have c53 : cI A 1053 = cI M 1053 := funext (fun j => dA.cI (by omega) (by unfold pOp; omega))
      have c55 : cI A 1055 = cI M 1055 := funext (fun j => dA.cI (by omega) (by unfold pOp; omega))
      have cA : cI A 1052 1025 = iw (n : Int) := by rw [hA, cI_wI, if_neg (by omega)]; exact hc
      have hw' : ∀ j, j < i + 1 → whr (cI M 1053) (cI M 1055) rs n j = true := fun j hj => by
        by_cases c : j = i
        · rw [c]; exact cw
        · exact hw j (by omega)
      obtain ⟨z, M', b1, b2, b3, b4, b5, b6, b7, b8⟩ := ih N (i + 1) A (by omega) sA cA (by rw [c55]; exact ht) (by rw [c53, c55]; exact hw')
      rw [c53, c55] at b2 b3 b4 b5
      have ge := gdn_ge (whr (cI M 1053) (cI M 1055) rs n) e (i + 1)
      refine ⟨_, M', hb, ?_, b3, fun _ => ?_, fun q => by omega, dA.trans b6, by rw [b7, hA]; rfl, by rw [b8, hA]; rfl⟩
      · -- the step
        obtain ⟨w1, w2⟩ := whr_eq (f := cI M 1053) (t := cI M 1055) (rs := rs) (n := n) (i + 1) hw' (by omega)
        have rF : RcS (cI M 1053) rs (i + 1) := RcS.congr (by omega) (fun j hj => ht j (by omega)) w2
        obtain ⟨r1, r2, nl, r3, r4, r5, r6⟩ := rF i (by omega)
        have hls : lst rs i ≤ 60000 := by omega
        have fd := E_find (M := A) (v1 := 1053) (v2 := iw ((lst rs i + 5 : Nat) : Int)) (rs := rs) (n := nl) (m := i) (w := fun k => cI M 1053 (lst rs i + 5 + k)) sA (by omega) (by omega) (by rw [c53]; exact fun j hj => rF j (by omega)) hls (fun k hk => by
          rw [iw_nad, ab_of (Or.inr (Or.inl (t1053 sA))) (l1053 sA) (by omega) (by decide), c53]) i (xN - 1 - i) 0 (-1) (by omega)
        rw [show xN - 1 - i + 1 + i = xN by omega, c53] at fd
        have fnx := fnl_neg (f := cI M 1053) (rs := rs) (n := nl) (w := fun k => cI M 1053 (lst rs i + 5 + k)) i 0 (-1) (fun j h1 h2 => by
          have := lst_mono' (rs := rs) (i := j) (j := i) (by omega) (by omega)
          omega)
        have fanyE : fany (fun j => mtc (cI M 1053) nl (fun k => cI M 1053 (lst rs i + 5 + k)) (lst rs j)) i 0 = fany (fun j => nmR (cI M 1053) rs j i) i 0 := fany_congr i 0 (fun j _ _ => mtc_sam r4 r6)
        have step : F_X14_open_b10 (N + 1 + (e + 1)) M 1051 (iw (lst rs i : Nat)) (iw (ctb (fst1 (nmR (cI M 1053) rs)) i : Nat)) (iw (lst rs (i + 1) : Nat)) = F_X14_open_b51 (F_X14_open_b10 (N + 1 + e)) A 1051 (iw (ctb (fst1 (nmR (cI M 1053) rs)) (i + 1) : Nat)) (iw (lst rs (i + 1) : Nat)) := by
          show F_X14_open_b10_st (F_X14_open_b10 (N + 1 + e)) M _ _ _ _ = _
          unfold F_X14_open_b10_st F_X14_find
          have := lst_sum' (rs := rs) (i := i + 1) (by omega)
          rw [if_neg (by rw [iw_lt0 (by omega) (by omega)]; omega), show (4 : Int32) = iw ((4 : Nat) : Int) from rfl, iw_nad, show (5 : Int32) = iw ((5 : Nat) : Int) from rfl, iw_nad]
          have fd' : F_X14_find_b6 xN A 1051 1053 (iw ((lst rs i + 5 : Nat) : Int)) (iw (nl : Int)) (iw (lst rs i : Nat)) (-1) 0 = some (fnl (cI M 1053) rs nl (fun k => cI M 1053 (lst rs i + 5 + k)) i 0 (-1)) := fd
          simp only [p1051_962, sM, ← hA, g1051_960, g1052_1024, sA, ab_of (Or.inr (Or.inl (t1053 sA))) (l1053 sA) (show lst rs i + 4 < 60000 by omega) (by decide), c53, r6, v1051, fd', Option.bind_some]
          show (if fnl (cI M 1053) rs nl (fun k => cI M 1053 (lst rs i + 5 + k)) i 0 (-1) < 0 then _ else _) = F_X14_open_b51 (F_X14_open_b10 (N + 1 + e)) A 1051 (iw ((ctb (fst1 (nmR (cI M 1053) rs)) i + (if fst1 (nmR (cI M 1053) rs) i = true then 1 else 0) : Nat) : Int)) (iw (lst rs (i + 1) : Nat))
          rw [fanyE] at fnx
          unfold fst1
          cases ef : fany (fun j => nmR (cI M 1053) rs j i) i 0 with
          | true =>
            rw [ef] at fnx
            rw [if_neg (by rw [fnx]; exact fun q => by cases q.2), Bool.not_true, if_neg (by decide)]
            rfl
          | false =>
            rw [ef] at fnx
            rw [if_pos (by rw [fnx]; exact ⟨by decide, rfl⟩), Bool.not_false, if_pos rfl, iw_succ]
        rw [step]
        unfold F_X14_open_b51
        rw [v1051 sA]
        simp only [Option.bind_some, b1]
        exact b2
      · by_cases cg : i + 1 < gdn (whr (cI M 1053) (cI M 1055) rs n) e (i + 1)
        · exact b4 cg
        · have eg : gdn (whr (cI M 1053) (cI M 1055) rs n) e (i + 1) = i + 1 := by omega
          rw [b5 eg, eg, show i + 1 - 1 = i by omega, hA, cI_wI, if_pos ⟨rfl, rfl⟩]
    · rw [if_neg cw] at hb e1
      rw [e1]
      refine ⟨-1, _, hb, ?_, by rw [cI_wI, if_pos ⟨rfl, rfl⟩], fun q => absurd q (Nat.lt_irrefl _), fun _ => by rw [cI_wI, if_neg (by omega)], Df.wI _ (Or.inr ⟨rfl, rfl⟩), rfl, rfl⟩
      rw [show N + 1 + (e + 1) = N + 1 + e + 1 by omega]
      exact fin (N + 1 + e) i M _ sM
