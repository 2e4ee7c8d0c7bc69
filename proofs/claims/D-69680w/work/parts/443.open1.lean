/-! ===== OPEN, 1: finding a record; copying it ===== -/
theorem I9w.dfw {P Q R : Nat → Nat → Prop} {M M' : Mem} {rs : List Nat} {d1 d2 : Nat} {e1 e2 : List Nat} {n : Nat} (h : ST M) (h9 : I9w M rs d1 d2 e1 e2 n) (d : Df P Q R M M') (hq : qt P) (hr : qt R) (hP : ∀ a i, pLg a i → ¬ P a i) (hR : ∀ a i, rLg a i → ¬ R a i) : I9w M' rs d1 d2 e1 e2 n := by
  have h0 := h.1
  obtain ⟨q1, q2, q3, q4, q5, q6, q7, q8, q9, q10, q11, q12, q13, q14, q15, q16, q17, q18⟩ := h9
  have c : ∀ a i, pLg a i → a < 1334 → cI M' a i = cI M a i := fun a i hp ha => d.cI (by omega) (hP a i hp)
  have c3 : ∀ i, cI M' 1053 i = cI M 1053 i := fun i => c _ _ (by unfold pLg; omega) (by decide)
  have c5 : ∀ i, cI M' 1055 i = cI M 1055 i := fun i => c _ _ (by unfold pLg; omega) (by decide)
  have c9 : ∀ i, cI M' 1329 i = cI M 1329 i := fun i => c _ _ (by unfold pLg; omega) (by decide)
  have c0 : ∀ i, cI M' 1330 i = cI M 1330 i := fun i => c _ _ (by unfold pLg; omega) (by decide)
  have ib : ∀ x v, IB M x v → (x < 1000 ∨ 1334 ≤ x) → IB M' x v := fun x v hx hh => hx.df d (fun q => hh.elim (fun w => hP x 5120 (by unfold pLg; omega) q) (fun w => hq x 5120 w q))
  refine ⟨q1, q2, q3.df d (hP _ _ (by unfold pLg; omega)) (hR _ _ (Or.inl rfl)) (fun i hi => hr _ _ hi), q4.df d (hP _ _ (by unfold pLg; omega)) (hR _ _ (Or.inr rfl)) (fun i hi => hr _ _ hi), q5, q6, fun i hi => ⟨ib _ _ (q7 i hi).1 (q8 i hi).1, ib _ _ (q7 i hi).2 (q8 i hi).2⟩, q8, q9, q10, q11, q12, by rw [c _ _ (by unfold pLg; omega) (by decide)]; exact q13, by rw [c _ _ (by unfold pLg; omega) (by decide)]; exact q14, fun i hi => by rw [c3, c9]; exact q15 i hi, fun i hi => by rw [c5, c0]; exact q16 i hi, fun i hi => (q17 i hi).congr (fun j _ => c0 _), fun hc => ?_⟩
  rw [c _ _ (by unfold pLg; omega) (by decide)] at hc
  obtain ⟨u1, u2, u3⟩ := q18 hc
  exact ⟨u1, fun i hi => by rw [c9, c0]; exact u2 i hi, fun hh => by rw [c _ _ (by unfold pLg; omega) (by decide)]; exact u3 hh⟩
/-- the last that has it -/
def lix (p : Nat → Bool) : Nat → Option Nat
  | 0 => none
  | e + 1 => if p e = true then some e else lix p e
theorem lix_some {p : Nat → Bool} {j : Nat} : ∀ e, lix p e = some j → j < e ∧ p j = true
  | 0, h => by cases h
  | e + 1, h => by
    have e0 : lix p (e + 1) = if p e = true then some e else lix p e := rfl
    rw [e0] at h
    by_cases c : p e = true
    · rw [if_pos c] at h
      cases h
      exact ⟨by omega, c⟩
    · rw [if_neg c] at h
      have := lix_some e h
      exact ⟨by omega, this.2⟩
theorem lix_congr {p q : Nat → Bool} : ∀ e, (∀ j, j < e → p j = q j) → lix p e = lix q e
  | 0, _ => rfl
  | e + 1, h => by
    show (if p e = true then some e else lix p e) = (if q e = true then some e else lix q e)
    rw [h e (by omega), lix_congr e (fun j hj => h j (by omega))]
theorem fnl_snoc {f : Nat → Int32} {rs : List Nat} {n : Nat} {w : Nat → Int32} : ∀ (e i : Nat) (acc : Int32), fnl f rs n w (e + 1) i acc = if mtc f n w (lst rs (i + e)) = true then iw (lst rs (i + e) : Nat) else fnl f rs n w e i acc
  | 0, i, acc => rfl
  | e + 1, i, acc => by
    show fnl f rs n w (e + 1) (i + 1) _ = _
    rw [fnl_snoc e (i + 1), show i + 1 + e = i + (e + 1) by omega]
    rfl
def lixw (rs : List Nat) : Option Nat → Int32
  | none => -1
  | some j => iw (lst rs j : Nat)
theorem fnl_lix {f : Nat → Int32} {rs : List Nat} {n : Nat} {w : Nat → Int32} : ∀ e, fnl f rs n w e 0 (-1) = lixw rs (lix (fun i => mtc f n w (lst rs i)) e)
  | 0 => rfl
  | e + 1 => by
    rw [fnl_snoc e 0, Nat.zero_add]
    show _ = lixw rs (if mtc f n w (lst rs e) = true then some e else lix (fun i => mtc f n w (lst rs i)) e)
    by_cases c : mtc f n w (lst rs e) = true
    · rw [if_pos c, if_pos c]
      rfl
    · rw [if_neg c, if_neg c]
      exact fnl_lix e
theorem mtc_cg {f f' : Nat → Int32} {n a : Nat} {w w' : Nat → Int32} (h1 : f (a + 4) = f' (a + 4)) (h2 : f (a + 4) = iw (n : Int) → ∀ k, k < n → f (a + 5 + k) = f' (a + 5 + k)) (hw : ∀ k, k < n → w k = w' k) : mtc f n w a = mtc f' n w' a := by
  unfold mtc
  by_cases c : f (a + 4) = iw (n : Int)
  · rw [← h1, eqn_congr (f' := fun k => f' (a + 5 + k)) (g' := w') (fun j _ hj => ⟨h2 c j (by omega), hw j (by omega)⟩)]
  · rw [← h1, decide_eq_false c]
    rfl
/-- the model looks whether a record has the name -/
theorem M_rec_in {M : Mem} {a n : Nat} (h : ST M) (hn : n ≤ 20) (ha : a + 5 + n ≤ 60000) : ∀ (e N k : Nat), k + e = n → F_X16_isRecordOf_b34 (N + 1 + e) M 1068 1069 (iw (n : Int)) (iw (a : Int)) (iw (k : Int)) = some (mr (eqn (fun k => cI M 1329 (a + 5 + k)) (cI M 1069) e k))
  | 0, N, k, hk => by
    show F_X16_isRecordOf_b34_st (F_X16_isRecordOf_b34 N) M _ _ _ _ _ = _
    unfold F_X16_isRecordOf_b34_st
    rw [if_neg (by rw [iw_le4 (by omega) (by omega)]; omega)]
    rfl
  | e + 1, N, k, hk => by
    show F_X16_isRecordOf_b34_st (F_X16_isRecordOf_b34 (N + 1 + e)) M _ _ _ _ _ = some (mr (decide (cI M 1329 (a + 5 + k) = cI M 1069 k) && eqn (fun k => cI M 1329 (a + 5 + k)) (cI M 1069) e (k + 1)))
    unfold F_X16_isRecordOf_b34_st
    rw [if_pos (by rw [iw_le4 (by omega) (by omega)]; omega), show (5 : Int32) = iw ((5 : Nat) : Int) from rfl, iw_nad, iw_nad]
    simp only [g1068_1129, h, ab_of (Or.inr (Or.inl (t1329 h))) (l1329 h) (show a + 5 + k < 60000 by omega) (by decide), ab_of (Or.inr (Or.inl (t1069 h))) (l1069 h) (show k < 16000 by omega) (by decide), iw_succ, Option.bind_some]
    by_cases c : cI M 1329 (a + 5 + k) = cI M 1069 k
    · rw [if_pos c, decide_eq_true c, M_rec_in h hn ha e N (k + 1) (by omega)]
      rfl
    · rw [if_neg c, decide_eq_false c]
      rfl
theorem M_isRec {M : Mem} {rs : List Nat} {d1 i n : Nat} {e1 : List Nat} (h : ST M) (a1 : AL M 1331 d1 e1) (hg : e1.length = rs.length) (ib : ∀ i, i < rs.length → IB M (e1.getD i 0) (iw (lst rs i : Nat))) (hr : RcS (cI M 1329) rs rs.length) (hn : n ≤ 16000) (hi : i < rs.length) : F_X16_isRecordOf M 1068 (iw (i : Int)) 1069 (iw (n : Int)) = some (mr (mtc (cI M 1329) n (cI M 1069) (lst rs i))) := by
  have hxN : xN = 1099511627776 := rfl
  have b1 := ib i hi
  obtain ⟨-, r2, nl, r3, r4, r5, r6⟩ := hr i hi
  unfold F_X16_isRecordOf mtc
  simp only [g1068_1133, h, v1331, a1.get (show i < e1.length by omega), b1.cc, b1.vg, b1.val, Option.bind_some]
  rw [show (4 : Int32) = iw ((4 : Nat) : Int) from rfl, iw_nad]
  simp only [g1068_1129, h, ab_of (Or.inr (Or.inl (t1329 h))) (l1329 h) (show lst rs i + 4 < 60000 by omega) (by decide), Option.bind_some]
  by_cases c : cI M 1329 (lst rs i + 4) = iw (n : Int)
  · have hnn : nl = n := by
      rw [r6, iw_eq (by omega) (by omega) (by omega) (by omega)] at c
      omega
    obtain ⟨N, hN⟩ : ∃ N, N + 1 + n = xN := ⟨xN - 1 - n, by omega⟩
    rw [if_pos c, decide_eq_true c, ← hN]
    exact M_rec_in h (by omega) (by omega) n N 0 (by omega)
  · rw [if_neg c, decide_eq_false c]
    rfl
def lixv : Option Nat → Int32
  | none => -1
  | some j => iw (j : Nat)
theorem M_ol {M : Mem} {rs : List Nat} {d1 n : Nat} {e1 : List Nat} (h : ST M) (a1 : AL M 1331 d1 e1) (hg : e1.length = rs.length) (hl : rs.length ≤ 60000) (ib : ∀ i, i < rs.length → IB M (e1.getD i 0) (iw (lst rs i : Nat))) (hr : RcS (cI M 1329) rs rs.length) (hn : n ≤ 16000) : ∀ (e N : Nat), e ≤ rs.length → F_X16_open_b25 (N + 1 + e) M 1068 (iw (n : Int)) (iw ((e : Int) - 1)) = F_X16_open_b48 M 1068 (iw (n : Int)) (lixv (lix (fun i => mtc (cI M 1329) n (cI M 1069) (lst rs i)) e))
  | 0, N, _ => by
    show F_X16_open_b25_st (F_X16_open_b25 N) M _ _ _ = _
    unfold F_X16_open_b25_st
    rw [if_pos (by decide)]
    rfl
  | e + 1, N, he => by
    show F_X16_open_b25_st (F_X16_open_b25 (N + 1 + e)) M _ _ _ = F_X16_open_b48 M 1068 (iw (n : Int)) (lixv (if mtc (cI M 1329) n (cI M 1069) (lst rs e) = true then some e else lix (fun i => mtc (cI M 1329) n (cI M 1069) (lst rs i)) e))
    have e0 : (((e + 1 : Nat) : Int) - 1) = (e : Int) := by omega
    have e2 : iw (e : Int) + (-1 : Int32) = iw ((e : Int) - 1) := by rw [show (-1 : Int32) = iw (-1) from rfl, iw_add, Int.sub_eq_add_neg]
    unfold F_X16_open_b25_st
    rw [e0, if_neg (by rw [iw_lt0 (by omega) (by omega)]; omega)]
    simp only [g1068_1088, v1068, h, M_isRec h a1 hg ib hr hn (show e < rs.length by omega), Option.bind_some]
    cases c : mtc (cI M 1329) n (cI M 1069) (lst rs e)
    · rw [if_pos (by decide), if_neg (by decide), e2]
      exact M_ol h a1 hg hl ib hr hn e N (by omega)
    · rw [if_neg (by decide), if_pos (by decide)]
      rfl
/-- the model copies the record's grid -/
theorem M_cpy {a L : Nat} (hL : L ≤ 30000) (ha : a + L ≤ 60000) : ∀ (e N i : Nat) (M : Mem), i + e = L → ST M → (∀ x, x < L → j_i2b (cI M 1329 (a + x)) = cI M 1329 (a + x)) → (∀ x, x < i → cI M 1333 x = cI M 1329 (a + x)) → ∃ M', F_X16_open_b109 (N + 1 + e) M 1068 (iw (a : Int)) (iw (L : Int)) (iw (i : Int)) = F_X16_open_b109 (N + 1) M' 1068 (iw (a : Int)) (iw (L : Int)) (iw (L : Int)) ∧ ST M' ∧ (∀ x, x < L → cI M' 1333 x = cI M 1329 (a + x)) ∧ Df (at1 1333) n2 n2 M M' ∧ m_nx M' = m_nx M ∧ m_sl M' = m_sl M
  | 0, N, i, M, hi, h, hb, hx => by
    have : i = L := by omega
    subst this
    exact ⟨M, rfl, h, hx, Df.refl _ _ _ _, rfl, rfl⟩
  | e + 1, N, i, M, hi, h, hb, hx => by
    have h0 := h.1
    obtain ⟨B, hB⟩ : ∃ B, B = wI M 1333 i (cI M 1329 (a + i)) := ⟨_, rfl⟩
    have sB : ST B := hB ▸ h
    have dB : Df (at1 1333) n2 n2 M B := hB ▸ Df.wI _ rfl
    have c29 : ∀ x, cI B 1329 x = cI M 1329 x := fun x => by rw [hB, cI_wI, if_neg (by omega)]
    have hd : F_X16_open_b109 (N + 1 + (e + 1)) M 1068 (iw (a : Int)) (iw (L : Int)) (iw (i : Int)) = F_X16_open_b109 (N + 1 + e) B 1068 (iw (a : Int)) (iw (L : Int)) (iw ((i + 1 : Nat) : Int)) := by
      show F_X16_open_b109_st (F_X16_open_b109 (N + 1 + e)) M _ _ _ _ = _
      unfold F_X16_open_b109_st
      rw [if_pos (by rw [iw_le4 (by omega) (by omega)]; omega), iw_nad]
      simp only [g1068_1135, g1068_1129, h, ab_of (Or.inr (Or.inl (t1329 h))) (l1329 h) (show a + i < 60000 by omega) (by decide), sb_of _ (t1333 h) (l1333 h) (show i < 30000 by omega) (show (30000 : Nat) < 2147483648 by decide), hb i (by omega), ← hB, iw_succ, Option.bind_some]
    obtain ⟨M', f1, f2, f3, f4, f5, f6⟩ := M_cpy hL ha e N (i + 1) B (by omega) sB (fun x hx => by rw [c29]; exact hb x hx) (fun x hx' => by
      rw [c29]
      by_cases c : x = i
      · subst c
        rw [hB, cI_wI, if_pos ⟨rfl, rfl⟩]
      · rw [hB, cI_wI, if_neg (by omega)]
        exact hx x (by omega))
    exact ⟨M', by rw [hd, f1], f2, fun x hx => by rw [f3 x hx, c29], dB.trans f4, by rw [f5, hB]; rfl, by rw [f6, hB]; rfl⟩
