/-! ===== THE LOG, 1: what both know of it ===== -/
/-- where a record begins -/
def lst (rs : List Nat) (i : Nat) : Nat := (rs.take i).sum
/-- a record whole: how long it is, a name, a grid's bytes -/
def Rec (f : Nat → Int32) (a l : Nat) : Prop := ∃ (nl : Nat) (k : Int32) (n : Nat) (z : Nat → Nat) (val : Nat → Int64), 1 ≤ nl ∧ nl ≤ 20 ∧ Lk k ∧ n ≤ 4 ∧ (∀ i, i < n → z i ≤ 4096) ∧ prd z n ≤ 100000 ∧ (∀ i, i < prd z n → vb k (val i)) ∧ l = 13 + nl + (gbc k n z val).length ∧ (gbc k n z val).length ≤ 30000 ∧ f (a + 4) = iw (nl : Int) ∧ (∀ i, i < nl → ¬ f (a + 5 + i) < 33 ∧ ¬ 126 < f (a + 5 + i)) ∧ (∀ i, i < 4 → f (a + i) = (nbs (iw (l : Int)).toInt64 4).getD i 0) ∧ ∀ i, i < (gbc k n z val).length → f (a + 5 + nl + i) = (gbc k n z val).getD i 0
def I9w (M : Mem) (rs : List Nat) (d1 d2 : Nat) (e1 e2 : List Nat) (n : Nat) : Prop :=
  rs.length ≤ 60000 ∧ rs.sum ≤ 60000 ∧ AL M 1331 d1 e1 ∧ AL M 1332 d2 e2 ∧ e1.length = rs.length ∧ e2.length = rs.length ∧ (∀ i, i < rs.length → IB M (e1.getD i 0) (iw (lst rs i : Nat)) ∧ IB M (e2.getD i 0) (iw (rs.getD i 0 : Nat))) ∧ (∀ i, i < rs.length → (e1.getD i 0 < 1000 ∨ 1334 ≤ e1.getD i 0) ∧ (e2.getD i 0 < 1000 ∨ 1334 ≤ e2.getD i 0)) ∧ (4 ≤ d1 ∧ (d1 = 4 ∨ 1334 ≤ d1)) ∧ (4 ≤ d2 ∧ (d2 = 4 ∨ 1334 ≤ d2)) ∧ (d1 = d2 → d1 = 4) ∧
  n ≤ rs.sum ∧ cI M 1052 1025 = iw (n : Int) ∧ cI M 1068 1131 = iw (n : Int) ∧ (∀ i, i < n → cI M 1053 i = cI M 1329 i) ∧ (∀ i, i < rs.sum → cI M 1055 i = cI M 1330 i) ∧
  (∀ i, i < rs.length → Rec (cI M 1330) (lst rs i) (rs.getD i 0)) ∧
  (cI M 1000 97 = 0 → n = rs.sum ∧ (∀ i, i < n → cI M 1329 i = cI M 1330 i) ∧ (rs ≠ [] → cI M 1051 962 = iw (lst rs (rs.length - 1) : Nat)))
def I9 (M : Mem) : Prop := ∃ rs d1 d2 e1 e2 n, I9w M rs d1 d2 e1 e2 n
/-- what the log stands on -/
def pLg : Nat → Nat → Prop := fun a i => (1051 ≤ a ∧ a ≤ 1055) ∨ (1329 ≤ a ∧ a ≤ 1332) ∨ (a = 1068 ∧ i = 1131) ∨ (a = 1000 ∧ i = 97) ∨ (a < 1000)
def rLg : Nat → Nat → Prop := fun a _ => a = 1331 ∨ a = 1332
theorem Rec.congr {f g : Nat → Int32} {a l : Nat} (h : Rec f a l) (e : ∀ i, i < l → g (a + i) = f (a + i)) : Rec g a l := by
  obtain ⟨nl, k, n, z, val, q1, q2, q3, q4, q5, q6, q7, q8, q9, q10, qn, q11, q12⟩ := h
  refine ⟨nl, k, n, z, val, q1, q2, q3, q4, q5, q6, q7, q8, q9, ?_, fun i hi => ?_, fun i hi => ?_, fun i hi => ?_⟩
  · rw [e 4 (by omega)]; exact q10
  · rw [show a + 5 + i = a + (5 + i) by omega, e (5 + i) (by omega), show a + (5 + i) = a + 5 + i by omega]; exact qn i hi
  · rw [e i (by omega)]; exact q11 i hi
  · rw [show a + 5 + nl + i = a + (5 + nl + i) by omega, e (5 + nl + i) (by omega), show a + (5 + nl + i) = a + 5 + nl + i by omega]; exact q12 i hi
theorem lst_le (rs : List Nat) : ∀ i, i < rs.length → lst rs i + rs.getD i 0 ≤ rs.sum := by
  intro i hi
  have h1 : rs.sum = (rs.take i).sum + (rs.drop i).sum := by rw [← List.sum_append_nat, List.take_append_drop]
  have h2 : rs.drop i = rs.getD i 0 :: rs.drop (i + 1) := by
    rw [List.getD_eq_getElem?_getD, List.getElem?_eq_getElem hi]
    exact List.drop_eq_getElem_cons hi
  rw [h1, h2, List.sum_cons]
  unfold lst
  omega
theorem I9.df {P Q R : Nat → Nat → Prop} {M M' : Mem} (h : ST M) (h9 : I9 M) (d : Df P Q R M M') (hq : qt P) (hr : qt R) (hP : ∀ a i, pLg a i → ¬ P a i) (hR : ∀ a i, rLg a i → ¬ R a i) : I9 M' := by
  have h0 := h.1
  obtain ⟨rs, d1, d2, e1, e2, n, q1, q2, q3, q4, q5, q6, q7, q8, q9, q10, q11, q12, q13, q14, q15, q16, q17, q18⟩ := h9
  have c : ∀ a i, pLg a i → a < 1334 → cI M' a i = cI M a i := fun a i hp ha => d.cI (by omega) (hP a i hp)
  have c3 : ∀ i, cI M' 1053 i = cI M 1053 i := fun i => c _ _ (by unfold pLg; omega) (by decide)
  have c5 : ∀ i, cI M' 1055 i = cI M 1055 i := fun i => c _ _ (by unfold pLg; omega) (by decide)
  have c9 : ∀ i, cI M' 1329 i = cI M 1329 i := fun i => c _ _ (by unfold pLg; omega) (by decide)
  have c0 : ∀ i, cI M' 1330 i = cI M 1330 i := fun i => c _ _ (by unfold pLg; omega) (by decide)
  have ib : ∀ x v, IB M x v → (x < 1000 ∨ 1334 ≤ x) → IB M' x v := fun x v hx hh => hx.df d (fun q => hh.elim (fun w => hP x 5120 (by unfold pLg; omega) q) (fun w => hq x 5120 w q))
  refine ⟨rs, d1, d2, e1, e2, n, q1, q2, q3.df d (hP _ _ (by unfold pLg; omega)) (hR _ _ (Or.inl rfl)) (fun i hi => hr _ _ hi), q4.df d (hP _ _ (by unfold pLg; omega)) (hR _ _ (Or.inr rfl)) (fun i hi => hr _ _ hi), q5, q6, fun i hi => ⟨ib _ _ (q7 i hi).1 (q8 i hi).1, ib _ _ (q7 i hi).2 (q8 i hi).2⟩, q8, q9, q10, q11, q12, by rw [c _ _ (by unfold pLg; omega) (by decide)]; exact q13, by rw [c _ _ (by unfold pLg; omega) (by decide)]; exact q14, fun i hi => by rw [c3, c9]; exact q15 i hi, fun i hi => by rw [c5, c0]; exact q16 i hi, fun i hi => (q17 i hi).congr (fun j _ => c0 _), fun hc => ?_⟩
  rw [c _ _ (by unfold pLg; omega) (by decide)] at hc
  obtain ⟨u1, u2, u3⟩ := q18 hc
  exact ⟨u1, fun i hi => by rw [c9, c0]; exact u2 i hi, fun hh => by rw [c _ _ (by unfold pLg; omega) (by decide)]; exact u3 hh⟩
theorem c_logged {M : Mem} (h : ST M) (h9 : I9 M) : ∃ r, F_X0_logged M 1000 = some r ∧ F_X16_logged M 1068 = some r := by
  obtain ⟨rs, d1, d2, e1, e2, n, q1, q2, q3, q4, q5, q6, q7, q8, q9, q10, q11, q12, q13, q14, q15⟩ := h9
  exact ⟨iw (n : Int), by simp only [F_X0_logged, F_X14_size, g1000_79, v1051, g1051_960, g1052_1025, h, q13, Option.bind_some], by simp only [F_X16_logged, g1068_1131, h, q14, Option.bind_some]⟩
theorem i2b_xor (a b : Int32) : j_i2b (a ^^^ j_i2b (b &&& 255)) = j_i2b (a ^^^ b) := by
  rw [i2b_and]
  unfold j_i2b
  rw [Int32.toInt8_xor, Int32.toInt8_xor, Int8.toInt8_toInt32]
theorem c_poke {M : Mem} {i v : Int32} (h : ST M) (h4 : I4 M) (h9 : I9 M) : ∃ (r : Int32) (M1 M2 : Mem), F_X0_poke M 1000 i v = some (r, M1) ∧ F_X16_poke M1 1068 i v = some (r, M2) ∧ I9 M2 ∧ Df (fun a _ => a = 1053 ∨ a = 1329) n2 n2 M M2 ∧ m_nx M2 = m_nx M ∧ m_sl M2 = m_sl M := by
  have h0 := h.1
  have h9x := h9
  obtain ⟨rs, d1, d2, e1, e2, n, q1, q2, q3, q4, q5, q6, q7, q8, q9, q10, q11, q12, q13, q14, q15, q16, q17, q18⟩ := h9
  have hcl := h4.2.2.2.1
  have hcl2 := h4.2.2.2.2.1
  have n10 : ¬ (1 : Int32) = 0 := by decide
  rcases hcl with hc | hc
  · refine ⟨0, M, M, ?_, ?_, h9x, Df.refl _ _ _ _, rfl, rfl⟩
    · simp only [F_X0_poke, F_X0_poke_b27, F_X0_poke_b28, g1000_97, h, hc, Option.bind_some, if_true]
      rfl
    · simp only [F_X16_poke, F_X16_poke_b19, g1068_1095, h, ← hcl2, hc, Option.bind_some, if_true]
  · rw [hc] at hcl2
    by_cases c1 : i < 0
    · refine ⟨0, M, M, ?_, ?_, h9x, Df.refl _ _ _ _, rfl, rfl⟩
      · simp only [F_X0_poke, F_X0_poke_b27, F_X0_poke_b28, F_X14_poke, F_X14_poke_b15, g1000_97, g1000_79, v1051, h, hc, n10, c1, Option.bind_some, if_true, if_false]
        rfl
      · simp only [F_X16_poke, F_X16_poke_b19, g1068_1095, h, ← hcl2, n10, c1, Option.bind_some, if_true, if_false]
    · by_cases c2 : i < iw (n : Int)
      · rw [Int32.lt_iff_toInt_lt] at c1
        have c2' := c2
        rw [Int32.lt_iff_toInt_lt] at c2'
        have z0 : (0 : Int32).toInt = 0 := rfl
        rw [iw_toInt (by omega) (by omega)] at c2'
        obtain ⟨j, hj⟩ : ∃ j, j = i.toInt.toNat := ⟨_, rfl⟩
        have hi : i = iw (j : Int) := by rw [hj]; exact i32_nat (by omega)
        have hjn : j < n := by omega
        have c1' : ¬ iw (j : Int) < 0 := by rw [iw_lt0 (by omega) (by omega)]; omega
        subst hi
        obtain ⟨A, hA⟩ : ∃ A, A = wI M 1053 j (j_i2b (cI M 1053 j ^^^ v)) := ⟨_, rfl⟩
        obtain ⟨B, hB⟩ : ∃ B, B = wI A 1329 j (j_i2b (cI M 1329 j ^^^ v)) := ⟨_, rfl⟩
        have sA : ST A := by rw [hA]; exact h
        have dA : Df (fun a _ => a = 1053 ∨ a = 1329) n2 n2 M A := by rw [hA]; exact Df.wI _ (Or.inl rfl)
        have dB : Df (fun a _ => a = 1053 ∨ a = 1329) n2 n2 M B := dA.trans (by rw [hB]; exact Df.wI _ (Or.inr rfl))
        have cA : ∀ a k, a ≠ 1053 → cI A a k = cI M a k := fun a k ha => by rw [hA, cI_wI, if_neg (fun q => ha q.1)]
        have cB : ∀ a k, a ≠ 1053 → a ≠ 1329 → cI B a k = cI M a k := fun a k ha hb => by rw [hB, cI_wI, if_neg (fun q => hb q.1), cA a k ha]
        refine ⟨1, A, B, ?_, ?_, ?_, dB, by rw [hB, hA]; rfl, by rw [hB, hA]; rfl⟩
        · have a1 : ab M 1053 (iw (j : Int)) = some (cI M 1053 j) := ab_of (Or.inr (Or.inl (t1053 h))) (l1053 h) (by omega) (by decide)
          have a2 : sb M 1053 (iw (j : Int)) (j_i2b (cI M 1053 j ^^^ j_i2b (v &&& 255))) = some A := by
            rw [i2b_xor, sb_of _ (t1053 h) (l1053 h) (by omega) (by decide), i2b_i2b, hA]
          simp only [F_X0_poke, F_X0_poke_b28, F_X14_poke, g1000_97, g1000_79, v1051, g1051_960, g1052_1025, g1052_1024, h, hc, q13, n10, c1', c2, a1, a2, Option.bind_some, if_true, if_false]
          rfl
        · have a1 : ab A 1329 (iw (j : Int)) = some (cI M 1329 j) := by rw [ab_of (Or.inr (Or.inl (t1329 sA))) (l1329 sA) (by omega) (by decide), cA _ _ (by decide)]
          have a2 : sb A 1329 (iw (j : Int)) (j_i2b (cI M 1329 j ^^^ v)) = some B := by
            rw [sb_of _ (t1329 sA) (l1329 sA) (by omega) (by decide), i2b_i2b, hB]
          have e1' : cI A 1068 1095 = 1 := by rw [cA _ _ (by decide), ← hcl2]
          have e2' : cI A 1068 1131 = iw (n : Int) := by rw [cA _ _ (by decide), q14]
          simp only [F_X16_poke, g1068_1095, g1068_1131, g1068_1129, sA, e1', e2', n10, c1', c2, a1, a2, Option.bind_some, if_true, if_false]
        · refine ⟨rs, d1, d2, e1, e2, n, q1, q2, q3.df dB (by omega) (fun q => q) (fun i _ q => q), q4.df dB (by omega) (fun q => q) (fun i _ q => q), q5, q6, fun i hi => ⟨(q7 i hi).1.df dB (by have := (q8 i hi).1; omega), (q7 i hi).2.df dB (by have := (q8 i hi).2; omega)⟩, q8, q9, q10, q11, q12, by rw [cB _ _ (by decide) (by decide)]; exact q13, by rw [cB _ _ (by decide) (by decide)]; exact q14, fun i hi => ?_, fun i hi => by rw [cB _ _ (by decide) (by decide), cB _ _ (by decide) (by decide)]; exact q16 i hi, fun i hi => (q17 i hi).congr (fun k _ => cB _ _ (by decide) (by decide)), fun hh => ?_⟩
          · have x1 : cI B 1053 i = if i = j then j_i2b (cI M 1053 j ^^^ v) else cI M 1053 i := by
              rw [hB, cI_wI, if_neg (show ¬ ((1053 : Nat) = 1329 ∧ i = j) from fun q => absurd q.1 (by decide)), hA, cI_wI]
              by_cases ci : i = j
              · rw [if_pos ⟨rfl, ci⟩, if_pos ci]
              · rw [if_neg (fun q => ci q.2), if_neg ci]
            have x2 : cI B 1329 i = if i = j then j_i2b (cI M 1329 j ^^^ v) else cI M 1329 i := by
              rw [hB, cI_wI]
              by_cases ci : i = j
              · rw [if_pos ⟨rfl, ci⟩, if_pos ci]
              · rw [if_neg (fun q => ci q.2), if_neg ci, cA _ _ (by decide)]
            rw [x1, x2]
            by_cases ci : i = j
            · rw [if_pos ci, if_pos ci, q15 j hjn]
            · rw [if_neg ci, if_neg ci]
              exact q15 i hi
          · rw [cB _ _ (by decide) (by decide), hc] at hh
            exact absurd hh n10
      · refine ⟨0, M, M, ?_, ?_, h9x, Df.refl _ _ _ _, rfl, rfl⟩
        · simp only [F_X0_poke, F_X0_poke_b27, F_X0_poke_b28, F_X14_poke, F_X14_poke_b15, g1000_97, g1000_79, v1051, g1051_960, g1052_1025, h, hc, q13, n10, c1, c2, Option.bind_some, if_true, if_false]
          rfl
        · simp only [F_X16_poke, F_X16_poke_b19, g1068_1095, g1068_1131, h, ← hcl2, q14, n10, c1, c2, Option.bind_some, if_true, if_false]
