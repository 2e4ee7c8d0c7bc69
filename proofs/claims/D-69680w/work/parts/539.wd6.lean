/-! ===== TABLES, 25: the model's lane of a cell ===== -/
theorem nlt {P : Nat} (hP : P ≤ 9223372036854775808) : Int64.ofInt (-(P : Int)) = (-9223372036854775808 : Int64) ↔ P = 9223372036854775808 := by
  rw [← Int64.toInt_inj, tmn, i64_small (by omega) (by omega)]
  omega
theorem M_whole_l {M : Mem} {a : Nat} {w : List Int32} {l : Int32} (sw : SB M a w) (hw : ascs w) (hl : w.length ≤ 40) (h1 : W1 w) (hk : l = 4 ∨ l = 5) : ∀ (m N j : Nat), wfr w + j + m = w.length → wvl w (wfr w) j ≤ 9223372036854775808 → F_X16_isWholeWord_b58 (N + 1 + m) M a l (iw (wfr w : Nat)) (Int64.ofInt (-(wvl w (wfr w) j : Nat) : Int)) (iw ((wfr w + j : Nat) : Int)) = some (pif (wvl w (wfr w) (w.length - wfr w) ≤ (if l = 4 then 2147483647 else 9223372036854775807) + wfr w) 1 0)
  | 0, N, j, hj, hb => by
    have fl := wfr_le w
    show F_X16_isWholeWord_b58_st (F_X16_isWholeWord_b58 N) M a l (iw (wfr w : Nat)) (Int64.ofInt (-(wvl w (wfr w) j : Nat) : Int)) (iw ((wfr w + j : Nat) : Int)) = _
    have ej : j = w.length - wfr w := by omega
    rw [ej] at hb ⊢
    obtain ⟨V, hV⟩ : ∃ V, V = wvl w (wfr w) (w.length - wfr w) := ⟨_, rfl⟩
    rw [← hV] at hb ⊢
    have n1 : ¬ (1 : Int32) = 0 := by decide
    unfold F_X16_isWholeWord_b58_st
    rw [sw.vg, Option.bind_some, J_len sw, Option.bind_some, if_neg (by rw [iw_le4 (by omega) (by omega)]; omega)]
    have e0 : iw (wfr w : Nat) = 0 ↔ wfr w = 0 := by rw [show (0 : Int32) = iw ((0 : Nat) : Int) from rfl, iw_eq (by omega) (by omega) (by omega) (by omega)]; omega
    have b142 : ∀ x : Int, -9223372036854775808 ≤ x → x < 9223372036854775808 → F_X16_isWholeWord_b142 M (Int64.ofInt x) l = some (pif (l = 5 ∨ (-2147483648 ≤ x ∧ x < 2147483648)) 1 0) := fun x x1 x2 => by
      unfold F_X16_isWholeWord_b142 F_X16_isWholeWord_b159 F_X16_isWholeWord_b164
      by_cases c5 : l = 5
      · rw [if_pos c5, tpif (Or.inl c5)]; rfl
      · rw [if_neg c5]
        by_cases cx : -2147483648 ≤ x ∧ x < 2147483648
        · rw [if_pos (i4_back (by rw [i64_small (by omega) (by omega)]; omega) (by rw [i64_small (by omega) (by omega)]; omega)).symm, tpif (Or.inr cx)]; rfl
        · rw [if_neg, fpif (fun q => q.elim c5 cx)]
          · rfl
          · intro q
            have q2 := congrArg Int64.toInt q
            rw [Int32.toInt_toInt64, Int64.toInt_toInt32, i64_small (by omega) (by omega)] at q2
            have q3 := Int.bmod_lt (x := x) (m := 2 ^ 32) (by decide)
            have q4 := Int.le_bmod (x := x) (m := 2 ^ 32) (by decide)
            rw [← q2] at q3 q4
            have e1 : (((2 : Nat) ^ 32 : Nat) : Int) = 4294967296 := by decide
            rw [e1] at q3 q4
            omega
    have l45 : (4 : Int32) ≠ 5 := by decide
    have l54 : (5 : Int32) ≠ 4 := by decide
    unfold F_X16_isWholeWord_b130
    by_cases cf : wfr w = 0
    · rw [if_pos (e0.mpr cf), if_pos (e0.mpr cf), cf, Nat.add_zero]
      by_cases cm : V = 9223372036854775808
      · rw [if_pos ((nlt hb).mpr cm), fpif]
        rcases hk with hk | hk
        · rw [hk, if_pos rfl]; omega
        · rw [hk, if_neg l54]; omega
      · rw [if_neg (fun q => cm ((nlt hb).mp q)), show -Int64.ofInt (-(V : Int)) = Int64.ofInt (V : Int) by rw [← Int64.ofInt_neg, Int.neg_neg], b142 _ (by omega) (by omega)]
        congr 1
        rcases hk with hk | hk
        · rw [hk, if_pos rfl]
          by_cases c : V ≤ 2147483647
          · rw [tpif c, tpif (Or.inr ⟨by omega, by omega⟩)]
          · rw [fpif c, fpif (fun q => q.elim (fun q => absurd q l45) (fun q => by omega))]
        · rw [hk, if_neg l54, tpif (Or.inl rfl), tpif (by omega)]
    · rw [if_neg (fun q => cf (e0.mp q)), if_neg (fun q => cf (e0.mp q)), b142 _ (by omega) (by omega)]
      have f1 : wfr w = 1 := by omega
      rw [f1]
      congr 1
      rcases hk with hk | hk
      · rw [hk, if_pos rfl]
        by_cases c : V ≤ 2147483647 + 1
        · rw [tpif c, tpif (Or.inr ⟨by omega, by omega⟩)]
        · rw [fpif c, fpif (fun q => q.elim (fun q => absurd q l45) (fun q => by omega))]
      · rw [hk, if_neg l54, tpif (Or.inl rfl), tpif (by omega)]
  | m + 1, N, j, hj, hb => by
    have fl := wfr_le w
    show F_X16_isWholeWord_b58_st (F_X16_isWholeWord_b58 (N + 1 + m)) M a l (iw (wfr w : Nat)) (Int64.ofInt (-(wvl w (wfr w) j : Nat) : Int)) (iw ((wfr w + j : Nat) : Int)) = _
    have hdj := h1.dg (j := j) (by omega)
    have ed : wf w (wfr w + j) - (48 : Int32) = iw ((bn (wf w (wfr w + j)) - 48 : Nat) : Int) := by
      have q := (asc_bn (hw (wfr w + j) (by omega))).1
      generalize wf w (wfr w + j) = z at *
      rw [show z - (48 : Int32) = iw (bn z : Nat) - iw ((48 : Nat) : Int) by rw [← q]; rfl, iw_nsub hdj.1]
    have es : wvl w (wfr w) (j + 1) = 10 * wvl w (wfr w) j + (bn (wf w (wfr w + j)) - 48) := rfl
    have n10 : ¬ (10 : Int64) = 0 := by decide
    unfold F_X16_isWholeWord_b58_st
    rw [sw.vg, Option.bind_some, J_len sw, Option.bind_some, if_pos (show iw ((wfr w + j : Nat) : Int) < iw (w.length : Nat) by rw [iw_le4 (by omega) (by omega)]; omega), Option.bind_some, wch sw hw (show wfr w + j < w.length by omega), Option.bind_some]
    simp only []
    rw [ed, if_neg n10]
    have q := lim_m (P := wvl w (wfr w) j) (d := bn (wf w (wfr w + j)) - 48) hb (by omega)
    by_cases c : 9223372036854775808 < 10 * wvl w (wfr w) j + (bn (wf w (wfr w + j)) - 48)
    · rw [if_pos (q.mpr c), fpif]
      have mono := wvl_le (w := w) (a := wfr w) m (j + 1)
      rw [show j + 1 + m = w.length - wfr w by omega] at mono
      rcases hk with hk | hk
      · rw [hk, if_pos rfl]; omega
      · rw [hk, if_neg (by decide)]; omega
    · rw [if_neg (fun k => c (q.mp k)), iw_succ]
      have ev : (10 : Int64) * Int64.ofInt (-(wvl w (wfr w) j : Nat) : Int) - (iw ((bn (wf w (wfr w + j)) - 48 : Nat) : Int)).toInt64 = Int64.ofInt (-(wvl w (wfr w) (j + 1) : Nat) : Int) := by
        rw [iw_64 (by omega), show (10 : Int64) = Int64.ofInt 10 from rfl, ← Int64.ofInt_mul, ← Int64.ofInt_sub, es]
        congr 1
        omega
      rw [ev]
      exact M_whole_l sw hw hl h1 hk m N (j + 1) (by omega) (by rw [es]; omega)
theorem M_isWhole {M : Mem} {a : Nat} {w : List Int32} {l : Int32} (sw : SB M a w) (hw : ascs w) (hl : w.length ≤ 40) (hk : l = 4 ∨ l = 5) : F_X16_isWholeWord M a l = some (pif (W1 w ∧ (if l = 4 then isIw w else isLw w)) 1 0) := by
  have fl := wfr_le w
  unfold F_X16_isWholeWord
  rw [M_digits0 sw hw hl, Option.bind_some]
  by_cases c1 : W1 w
  · rw [tpif c1, if_neg (show ¬ iw ((w.length - wfr w : Nat) : Int) < 0 by rw [iw_lt0 (by omega) (by omega)]; omega)]
    have hlen : 0 < w.length := by have := c1.1; have := c1.2; omega
    have go : ∀ z : Nat, z = (if l = 4 then 10 else 19) → F_X16_isWholeWord_b23 M (iw ((w.length - wfr w : Nat) : Int)) (iw (z : Int)) a l = some (pif (W1 w ∧ (if l = 4 then isIw w else isLw w)) 1 0) := fun z hz => by
      have hz2 : z ≤ 19 := by rw [hz]; split <;> omega
      unfold F_X16_isWholeWord_b23 F_X16_isWholeWord_b26
      by_cases cz : z < w.length - wfr w
      · rw [if_pos (show iw (z : Int) < iw ((w.length - wfr w : Nat) : Int) by rw [iw_le4 (by omega) (by omega)]; exact cz), fpif]
        rintro ⟨-, q⟩
        rcases hk with hk | hk
        · rw [hk, if_pos rfl] at q hz; have := q.1; omega
        · rw [hk, if_neg (by decide)] at q hz; have := q.1; omega
      · rw [if_neg (show ¬ iw (z : Int) < iw ((w.length - wfr w : Nat) : Int) by rw [iw_le4 (by omega) (by omega)]; exact cz), sw.vg, Option.bind_some]
        have a0 := wch sw hw hlen
        rw [show iw ((0 : Nat) : Int) = 0 from rfl] at a0
        rw [a0, Option.bind_some]
        obtain ⟨f1, f2⟩ := wfr_w hw hlen
        obtain ⟨K, hK⟩ : ∃ K, K + 1 + (w.length - wfr w) = xN := ⟨xN - 1 - (w.length - wfr w), by have : xN = 1099511627776 := rfl; omega⟩
        have lp := M_whole_l sw hw hl c1 hk (w.length - wfr w) K 0 (by omega) (by show 0 ≤ _; omega)
        rw [hK, Nat.add_zero] at lp
        have lp2 : F_X16_isWholeWord_b58 xN M a l (iw (wfr w : Nat)) 0 (iw (wfr w : Nat)) = some (pif (W1 w ∧ (if l = 4 then isIw w else isLw w)) 1 0) := by
          refine Eq.trans lp ?_
          congr 1
          rcases hk with hk | hk
          · rw [hk, if_pos rfl] at hz ⊢
            rw [if_pos rfl]
            by_cases c : wvl w (wfr w) (w.length - wfr w) ≤ 2147483647 + wfr w
            · rw [tpif c, tpif ⟨c1, ⟨by omega, c⟩⟩]
            · rw [fpif c, fpif (fun q => c q.2.2)]
          · have n54 : ¬ (5 : Int32) = 4 := by decide
            rw [hk, if_neg n54] at hz ⊢
            rw [if_neg n54]
            by_cases c : wvl w (wfr w) (w.length - wfr w) ≤ 9223372036854775807 + wfr w
            · rw [tpif c, tpif ⟨c1, ⟨by omega, c⟩⟩]
            · rw [fpif c, fpif (fun q => c q.2.2)]
        have n1 : ¬ (1 : Int32) = 0 := by decide
        by_cases c45 : wf w 0 = 45
        · rw [if_pos c45]
          unfold F_X16_isWholeWord_b43 F_X16_isWholeWord_b56
          rw [if_neg n1]
          rw [f1.mp c45] at lp2
          exact lp2
        · rw [if_neg c45]
          unfold F_X16_isWholeWord_b43 F_X16_isWholeWord_b56
          rw [if_pos rfl]
          rw [f2.mp c45] at lp2
          exact lp2
    by_cases c4 : l = 4
    · rw [if_pos c4]; exact go 10 (by rw [if_pos c4])
    · rw [if_neg c4]; exact go 19 (by rw [if_neg c4])
  · rw [fpif c1, if_pos (by decide), fpif (fun q => c1 q.1)]
    rfl
theorem M_isReal {M : Mem} {a : Nat} {w : List Int32} (sw : SB M a w) (hw : ascs w) (hl : w.length ≤ 40) : F_X16_isRealWord M a = some (pif ((W1 w ∧ w.length - wfr w ≤ 15) ∨ (¬ W1 w ∧ W2 w ∧ w.length - wfr w - 1 ≤ 15)) 1 0) := by
  have fl := wfr_le w
  unfold F_X16_isRealWord
  rw [M_digits1 sw hw hl, Option.bind_some]
  have go : ∀ z : Nat, 0 < z → z ≤ 40 → (if 0 < iw (z : Int) then if (15 : Int32) < iw (z : Int) then F_X16_isRealWord_b20 M else F_X16_isRealWord_b21 M 1 else F_X16_isRealWord_b20 M) = some (pif (z ≤ 15) 1 0) := fun z z1 z2 => by
    unfold F_X16_isRealWord_b20 F_X16_isRealWord_b21
    rw [if_pos (show (0 : Int32) < iw (z : Int) by rw [show (0 : Int32) = iw ((0 : Nat) : Int) from rfl, iw_le4 (by omega) (by omega)]; exact z1)]
    by_cases c : 15 < z
    · rw [if_pos (show (15 : Int32) < iw (z : Int) by rw [show (15 : Int32) = iw ((15 : Nat) : Int) from rfl, iw_le4 (by omega) (by omega)]; exact c), fpif (by omega)]; rfl
    · rw [if_neg (show ¬ (15 : Int32) < iw (z : Int) by rw [show (15 : Int32) = iw ((15 : Nat) : Int) from rfl, iw_le4 (by omega) (by omega)]; exact c), tpif (by omega)]; rfl
  by_cases c1 : W1 w
  · rw [tpif c1, go _ (by have := c1.1; have := c1.2; omega) (by omega)]
    congr 1
    by_cases c : w.length - wfr w ≤ 15
    · rw [tpif c, tpif (Or.inl ⟨c1, c⟩)]
    · rw [fpif c, fpif (fun q => q.elim (fun q => c q.2) (fun q => q.1 c1))]
  · rw [fpif c1]
    by_cases c2 : W2 w
    · have q1 := c2.1
      have q2 := c2.2.2.2
      rw [tpif c2, go _ (by omega) (by omega)]
      congr 1
      by_cases c : w.length - wfr w - 1 ≤ 15
      · rw [tpif c, tpif (Or.inr ⟨c1, c2, c⟩)]
      · rw [fpif c, fpif (fun q => q.elim (fun q => c1 q.1) (fun q => c q.2.2))]
    · rw [fpif c2, if_neg (by decide), fpif (fun q => q.elim (fun q => c1 q.1) (fun q => c2 q.2.1))]
      rfl
theorem ac_txt {a b : Nat} (h1 : 1000 ≤ a) (h2 : 20 ≤ b) (h3 : b ≤ 64) : ac a b = true := by
  have a1 : Nat.ble 1000 a = true := Nat.ble_eq.mpr h1
  have b1 : Nat.ble 20 b = true := Nat.ble_eq.mpr h2
  have b2 : Nat.ble b 64 = true := Nat.ble_eq.mpr h3
  have c1 : (a != 2) = true := by simp; omega
  have c2 : (b != 2) = true := by simp; omega
  unfold ac acs
  simp only [a1, b1, b2, c1, c2, Bool.and_self, Bool.or_true, Bool.true_or, Bool.and_true]
theorem M_isTruth {M : Mem} {a : Nat} {w : List Int32} (k0 : K0 M) (sw : SB M a w) (ha : 1000 ≤ a) : F_X16_isTruth M a = some (pif (w = (cty 61).1 ∨ w = (cty 56).1) 1 0) := by
  have n1 : ¬ (1 : Int32) = 0 := by decide
  unfold F_X16_isTruth F_X16_isTruth_b20 F_X16_isTruth_b25
  rw [sw.vg, Option.bind_some, J_eqs sw (k0.sb (show 20 ≤ 61 by decide) (by decide)) (ac_txt ha (by decide) (by decide)) (by decide), Option.bind_some]
  by_cases c1 : w = (cty 61).1
  · rw [tpif c1, if_neg n1, tpif (Or.inl c1)]; rfl
  · rw [fpif c1, if_pos rfl, Option.bind_some, J_eqs sw (k0.sb (show 20 ≤ 56 by decide) (by decide)) (ac_txt ha (by decide) (by decide)) (by decide), Option.bind_some]
    by_cases c2 : w = (cty 56).1
    · rw [tpif c2, if_neg n1, tpif (Or.inr c2)]; rfl
    · rw [fpif c2, if_pos rfl, fpif (fun q => q.elim c1 c2)]; rfl
