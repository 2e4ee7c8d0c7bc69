/-! ===== CALLS, 21: what a fold is refused for ===== -/
def rfc (w a fl k : Int32) (n : Nat) : Int32 := if w < 0 then 14 else if 8 < w then 14 else if a < -1 then 14 else if fl ≠ 0 ∧ (w = 5 ∨ w = 8) then 14 else if foT w k = false then 1 else if a < iw (n : Int) then 0 else 2
theorem Wy_of {w : Int32} (h1 : ¬ w < 0) (h2 : ¬ 8 < w) : Wy w := by
  by_cases c : Wy w
  · exact c
  · exact absurd (Wy_not c) (fun q => q.elim h1 h2)
theorem foL_pos {w k : Int32} (hw : Wy w) (hk : Lk k) : ¬ foL w k < 0 := by
  rcases hw with rfl | rfl | rfl | rfl | rfl | rfl | rfl | rfl | rfl <;> rcases hk with rfl | rfl | rfl | rfl | rfl | rfl | rfl | rfl <;> decide
theorem E_refuse {A : Mem} {o : Nat} {k : Int32} {n : Nat} {z : Nat → Nat} {s : Nat → Int32} {b : Int32} {c : Nat} {p : Int32} {w a fl : Int32} (g : GE A o k n z s b c p) (hk : Lk k) (h6 : o ≠ 6) (h0 : o ≠ 0) : F_X0_foldRefusal A 1000 o w a fl = some (rfc w a fl k n) := by
  have n10 : ¬ (1 : Int32) = 0 := by decide
  unfold F_X0_foldRefusal rfc F_X0_foldRefusal_b37
  rw [if_neg h6, if_neg h0]
  by_cases c1 : w < 0
  · simp only [F_X51_isWay, F_X51_isWay_b14, F_X51_isWay_b15, c1, if_true, Option.bind_some]
    rfl
  · by_cases c2 : 8 < w
    · simp only [F_X51_isWay, F_X51_isWay_b14, F_X51_isWay_b15, c1, c2, if_true, if_false, Option.bind_some]
      rfl
    · have hw := Wy_of c1 c2
      rw [(E_takes hw hk).2.2, if_neg c1, if_neg c2]
      simp only [Option.bind_some, n10, if_false]
      by_cases c3 : a < -1
      · rw [if_pos c3, if_pos c3]
      · rw [if_neg c3, if_neg c3]
        have key : F_X0_foldRefusal_b40 A o w a = some (if foT w k = false then 1 else if a < iw (n : Int) then 0 else 2) := by
          unfold F_X0_foldRefusal_b40 F_X0_foldRefusal_b66
          simp only [gi_of g.2.2.1 (show x_fi 22 1408 = true by decide), gi_of g.2.2.1 (show x_fi 22 1409 = true by decide), g.2.2.2.1, g.2.2.2.2.1, (E_takes hw hk).1, Option.bind_some]
          cases foT w k
          · rfl
          · rw [if_neg (show ¬ mr true = 0 by decide), if_neg (show ¬ (true = false) by decide)]
            split <;> rfl
        by_cases c4 : fl = 0
        · rw [if_pos c4, if_neg (fun q => q.1 c4), key]
        · rw [if_neg c4]
          by_cases c5 : w = 5
          · rw [if_pos c5, if_pos ⟨c4, Or.inl c5⟩]
          · rw [if_neg c5]
            by_cases c6 : w = 8
            · rw [if_pos c6, if_pos ⟨c4, Or.inr c6⟩]
            · rw [if_neg c6, if_neg (fun q => q.2.elim c5 c6), key]
theorem M_refuse {B : Mem} {o : Nat} {k : Int32} {n : Nat} {z : Nat → Nat} {s : Nat → Int32} {b : Int32} {c : Nat} {p : Int32} {g w a fl : Int32} (sB : ST B) (gm : GM B o k n z s b c p) (hk : Lk k) (hc : cI B 1068 1095 = 0) (hg : F_X16_isGrid B 1068 g = some 1) (ha : ar B 1070 g = some o) : F_X16_codeOfFold B 1068 g w a fl = some (rfc w a fl k n) := by
  have n10 : ¬ (1 : Int32) = 0 := by decide
  unfold F_X16_codeOfFold rfc F_X16_codeOfFold_b49
  simp only [g1068_1095, v1068, sB, hc, hg, n10, if_true, if_false, Option.bind_some]
  by_cases c1 : w < 0
  · rw [if_pos c1, if_pos c1]
  · rw [if_neg c1, if_neg c1]
    by_cases c2 : 8 < w
    · rw [if_pos c2, if_pos c2]
    · rw [if_neg c2, if_neg c2]
      have hw := Wy_of c1 c2
      have key : F_X16_codeOfFold_b44 B 1068 g w a = some (if a < -1 then 14 else if foT w k = false then 1 else if a < iw (n : Int) then 0 else 2) := by
        unfold F_X16_codeOfFold_b44 F_X16_codeOfFold_b88 F_X16_codeOfFold_b49
        by_cases c3 : a < -1
        · rw [if_pos c3, if_pos c3]
        · rw [if_neg c3, if_neg c3]
          simp only [g1068_1092, sB, ha, gi_of gm.2.2.1 (show x_fi 23 1472 = true by decide), gm.2.2.2.1, M_foldLane hw hk, vg_of gm.2.2.1 (show x_isa 23 23 = true by decide), M_axes gm, Option.bind_some]
          cases foT w k
          · rfl
          · rw [if_pos (show true = true from rfl), if_neg (foL_pos hw hk), if_neg (show ¬ (true = false) by decide)]
            split <;> rfl
      by_cases c4 : fl = 0
      · rw [if_pos c4, key]
        by_cases c3 : a < -1
        · rw [if_pos c3, if_pos c3]
        · rw [if_neg c3, if_neg c3, if_neg (show ¬ (fl ≠ 0 ∧ (w = 5 ∨ w = 8)) from fun q => q.1 c4)]
      · rw [if_neg c4]
        by_cases c5 : w = 5
        · rw [if_pos c5, if_pos (show fl ≠ 0 ∧ (w = 5 ∨ w = 8) from ⟨c4, Or.inl c5⟩)]
          split <;> rfl
        · rw [if_neg c5]
          by_cases c6 : w = 8
          · rw [if_pos c6, if_pos (show fl ≠ 0 ∧ (w = 5 ∨ w = 8) from ⟨c4, Or.inr c6⟩)]
            split <;> rfl
          · rw [if_neg c6, key, if_neg (show ¬ (fl ≠ 0 ∧ (w = 5 ∨ w = 8)) from fun q => q.2.elim c5 c6)]
theorem rfc_0 {w a fl k : Int32} {n : Nat} (h : ¬ 0 < rfc w a fl k n) : Wy w ∧ foT w k = true ∧ ¬ a < -1 ∧ a < iw (n : Int) ∧ ¬ (fl ≠ 0 ∧ (w = 5 ∨ w = 8)) := by
  unfold rfc at h
  by_cases c1 : w < 0
  · rw [if_pos c1] at h; exact absurd (by decide) h
  rw [if_neg c1] at h
  by_cases c2 : 8 < w
  · rw [if_pos c2] at h; exact absurd (by decide) h
  rw [if_neg c2] at h
  by_cases c3 : a < -1
  · rw [if_pos c3] at h; exact absurd (by decide) h
  rw [if_neg c3] at h
  by_cases c4 : fl ≠ 0 ∧ (w = 5 ∨ w = 8)
  · rw [if_pos c4] at h; exact absurd (by decide) h
  rw [if_neg c4] at h
  by_cases c5 : foT w k = false
  · rw [if_pos c5] at h; exact absurd (by decide) h
  rw [if_neg c5] at h
  by_cases c6 : a < iw (n : Int)
  · exact ⟨Wy_of c1 c2, by cases hh : foT w k; exact absurd hh c5; rfl, c3, c6, c4⟩
  · rw [if_neg c6] at h; exact absurd (by decide) h
theorem ax_of {a : Int32} {n : Nat} (hn : n ≤ 4) (h1 : ¬ a < -1) (h2 : a < iw (n : Int)) : a = -1 ∨ ∃ j, j < n ∧ a = iw (j : Int) := by
  rw [Int32.lt_iff_toInt_lt] at h1 h2
  rw [show (-1 : Int32).toInt = -1 from rfl] at h1
  rw [iw_toInt (by omega) (by omega)] at h2
  by_cases c : a.toInt = -1
  · left
    exact Int32.toInt_inj.mp c
  · right
    refine ⟨a.toInt.toNat, by omega, i32_nat (by omega)⟩
