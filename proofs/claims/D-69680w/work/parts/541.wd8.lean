/-! ===== TABLES, 27: the model's lane of a column ===== -/
/-- the model's table, its names at en, its cells at ec -/
def TMc (M : Mem) (t C R ln dn : Nat) (en : List Nat) (lc dc : Nat) (ec : List Nat) (cs : List (List Int32 × Bool)) : Prop := K0 M ∧ m_tg M t = 55 ∧ cR M t 3520 = ln ∧ cR M t 3521 = lc ∧ AL M ln dn en ∧ en.length = C ∧ 1 ≤ C ∧ C ≤ 16 ∧ R < 500 ∧ AL M lc dc ec ∧ ec.length = C * R ∧ ∀ k, k < C * R → MC M (ec.getD k 0) (cl cs k)
section
variable {M : Mem} {t C R ln dn lc dc : Nat} {en ec : List Nat} {cs : List (List Int32 × Bool)}
theorem TMc.b (h : TMc M t C R ln dn en lc dc ec cs) : C * R < 8000 := by
  obtain ⟨-, -, -, -, -, -, -, h1, h2, -⟩ := h
  have : C * R ≤ 16 * 499 := Nat.mul_le_mul h1 (by omega)
  omega
theorem TMc.g (h : TMc M t C R ln dn en lc dc ec cs) : gr M t 3520 = some ln ∧ gr M t 3521 = some lc ∧ vg M ln 67 = some () ∧ vg M lc 67 = some () ∧ F_J6_size M ln = some (iw (C : Int)) ∧ F_J6_size M lc = some (iw ((C * R : Nat) : Int)) ∧ vg M t 55 = some () := by
  obtain ⟨h1, h2, h3, h4, h5, h6, h7, h8, h9, h10, h11, h12⟩ := h
  exact ⟨by rw [gr_of h2 (show x_fr 55 3520 = true by decide), h3], by rw [gr_of h2 (show x_fr 55 3521 = true by decide), h4], vg_of h5.2.1 (by decide), vg_of h10.2.1 (by decide), by rw [h5.size, h6], by rw [h10.size, h11], vg_of h2 (by decide)⟩
theorem M_rows (h : TMc M t C R ln dn en lc dc ec cs) : F_X54_rows M t = some (iw (R : Int)) := by
  have hb := h.b
  obtain ⟨g1, g2, g3, g4, g5, g6, g7⟩ := h.g
  obtain ⟨h1, h2, h3, h4, h5, h6, h7, h8, h9, h10, h11, h12⟩ := h
  unfold F_X54_rows
  simp only [g1, g2, g3, g4, g5, g6, Option.bind_some]
  rw [if_neg (show ¬ iw (C : Int) = 0 by rw [show (0 : Int32) = iw ((0 : Nat) : Int) from rfl, iw_eq (by omega) (by omega) (by omega) (by omega)]; omega), iw_div (by omega) (by omega) (by omega) (by omega), ← Int.ofNat_tdiv, Nat.mul_div_cancel_left _ (by omega)]
theorem M_atT {r c : Nat} (h : TMc M t C R ln dn en lc dc ec cs) (hr : r < R) (hc : c < C) : F_X54_at M t (iw (r : Int)) (iw (c : Int)) = some (ec.getD (C * r + c) 0) ∧ MC M (ec.getD (C * r + c) 0) (cl cs (C * r + c)) := by
  have hb := h.b
  have hk := cr_lt (R := R) hc hr
  obtain ⟨g1, g2, g3, g4, g5, g6, g7⟩ := h.g
  obtain ⟨h1, h2, h3, h4, h5, h6, h7, h8, h9, h10, h11, h12⟩ := h
  have mc := h12 _ hk
  refine ⟨?_, mc⟩
  unfold F_X54_at
  simp only [g1, g2, g3, g4, g5, g6, iw_nml, iw_nad, Option.bind_some]
  rw [Nat.mul_comm r C, h10.get (by omega), Option.bind_some, mc.g.2.2.2, Option.bind_some]
theorem M_all_l {k42 : Mem → Nat → Int32 → Int32 → Int32 → Option Int32} {c : Nat} {v2 v3 l : Int32} (h : TMc M t C R ln dn en lc dc ec cs) (hc : c < C) (hl : Lq l) : ∀ (m N r : Nat), r + m = R → (∀ q, q < r → ¬ msg (cl cs (C * q + c)) → okl l (cl cs (C * q + c))) → F_X16_laneOfColumn_b87 k42 (N + 2 + m) M t (iw (c : Int)) v2 v3 l 1 (iw (r : Int)) = pif (ckl l C R cs c) (some l) (k42 M t (iw (c : Int)) v2 (v3 + 1))
  | 0, N, r, hr, hb => by
    have hR := h.2.2.2.2.2.2.2.2.1
    obtain ⟨g1, g2, g3, g4, g5, g6, g7⟩ := h.g
    have n1 : ¬ (1 : Int32) = 0 := by decide
    show F_X16_laneOfColumn_b87_st k42 (F_X16_laneOfColumn_b87 k42 (N + 1)) M t (iw (c : Int)) v2 v3 l 1 (iw (r : Int)) = _
    unfold F_X16_laneOfColumn_b87_st F_X16_laneOfColumn_b121
    rw [g7, Option.bind_some, M_rows h, Option.bind_some, if_neg (show ¬ iw (r : Int) < iw (R : Int) by rw [iw_le4 (by omega) (by omega)]; omega), if_neg n1, tpif (show ckl l C R cs c from fun q hq => hb q (by omega))]
  | m + 1, N, r, hr, hb => by
    have hR := h.2.2.2.2.2.2.2.2.1
    obtain ⟨g1, g2, g3, g4, g5, g6, g7⟩ := h.g
    obtain ⟨a1, a2⟩ := M_atT h (show r < R by omega) hc
    have n1 : ¬ (1 : Int32) = 0 := by decide
    show F_X16_laneOfColumn_b87_st k42 (F_X16_laneOfColumn_b87 k42 (N + 2 + m)) M t (iw (c : Int)) v2 v3 l 1 (iw (r : Int)) = _
    unfold F_X16_laneOfColumn_b87_st
    rw [g7, Option.bind_some, M_rows h, Option.bind_some, if_pos (show iw (r : Int) < iw (R : Int) by rw [iw_le4 (by omega) (by omega)]; omega), if_neg n1, Option.bind_some, a1, Option.bind_some, M_isOf h.1 a2 hl, Option.bind_some]
    simp only [iw_succ]
    by_cases co : msg (cl cs (C * r + c)) ∨ okl l (cl cs (C * r + c))
    · rw [tpif co]
      exact M_all_l h hc hl m N (r + 1) (by omega) (fun q h1 h2 => by
        by_cases e : q = r
        · rw [e] at h2 ⊢; exact co.resolve_left h2
        · exact hb q (by omega) h2)
    · rw [fpif co, fpif (fun q => co (by
        by_cases e : msg (cl cs (C * r + c))
        · exact Or.inl e
        · exact Or.inr (q r (by omega) e))), show N + 2 + m = N + 1 + m + 1 by omega]
      show F_X16_laneOfColumn_b87_st k42 (F_X16_laneOfColumn_b87 k42 (N + 1 + m)) M t (iw (c : Int)) v2 v3 l 0 (iw ((r + 1 : Nat) : Int)) = _
      unfold F_X16_laneOfColumn_b87_st F_X16_laneOfColumn_b121
      rw [g7, Option.bind_some, M_rows h, Option.bind_some]
      by_cases cr : iw ((r + 1 : Nat) : Int) < iw (R : Int)
      · rw [if_pos cr, if_pos rfl, if_pos rfl]
      · rw [if_neg cr, if_pos rfl]
theorem M_79 {k42 : Mem → Nat → Int32 → Int32 → Int32 → Option Int32} {c : Nat} {v2 v3 l : Int32} (h : TMc M t C R ln dn en lc dc ec cs) (hc : c < C) (hl : Lq l) : F_X16_laneOfColumn_b79 k42 M l t (iw (c : Int)) v2 v3 = pif (ckl l C R cs c) (some l) (k42 M t (iw (c : Int)) v2 (v3 + 1)) := by
  have hR := h.2.2.2.2.2.2.2.2.1
  obtain ⟨K, hK⟩ : ∃ K, K + 2 + R = xN := ⟨xN - 2 - R, by have : xN = 1099511627776 := rfl; omega⟩
  have := M_all_l (k42 := k42) (v2 := v2) (v3 := v3) h hc hl R K 0 (by omega) (fun q hq => by omega)
  rw [hK] at this
  exact this
theorem M_40 {c : Nat} (h : TMc M t C R ln dn en lc dc ec cs) (hc : c < C) : F_X16_laneOfColumn_b40 M t (iw (c : Int)) 1 = some (pif (ckl 0 C R cs c) 0 (pif (ckl 4 C R cs c) 4 (pif (ckl 5 C R cs c) 5 (pif (ckl 7 C R cs c) 7 8)))) := by
  have n1 : ¬ (1 : Int32) = 0 := by decide
  unfold F_X16_laneOfColumn_b40
  obtain ⟨K, hK⟩ : ∃ K, K + 1 + 1 + 1 + 1 + 1 = xN := ⟨1099511627771, rfl⟩
  rw [← hK]
  have s0 : F_X16_laneOfColumn_b42 (K + 1 + 1 + 1 + 1 + 1) M t (iw (c : Int)) 1 0 = F_X16_laneOfColumn_b79 (F_X16_laneOfColumn_b42 (K + 1 + 1 + 1 + 1)) M 0 t (iw (c : Int)) 1 0 := by
    show F_X16_laneOfColumn_b42_st (F_X16_laneOfColumn_b42 (K + 1 + 1 + 1 + 1)) M t (iw (c : Int)) 1 0 = _
    unfold F_X16_laneOfColumn_b42_st
    rw [if_pos (show (0 : Int32) < 4 by decide), if_neg n1, if_pos rfl]
  have s1 : F_X16_laneOfColumn_b42 (K + 1 + 1 + 1 + 1) M t (iw (c : Int)) 1 (0 + 1) = F_X16_laneOfColumn_b79 (F_X16_laneOfColumn_b42 (K + 1 + 1 + 1)) M 4 t (iw (c : Int)) 1 1 := by
    show F_X16_laneOfColumn_b42_st (F_X16_laneOfColumn_b42 (K + 1 + 1 + 1)) M t (iw (c : Int)) 1 1 = _
    unfold F_X16_laneOfColumn_b42_st
    rw [if_pos (show (1 : Int32) < 4 by decide), if_neg n1, if_neg n1, if_pos rfl]
  have s2 : F_X16_laneOfColumn_b42 (K + 1 + 1 + 1) M t (iw (c : Int)) 1 (1 + 1) = F_X16_laneOfColumn_b79 (F_X16_laneOfColumn_b42 (K + 1 + 1)) M 5 t (iw (c : Int)) 1 2 := by
    show F_X16_laneOfColumn_b42_st (F_X16_laneOfColumn_b42 (K + 1 + 1)) M t (iw (c : Int)) 1 2 = _
    unfold F_X16_laneOfColumn_b42_st
    rw [if_pos (show (2 : Int32) < 4 by decide), if_neg n1, if_neg (show ¬ (2 : Int32) = 0 by decide), if_neg (show ¬ (2 : Int32) = 1 by decide), if_pos rfl]
  have s3 : F_X16_laneOfColumn_b42 (K + 1 + 1) M t (iw (c : Int)) 1 (2 + 1) = F_X16_laneOfColumn_b79 (F_X16_laneOfColumn_b42 (K + 1)) M 7 t (iw (c : Int)) 1 3 := by
    show F_X16_laneOfColumn_b42_st (F_X16_laneOfColumn_b42 (K + 1)) M t (iw (c : Int)) 1 3 = _
    unfold F_X16_laneOfColumn_b42_st
    rw [if_pos (show (3 : Int32) < 4 by decide), if_neg n1, if_neg (show ¬ (3 : Int32) = 0 by decide), if_neg (show ¬ (3 : Int32) = 1 by decide), if_neg (show ¬ (3 : Int32) = 2 by decide)]
  have s4 : F_X16_laneOfColumn_b42 (K + 1) M t (iw (c : Int)) 1 (3 + 1) = some 8 := by
    show F_X16_laneOfColumn_b42_st (F_X16_laneOfColumn_b42 K) M t (iw (c : Int)) 1 4 = _
    unfold F_X16_laneOfColumn_b42_st
    rw [if_neg (show ¬ (4 : Int32) < 4 by decide)]
    rfl
  rw [s0, M_79 h hc (Or.inl rfl)]
  by_cases c0 : ckl 0 C R cs c
  · rw [tpif c0, tpif c0]
  · rw [fpif c0, fpif c0, s1, M_79 h hc (Or.inr (Or.inl rfl))]
    by_cases c4 : ckl 4 C R cs c
    · rw [tpif c4, tpif c4]
    · rw [fpif c4, fpif c4, s2, M_79 h hc (Or.inr (Or.inr (Or.inl rfl)))]
      by_cases c5 : ckl 5 C R cs c
      · rw [tpif c5, tpif c5]
      · rw [fpif c5, fpif c5, s3, M_79 h hc (Or.inr (Or.inr (Or.inr rfl)))]
        by_cases c7 : ckl 7 C R cs c
        · rw [tpif c7, tpif c7]
        · rw [fpif c7, fpif c7, s4]
theorem M_lane_l {c : Nat} (h : TMc M t C R ln dn en lc dc ec cs) (hc : c < C) : ∀ (m N r : Nat), r + m = R → (∀ q, q < r → msg (cl cs (C * q + c))) → F_X16_laneOfColumn_b4 (N + 2 + m) M t (iw (c : Int)) 0 (iw (r : Int)) = some (lan C R cs c)
  | 0, N, r, hr, hb => by
    have hR := h.2.2.2.2.2.2.2.2.1
    obtain ⟨g1, g2, g3, g4, g5, g6, g7⟩ := h.g
    show F_X16_laneOfColumn_b4_st (F_X16_laneOfColumn_b4 (N + 1)) M t (iw (c : Int)) 0 (iw (r : Int)) = _
    unfold F_X16_laneOfColumn_b4_st F_X16_laneOfColumn_b40
    rw [g7, Option.bind_some, M_rows h, Option.bind_some, if_neg (show ¬ iw (r : Int) < iw (R : Int) by rw [iw_le4 (by omega) (by omega)]; omega)]
    show F_X16_laneOfColumn_b42_st (F_X16_laneOfColumn_b42 1099511627775) M t (iw (c : Int)) 0 0 = _
    unfold F_X16_laneOfColumn_b42_st F_X16_laneOfColumn_b135 lan
    rw [if_pos (show (0 : Int32) < 4 by decide), if_pos rfl, fpif]
    rintro ⟨q, h1, h2⟩
    exact h2 (hb q (by omega))
  | m + 1, N, r, hr, hb => by
    have hR := h.2.2.2.2.2.2.2.2.1
    obtain ⟨g1, g2, g3, g4, g5, g6, g7⟩ := h.g
    obtain ⟨a1, a2⟩ := M_atT h (show r < R by omega) hc
    have n1 : ¬ (1 : Int32) = 0 := by decide
    show F_X16_laneOfColumn_b4_st (F_X16_laneOfColumn_b4 (N + 2 + m)) M t (iw (c : Int)) 0 (iw (r : Int)) = _
    unfold F_X16_laneOfColumn_b4_st F_X16_laneOfColumn_b33
    rw [g7, Option.bind_some, M_rows h, Option.bind_some, if_pos (show iw (r : Int) < iw (R : Int) by rw [iw_le4 (by omega) (by omega)]; omega), if_pos rfl, Option.bind_some, a1, Option.bind_some, a2.g.2.2.1, Option.bind_some, M_cmiss a2, Option.bind_some]
    by_cases cm : msg (cl cs (C * r + c))
    · rw [tpif cm, if_neg n1]
      simp only [iw_succ]
      exact M_lane_l h hc m N (r + 1) (by omega) (fun q hq => by
        by_cases e : q = r
        · rw [e]; exact cm
        · exact hb q (by omega))
    · rw [fpif cm, if_pos rfl]
      simp only [iw_succ]
      rw [show N + 2 + m = N + 1 + m + 1 by omega]
      show F_X16_laneOfColumn_b4_st (F_X16_laneOfColumn_b4 (N + 1 + m)) M t (iw (c : Int)) 1 (iw ((r + 1 : Nat) : Int)) = _
      unfold F_X16_laneOfColumn_b4_st lan
      rw [g7, Option.bind_some, M_rows h, Option.bind_some, tpif ⟨r, by omega, cm⟩, ← M_40 h hc]
      by_cases cr : iw ((r + 1 : Nat) : Int) < iw (R : Int)
      · rw [if_pos cr, if_neg n1]
      · rw [if_neg cr]
theorem M_laneOf {c : Nat} (h : TMc M t C R ln dn en lc dc ec cs) (hc : c < C) : F_X16_laneOfColumn M t (iw (c : Int)) = some (lan C R cs c) := by
  have hR := h.2.2.2.2.2.2.2.2.1
  obtain ⟨K, hK⟩ : ∃ K, K + 2 + R = xN := ⟨xN - 2 - R, by have : xN = 1099511627776 := rfl; omega⟩
  have := M_lane_l h hc R K 0 (by omega) (fun q hq => by omega)
  rw [hK] at this
  exact this
end
