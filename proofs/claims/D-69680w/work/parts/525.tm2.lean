/-! ===== TABLES, 11: the model's names ===== -/
/-- texts at addresses -/
def NMS (M : Mem) (B : Nat) (es : List Nat) (ns : List (List Int32)) : Prop := es.length = ns.length ∧ ∀ i, i < es.length → SB M (es.getD i 0) (ns.getD i []) ∧ m_tg M (es.getD i 0) = 76 ∧ B ≤ es.getD i 0 ∧ es.getD i 0 < m_nx M ∧ B ≤ cR M (es.getD i 0) 4864 ∧ cR M (es.getD i 0) 4864 < m_nx M
theorem NMS.df {P Q R : Nat → Nat → Prop} {M N : Mem} {B : Nat} {es : List Nat} {ns : List (List Int32)} (h : NMS M B es ns) (d : Df P Q R M N) (hP : ∀ x i, x < m_nx M → P x i → m_tg M x ≠ 76 ∧ m_tg M x ≠ 1002 ∧ m_tg M x ≠ 1008) (hR : ∀ x i, x < m_nx M → R x i → m_tg M x ≠ 76) : NMS N B es ns := by
  refine ⟨h.1, fun i hi => ?_⟩
  obtain ⟨h1, h2, h3, h4, h5, h6⟩ := h.2 i hi
  have nn := d.1
  obtain ⟨k1, k2⟩ := h1.df d h4 h6 (fun q => hR _ _ h4 q h2) (fun q => (hP _ _ h4 q).1 h2) (fun i q => by
    have := hP _ _ h6 q
    rcases h1.2.2.1 with e | e
    · exact this.2.2 e
    · exact this.2.1 e)
  exact ⟨k1, (d.2.2 _ h4).1.trans h2, h3, by omega, by rw [k2]; exact h5, by rw [k2]; omega⟩
theorem NMS.add {M : Mem} {B r : Nat} {es : List Nat} {ns : List (List Int32)} {w : List Int32} (h : NMS M B es ns) (h1 : SB M r w) (h2 : m_tg M r = 76) (h3 : B ≤ r) (h4 : r < m_nx M) (h5 : B ≤ cR M r 4864) (h6 : cR M r 4864 < m_nx M) : NMS M B (es ++ [r]) (ns ++ [w]) := by
  refine ⟨by rw [List.length_append, List.length_append, h.1]; rfl, fun i hi => ?_⟩
  rw [List.length_append, List.length_singleton] at hi
  by_cases c : i < es.length
  · rw [gd_l c, gd_l (by have := h.1; omega)]
    exact h.2 i c
  · have e : i = es.length := by omega
    have e2 : i = ns.length := by have := h.1; omega
    rw [e, gd_r, ← e, e2, gd_r]
    exact ⟨h1, h2, h3, h4, h5, h6⟩
/-- the reader, its table, the table's names -/
def MRn (M : Mem) (B o tb ln dn : Nat) (en : List Nat) (f : Nat → Int32) (n a : Nat) (ns : List (List Int32)) : Prop := TR M o f n a ∧ cR M o 3461 = tb ∧ tb < m_nx M ∧ m_tg M tb = 55 ∧ cR M tb 3520 = ln ∧ AL M ln dn en ∧ NMS M B en ns ∧ 1334 ≤ B ∧ B ≤ o ∧ B ≤ tb ∧ B ≤ ln
theorem MRn.gt {M : Mem} {B o tb ln dn n a : Nat} {en : List Nat} {f : Nat → Int32} {ns : List (List Int32)} (h : MRn M B o tb ln dn en f n a ns) : gr M o 3461 = some tb ∧ gr M tb 3520 = some ln ∧ vg M ln 67 = some () ∧ F_J6_size M ln = some (iw (ns.length : Nat)) := by
  obtain ⟨t, h1, h2, h3, h4, h5, h6, -⟩ := h
  refine ⟨by rw [gr_of t.2.1 (show x_fr 54 3461 = true by decide), h1], by rw [gr_of h3 (show x_fr 55 3520 = true by decide), h4], vg_of h5.2.1 (by decide), by rw [h5.size, h6.1]⟩
theorem ac_big {a b : Nat} (h1 : 1000 ≤ a) (h2 : 1000 ≤ b) : ac a b = true := by
  have a1 : Nat.ble 1000 a = true := Nat.ble_eq.mpr h1
  have b1 : Nat.ble 1000 b = true := Nat.ble_eq.mpr h2
  have c1 : (a != 2) = true := by simp; omega
  have c2 : (b != 2) = true := by simp; omega
  unfold ac acs
  simp only [a1, b1, c1, c2, Bool.and_self, Bool.or_true, Bool.true_or, Bool.and_true]
theorem M_dup {M : Mem} {B o tb ln dn n a r : Nat} {en : List Nat} {f : Nat → Int32} {ns : List (List Int32)} {w : List Int32} {k2 : Mem → Nat → Int32 → Option (Mem ⊕ (Nat × Mem))} {v2 : Int32} (h : MRn M B o tb ln dn en f n a ns) (hw : SB M r w) (hr : 1334 ≤ r) (hl : ns.length ≤ 16) :
    ∀ (m N j : Nat), j + m = ns.length → F_X53_names_b67 k2 (N + 1 + m) M o v2 r 0 (iw (j : Int)) = F_X53_names_b114 k2 M o v2 r (pif (∃ u, j ≤ u ∧ u < ns.length ∧ ns.getD u [] = w) 1 0)
  | 0, N, j, hj => by
    obtain ⟨g1, g2, g3, g4⟩ := h.gt
    show F_X53_names_b67_st k2 (F_X53_names_b67 k2 N) M o v2 r 0 (iw (j : Int)) = _
    unfold F_X53_names_b67_st
    simp only [g1, g2, g3, g4, Option.bind_some]
    rw [if_neg (by rw [iw_le4 (by omega) (by omega)]; omega), fpif (by rintro ⟨u, h1, h2, h3⟩; omega)]
  | m + 1, N, j, hj => by
    obtain ⟨g1, g2, g3, g4⟩ := h.gt
    have hN := h.2.2.2.2.2.2.1
    have hB := h.2.2.2.2.2.2.2.1
    have hj2 : j < en.length := by have := hN.1; omega
    obtain ⟨s1, s2, s3, s4, s5, s6⟩ := hN.2 j hj2
    have hg := (h.2.2.2.2.2.1).get hj2
    have hcc : cc M (en.getD j 0) 76 = some () := by unfold cc; rw [if_pos (Or.inr (by rw [s2]; decide))]
    have heq := J_eqs s1 hw (ac_big (by omega) (by omega)) (by omega)
    have n1 : ¬ (1 : Int32) = 0 := by decide
    have hs : F_X53_names_b67 k2 (N + 1 + (m + 1)) M o v2 r 0 (iw (j : Int)) = F_X53_names_b67_st k2 (F_X53_names_b67 k2 (N + 1 + m)) M o v2 r 0 (iw (j : Int)) := rfl
    rw [hs]
    unfold F_X53_names_b67_st
    simp only [g1, g2, g3, g4, Option.bind_some]
    rw [if_pos (by rw [iw_le4 (by omega) (by omega)]; omega), if_pos trivial]
    simp only [hg, hcc, s1.vg, heq, iw_succ, Option.bind_some]
    by_cases c : ns.getD j [] = w
    · rw [tpif c, tpif (show ∃ u, j ≤ u ∧ u < ns.length ∧ ns.getD u [] = w from ⟨j, Nat.le_refl _, by omega, c⟩), show N + 1 + m = N + m + 1 by omega]
      show F_X53_names_b67_st k2 (F_X53_names_b67 k2 (N + m)) M o v2 r 1 _ = _
      unfold F_X53_names_b67_st
      simp only [g1, g2, g3, g4, Option.bind_some]
      by_cases c2 : iw ((j + 1 : Nat) : Int) < iw (ns.length : Nat)
      · rw [if_pos c2, if_neg n1]
      · rw [if_neg c2]
    · rw [fpif c, M_dup h hw hr hl m N (j + 1) (by omega)]
      by_cases c2 : ∃ u, j + 1 ≤ u ∧ u < ns.length ∧ ns.getD u [] = w
      · rw [tpif c2, tpif (by obtain ⟨u, h1, h2⟩ := c2; exact ⟨u, by omega, h2⟩)]
      · rw [fpif c2, fpif]
        rintro ⟨u, h1, h2, h3⟩
        by_cases h4 : u = j
        · rw [h4] at h3; exact c h3
        · exact c2 ⟨u, by omega, h2, h3⟩
