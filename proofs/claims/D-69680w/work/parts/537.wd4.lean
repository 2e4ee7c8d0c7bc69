/-! ===== TABLES, 23: the engine's lane of a column ===== -/
theorem own_cases (c : List Int32 × Bool) : own c = 0 ∨ own c = 4 ∨ own c = 5 ∨ own c = 7 ∨ own c = 8 := by
  unfold own
  by_cases h : c.2 = true
  · rw [if_pos h]; exact Or.inr (Or.inr (Or.inr (Or.inr rfl)))
  · rw [if_neg h]
    by_cases h1 : c.1 = (cty 61).1 ∨ c.1 = (cty 56).1
    · rw [tpif h1]; exact Or.inl rfl
    · rw [fpif h1]
      by_cases h2 : W1 c.1
      · rw [tpif h2]
        by_cases h3 : isIw c.1
        · rw [tpif h3]; exact Or.inr (Or.inl rfl)
        · rw [fpif h3]
          by_cases h4 : isLw c.1
          · rw [tpif h4]; exact Or.inr (Or.inr (Or.inl rfl))
          · rw [fpif h4]; exact Or.inr (Or.inr (Or.inr (Or.inr rfl)))
      · rw [fpif h2]
        by_cases h3 : W2 c.1 ∧ c.1.length - wfr c.1 - 1 ≤ 15
        · rw [tpif h3]; exact Or.inr (Or.inr (Or.inr (Or.inl rfl)))
        · rw [fpif h3]; exact Or.inr (Or.inr (Or.inr (Or.inr rfl)))
theorem own_q {c : List Int32 × Bool} (h : own c ≠ 8) : c.2 = false := by
  cases hc : c.2 with
  | false => rfl
  | true => exact absurd (by unfold own; rw [if_pos hc]) h
def Lq (k : Int32) : Prop := k = 0 ∨ k = 4 ∨ k = 5 ∨ k = 7
theorem E_takesW {M : Mem} {t C R k : Nat} {cs : List (List Int32 × Bool)} {l : Int32} (h : TEc M t C R cs) (hk : k < C * R) (hm : ¬ msg (cl cs k)) (hl : Lq l) : F_X11_takes M 1037 l t (iw (k : Int)) = some (pif (okl l (cl cs k)) 1 0) := by
  obtain ⟨x1, x2, x3, x4, x5⟩ := h.x hk
  obtain ⟨q1, q2, q3, s, q4, q5⟩ := h.2.2.2.2.2.2.2.2.2.2.2 k hk
  have hS := h.1
  unfold F_X11_takes
  simp only [v1037, hS, E_own h hk hm, Option.bind_some]
  have b26 : ¬ (l = 7 ∧ (own (cl cs k) = 4 ∨ own (cl cs k) = 5)) → F_X11_takes_b26 M l (own (cl cs k)) = some (pif (okl l (cl cs k)) 1 0) := fun hn => by
    unfold F_X11_takes_b26 F_X11_takes_b43 F_X11_takes_b47 F_X11_takes_b48
    by_cases c : own (cl cs k) = l
    · rw [if_pos c, tpif (show okl l (cl cs k) from Or.inl c)]; rfl
    · rw [if_neg c]
      by_cases c5 : l = 5
      · rw [if_pos c5]
        by_cases c4 : own (cl cs k) = 4
        · rw [if_pos c4, tpif (show okl l (cl cs k) from Or.inr (Or.inl ⟨c5, c4⟩))]; rfl
        · rw [if_neg c4, fpif]
          · rfl
          · rintro (q | q | q)
            · exact c q
            · exact c4 q.2
            · exact hn ⟨q.1, q.2.1⟩
      · rw [if_neg c5, fpif]
        · rfl
        · rintro (q | q | q)
          · exact c q
          · exact c5 q.1
          · exact hn ⟨q.1, q.2.1⟩
  have b49 : l = 7 → (own (cl cs k) = 4 ∨ own (cl cs k) = 5) → F_X11_takes_b49 M 1037 t (iw (k : Int)) = some (pif (okl l (cl cs k)) 1 0) := fun l7 ho => by
    have hc : (cl cs k).2 = false := own_q (by rcases ho with e | e <;> rw [e] <;> decide)
    have hlen : 0 < (cl cs k).1.length := Nat.pos_of_ne_zero (fun q => hm ⟨q, hc⟩)
    have a0 := q5.ab hS hlen
    rw [Nat.add_zero] at a0
    have n7 : ¬ own (cl cs k) = 7 := by rcases ho with e | e <;> rw [e] <;> decide
    have hq : okl l (cl cs k) ↔ (cl cs k).1.length - wfr (cl cs k).1 ≤ 15 := by
      rw [l7]
      refine ⟨?_, fun q => Or.inr (Or.inr ⟨rfl, ho, q⟩)⟩
      rintro (q | q | q)
      · exact absurd q n7
      · exact absurd q.1 (by decide)
      · exact q.2.2
    have b84 : ∀ z : Nat, z = (cl cs k).1.length - wfr (cl cs k).1 → F_X11_takes_b84 M (iw (z : Int)) = some (pif (okl l (cl cs k)) 1 0) := fun z hz => by
      unfold F_X11_takes_b84 F_X11_takes_b94
      by_cases c : 15 < z
      · rw [if_pos (show (15 : Int32) < iw (z : Int) by rw [show (15 : Int32) = iw ((15 : Nat) : Int) from rfl, iw_le4 (by omega) (by omega)]; exact c), fpif (fun q => by have := hq.mp q; omega)]; rfl
      · rw [if_neg (show ¬ (15 : Int32) < iw (z : Int) by rw [show (15 : Int32) = iw ((15 : Nat) : Int) from rfl, iw_le4 (by omega) (by omega)]; exact c), tpif (hq.mpr (by omega))]; rfl
    unfold F_X11_takes_b49
    simp only [x5, E_clen h hk, g1037_769, g1038_832, hS, x3, x4, q4, a0, Option.bind_some]
    obtain ⟨f1, f2⟩ := wfr_w q2 hlen
    by_cases c45 : wf (cl cs k).1 0 = 45
    · rw [if_pos c45, show (1 : Int32) = iw ((1 : Nat) : Int) from rfl, iw_nsub (by omega)]
      exact b84 _ (by rw [f1.mp c45])
    · rw [if_neg c45]
      exact b84 _ (by rw [f2.mp c45]; rfl)
  by_cases c7 : l = 7
  · rw [if_pos c7]
    by_cases c4 : own (cl cs k) = 4
    · rw [if_pos c4]; exact b49 c7 (Or.inl c4)
    · rw [if_neg c4]
      by_cases c5 : own (cl cs k) = 5
      · rw [if_pos c5]; exact b49 c7 (Or.inr c5)
      · rw [if_neg c5]; exact b26 (fun q => q.2.elim c4 c5)
  · rw [if_neg c7]; exact b26 (fun q => c7 q.1)
/-- every cell of a column that is not missing takes the lane -/
def ckl (l : Int32) (C R : Nat) (cs : List (List Int32 × Bool)) (c : Nat) : Prop := ∀ r, r < R → ¬ msg (cl cs (C * r + c)) → okl l (cl cs (C * r + c))
/-- a column's lane -/
noncomputable def lan (C R : Nat) (cs : List (List Int32 × Bool)) (c : Nat) : Int32 := pif (∃ r, r < R ∧ ¬ msg (cl cs (C * r + c))) (pif (ckl 0 C R cs c) 0 (pif (ckl 4 C R cs c) 4 (pif (ckl 5 C R cs c) 5 (pif (ckl 7 C R cs c) 7 8)))) 8
theorem iw_nml (a b : Nat) : iw (a : Int) * iw (b : Int) = iw ((a * b : Nat) : Int) := by rw [iw_mul]; rfl
theorem cr_lt {C R r c : Nat} (hc : c < C) (hr : r < R) : C * r + c < C * R := by
  have : C * (r + 1) ≤ C * R := Nat.mul_le_mul_left _ hr
  rw [Nat.mul_add, Nat.mul_one] at this
  omega
theorem TEc.g {M : Mem} {t C R : Nat} {cs : List (List Int32 × Bool)} (h : TEc M t C R cs) : gi M t 3393 = some (iw (R : Int)) ∧ gi M t 3392 = some (iw (C : Int)) ∧ vg M t 53 = some () := by
  obtain ⟨h1, h2, h3, h4, h5, -⟩ := h
  exact ⟨by rw [gi_of h3 (show x_fi 53 3393 = true by decide), h5], by rw [gi_of h3 (show x_fi 53 3392 = true by decide), h4], vg_of h3 (by decide)⟩
theorem E_takesAll_l {M : Mem} {t C R c : Nat} {cs : List (List Int32 × Bool)} {l : Int32} (h : TEc M t C R cs) (hc : c < C) (hl : Lq l) : ∀ (m N r : Nat), r + m = R → (∀ q, q < r → ¬ msg (cl cs (C * q + c)) → okl l (cl cs (C * q + c))) → F_X11_takesAll_b3 (N + 1 + m) M 1037 l t (iw (c : Int)) (iw (r : Int)) = some (pif (ckl l C R cs c) 1 0)
  | 0, N, r, hr, hb => by
    have hR := h.2.2.2.2.2.2.1
    obtain ⟨g1, g2, g3⟩ := h.g
    show F_X11_takesAll_b3_st (F_X11_takesAll_b3 N) M 1037 l t (iw (c : Int)) (iw (r : Int)) = _
    unfold F_X11_takesAll_b3_st
    rw [g1, Option.bind_some, if_neg (by rw [iw_le4 (by omega) (by omega)]; omega), tpif (show ckl l C R cs c from fun q hq => hb q (by omega))]
  | m + 1, N, r, hr, hb => by
    have hR := h.2.2.2.2.2.2.1
    obtain ⟨g1, g2, g3⟩ := h.g
    have n1 : ¬ (1 : Int32) = 0 := by decide
    have hk : C * r + c < C * R := cr_lt hc (by omega)
    show F_X11_takesAll_b3_st (F_X11_takesAll_b3 (N + 1 + m)) M 1037 l t (iw (c : Int)) (iw (r : Int)) = _
    unfold F_X11_takesAll_b3_st
    rw [g1, Option.bind_some, if_pos (show iw (r : Int) < iw (R : Int) by rw [iw_le4 (by omega) (by omega)]; omega)]
    simp only [g2, g3, iw_nml, iw_nad, E_miss h hk, Option.bind_some]
    have nxt : (¬ msg (cl cs (C * r + c)) → okl l (cl cs (C * r + c))) → F_X11_takesAll_b45 (F_X11_takesAll_b3 (N + 1 + m)) M 1037 l t (iw (c : Int)) (iw (r : Int)) = some (pif (ckl l C R cs c) 1 0) := fun hq => by
      unfold F_X11_takesAll_b45
      rw [iw_succ]
      exact E_takesAll_l h hc hl m N (r + 1) (by omega) (fun q h1 h2 => by
        by_cases e : q = r
        · rw [e] at h2 ⊢; exact hq h2
        · exact hb q (by omega) h2)
    by_cases cm : msg (cl cs (C * r + c))
    · rw [tpif cm, if_neg n1]
      exact nxt (fun q => absurd cm q)
    · rw [fpif cm, if_pos rfl]
      simp only [v1037, h.1, E_takesW h hk cm hl, Option.bind_some]
      by_cases co : okl l (cl cs (C * r + c))
      · rw [tpif co, if_neg n1]
        exact nxt (fun _ => co)
      · rw [fpif co, if_pos rfl, fpif (fun q => co (q r (by omega) cm))]
theorem E_takesAll {M : Mem} {t C R c : Nat} {cs : List (List Int32 × Bool)} {l : Int32} (h : TEc M t C R cs) (hc : c < C) (hl : Lq l) : F_X11_takesAll M 1037 l t (iw (c : Int)) = some (pif (ckl l C R cs c) 1 0) := by
  have hR := h.2.2.2.2.2.2.1
  obtain ⟨K, hK⟩ : ∃ K, K + 1 + R = xN := ⟨xN - 1 - R, by have : xN = 1099511627776 := rfl; omega⟩
  have := E_takesAll_l h hc hl R K 0 (by omega) (fun q hq => by omega)
  rw [hK] at this
  exact this
theorem E_laneOf_l {M : Mem} {t C R c : Nat} {cs : List (List Int32 × Bool)} (h : TEc M t C R cs) (hc : c < C) : ∀ (m N r : Nat) (b : Int32), r + m = R → ((b = 0 ∧ ∀ q, q < r → msg (cl cs (C * q + c))) ∨ (b = 1 ∧ ∃ q, q < r ∧ ¬ msg (cl cs (C * q + c)))) → F_X11_laneOf_b5 (N + 1 + m) M 1037 t (iw (c : Int)) b (iw (r : Int)) = some (lan C R cs c)
  | 0, N, r, b, hr, hb => by
    have hR := h.2.2.2.2.2.2.1
    obtain ⟨g1, g2, g3⟩ := h.g
    have n1 : ¬ (1 : Int32) = 0 := by decide
    have er : r = R := by omega
    show F_X11_laneOf_b5_st (F_X11_laneOf_b5 N) M 1037 t (iw (c : Int)) b (iw (r : Int)) = _
    unfold F_X11_laneOf_b5_st
    rw [g1, Option.bind_some, if_neg (by rw [iw_le4 (by omega) (by omega)]; omega)]
    unfold lan
    rcases hb with ⟨b0, hb⟩ | ⟨b1, hb⟩
    · rw [b0, if_pos rfl]
      unfold F_X11_laneOf_b62
      rw [if_pos rfl]
      unfold F_X11_laneOf_b78
      rw [if_pos rfl]
      unfold F_X11_laneOf_b94 F_X11_laneOf_b114 F_X11_laneOf_b116
      rw [if_pos rfl, fpif]
      rintro ⟨q, h1, h2⟩
      exact h2 (hb q (by omega))
    · rw [b1, if_neg n1, tpif (by rw [← er]; exact hb)]
      simp only [v1037, h.1, E_takesAll h hc (show Lq 0 from Or.inl rfl), Option.bind_some]
      by_cases c0 : ckl 0 C R cs c
      · rw [tpif c0, if_neg n1, tpif c0]
      · rw [fpif c0, if_pos rfl, fpif c0]
        unfold F_X11_laneOf_b62
        rw [if_neg n1]
        simp only [v1037, h.1, E_takesAll h hc (show Lq 4 from Or.inr (Or.inl rfl)), Option.bind_some]
        by_cases c4 : ckl 4 C R cs c
        · rw [tpif c4, if_neg n1, tpif c4]
        · rw [fpif c4, if_pos rfl, fpif c4]
          unfold F_X11_laneOf_b78
          rw [if_neg n1]
          simp only [v1037, h.1, E_takesAll h hc (show Lq 5 from Or.inr (Or.inr (Or.inl rfl))), Option.bind_some]
          by_cases c5 : ckl 5 C R cs c
          · rw [tpif c5, if_neg n1, tpif c5]
          · rw [fpif c5, if_pos rfl, fpif c5]
            unfold F_X11_laneOf_b94 F_X11_laneOf_b114 F_X11_laneOf_b116
            rw [if_neg n1]
            simp only [v1037, h.1, E_takesAll h hc (show Lq 7 from Or.inr (Or.inr (Or.inr rfl))), Option.bind_some]
            by_cases c7 : ckl 7 C R cs c
            · rw [tpif c7, if_neg n1, tpif c7]
            · rw [fpif c7, if_pos rfl, fpif c7]
  | m + 1, N, r, b, hr, hb => by
    have hR := h.2.2.2.2.2.2.1
    obtain ⟨g1, g2, g3⟩ := h.g
    have n1 : ¬ (1 : Int32) = 0 := by decide
    have hk : C * r + c < C * R := cr_lt hc (by omega)
    show F_X11_laneOf_b5_st (F_X11_laneOf_b5 (N + 1 + m)) M 1037 t (iw (c : Int)) b (iw (r : Int)) = _
    unfold F_X11_laneOf_b5_st
    rw [g1, Option.bind_some, if_pos (show iw (r : Int) < iw (R : Int) by rw [iw_le4 (by omega) (by omega)]; omega)]
    rcases hb with ⟨b0, hb⟩ | ⟨b1, hb⟩
    · rw [b0, if_pos rfl]
      simp only [g2, g3, iw_nml, iw_nad, E_miss h hk, Option.bind_some]
      by_cases cm : msg (cl cs (C * r + c))
      · rw [tpif cm, if_neg n1]
        unfold F_X11_laneOf_b39
        rw [iw_succ]
        exact E_laneOf_l h hc m N (r + 1) 0 (by omega) (Or.inl ⟨rfl, fun q hq => by
          by_cases e : q = r
          · rw [e]; exact cm
          · exact hb q (by omega)⟩)
      · rw [fpif cm, if_pos rfl]
        unfold F_X11_laneOf_b34 F_X11_laneOf_b39
        rw [iw_succ]
        exact E_laneOf_l h hc m N (r + 1) 1 (by omega) (Or.inr ⟨rfl, r, by omega, cm⟩)
    · rw [b1, if_neg n1]
      unfold F_X11_laneOf_b34 F_X11_laneOf_b39
      rw [iw_succ]
      obtain ⟨q, hq1, hq2⟩ := hb
      exact E_laneOf_l h hc m N (r + 1) 1 (by omega) (Or.inr ⟨rfl, q, by omega, hq2⟩)
theorem E_laneOf {M : Mem} {t C R c : Nat} {cs : List (List Int32 × Bool)} (h : TEc M t C R cs) (hc : c < C) : F_X11_laneOf M 1037 t (iw (c : Int)) = some (lan C R cs c) := by
  have hR := h.2.2.2.2.2.2.1
  obtain ⟨K, hK⟩ : ∃ K, K + 1 + R = xN := ⟨xN - 1 - R, by have : xN = 1099511627776 := rfl; omega⟩
  have := E_laneOf_l h hc R K 0 0 (by omega) (Or.inl ⟨rfl, fun q hq => by omega⟩)
  rw [hK] at this
  exact this
