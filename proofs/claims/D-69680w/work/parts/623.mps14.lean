/-! ===== FORMULAS, 48: the model's unary, all readers ===== -/
section
variable {B0 B1 : Mem} {v0 lt dt : Nat} {et : List Nat} {T : List Tok} {li : Nat} {re rp ru : Mem → Nat → Int32 → Option (Mem ⊕ (Nat × Mem))} {rb : Mem → Nat → Int32 → Int32 → Option (Mem ⊕ (Nat × Mem))}
def InMD (re ru : Mem → Nat → Int32 → Option (Mem ⊕ (Nat × Mem))) (B0 B1 : Mem) (v0 lt dt : Nat) (et : List Nat) (T : List Tok) (li : Nat) : Nat → Option (PRs × PRs) → Prop
  | 0, D => D = none
  | d + 1, D => ∃ E U, D = some (E, U) ∧ SimM B0 B1 v0 lt dt et T li (fun M => re M v0 (iw ((25 - d : Nat) : Int))) E ∧ SimM B0 B1 v0 lt dt et T li (fun M => ru M v0 (iw ((25 - d : Nat) : Int))) U
theorem RMm.tr {M N : Mem} {i di : Nat} {I : List Itm} {x : Option (Mem ⊕ (Nat × Mem))} {res : Nat ⊕ (Ex × List Tok)} (l3 : rcs N di = rcs M di) (l4 : m_nx N = m_nx M) (l5 : m_sl N = m_sl M) (hx : RMm B0 B1 v0 lt dt et T li N i di I x res) : RMm B0 B1 v0 lt dt et T li M i di I x res := by
  cases res with
  | inl q =>
    obtain ⟨O, k, dk, ek, J', o1, o2, ⟨o3, o4, o5⟩, o6⟩ := hx
    exact ⟨O, k, dk, ek, J', o1, o2, ⟨o3, by omega, by omega⟩, o6⟩
  | inr er =>
    obtain ⟨e, r⟩ := er
    obtain ⟨O, k, dk, ek, o1, o2, o3, ⟨o4, o5, o6⟩, o7⟩ := hx
    exact ⟨O, k, dk, ek, o1, o2, o3, ⟨o4, by omega, by omega⟩, o7⟩
theorem M_b32 {d : Nat} (hd : d ≤ 24) {D : Option (PRs × PRs)} (hT : TkOK T) (hD : InMD re ru B0 B1 v0 lt dt et T li d D) {M : Mem} {i di : Nat} {ei : List Nat} {I : List Itm} (h : PM B0 B1 True M v0 lt dt et T i li di ei I) (hI : I.length + 4 * (T.length - i) ≤ 40000) (hs : isS (T.getD i tok0) 34 = true ∨ isS (T.getD i tok0) 23 = true ∨ isS (T.getD i tok0) 64 = true) : RMm B0 B1 v0 lt dt et T li M i di I (F_X40_unary_b32 rp ru rb re M v0 (iw ((25 - d : Nat) : Int)) (et.getD i 0)) (pU1 D (T.getD i tok0) (T.drop (i + 1))) := by
  have hi := h.2.2.2.2.2.2.2.1.2.1
  have t5 := h.2.2.2.2.2.2.2.1.2.2.1
  obtain ⟨s1, s2⟩ : (T.getD i tok0).kd = 4 ∧ txS (chS (T.getD i tok0).sg) = (T.getD i tok0).sg := by
    rcases hs with q | q | q
    · exact ⟨(isS_t.mp q).1, by rw [(isS_t.mp q).2]; rfl⟩
    · exact ⟨(isS_t.mp q).1, by rw [(isS_t.mp q).2]; rfl⟩
    · exact ⟨(isS_t.mp q).1, by rw [(isS_t.mp q).2]; rfl⟩
  have hi1 := (hT i hi).2 (by rw [s1]; decide) (by rw [s1]; decide)
  unfold F_X40_unary_b32 F_X40_unary_b183
  rw [h.v, Option.bind_some]
  cases d with
  | zero =>
    have hD0 : D = none := hD
    rw [hD0, show iw ((25 - 0 : Nat) : Int) = iw ((25 : Nat) : Int) from rfl, M_deep0 h]
    exact RMm.err rfl h (WM.refl M di i) (by omega)
  | succ d =>
    obtain ⟨E, U, hp, hX, hU⟩ := hD
    obtain ⟨g1, g2, g3⟩ := h.go hi1
    obtain ⟨G, hG'⟩ : ∃ G, G = wI M v0 2626 (iw ((i + 1 : Nat) : Int)) := ⟨_, rfl⟩
    rw [← hG'] at g1 g2 g3
    have nG : m_nx G = m_nx M ∧ m_sl G = m_sl M := by rw [hG']; exact ⟨rfl, rfl⟩
    rw [hp, M_deep1 hd, tb_l]
    simp only [gi_of h.2.1.2.2 (show x_fi 41 2626 = true by decide), h.2.2.1.2.2.1, iw_succ, g1, g2.v, Option.bind_some]
    show RMm B0 B1 v0 lt dt et T li M i di I _ (pthen (U (T.drop (i + 1))) fun e r => .inr (.pre (T.getD i tok0).pl (chS (T.getD i tok0).sg) e, r))
    refine RMm.th ⟨by omega, by omega, by omega⟩ (by omega) (hU G (i + 1) di ei I g2 (by omega)) (fun e k dk ek O q1 q2 q3 q4 q5 => ?_)
    have x1 := q4.1
    have u2 := q4.2.1
    have u3 := q4.2.2
    have hk := q2.2.2.2.2.2.2.2.1.2.1
    have kG := q2.2.2.2.2.2.2.2.1.2.2.2 i hi
    simp only [gi_of kG.1.2.2 (show x_fi 43 2753 = true by decide), kG.2.2.1, gr_of kG.1.2.2 (show x_fr 43 2754 = true by decide), kG.2.2.2.2.2.2.1 s1, q2.v, Option.bind_some]
    obtain ⟨P, dP, eP, p1, p2, p3, p4, p5⟩ := M_itemP (t := { op := 4, pl := (T.getD i tok0).pl, sg := txS (chS (T.getD i tok0).sg) }) (s := (T.getD i tok0).sg) q2 (fun q => absurd q (show ¬ ((4 : Int32) = 2 ∨ (4 : Int32) = 3) by decide)) (fun _ => s2.symm) (by rw [List.length_append]; omega) trivial
    rw [show F_X40_item O v0 4 (iw ((T.getD i tok0).pl : Int)) (T.getD i tok0).sg 0 0 = some P from p1, Option.bind_some]
    refine ⟨P, k, dP, eP, rfl, rfl, ?_, ⟨by omega, by omega, by omega⟩, ?_⟩
    · show PM B0 B1 True P v0 lt dt et T k li dP eP (I ++ (itm e ++ [{ op := 4, pl := (T.getD i tok0).pl, sg := txS (chS (T.getD i tok0).sg) }]))
      simpa only [List.append_assoc] using p2
    · show (itm e ++ [({ op := 4, pl := (T.getD i tok0).pl, sg := txS (chS (T.getD i tok0).sg) } : Itm)]).length ≤ _
      rw [List.length_append, List.length_singleton]
      omega
theorem pUn_pm {D : Option (PRs × PRs)} {ts : List Tok} (h : ¬ (isS (hdt ts) 34 = true ∨ isS (hdt ts) 23 = true ∨ isS (hdt ts) 64 = true)) (hl : isS (hdt ts) 28 = true → D ≠ none → isLn (hdt ts.tail) = false) : pUn D ts = pPm (D.map (fun q => q.1)) ts := by
  unfold pUn pPm
  dsimp only
  rw [if_neg h]
  by_cases c : isS (hdt ts) 28 = true
  · rw [if_pos c, if_pos c]
    cases D with
    | none => rfl
    | some q =>
      obtain ⟨E, U⟩ := q
      have := hl c (fun q => by cases q)
      simp only [this, Option.map_some]
      rfl
  · rw [if_neg c, if_neg c]
theorem M_getP {M : Mem} {i di : Nat} {ei : List Nat} {I : List Itm} (h : PM B0 B1 True M v0 lt dt et T i li di ei I) {j : Nat} (hj : j < T.length) : gr M v0 2625 = some lt ∧ vg M lt 67 = some () ∧ F_J6_get M lt (iw (j : Int)) = some (et.getD j 0) ∧ cc M (et.getD j 0) 43 = some () := by
  obtain ⟨b, ⟨v1, v2, v3⟩, ⟨c1, c2, c3, c4⟩, ⟨l1, l2, l3⟩, p, q, r, ⟨t1, t2, t3, t4⟩, s⟩ := h
  exact ⟨by rw [gr_of v3 (show x_fr 41 2625 = true by decide), c2], vg_of l1.2.1 (show x_isa 67 67 = true by decide), l1.get (show j < et.length by omega), cc_of (t4 j hj).1.2.2 (show x_cast 43 43 = true by decide)⟩
theorem M_unary {d : Nat} (hd : d ≤ 24) {D : Option (PRs × PRs)} (hT : TkOK T) (hD : InMD re ru B0 B1 v0 lt dt et T li d D) (hP : SimM B0 B1 v0 lt dt et T li (fun M => rp M v0 (iw ((25 - d : Nat) : Int))) (pPm (D.map (fun q => q.1)))) : SimM B0 B1 v0 lt dt et T li (fun M => F_X40_unary_o rp ru rb re M v0 (iw ((25 - d : Nat) : Int))) (pUn D) := by
  intro M i di ei I h hI
  have hi := h.2.2.2.2.2.2.2.1.2.1
  have t5 := h.2.2.2.2.2.2.2.1.2.2.1
  have kO := h.2.2.2.2.2.2.2.1.2.2.2 i hi
  have IS := fun (s : Nat) (s1 : 20 ≤ s) (s2 : s < 65) => M_isSignP h (hT i hi).1 (s := s) s1 s2
  show RMm B0 B1 v0 lt dt et T li M i di I (F_X40_unary_o rp ru rb re M v0 (iw ((25 - d : Nat) : Int))) (pUn D (T.drop i))
  have eb : ∀ N, (tb (rp N v0 (iw ((25 - d : Nat) : Int))) fun z33 => some (Sum.inl z33)) = rp N v0 (iw ((25 - d : Nat) : Int)) := fun N => by
    cases rp N v0 (iw ((25 - d : Nat) : Int)) with
    | none => rfl
    | some v => cases v <;> rfl
  have pre : (isS (T.getD i tok0) 34 = true ∨ isS (T.getD i tok0) 23 = true ∨ isS (T.getD i tok0) 64 = true) → pUn D (T.drop i) = pU1 D (T.getD i tok0) (T.drop (i + 1)) := fun q => by
    unfold pUn
    simp only [hdt_drop, tail_drop, if_pos q]
    cases D <;> rfl
  unfold F_X40_unary_o F_X40_unary_b178 F_X40_unary_b183
  simp only [h.v, M_tokenP h, IS 34 (by decide) (by decide), IS 23 (by decide) (by decide), IS 64 (by decide) (by decide), IS 28 (by decide) (by decide), Option.bind_some, eb]
  cases c34 : isS (T.getD i tok0) 34 with
  | true =>
    rw [if_neg (show ¬ mr true = 0 by decide), pre (Or.inl c34)]
    exact M_b32 hd hT hD h hI (Or.inl c34)
  | false =>
  rw [if_pos (show mr false = 0 by decide)]
  cases c23 : isS (T.getD i tok0) 23 with
  | true =>
    rw [if_neg (show ¬ mr true = 0 by decide), pre (Or.inr (Or.inl c23))]
    exact M_b32 hd hT hD h hI (Or.inr (Or.inl c23))
  | false =>
  rw [if_pos (show mr false = 0 by decide)]
  cases c64 : isS (T.getD i tok0) 64 with
  | true =>
    rw [if_neg (show ¬ mr true = 0 by decide), pre (Or.inr (Or.inr c64))]
    exact M_b32 hd hT hD h hI (Or.inr (Or.inr c64))
  | false =>
  rw [if_pos (show mr false = 0 by decide)]
  have np : ¬ (isS (hdt (T.drop i)) 34 = true ∨ isS (hdt (T.drop i)) 23 = true ∨ isS (hdt (T.drop i)) 64 = true) := by rw [hdt_drop, c34, c23, c64]; decide
  cases c28 : isS (T.getD i tok0) 28 with
  | false =>
    rw [if_pos (show mr false = 0 by decide), pUn_pm np (fun q => by rw [hdt_drop, c28] at q; cases q)]
    exact hP M i di ei I h hI
  | true =>
    rw [if_neg (show ¬ mr true = 0 by decide)]
    have k4 := (isS_t.mp c28).1
    have hi1 := (hT i hi).2 (by rw [k4]; decide) (by rw [k4]; decide)
    obtain ⟨m1, m2, m3, m4⟩ := M_getP h hi1
    have k1 := h.2.2.2.2.2.2.2.1.2.2.2 (i + 1) hi1
    simp only [m1, m2, m3, m4, gi_of h.2.1.2.2 (show x_fi 41 2626 = true by decide), h.2.2.1.2.2.1, iw_succ, gi_of k1.1.2.2 (show x_fi 43 2752 = true by decide), k1.2.1, gr_of k1.1.2.2 (show x_fr 43 2754 = true by decide), Option.bind_some]
    by_cases c2 : (T.getD (i + 1) tok0).kd = 2
    · rw [if_pos c2]
      obtain ⟨N, l1, l2, l3, l4, l5, l6⟩ := M_laneT h hi1 (Or.inr c2)
      rw [l1, Option.bind_some]
      refine RMm.tr l3 l4 l5 ?_
      by_cases cl : 0 ≤ lnW (T.getD (i + 1) tok0).wd
      · rw [if_neg (fun q => (lnW_neg _).mp q cl)]
        have ln : isLn (T.getD (i + 1) tok0) = true := isLn_t.mpr ⟨c2, cl⟩
        unfold pUn
        simp only [hdt_drop, tail_drop, c34, c23, c64, c28, ln, if_pos rfl, if_neg (show ¬ (false = true ∨ false = true ∨ false = true) by decide)]
        rw [l2.v, Option.bind_some]
        cases d with
        | zero =>
          have hD0 : D = none := hD
          rw [hD0, show iw ((25 - 0 : Nat) : Int) = iw ((25 : Nat) : Int) from rfl, M_deep0 l2]
          exact RMm.err rfl l2 (WM.refl N di i) (by omega)
        | succ d =>
          obtain ⟨E, U, hp, hX, hU⟩ := hD
          obtain ⟨g1, g2, g3⟩ := l2.go hi1
          obtain ⟨G, hG'⟩ : ∃ G, G = wI N v0 2626 (iw ((i + 1 : Nat) : Int)) := ⟨_, rfl⟩
          rw [← hG'] at g1 g2 g3
          have nG : m_nx G = m_nx N ∧ m_sl G = m_sl N := by rw [hG']; exact ⟨rfl, rfl⟩
          rw [hp, M_deep1 hd, tb_l]
          simp only [gi_of l2.2.1.2.2 (show x_fi 41 2626 = true by decide), l2.2.2.1.2.2.1, iw_succ, g1, g2.v, Option.bind_some]
          rcases M_laneP g2 hT with ⟨b1, b2⟩ | ⟨b1, H, b2, b3, b4, b5, b6⟩
          · rw [ln] at b1; cases b1
          · rw [b2, tb_l]
            have hi2 := b3.2.2.2.2.2.2.2.1.2.1
            simp only [b3.v, Option.bind_some]
            rcases M_signP b3 hT (s := 30) (by decide) (by decide) with ⟨c3, f⟩ | ⟨c3, K, f, f2, f3, f4, f5⟩
            · rw [f, c3]
              simp only [if_true, if_neg (show ¬ false = true by decide)]
              exact RMm.err rfl b3 ⟨by omega, by omega, by omega⟩ (by omega)
            · rw [f, c3, tb_l]
              simp only [if_true]
              have hi3 := f2.2.2.2.2.2.2.2.1.2.1
              simp only [f2.v, Option.bind_some]
              refine RMm.th ⟨by omega, by omega, by omega⟩ (by omega) (hU K (i + 1 + 1 + 1) di ei I f2 (by omega)) (fun e k dk ek O q1 q2 q3 q4 q5 => ?_)
              have x1 := q4.1
              have u2 := q4.2.1
              have u3 := q4.2.2
              have hk := q2.2.2.2.2.2.2.2.1.2.1
              have kG := q2.2.2.2.2.2.2.2.1.2.2.2 i hi
              simp only [gi_of kG.1.2.2 (show x_fi 43 2753 = true by decide), kG.2.2.1, q2.v, Option.bind_some]
              obtain ⟨P, dP, eP, p1, p2, p3, p4, p5⟩ := M_itemP (t := { op := 5, pl := (T.getD i tok0).pl, n := lnW (T.getD (i + 1) tok0).wd }) (s := 20) q2 (fun q => absurd q (show ¬ ((5 : Int32) = 2 ∨ (5 : Int32) = 3) by decide)) (fun _ => rfl) (by rw [List.length_append]; omega) trivial
              rw [show F_X40_item O v0 5 (iw ((T.getD i tok0).pl : Int)) 20 (lnW (T.getD (i + 1) tok0).wd) 0 = some P from p1, Option.bind_some]
              refine ⟨P, k, dP, eP, rfl, rfl, ?_, ⟨by omega, by omega, by omega⟩, ?_⟩
              · show PM B0 B1 True P v0 lt dt et T k li dP eP (I ++ (itm e ++ [{ op := 5, pl := (T.getD i tok0).pl, n := lnW (T.getD (i + 1) tok0).wd }]))
                simpa only [List.append_assoc] using p2
              · show (itm e ++ [({ op := 5, pl := (T.getD i tok0).pl, n := lnW (T.getD (i + 1) tok0).wd } : Itm)]).length ≤ _
                rw [List.length_append, List.length_singleton]
                omega
      · rw [if_pos ((lnW_neg _).mpr cl), pUn_pm np (fun _ _ => by rw [tail_drop, hdt_drop]; cases cc : isLn (T.getD (i + 1) tok0) with
          | false => rfl
          | true => exact absurd (isLn_t.mp cc).2 cl)]
        simp only [l2.v, Option.bind_some, eb]
        exact hP N i di ei I l2 hI
    · rw [if_neg c2, pUn_pm np (fun _ _ => by rw [tail_drop, hdt_drop]; cases cc : isLn (T.getD (i + 1) tok0) with
          | false => rfl
          | true => exact absurd (isLn_t.mp cc).1 c2)]
      exact hP M i di ei I h hI
end
section
variable {B0 B1 : Mem} {v0 lt dt : Nat} {et : List Nat} {T : List Tok} {li : Nat}
theorem M_readers (hT : TkOK T) (hG : TkSg T) : ∀ d, d ≤ 24 → (∀ N, 14 * d + 2 ≤ N → SimM B0 B1 v0 lt dt et T li (fun M => (R_4 N).2.1 M v0 (iw ((25 - d : Nat) : Int))) (prs d).2) ∧ (∀ N, 14 * d + 14 ≤ N → SimM B0 B1 v0 lt dt et T li (fun M => (R_4 N).2.2.2 M v0 (iw ((25 - d : Nat) : Int))) (prs d).1) := by
  have step : ∀ (d : Nat) (D : Option (PRs × PRs)), d ≤ 24 → (∀ N, 14 * d ≤ N → InMD (R_4 N).2.2.2 (R_4 N).2.1 B0 B1 v0 lt dt et T li d D) → (∀ N, 14 * d + 2 ≤ N → SimM B0 B1 v0 lt dt et T li (fun M => (R_4 N).2.1 M v0 (iw ((25 - d : Nat) : Int))) (pUn D)) ∧ (∀ N, 14 * d + 14 ≤ N → SimM B0 B1 v0 lt dt et T li (fun M => (R_4 N).2.2.2 M v0 (iw ((25 - d : Nat) : Int))) (pEx (D.map (fun q => q.1)) (pUn D))) := by
    intro d D hd hD
    have inX : ∀ N, 14 * d ≤ N → InM (R_4 N).2.2.2 B0 B1 v0 lt dt et T li d (D.map (fun q => q.1)) := fun N hN => by
      have := hD N hN
      cases d with
      | zero =>
        have h0 : D = none := this
        rw [h0]
        rfl
      | succ d =>
        obtain ⟨E, U, rfl, h1, h2⟩ := this
        exact ⟨E, rfl, h1⟩
    have pri : ∀ N, 14 * d + 1 ≤ N → SimM B0 B1 v0 lt dt et T li (fun M => (R_4 N).1 M v0 (iw ((25 - d : Nat) : Int))) (pPm (D.map (fun q => q.1))) := fun N hN => by
      obtain ⟨N', rfl⟩ : ∃ N', N = N' + 1 := ⟨N - 1, by omega⟩
      exact M_primary (rp := (R_4 N').1) (ru := (R_4 N').2.1) (rb := (R_4 N').2.2.1) hd hT (inX N' (by omega))
    have una : ∀ N, 14 * d + 2 ≤ N → SimM B0 B1 v0 lt dt et T li (fun M => (R_4 N).2.1 M v0 (iw ((25 - d : Nat) : Int))) (pUn D) := fun N hN => by
      obtain ⟨N', rfl⟩ : ∃ N', N = N' + 1 := ⟨N - 1, by omega⟩
      exact M_unary (rb := (R_4 N').2.2.1) hd hT (hD N' (by omega)) (pri N' (by omega))
    have bin : ∀ j, j ≤ 10 → ∀ N, 14 * d + 3 + j ≤ N → SimM B0 B1 v0 lt dt et T li (fun M => (R_4 N).2.2.1 M v0 (iw ((10 - j : Nat) : Int)) (iw ((25 - d : Nat) : Int))) (pBi (pUn D) j) := by
      intro j
      induction j with
      | zero =>
        intro _ N hN
        obtain ⟨N', rfl⟩ : ∃ N', N = N' + 1 := ⟨N - 1, by omega⟩
        exact M_bi0 (rp := (R_4 N').1) (rb := (R_4 N').2.2.1) (re := (R_4 N').2.2.2) (una N' (by omega))
      | succ j ih =>
        intro hj N hN
        obtain ⟨N', rfl⟩ : ∃ N', N = N' + 1 := ⟨N - 1, by omega⟩
        have R := M_bi (rp := (R_4 N').1) (ru := (R_4 N').2.1) (re := (R_4 N').2.2.2) (show j ≤ 9 by omega) hT hG (ih (by omega) N' (by omega))
        rw [show 10 - (j + 1) = 9 - j by omega]
        exact R
    refine ⟨una, fun N hN => ?_⟩
    obtain ⟨N', rfl⟩ : ∃ N', N = N' + 1 := ⟨N - 1, by omega⟩
    exact M_exprX (rp := (R_4 N').1) (ru := (R_4 N').2.1) hd hT (inX N' (by omega)) (bin 10 (Nat.le_refl _) N' (by omega))
  intro d
  induction d with
  | zero => intro hd; exact step 0 none hd (fun N _ => rfl)
  | succ d ih =>
    intro hd
    obtain ⟨i1, i2⟩ := ih (by omega)
    exact step (d + 1) (some (prs d)) hd (fun N hN => ⟨(prs d).1, (prs d).2, rfl, i2 N (by omega), i1 N (by omega)⟩)
theorem M_expression (hT : TkOK T) (hG : TkSg T) : SimM B0 B1 v0 lt dt et T li (fun M => F_X40_expression M v0 1) (prs 24).1 := (M_readers hT hG 24 (Nat.le_refl _)).2 xR (by decide)
/-- the tokens of a text are such -/
theorem TkOK.of {f : Nat → Int32} {n : Nat} : ∀ k, k ≤ n → (∀ j, j < (tks f n k).length → (((tks f n k).getD j tok0).kd = 4 → ((tks f n k).getD j tok0).sg ∈ sgA) ∧ (((tks f n k).getD j tok0).kd ≠ 0 → ((tks f n k).getD j tok0).kd ≠ 5 → j + 1 < (tks f n k).length)) := by
  have main : ∀ m k, n - k ≤ m → k ≤ n → (∀ j, j < (tks f n k).length → (((tks f n k).getD j tok0).kd = 4 → ((tks f n k).getD j tok0).sg ∈ sgA) ∧ (((tks f n k).getD j tok0).kd ≠ 0 → ((tks f n k).getD j tok0).kd ≠ 5 → j + 1 < (tks f n k).length)) := by
    intro m
    induction m with
    | zero =>
      intro k hm hk j hj
      by_cases c : (tok f n k).kd = 0 ∨ (tok f n k).kd = 5
      · rw [tks_eq f hk, if_pos c] at hj ⊢
        have j0 : j = 0 := by simpa using hj
        subst j0
        refine ⟨fun q => (tok_fact f n k).2.2.1 q, fun q1 q2 => ?_⟩
        rcases c with c | c
        · exact absurd c q1
        · exact absurd c q2
      · have t := tail_tks f hk (fun q => c (Or.inl q)) (fun q => c (Or.inr q))
        omega
    | succ m ih =>
      intro k hm hk j hj
      by_cases c : (tok f n k).kd = 0 ∨ (tok f n k).kd = 5
      · rw [tks_eq f hk, if_pos c] at hj ⊢
        have j0 : j = 0 := by simpa using hj
        subst j0
        refine ⟨fun q => (tok_fact f n k).2.2.1 q, fun q1 q2 => ?_⟩
        rcases c with c | c
        · exact absurd c q1
        · exact absurd c q2
      · have t := tail_tks f hk (fun q => c (Or.inl q)) (fun q => c (Or.inr q))
        have I := ih (tok f n k).to (by omega) t.2.1
        rw [tks_eq f hk, if_neg c] at hj ⊢
        have l1 : 0 < (tks f n (tok f n k).to).length := by
          rw [tks_eq f t.2.1]
          by_cases c' : (tok f n (tok f n k).to).kd = 0 ∨ (tok f n (tok f n k).to).kd = 5
          · rw [if_pos c']; exact Nat.one_pos
          · rw [if_neg c']; exact Nat.succ_pos _
        cases j with
        | zero => exact ⟨fun q => (tok_fact f n k).2.2.1 q, fun _ _ => by rw [List.length_cons]; omega⟩
        | succ j =>
          rw [List.length_cons] at hj ⊢
          have J := I j (by omega)
          refine ⟨fun q => J.1 q, fun q1 q2 => ?_⟩
          have := J.2 q1 q2
          omega
  intro k hk
  exact main (n - k) k (Nat.le_refl _) hk
theorem TkOK.tks {f : Nat → Int32} {n : Nat} : TkOK (tks f n 0) ∧ TkSg (tks f n 0) := ⟨fun j hj => ⟨fun q => sgA_rng ((TkOK.of 0 (Nat.zero_le _) j hj).1 q), (TkOK.of 0 (Nat.zero_le _) j hj).2⟩, fun j hj => (TkOK.of 0 (Nat.zero_le _) j hj).1⟩
end
