/-! ===== FORMULAS, 47: the model's primary ===== -/
/-- the model's primary reads parentheses too -/
def pPm (E : Option PRs) : PRs := fun ts => if isS (hdt ts) 28 = true then (match E with
    | none => .inl (hdt ts).pl
    | some E => pthen (E ts.tail) fun e r => if isS (hdt r) 30 = true then .inr (e, r.tail) else .inl (hdt r).pl)
  else pPri E ts
section
variable {B0 B1 : Mem} {v0 lt dt : Nat} {et : List Nat} {T : List Tok} {li : Nat} {re rp ru : Mem → Nat → Int32 → Option (Mem ⊕ (Nat × Mem))} {rb : Mem → Nat → Int32 → Int32 → Option (Mem ⊕ (Nat × Mem))}
/-- a constant, kept -/
theorem M_litP {M : Mem} {i di : Nat} {ei : List Nat} {I : List Itm} (h : PM B0 B1 True M v0 lt dt et T i li di ei I) (hI : I.length + 4 * (T.length - i) ≤ 40000) (hi1 : i + 1 < T.length) (l : Int32) (b : Int64) {M' : Mem} (hM : M' = wI M v0 2626 (iw ((i + 1 : Nat) : Int))) : RMm B0 B1 v0 lt dt et T li M i di I ((F_X40_item M' v0 1 (iw ((T.getD i tok0).pl : Int)) 20 l b).bind fun z => some (.inl z)) (.inr (.lit (T.getD i tok0).pl l b, T.drop (i + 1))) := by
  obtain ⟨g1, g2, g3⟩ := h.go hi1
  rw [← hM] at g1 g2 g3
  have nG : m_nx M' = m_nx M ∧ m_sl M' = m_sl M := by rw [hM]; exact ⟨rfl, rfl⟩
  obtain ⟨P, dP, eP, p1, p2, p3, p4, p5⟩ := M_itemP (t := { op := 1, pl := (T.getD i tok0).pl, n := l, bt := b }) (s := 20) g2 (fun q => absurd q (show ¬ ((1 : Int32) = 2 ∨ (1 : Int32) = 3) by decide)) (fun _ => rfl) (by omega) trivial
  rw [show F_X40_item M' v0 1 (iw ((T.getD i tok0).pl : Int)) 20 l b = some P from p1, Option.bind_some]
  exact ⟨P, i + 1, dP, eP, rfl, rfl, p2, ⟨by omega, by omega, by omega⟩, by show 1 ≤ _; omega⟩
theorem M_b105 {d : Nat} (hd : d ≤ 24) {E : Option PRs} (hT : TkOK T) (hE : InM re B0 B1 v0 lt dt et T li d E) {M : Mem} {i di : Nat} {ei : List Nat} {I : List Itm} (h : PM B0 B1 True M v0 lt dt et T i li di ei I) (hI : I.length + 4 * (T.length - i) ≤ 40000) (n3 : (T.getD i tok0).kd ≠ 3) (n2' : ¬ ((T.getD i tok0).kd = 2 ∧ ¬ 0 ≤ lnW (T.getD i tok0).wd)) : RMm B0 B1 v0 lt dt et T li M i di I (F_X40_primary_b105 rp ru rb re M v0 (iw ((25 - d : Nat) : Int)) (et.getD i 0)) (pPm E (T.drop i)) := by
  have hi := h.2.2.2.2.2.2.2.1.2.1
  have t5 := h.2.2.2.2.2.2.2.1.2.2.1
  have kO := h.2.2.2.2.2.2.2.1.2.2.2 i hi
  unfold F_X40_primary_b105 F_X40_primary_b253 pPm pPri
  simp only [hdt_drop, tail_drop, List.length_drop, if_neg n3, if_neg n2', gi_of kO.1.2.2 (show x_fi 43 2752 = true by decide), kO.2.1, Option.bind_some]
  by_cases c1 : (T.getD i tok0).kd = 1
  · have n28 : isS (T.getD i tok0) 28 = false := by unfold isS; rw [c1]; simp
    have hi1 := (hT i hi).2 (by rw [c1]; decide) (by rw [c1]; decide)
    obtain ⟨g1, g2, g3⟩ := h.go hi1
    obtain ⟨G, hG'⟩ : ∃ G, G = wI M v0 2626 (iw ((i + 1 : Nat) : Int)) := ⟨_, rfl⟩
    rw [← hG'] at g1 g2 g3
    have nG : m_nx G = m_nx M ∧ m_sl G = m_sl M := by rw [hG']; exact ⟨rfl, rfl⟩
    have kG := g2.2.2.2.2.2.2.2.1.2.2.2 i hi
    have wd := kG.2.2.2.2.2.1 (Or.inl c1)
    have IS := M_isSignP g2 (hT (i + 1) hi1).1 (s := 28) (by decide) (by decide)
    rw [if_pos c1, if_pos c1, n28, if_neg (show ¬ false = true by decide)]
    simp only [gi_of h.2.1.2.2 (show x_fi 41 2626 = true by decide), h.2.2.1.2.2.1, iw_succ, g1, g2.v, IS, Option.bind_some]
    cases c28 : isS (T.getD (i + 1) tok0) 28 with
    | false =>
      rw [if_pos (show mr false = 0 by decide), if_neg (show ¬ false = true by decide)]
      simp only [gi_of kG.1.2.2 (show x_fi 43 2753 = true by decide), kG.2.2.1, gr_of kG.1.2.2 (show x_fr 43 2754 = true by decide), Option.bind_some]
      obtain ⟨P, dP, eP, p1, p2, p3, p4, p5⟩ := M_itemP (t := { op := 2, pl := (T.getD i tok0).pl, wd := (T.getD i tok0).wd }) (s := cR G (et.getD i 0) 2754) g2 (fun _ => wd) (fun q => absurd (Or.inl rfl) q) (by omega) trivial
      rw [show F_X40_item G v0 2 (iw ((T.getD i tok0).pl : Int)) (cR G (et.getD i 0) 2754) 0 0 = some P from p1, Option.bind_some]
      exact ⟨P, i + 1, dP, eP, rfl, rfl, p2, ⟨by omega, by omega, by omega⟩, by show 1 ≤ _; omega⟩
    | true =>
      rw [if_neg (show ¬ mr true = 0 by decide), if_pos rfl]
      cases d with
      | zero =>
        have hE0 : E = none := hE
        rw [hE0, show iw ((25 - 0 : Nat) : Int) = iw ((25 : Nat) : Int) from rfl, M_deep0 g2]
        exact RMm.err rfl g2 ⟨by omega, by omega, by omega⟩ (by omega)
      | succ d =>
        obtain ⟨p, hp, hX⟩ := hE
        have k4 := (isS_t.mp c28).1
        have hi2 := (hT (i + 1) hi1).2 (by rw [k4]; decide) (by rw [k4]; decide)
        obtain ⟨f1, f2, f3⟩ := g2.go hi2
        obtain ⟨H, hH'⟩ : ∃ H, H = wI G v0 2626 (iw ((i + 1 + 1 : Nat) : Int)) := ⟨_, rfl⟩
        rw [← hH'] at f1 f2 f3
        have nH : m_nx H = m_nx G ∧ m_sl H = m_sl G := by rw [hH']; exact ⟨rfl, rfl⟩
        rw [hp, M_deep1 hd, tb_l]
        simp only [gi_of g2.2.1.2.2 (show x_fi 41 2626 = true by decide), g2.2.2.1.2.2.1, iw_succ, f1, Option.bind_some]
        exact M_args hT hX hI hi c1 (T.length - i) xN [] H (i + 1 + 1) di ei (by omega) (by have : xN = 1099511627776 := rfl; omega) (by rw [show itm (Ex.row []) = [] from rfl, List.append_nil]; exact f2) ⟨by omega, by omega, by omega⟩ (by show 0 ≤ _; omega)
  · rw [if_neg c1, if_neg c1]
    have IS := M_isSignP h (hT i hi).1 (s := 28) (by decide) (by decide)
    simp only [h.v, IS, Option.bind_some]
    cases c28 : isS (T.getD i tok0) 28 with
    | false =>
      rw [if_pos (show mr false = 0 by decide), if_neg (show ¬ false = true by decide)]
      have W := M_wrongP (α := Mem) h
      rw [h.v, Option.bind_some] at W
      exact RMm.err W h (WM.refl M di i) (by omega)
    | true =>
      rw [if_neg (show ¬ mr true = 0 by decide), if_pos rfl]
      cases d with
      | zero =>
        have hE0 : E = none := hE
        rw [hE0, show iw ((25 - 0 : Nat) : Int) = iw ((25 : Nat) : Int) from rfl, M_deep0 h]
        exact RMm.err rfl h (WM.refl M di i) (by omega)
      | succ d =>
        obtain ⟨p, hp, hX⟩ := hE
        have k4 := (isS_t.mp c28).1
        have hi1 := (hT i hi).2 (by rw [k4]; decide) (by rw [k4]; decide)
        obtain ⟨g1, g2, g3⟩ := h.go hi1
        obtain ⟨G, hG'⟩ : ∃ G, G = wI M v0 2626 (iw ((i + 1 : Nat) : Int)) := ⟨_, rfl⟩
        rw [← hG'] at g1 g2 g3
        have nG : m_nx G = m_nx M ∧ m_sl G = m_sl M := by rw [hG']; exact ⟨rfl, rfl⟩
        rw [hp, M_deep1 hd, tb_l]
        simp only [gi_of h.2.1.2.2 (show x_fi 41 2626 = true by decide), h.2.2.1.2.2.1, iw_succ, g1, g2.v, Option.bind_some]
        refine RMm.th ⟨by omega, by omega, by omega⟩ (by omega) (hX G (i + 1) di ei I g2 (by omega)) (fun e k dk ek O q1 q2 q3 q4 q5 => ?_)
        have x1 := q4.1
        have u2 := q3.2.1
        have u3 := q3.2.2
        rw [hdt_drop, tail_drop, q2.v, Option.bind_some]
        rcases M_signP q2 hT (s := 30) (by decide) (by decide) with ⟨c3, f⟩ | ⟨c3, H, f, f2, f3, f4, f5⟩
        · rw [f, c3, if_neg (show ¬ false = true by decide)]
          exact RMm.err rfl q2 q3 (by rw [List.length_append]; omega)
        · rw [f, c3, if_pos rfl, tb_l]
          exact ⟨H, k + 1, dk, ek, rfl, rfl, f2, ⟨by omega, by omega, by omega⟩, by omega⟩
theorem M_primary {d : Nat} (hd : d ≤ 24) {E : Option PRs} (hT : TkOK T) (hE : InM re B0 B1 v0 lt dt et T li d E) : SimM B0 B1 v0 lt dt et T li (fun M => F_X40_primary_o rp ru rb re M v0 (iw ((25 - d : Nat) : Int))) (pPm E) := by
  intro M i di ei I h hI
  have hi := h.2.2.2.2.2.2.2.1.2.1
  have t5 := h.2.2.2.2.2.2.2.1.2.2.1
  have kO := h.2.2.2.2.2.2.2.1.2.2.2 i hi
  show RMm B0 B1 v0 lt dt et T li M i di I (F_X40_primary_o rp ru rb re M v0 (iw ((25 - d : Nat) : Int))) (pPm E (T.drop i))
  unfold F_X40_primary_o F_X40_primary_b253 F_X40_primary_b99 F_X40_primary_b253
  simp only [h.v, M_tokenP h, gi_of kO.1.2.2 (show x_fi 43 2752 = true by decide), kO.2.1, Option.bind_some]
  by_cases c3 : (T.getD i tok0).kd = 3
  · have hi1 := (hT i hi).2 (by rw [c3]; decide) (by rw [c3]; decide)
    have n28 : isS (T.getD i tok0) 28 = false := by unfold isS; rw [c3]; simp
    obtain ⟨g1, g2, g3⟩ := h.go hi1
    obtain ⟨G, hG'⟩ : ∃ G, G = wI M v0 2626 (iw ((i + 1 : Nat) : Int)) := ⟨_, rfl⟩
    rw [← hG'] at g1 g2 g3
    have kG := g2.2.2.2.2.2.2.2.1.2.2.2 i hi
    unfold pPm pPri
    rw [if_pos c3]
    simp only [hdt_drop, tail_drop, n28, if_pos c3, if_neg (show ¬ false = true by decide)]
    simp only [gi_of h.2.1.2.2 (show x_fi 41 2626 = true by decide), h.2.2.1.2.2.1, iw_succ, g1, g2.v, gi_of kG.1.2.2 (show x_fi 43 2753 = true by decide), kG.2.2.1, gi_of kG.1.2.2 (show x_fi 43 2755 = true by decide), kG.2.2.2.1, gl_of kG.1.2.2 (show x_fj 43 2756 = true by decide), kG.2.2.2.2.1, Option.bind_some]
    exact M_litP h hI hi1 _ _ hG'
  rw [if_neg c3]
  by_cases c2 : (T.getD i tok0).kd = 2
  · rw [if_pos c2]
    have hi1 := (hT i hi).2 (by rw [c2]; decide) (by rw [c2]; decide)
    have n28 : isS (T.getD i tok0) 28 = false := by unfold isS; rw [c2]; simp
    obtain ⟨N, l1, l2, l3, l4, l5, l6⟩ := M_laneT h hi (Or.inr c2)
    rw [gr_of kO.1.2.2 (show x_fr 43 2754 = true by decide), Option.bind_some, l1, Option.bind_some]
    have tr : ∀ {x : Option (Mem ⊕ (Nat × Mem))} {res : Nat ⊕ (Ex × List Tok)}, RMm B0 B1 v0 lt dt et T li N i di I x res → RMm B0 B1 v0 lt dt et T li M i di I x res := fun {x res} hx => by
      cases res with
      | inl q =>
        obtain ⟨O, k, dk, ek, J', o1, o2, ⟨o3, o4, o5⟩, o6⟩ := hx
        exact ⟨O, k, dk, ek, J', o1, o2, ⟨o3, by omega, by omega⟩, o6⟩
      | inr er =>
        obtain ⟨e, r⟩ := er
        obtain ⟨O, k, dk, ek, o1, o2, o3, ⟨o4, o5, o6⟩, o7⟩ := hx
        exact ⟨O, k, dk, ek, o1, o2, o3, ⟨o4, by omega, by omega⟩, o7⟩
    refine tr ?_
    by_cases cl : 0 ≤ lnW (T.getD i tok0).wd
    · rw [if_neg (fun q => (lnW_neg _).mp q cl)]
      exact M_b105 hd hT hE l2 hI c3 (fun q => q.2 cl)
    · rw [if_pos ((lnW_neg _).mpr cl)]
      obtain ⟨g1, g2, g3⟩ := l2.go hi1
      obtain ⟨G, hG'⟩ : ∃ G, G = wI N v0 2626 (iw ((i + 1 : Nat) : Int)) := ⟨_, rfl⟩
      rw [← hG'] at g1 g2 g3
      have kG := g2.2.2.2.2.2.2.2.1.2.2.2 i hi
      have wd := kG.2.2.2.2.2.1 (Or.inr c2)
      have k0 := g2.1.2.2.2.1
      have b4 := g2.1.1
      have s1 := wd.1.1
      have vs : vg G (cR G (et.getD i 0) 2754) 76 = some () := vg_of wd.1.2.1 (show x_isa 76 76 = true by decide)
      have eq : F_J15_equals G (cR G (et.getD i 0) 2754) 61 = some (pif ((T.getD i tok0).wd = (cty 61).1) 1 0) := J_eqs s1 (k0.sb (by decide) (by decide)) (ac_txt (by have := wd.1.2.2.1.1; omega) (by decide) (by decide)) (by decide)
      unfold pPm pPri
      simp only [hdt_drop, tail_drop, n28, if_neg c3, if_neg (show ¬ false = true by decide), if_pos (show (T.getD i tok0).kd = 2 ∧ ¬ 0 ≤ lnW (T.getD i tok0).wd from ⟨c2, cl⟩)]
      simp only [gi_of l2.2.1.2.2 (show x_fi 41 2626 = true by decide), l2.2.2.1.2.2.1, iw_succ, g1, g2.v, gi_of kG.1.2.2 (show x_fi 43 2753 = true by decide), kG.2.2.1, gr_of kG.1.2.2 (show x_fr 43 2754 = true by decide), vs, eq, Option.bind_some]
      by_cases q : (T.getD i tok0).wd = (cty 61).1
      · rw [pif_pos q, if_neg (show ¬ (1 : Int32) = 0 by decide), if_pos q]
        exact M_litP l2 hI hi1 _ _ hG'
      · rw [pif_neg q, if_pos rfl, if_neg q]
        exact M_litP l2 hI hi1 _ _ hG'
  · rw [if_neg c2]
    exact M_b105 hd hT hE h hI c3 (fun q => c2 q.1)
end
