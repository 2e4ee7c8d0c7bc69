/-! ===== FORMULAS, 45: the model's choice ===== -/
section
variable {B0 B1 : Mem} {v0 lt dt : Nat} {et : List Nat} {T : List Tok} {li : Nat} {re rp ru : Mem → Nat → Int32 → Option (Mem ⊕ (Nat × Mem))} {rb : Mem → Nat → Int32 → Int32 → Option (Mem ⊕ (Nat × Mem))}
def InM (re : Mem → Nat → Int32 → Option (Mem ⊕ (Nat × Mem))) (B0 B1 : Mem) (v0 lt dt : Nat) (et : List Nat) (T : List Tok) (li : Nat) : Nat → Option PRs → Prop
  | 0, E => E = none
  | d + 1, E => ∃ p, E = some p ∧ SimM B0 B1 v0 lt dt et T li (fun M => re M v0 (iw ((25 - d : Nat) : Int))) p
/-- an item with an empty text -/
theorem M_item0 {M : Mem} {i di : Nat} {ei : List Nat} {I : List Itm} (h : PM B0 B1 True M v0 lt dt et T i li di ei I) {o : Int32} (ho : ¬ (o = 2 ∨ o = 3)) (p : Nat) (hl : I.length ≤ 50000) : ∃ N dN eN, F_X40_item M v0 o (iw (p : Int)) 20 0 0 = some N ∧ PM B0 B1 True N v0 lt dt et T i li dN eN (I ++ [{ op := o, pl := p }]) ∧ m_nx N ≤ m_nx M + 2 ∧ m_sl N + rcs M di ≤ m_sl M + 5 + rcs N dN := by
  obtain ⟨N, dN, eN, a1, a2, a3, a4, a5⟩ := M_itemP (t := { op := o, pl := p }) (s := 20) h (fun q => (ho q).elim) (fun _ => rfl) hl trivial
  exact ⟨N, dN, eN, a1, a2, a4, a5⟩
theorem M_exprX {d : Nat} (hd : d ≤ 24) {E : Option PRs} {U : PRs} (hT : TkOK T) (hE : InM re B0 B1 v0 lt dt et T li d E) (hS : SimM B0 B1 v0 lt dt et T li (fun M => rb M v0 (iw ((0 : Nat) : Int)) (iw ((25 - d : Nat) : Int))) (pBi U 10)) : SimM B0 B1 v0 lt dt et T li (fun M => F_X40_expression_o rp ru rb re M v0 (iw ((25 - d : Nat) : Int))) (pEx E U) := by
  intro M i di ei I h hI
  have t5 := h.2.2.2.2.2.2.2.1.2.2.1
  show RMm B0 B1 v0 lt dt et T li M i di I (F_X40_expression_o rp ru rb re M v0 (iw ((25 - d : Nat) : Int))) (pEx E U (T.drop i))
  unfold F_X40_expression_o pEx
  rw [h.v, Option.bind_some]
  refine RMm.th (WM.refl M di i) (by omega) (hS M i di ei I h hI) (fun c k dk ek O q1 q2 q3 q4 q5 => ?_)
  have hk := q2.2.2.2.2.2.2.2.1.2.1
  have x1 := q4.1
  have IS := M_isSignP q2 (hT k hk).1 (s := 48) (by decide) (by decide)
  rw [hdt_drop, q2.v, Option.bind_some, IS, Option.bind_some]
  cases c48 : isS (T.getD k tok0) 48 with
  | false =>
    rw [if_pos (show mr false = 0 by decide), if_neg (show ¬ false = true by decide)]
    exact ⟨O, k, dk, ek, rfl, rfl, q2, q3, q5⟩
  | true =>
    rw [if_neg (show ¬ mr true = 0 by decide), if_pos rfl, Option.bind_some]
    cases d with
    | zero =>
      have hE0 : E = none := hE
      rw [hE0, show iw ((25 - 0 : Nat) : Int) = iw ((25 : Nat) : Int) from rfl, M_deep0 q2]
      exact RMm.err rfl q2 q3 (by rw [List.length_append]; omega)
    | succ d =>
      obtain ⟨p, hp, hX⟩ := hE
      have k4 := (isS_t.mp c48).1
      obtain ⟨g1, g2, g3⟩ := q2.go ((hT k hk).2 (by rw [k4]; decide) (by rw [k4]; decide))
      obtain ⟨G, hG'⟩ : ∃ G, G = wI O v0 2626 (iw ((k + 1 : Nat) : Int)) := ⟨_, rfl⟩
      rw [← hG'] at g1 g2 g3
      have nG : m_nx G = m_nx O ∧ m_sl G = m_sl O := by rw [hG']; exact ⟨rfl, rfl⟩
      have kO := q2.2.2.2.2.2.2.2.1.2.2.2 k hk
      have hk1 := g2.2.2.2.2.2.2.2.1.2.1
      rw [hp, M_deep1 hd, tb_l]
      simp only [q2.v, M_tokenP q2, gi_of kO.1.2.2 (show x_fi 43 2753 = true by decide), kO.2.2.1, gi_of q2.2.1.2.2 (show x_fi 41 2626 = true by decide), q2.2.2.1.2.2.1, iw_succ, g1, g2.v, Option.bind_some]
      have lc : (I ++ itm c).length ≤ I.length + 2 * (k - i) := by rw [List.length_append]; omega
      obtain ⟨A, dA, eA, a1, a2, a3, a4⟩ := M_item0 g2 (o := 9) (by decide) (T.getD k tok0).pl (by omega)
      rw [a1, Option.bind_some, a2.v, Option.bind_some, tail_drop]
      have u1 := q3.2.1
      have u2 := q3.2.2
      have wA : WM M A di dA i (k + 1) := ⟨by omega, by omega, by omega⟩
      have lA : (I ++ itm c ++ [({ op := 9, pl := (T.getD k tok0).pl } : Itm)]).length ≤ I.length + 2 * (k + 1 - i) := by rw [List.length_append, List.length_singleton]; omega
      refine RMm.th wA lA (hX A (k + 1) dA eA _ a2 (by omega)) (fun e k2 d2 e2 P r1 r2 r3 r4 r5 => ?_)
      have hk2 := r2.2.2.2.2.2.2.2.1.2.1
      have y1 := r4.1
      have y2 := r4.2.1
      have y3 := r4.2.2
      have IS2 := M_isSignP r2 (hT k2 hk2).1 (s := 37) (by decide) (by decide)
      rw [hdt_drop, r2.v, Option.bind_some, IS2, Option.bind_some]
      have lP : (I ++ itm c ++ [({ op := 9, pl := (T.getD k tok0).pl } : Itm)] ++ itm e).length ≤ I.length + 2 * (k2 - i) := by rw [List.length_append]; omega
      cases c37 : isS (T.getD k2 tok0) 37 with
      | false =>
        rw [if_pos (show mr false = 0 by decide), if_neg (show ¬ false = true by decide)]
        have W := M_wrongP (α := Mem) r2
        rw [r2.v, Option.bind_some] at W
        rw [Option.bind_some]
        exact RMm.err W r2 r3 lP
      | true =>
        rw [if_neg (show ¬ mr true = 0 by decide), if_pos rfl, Option.bind_some, M_deep1 hd, tb_l]
        have k42 := (isS_t.mp c37).1
        obtain ⟨f1, f2, f3⟩ := r2.go ((hT k2 hk2).2 (by rw [k42]; decide) (by rw [k42]; decide))
        obtain ⟨H, hH'⟩ : ∃ H, H = wI P v0 2626 (iw ((k2 + 1 : Nat) : Int)) := ⟨_, rfl⟩
        rw [← hH'] at f1 f2 f3
        have nH : m_nx H = m_nx P ∧ m_sl H = m_sl P := by rw [hH']; exact ⟨rfl, rfl⟩
        have hk3 := f2.2.2.2.2.2.2.2.1.2.1
        simp only [gi_of r2.2.1.2.2 (show x_fi 41 2626 = true by decide), r2.2.2.1.2.2.1, iw_succ, f1, f2.v, Option.bind_some]
        obtain ⟨Q, dQ, eQ, b1, b2, b3, b4⟩ := M_item0 f2 (o := 10) (by decide) (T.getD k tok0).pl (by omega)
        rw [b1, Option.bind_some, b2.v, Option.bind_some, tail_drop]
        have wQ : WM M Q di dQ i (k2 + 1) := ⟨by omega, by omega, by omega⟩
        have lQ : (I ++ itm c ++ [({ op := 9, pl := (T.getD k tok0).pl } : Itm)] ++ itm e ++ [({ op := 10, pl := (T.getD k tok0).pl } : Itm)]).length ≤ I.length + 2 * (k2 + 1 - i) := by rw [List.length_append, List.length_singleton]; omega
        refine RMm.th wQ lQ (hX Q (k2 + 1) dQ eQ _ b2 (by omega)) (fun g k3 d3 e3 R s1 s2 s3 s4 s5 => ?_)
        have z1 := s4.1
        have z2 := s4.2.1
        have z3 := s4.2.2
        rw [s2.v, Option.bind_some]
        have hk4 := s2.2.2.2.2.2.2.2.1.2.1
        obtain ⟨V, dV, eV, v1, v2, v3, v4⟩ := M_item0 s2 (o := 11) (by decide) (T.getD k tok0).pl (by rw [List.length_append]; omega)
        rw [v1, Option.bind_some]
        refine ⟨V, k3, dV, eV, rfl, rfl, ?_, ⟨by omega, by omega, by omega⟩, ?_⟩
        · show PM B0 B1 True V v0 lt dt et T k3 li dV eV (I ++ (itm c ++ [{ op := 9, pl := (T.getD k tok0).pl }] ++ itm e ++ [{ op := 10, pl := (T.getD k tok0).pl }] ++ itm g ++ [{ op := 11, pl := (T.getD k tok0).pl }]))
          simpa only [List.append_assoc] using v2
        · show (itm c ++ [({ op := 9, pl := (T.getD k tok0).pl } : Itm)] ++ itm e ++ [({ op := 10, pl := (T.getD k tok0).pl } : Itm)] ++ itm g ++ [({ op := 11, pl := (T.getD k tok0).pl } : Itm)]).length ≤ _
          simp only [List.length_append, List.length_singleton]
          omega
end
