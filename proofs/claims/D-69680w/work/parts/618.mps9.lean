/-! ===== FORMULAS, 43: the model's levels, the loop ===== -/
section
variable {B0 B1 : Mem} {v0 lt dt : Nat} {et : List Nat} {T : List Tok} {li : Nat} {re rp ru : Mem → Nat → Int32 → Option (Mem ⊕ (Nat × Mem))} {rb : Mem → Nat → Int32 → Int32 → Option (Mem ⊕ (Nat × Mem))}
theorem itm_bin {p s : Nat} {a b : Ex} (h : s ∈ sgA) (h0 : opS s ≠ 0) : itm (.bin p (opS s) a b) = if lvO (opS s) < 2 then itm a ++ [{ op := 7, pl := p, sg := s }] ++ itm b ++ [{ op := 8, pl := p, sg := s }] else itm a ++ itm b ++ [{ op := 6, pl := p, sg := s }] := by
  have e1 := List.all_eq_true.mp sgT_opS _ h
  have e2 := List.all_eq_true.mp opS_sh _ h
  simp only [Bool.or_eq_true, decide_eq_true_eq] at e1 e2
  have e1' := e1.resolve_left h0
  have e2' := e2.resolve_left h0
  show (if opS s = 18 ∨ opS s = 19 then itm a ++ [{ op := 7, pl := p, sg := sgT (opS s) }] ++ itm b ++ [{ op := 8, pl := p, sg := sgT (opS s) }] else itm a ++ itm b ++ [{ op := 6, pl := p, sg := sgT (opS s) }]) = _
  rw [e1']
  by_cases c : lvO (opS s) < 2
  · rw [if_pos (e2'.mpr c), if_pos c]
  · rw [if_neg (fun w => c (e2'.mp w)), if_neg c]
theorem M_bl {S : PRs} {l : Nat} (hl : l ≤ 9) {dep : Int32} (hT : TkOK T) (hG : TkSg T) (hS : SimM B0 B1 v0 lt dt et T li (fun M => rb M v0 (iw ((l + 1 : Nat) : Int)) dep) S) {M0 : Mem} {i0 d0 : Nat} {I0 : List Itm} (hI0 : I0.length + 4 * (T.length - i0) ≤ 40000) :
    ∀ (m N : Nat) (a : Ex) (M : Mem) (i di : Nat) (ei : List Nat), T.length - i + 1 ≤ m → m + 1 ≤ N → PM B0 B1 True M v0 lt dt et T i li di ei (I0 ++ itm a) → WM M0 M d0 di i0 i → (itm a).length ≤ 2 * (i - i0) → RMm B0 B1 v0 lt dt et T li M0 i0 d0 I0 (F_X40_ranked_b20 rp ru rb re N M v0 (iw (l : Int)) dep) (pBl S l m a (T.drop i)) := by
  intro m
  induction m with
  | zero => intro N a M i di ei hm; omega
  | succ m ih =>
    intro N a M i di ei hm hN h w hla
    obtain ⟨N', rfl⟩ : ∃ N', N = N' + 1 := ⟨N - 1, by omega⟩
    have hi := h.2.2.2.2.2.2.2.1.2.1
    have t5 := h.2.2.2.2.2.2.2.1.2.2.1
    have ht := M_tokenP h
    have kt := h.2.2.2.2.2.2.2.1.2.2.2 i hi
    have w1 := w.1
    show RMm B0 B1 v0 lt dt et T li M0 i0 d0 I0 (F_X40_ranked_b20_st rp ru rb re (F_X40_ranked_b20 rp ru rb re N') M v0 (iw (l : Int)) dep) (if isO (hdt (T.drop i)) l = true then pthen (S (T.drop i).tail) fun b r => pBl S l m (.bin (hdt (T.drop i)).pl (opS (hdt (T.drop i)).sg) a b) r else .inr (a, T.drop i))
    rw [hdt_drop, tail_drop]
    unfold F_X40_ranked_b20_st F_X40_ranked_b118
    have done : RMm B0 B1 v0 lt dt et T li M0 i0 d0 I0 (some (.inl M)) (.inr (a, T.drop i)) := ⟨M, i, di, ei, rfl, rfl, h, w, hla⟩
    simp only [h.v, ht, gi_of kt.1.2.2 (show x_fi 43 2752 = true by decide), kt.2.1, gr_of kt.1.2.2 (show x_fr 43 2754 = true by decide), Option.bind_some]
    by_cases c4 : (T.getD i tok0).kd = 4
    · have sA := hG i hi c4
      have eR := M_rankOf h.1.2.2.2.1 sA
      rw [if_pos c4, kt.2.2.2.2.2.2.1 c4, eR, Option.bind_some]
      by_cases c : isO (T.getD i tok0) l = true
      · obtain ⟨-, o1, o2⟩ := isO_t.mp c
        rw [if_pos ((rank_lv sA hl).mpr ⟨o1, o2⟩), if_pos c]
        obtain ⟨g1, g2, g3⟩ := h.go ((hT i hi).2 (by rw [c4]; decide) (by rw [c4]; decide))
        obtain ⟨G, hG'⟩ : ∃ G, G = wI M v0 2626 (iw ((i + 1 : Nat) : Int)) := ⟨_, rfl⟩
        rw [← hG'] at g1 g2 g3
        have kG := g2.2.2.2.2.2.2.2.1.2.2.2 i hi
        have nG : m_nx G = m_nx M ∧ m_sl G = m_sl M := by rw [hG']; exact ⟨rfl, rfl⟩
        simp only [h.v, ht, gi_of h.2.1.2.2 (show x_fi 41 2626 = true by decide), h.2.2.1.2.2.1, iw_succ, g1, gi_of kG.1.2.2 (show x_fi 43 2753 = true by decide), kG.2.2.1, gr_of kG.1.2.2 (show x_fr 43 2754 = true by decide), kG.2.2.2.2.2.2.1 c4, g2.v, Option.bind_some]
        have hlen : (I0 ++ itm a).length ≤ I0.length + 2 * (i - i0) := by rw [List.length_append]; omega
        have itb := fun b => itm_bin (p := (T.getD i tok0).pl) (a := a) (b := b) sA o1
        by_cases c2 : l < 2
        · rw [if_pos (by rw [show (2 : Int32) = iw ((2 : Nat) : Int) from rfl, iw_le4 (by omega) (by omega)]; exact c2)]
          obtain ⟨A, dA, eA, a1, a2, a3, a4, a5⟩ := M_itemP (t := { op := 7, pl := (T.getD i tok0).pl, sg := (T.getD i tok0).sg }) (s := (T.getD i tok0).sg) g2 (fun q => absurd q (show ¬ ((7 : Int32) = 2 ∨ (7 : Int32) = 3) by decide)) (fun _ => rfl) (by omega) trivial
          rw [show F_X40_item G v0 7 (iw ((T.getD i tok0).pl : Int)) (T.getD i tok0).sg 0 0 = some A from a1, Option.bind_some]
          unfold F_X40_ranked_b81
          rw [a2.v, Option.bind_some, iw_succ]
          have wA : WM M0 A d0 dA i0 (i + 1) := ⟨by omega, by have := w.2.1; omega, by have := w.2.2; omega⟩
          have lA : (I0 ++ itm a ++ [({ op := 7, pl := (T.getD i tok0).pl, sg := (T.getD i tok0).sg } : Itm)]).length ≤ I0.length + 2 * (i + 1 - i0) := by rw [List.length_append, List.length_singleton]; omega
          refine RMm.th wA lA (hS A (i + 1) dA eA _ a2 (by omega)) (fun b k dk ek O q1 q2 q3 q4 q5 => ?_)
          rw [if_pos (by rw [show (2 : Int32) = iw ((2 : Nat) : Int) from rfl, iw_le4 (by omega) (by omega)]; exact c2)]
          unfold F_X40_ranked_b102
          have kO := q2.2.2.2.2.2.2.2.1.2.2.2 i hi
          have hk := q2.2.2.2.2.2.2.2.1.2.1
          have x1' := q4.1
          simp only [gi_of kO.1.2.2 (show x_fi 43 2753 = true by decide), kO.2.2.1, gr_of kO.1.2.2 (show x_fr 43 2754 = true by decide), kO.2.2.2.2.2.2.1 c4, q2.v, Option.bind_some]
          obtain ⟨P, dP, eP, p1, p2, p3, p4, p5⟩ := M_itemP (t := { op := 8, pl := (T.getD i tok0).pl, sg := (T.getD i tok0).sg }) (s := (T.getD i tok0).sg) q2 (fun q => absurd q (show ¬ ((8 : Int32) = 2 ∨ (8 : Int32) = 3) by decide)) (fun _ => rfl) (by rw [List.length_append]; omega) trivial
          rw [show F_X40_item O v0 8 (iw ((T.getD i tok0).pl : Int)) (T.getD i tok0).sg 0 0 = some P from p1, Option.bind_some]
          have ib := itb b
          rw [o2, if_pos c2] at ib
          refine ih N' _ P k dP eP (by omega) (by omega) (by rw [ib]; simpa only [List.append_assoc] using p2) ?_ ?_
          · have u1 := w.2.1
            have u2 := w.2.2
            have x1 := q4.1
            have x2 := q4.2.1
            have x3 := q4.2.2
            exact ⟨by omega, by omega, by omega⟩
          · have x1 := q4.1
            rw [ib]; simp only [List.length_append, List.length_singleton]; omega
        · rw [if_neg (by rw [show (2 : Int32) = iw ((2 : Nat) : Int) from rfl, iw_le4 (by omega) (by omega)]; exact c2)]
          unfold F_X40_ranked_b81
          rw [g2.v, Option.bind_some, iw_succ]
          have wA : WM M0 G d0 di i0 (i + 1) := ⟨by omega, by have := w.2.1; omega, by have := w.2.2; omega⟩
          refine RMm.th wA (by omega) (hS G (i + 1) di ei _ g2 (by omega)) (fun b k dk ek O q1 q2 q3 q4 q5 => ?_)
          rw [if_neg (by rw [show (2 : Int32) = iw ((2 : Nat) : Int) from rfl, iw_le4 (by omega) (by omega)]; exact c2)]
          unfold F_X40_ranked_b102
          have kO := q2.2.2.2.2.2.2.2.1.2.2.2 i hi
          have hk := q2.2.2.2.2.2.2.2.1.2.1
          have x1 := q4.1
          simp only [gi_of kO.1.2.2 (show x_fi 43 2753 = true by decide), kO.2.2.1, gr_of kO.1.2.2 (show x_fr 43 2754 = true by decide), kO.2.2.2.2.2.2.1 c4, q2.v, Option.bind_some]
          obtain ⟨P, dP, eP, p1, p2, p3, p4, p5⟩ := M_itemP (t := { op := 6, pl := (T.getD i tok0).pl, sg := (T.getD i tok0).sg }) (s := (T.getD i tok0).sg) q2 (fun q => absurd q (show ¬ ((6 : Int32) = 2 ∨ (6 : Int32) = 3) by decide)) (fun _ => rfl) (by rw [List.length_append]; omega) trivial
          rw [show F_X40_item O v0 6 (iw ((T.getD i tok0).pl : Int)) (T.getD i tok0).sg 0 0 = some P from p1, Option.bind_some]
          have ib := itb b
          rw [o2, if_neg c2] at ib
          refine ih N' _ P k dP eP (by omega) (by omega) (by rw [ib]; simpa only [List.append_assoc] using p2) ?_ ?_
          · have u1 := w.2.1
            have u2 := w.2.2
            have x2 := q4.2.1
            have x3 := q4.2.2
            exact ⟨by omega, by omega, by omega⟩
          · rw [ib]; simp only [List.length_append, List.length_singleton]; omega
      · rw [if_neg (fun q => c (isO_t.mpr ⟨c4, (rank_lv sA hl).mp q⟩)), if_neg c]
        exact done
    · have c : ¬ isO (T.getD i tok0) l = true := fun q => c4 (isO_t.mp q).1
      rw [if_neg c4, if_neg c]
      exact done
end
