/-! ===== FORMULAS, 33: the engine reads expressions, whole ===== -/
section
variable {B v0 n : Nat} {f : Nat → Int32} {re rp ru : Mem → Nat → Int32 → Option ((Nat × Mem) ⊕ (Nat × Mem))} {rb : Mem → Nat → Int32 → Int32 → Option ((Nat × Mem) ⊕ (Nat × Mem))}
theorem E_exprX {d : Nat} (hd : d ≤ 24) {E : Option PRs} {U : PRs} (hE : InX re B v0 f n d E) (hS : SimX (fun M => rb M v0 (iw ((0 : Nat) : Int)) (iw ((25 - d : Nat) : Int))) (pBi U 10) B v0 f n) : SimX (fun M => F_X26_expression_o rp ru rb re M v0 (iw ((25 - d : Nat) : Int))) (pEx E U) B v0 f n := by
  refine ⟨fun k hk h5 => ?_, fun M k h => ?_⟩
  · show pthen (pBi U 10 (tks f n k)) _ = _
    rw [hS.1 k hk h5]
    rfl
  · have n4 := h.len
    have h0 := h.st.1
    have L := LT_le f n k
    obtain ⟨hB1, hB2⟩ := h.2.2.2.2.1
    show RE M B v0 f n k (F_X26_expression_o rp ru rb re M v0 (iw ((25 - d : Nat) : Int))) (pEx E U (tks f n k))
    unfold F_X26_expression_o pEx
    rw [h.v, Option.bind_some]
    refine RE.th (WB.refl M f n k) (hS.2 M k h) (fun c i q1 q2 q3 q4 q5 => ?_) (fun c i a O q1 q2 q3 q4 q5 hO hNc => ?_)
    · rw [hdt_tks f q3, isS_5 q5, if_neg (by decide)]
      exact Or.inr ⟨c, rfl, q2, q4⟩
    · have hi := hO.2.2.1
      have nO := q5.1.1
      rw [hdt_tks f hi]
      simp only [hO.g, v1012, hO.st, E_isS hO (show 48 ∈ sgB by decide), g1012_388, hO.1.2.2.1, hO.v, Option.bind_some]
      cases c48 : isS (tok f n i) 48 with
      | false =>
        rw [if_pos (show mr false = 0 by decide), if_neg (show ¬ false = true by decide)]
        exact ⟨q2, i, O, rfl, hi, q3, q4, hO.1.1, Or.inr ⟨hO.2.1, a, rfl, hO, hNc⟩⟩
      | true =>
        have kn0 : (tok f n i).kd ≠ 0 := by rw [(isS_t.mp c48).1]; decide
        obtain ⟨t1, t2, t3, t4⟩ := tail_tks f hi kn0 hO.2.1
        have t4' : LT f n i = LT f n (tok f n i).to + 1 := t4
        rw [if_neg (show ¬ mr true = 0 by decide), if_pos rfl]
        cases d with
        | zero =>
          have hE0 : E = none := hE
          rw [hE0, show iw ((25 - 0 : Nat) : Int) = iw ((25 : Nat) : Int) from rfl, E_deep0 hO]
          exact RE.err q4 hO.1.1 hi rfl
        | succ d =>
          obtain ⟨p, hp, hX⟩ := hE
          rw [hp, E_deep1 hd, tb_l, t1]
          simp only [hO.g, v1012, hO.st, Option.bind_some]
          refine RE.nx q4 hO kn0 (fun h5 => ?_) (fun P wP wOP hP => ?_)
          · left
            rw [hX.1 _ t2 h5]
            rfl
          · have nP := wOP.1.1
            rw [hP.v, Option.bind_some]
            refine RE.th wP (hX.2 P _ hP) (fun e j r1 r2 r3 r4 r5 => ?_) (fun e j b Q r1 r2 r3 r4 r5 hQ hNe => ?_)
            · left
              rw [hdt_tks f r3, isS_5 r5, if_neg (by decide)]
            · have nQ := r5.1.1
              have hj := hQ.2.2.1
              simp only [hQ.g, v1012, hQ.st, Option.bind_some]
              refine RE.ex (res := fun r => pthen (p r) fun b r3 => .inr (.cnd (tok f n i).pl c e b, r3)) r4 hQ (by decide) (fun c37 h5 => ?_) (fun R c37 wR wQR hR => ?_)
              · have kn3 : (tok f n j).kd ≠ 0 := by rw [(isS_t.mp c37).1]; decide
                obtain ⟨v1, v2, v3, v4⟩ := tail_tks f hj kn3 hQ.2.1
                left
                show pthen (p _) _ = _
                rw [hX.1 _ v2 h5]
                rfl
              · have kn3 : (tok f n j).kd ≠ 0 := by rw [(isS_t.mp c37).1]; decide
                obtain ⟨v1, v2, v3, v4⟩ := tail_tks f hj kn3 hQ.2.1
                have v4' : LT f n j = LT f n (tok f n j).to + 1 := v4
                have nR := wQR.1.1
                rw [hR.v, Option.bind_some]
                refine RE.th wR (hX.2 R _ hR) (fun g u s1 s2 s3 s4 s5 => ?_) (fun g u y T s1 s2 s3 s4 s5 hT hNg => ?_)
                · exact Or.inr ⟨_, rfl, trivial, by show max c.ht (max e.ht g.ht) + 1 + _ ≤ _; omega⟩
                · have nT := s5.1.1
                  have d1 : Df pK qK rK O T := ((wOP.1.trans r5.1).trans wQR.1).trans s5.1
                  have d2 : Df pK qK rK Q T := wQR.1.trans s5.1
                  have zc : NEx T B c (m_nx M) (m_nx P) [a] := NEx.mono _ (hNc.kk d1 hB1 h0) (Nat.le_refl _) nP
                  have ze : NEx T B e (m_nx P) (m_nx R) [b] := NEx.mono _ (hNe.kk d2 hB1 (by omega)) (Nat.le_refl _) nR
                  obtain ⟨N1, N2, N3, N4, m1, m2, m3, m4, m5, m6, m7, m8, m9⟩ := E_mkCnd (M := T) (B := B) (tok f n i).pl zc ze hNg q2 r2 s2 (by omega) (by omega) (by omega) (by omega) (by omega) nT
                  have x36 : x_cn 36 = 6 := by decide
                  have g1 := m8.2.1
                  have g2 := m8.2.2.1
                  simp only [ng_of (NCl.start T 36).2.2.2 (show (36 : Nat) ≠ 0 by decide), m1, m2, m3, m4, m5, m6, m7, Option.bind_some]
                  exact ⟨trivial, u, N4, rfl, hT.2.2.1, by show max c.ht (max e.ht g.ht) + 1 + _ ≤ _; omega, (s4.w (by omega)).new m8.1 (by omega) (by omega), hT.1.1.n2 m8.1, Or.inr ⟨hT.2.1, m_nx T, rfl, hT.n2 m8.1, m9⟩⟩
end
section
variable {B v0 n : Nat} {f : Nat → Int32}
/-- the four readers, by depth -/
theorem E_readers : ∀ d, d ≤ 24 → (∀ N, 14 * d + 2 ≤ N → SimX (fun M => (R_0 N).2.1 M v0 (iw ((25 - d : Nat) : Int))) (prs d).2 B v0 f n) ∧ (∀ N, 14 * d + 14 ≤ N → SimX (fun M => (R_0 N).2.2.2 M v0 (iw ((25 - d : Nat) : Int))) (prs d).1 B v0 f n) := by
  have step : ∀ (d : Nat) (D : Option (PRs × PRs)), d ≤ 24 → (∀ N, 14 * d ≤ N → InD (R_0 N).2.2.2 (R_0 N).2.1 B v0 f n d D) → (∀ N, 14 * d + 2 ≤ N → SimX (fun M => (R_0 N).2.1 M v0 (iw ((25 - d : Nat) : Int))) (pUn D) B v0 f n) ∧ (∀ N, 14 * d + 14 ≤ N → SimX (fun M => (R_0 N).2.2.2 M v0 (iw ((25 - d : Nat) : Int))) (pEx (D.map (fun q => q.1)) (pUn D)) B v0 f n) := by
    intro d D hd hD
    have inX : ∀ N, 14 * d ≤ N → InX (R_0 N).2.2.2 B v0 f n d (D.map (fun q => q.1)) := fun N hN => by
      have := hD N hN
      cases d with
      | zero =>
        have h0 : D = none := this
        rw [h0]
        rfl
      | succ d =>
        obtain ⟨E, U, rfl, h1, h2⟩ := this
        exact ⟨E, rfl, h1⟩
    have pri : ∀ N, 14 * d + 1 ≤ N → SimX (fun M => (R_0 N).1 M v0 (iw ((25 - d : Nat) : Int))) (pPri (D.map (fun q => q.1))) B v0 f n := fun N hN => by
      obtain ⟨N', rfl⟩ : ∃ N', N = N' + 1 := ⟨N - 1, by omega⟩
      exact E_primary (rp := (R_0 N').1) (ru := (R_0 N').2.1) (rb := (R_0 N').2.2.1) hd (inX N' (by omega))
    have una : ∀ N, 14 * d + 2 ≤ N → SimX (fun M => (R_0 N).2.1 M v0 (iw ((25 - d : Nat) : Int))) (pUn D) B v0 f n := fun N hN => by
      obtain ⟨N', rfl⟩ : ∃ N', N = N' + 1 := ⟨N - 1, by omega⟩
      exact E_unary (rb := (R_0 N').2.2.1) hd (hD N' (by omega)) (pri N' (by omega))
    have bin : ∀ j, j ≤ 10 → ∀ N, 14 * d + 3 + j ≤ N → SimX (fun M => (R_0 N).2.2.1 M v0 (iw ((10 - j : Nat) : Int)) (iw ((25 - d : Nat) : Int))) (pBi (pUn D) j) B v0 f n := by
      intro j
      induction j with
      | zero =>
        intro _ N hN
        obtain ⟨N', rfl⟩ : ∃ N', N = N' + 1 := ⟨N - 1, by omega⟩
        exact E_bi0 (rp := (R_0 N').1) (rb := (R_0 N').2.2.1) (re := (R_0 N').2.2.2) (una N' (by omega))
      | succ j ih =>
        intro hj N hN
        obtain ⟨N', rfl⟩ : ∃ N', N = N' + 1 := ⟨N - 1, by omega⟩
        have R := E_bi (rp := (R_0 N').1) (ru := (R_0 N').2.1) (re := (R_0 N').2.2.2) (show j ≤ 9 by omega) (ih (by omega) N' (by omega))
        rw [show 10 - (j + 1) = 9 - j by omega]
        exact R
    refine ⟨una, fun N hN => ?_⟩
    obtain ⟨N', rfl⟩ : ∃ N', N = N' + 1 := ⟨N - 1, by omega⟩
    exact E_exprX (rp := (R_0 N').1) (ru := (R_0 N').2.1) hd (inX N' (by omega)) (bin 10 (Nat.le_refl _) N' (by omega))
  intro d
  induction d with
  | zero => intro hd; exact step 0 none hd (fun N _ => rfl)
  | succ d ih =>
    intro hd
    obtain ⟨i1, i2⟩ := ih (by omega)
    exact step (d + 1) (some (prs d)) hd (fun N hN => ⟨(prs d).1, (prs d).2, rfl, i2 N (by omega), i1 N (by omega)⟩)
/-- an expression -/
theorem E_expression : SimX (fun M => F_X26_expression M v0 1) (prs 24).1 B v0 f n := (E_readers 24 (Nat.le_refl _)).2 xR (by decide)
end
