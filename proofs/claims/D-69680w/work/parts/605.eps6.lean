/-! ===== FORMULAS, 30: the engine's unary ===== -/
section
variable {B v0 n : Nat} {f : Nat → Int32} {re rp ru : Mem → Nat → Int32 → Option ((Nat × Mem) ⊕ (Nat × Mem))} {rb : Mem → Nat → Int32 → Int32 → Option ((Nat × Mem) ⊕ (Nat × Mem))}
def InD (re ru : Mem → Nat → Int32 → Option ((Nat × Mem) ⊕ (Nat × Mem))) (B v0 : Nat) (f : Nat → Int32) (n : Nat) : Nat → Option (PRs × PRs) → Prop
  | 0, D => D = none
  | d + 1, D => ∃ E U, D = some (E, U) ∧ SimX (fun M => re M v0 (iw ((25 - d : Nat) : Int))) E B v0 f n ∧ SimX (fun M => ru M v0 (iw ((25 - d : Nat) : Int))) U B v0 f n
theorem isS_5 {T : Tok} {s : Nat} (h : T.kd = 5) : isS T s = false := by unfold isS; rw [h]; simp
theorem pUn_5 (D : Option (PRs × PRs)) {k : Nat} (hk : k ≤ n) (h5 : (tok f n k).kd = 5) : pUn D (tks f n k) = .inl (tok f n k).pl := by
  unfold pUn
  simp only [hdt_tks f hk, isS_5 h5]
  rw [if_neg (by decide), if_neg (by decide)]
  exact pPri_5 _ hk h5
theorem ch_all : (cty 34).1.getD 0 0 = 45 ∧ (cty 23).1.getD 0 0 = 33 ∧ (cty 64).1.getD 0 0 = 126 ∧ 0 < (cty 34).1.length ∧ 0 < (cty 23).1.length ∧ 0 < (cty 64).1.length := by decide +kernel
def pU1 (D : Option (PRs × PRs)) (t : Tok) (tl : List Tok) : Nat ⊕ (Ex × List Tok) := match D with
  | none => .inl t.pl
  | some (_, U) => pthen (U tl) fun e r => .inr (.pre t.pl (chS t.sg) e, r)
theorem E_b44 {M : Mem} {k d : Nat} (hd : d ≤ 24) {D : Option (PRs × PRs)} (hD : InD re ru B v0 f n d D) (h : SP M B v0 f n k) (hs : isS (tok f n k) 34 = true ∨ isS (tok f n k) 23 = true ∨ isS (tok f n k) 64 = true) : RE M B v0 f n k (F_X26_unary_b44 rp ru rb re M v0 (iw ((25 - d : Nat) : Int)) (iw ((tok f n k).pl : Int))) (pU1 D (tok f n k) (tks f n k).tail) := by
  have hk := h.2.2.1
  have hS := h.st
  obtain ⟨hB1, hB2⟩ := h.2.2.2.2.1
  obtain ⟨s1, s2⟩ : (tok f n k).kd = 4 ∧ ((tok f n k).sg = 34 ∨ (tok f n k).sg = 23 ∨ (tok f n k).sg = 64) := by
    rcases hs with q | q | q
    · exact ⟨(isS_t.mp q).1, Or.inl (isS_t.mp q).2⟩
    · exact ⟨(isS_t.mp q).1, Or.inr (Or.inl (isS_t.mp q).2)⟩
    · exact ⟨(isS_t.mp q).1, Or.inr (Or.inr (isS_t.mp q).2)⟩
  obtain ⟨r1, r2, r3⟩ := h.1.2.2.2.2.2.1 s1
  obtain ⟨a1, a2, a3, a4, a5, a6⟩ := ch_all
  have ch : F_J15_charAt M (tok f n k).sg 0 = some (chS (tok f n k).sg) := by
    have : 0 < (cty (tok f n k).sg).1.length := by rcases s2 with q | q | q <;> rw [q] <;> assumption
    have K := h.k0.chr r2 r3 this
    refine (show F_J15_charAt M (tok f n k).sg 0 = _ from K).trans ?_
    rcases s2 with q | q | q <;> rw [q]
    · rw [a1]; rfl
    · rw [a2]; rfl
    · rw [a3]; rfl
  have fit : x_fit (x_ft 1920) (chS (tok f n k).sg) = true := by rcases s2 with q | q | q <;> rw [q] <;> decide
  have kn0 : (tok f n k).kd ≠ 0 := by rw [s1]; decide
  obtain ⟨t1, t2, t3, t4⟩ := tail_tks f hk kn0 h.2.1
  have t4' : LT f n k = LT f n (tok f n k).to + 1 := t4
  have L := LT_le f n k
  have n4 := h.len
  unfold F_X26_unary_b44
  simp only [h.g, g1012_390, hS, r1, h.k0.vg r2 r3, ch, h.v, Option.bind_some]
  cases d with
  | zero =>
    have hD0 : D = none := hD
    rw [hD0, show iw ((25 - 0 : Nat) : Int) = iw ((25 : Nat) : Int) from rfl, E_deep0 h]
    exact RE.err (WB.refl M f n k) h.1.1 hk rfl
  | succ d =>
    obtain ⟨E, U, hp, hX, hU⟩ := hD
    rw [hp, E_deep1 hd, tb_l, t1]
    simp only [h.g, v1012, hS, Option.bind_some]
    show RE M B v0 f n k _ (pthen (U (tks f n (tok f n k).to)) fun e r => .inr (.pre (tok f n k).pl (chS (tok f n k).sg) e, r))
    refine RE.nx (WB.refl M f n k) h kn0 (fun h5 => ?_) (fun N wN wMN hN => ?_)
    · left
      show pthen (U (tks f n (tok f n k).to)) _ = _
      rw [hU.1 _ t2 h5]
      rfl
    · rw [hN.v, Option.bind_some]
      refine RE.th wN (hU.2 N _ hN) (fun e j q1 q2 q3 q4 q5 => ?_) (fun e j a O q1 q2 q3 q4 q5 hO hNe => ?_)
      · exact Or.inr ⟨_, rfl, trivial, by show e.ht + 1 + _ ≤ _; omega⟩
      · have nN := wMN.1.1
        have nO := q5.1.1
        obtain ⟨N1, N2, m1, m2, m3, m4, m5⟩ := E_mkPre (M := O) (B := B) (tok f n k).pl (chS (tok f n k).sg) hNe q2 (by omega) nO fit
        have x30 : x_cn 30 = 5 := by decide
        have g1 := m4.2.1
        have g2 := m4.2.2.1
        simp only [ng_of (NCl.start O 30).2.2.2 (show (30 : Nat) ≠ 0 by decide), m1, m2, m3, Option.bind_some]
        exact ⟨trivial, j, N2, rfl, hO.2.2.1, by show e.ht + 1 + _ ≤ _; omega, q4.new m4.1 (by omega) (by omega), hO.1.1.n2 m4.1, Or.inr ⟨hO.2.1, m_nx O, rfl, hO.n2 m4.1, NEx.mono _ m5 nN (Nat.le_refl _)⟩⟩
theorem lnW_neg (w : List Int32) : lnW w < 0 ↔ ¬ 0 ≤ lnW w := Int32.not_le.symm
theorem E_unary {d : Nat} (hd : d ≤ 24) {D : Option (PRs × PRs)} (hD : InD re ru B v0 f n d D) (hP : SimX (fun M => rp M v0 (iw ((25 - d : Nat) : Int))) (pPri (D.map (fun q => q.1))) B v0 f n) : SimX (fun M => F_X26_unary_o rp ru rb re M v0 (iw ((25 - d : Nat) : Int))) (pUn D) B v0 f n := by
  refine ⟨fun k hk h5 => pUn_5 D hk h5, fun M k h => ?_⟩
  have hk := h.2.2.1
  have hS := h.st
  have n4 := h.len
  have L := LT_le f n k
  obtain ⟨hB1, hB2⟩ := h.2.2.2.2.1
  show RE M B v0 f n k (F_X26_unary_o rp ru rb re M v0 (iw ((25 - d : Nat) : Int))) (pUn D (tks f n k))
  unfold F_X26_unary_o pUn
  simp only [hdt_tks f hk, h.g, g1012_388, hS, v1012, E_isS h (show 34 ∈ sgB by decide), E_isS h (show 23 ∈ sgB by decide), E_isS h (show 64 ∈ sgB by decide), E_isS h (show 28 ∈ sgB by decide), h.1.2.2.1, h.v, Option.bind_some]
  cases c34 : isS (tok f n k) 34 with
  | true =>
    rw [if_neg (show ¬ mr true = 0 by decide), if_pos (Or.inl rfl)]
    have R := E_b44 (rp := rp) (rb := rb) hd hD h (Or.inl c34)
    cases D with
    | none => exact R
    | some q => exact R
  | false =>
  rw [if_pos (show mr false = 0 by decide)]
  cases c23 : isS (tok f n k) 23 with
  | true =>
    rw [if_neg (show ¬ mr true = 0 by decide), if_pos (Or.inr (Or.inl rfl))]
    have R := E_b44 (rp := rp) (rb := rb) hd hD h (Or.inr (Or.inl c23))
    cases D with
    | none => exact R
    | some q => exact R
  | false =>
  rw [if_pos (show mr false = 0 by decide)]
  cases c64 : isS (tok f n k) 64 with
  | true =>
    rw [if_neg (show ¬ mr true = 0 by decide), if_pos (Or.inr (Or.inr rfl))]
    have R := E_b44 (rp := rp) (rb := rb) hd hD h (Or.inr (Or.inr c64))
    cases D with
    | none => exact R
    | some q => exact R
  | false =>
  rw [if_pos (show mr false = 0 by decide), if_neg (show ¬ (false = true ∨ false = true ∨ false = true) by decide)]
  cases c28 : isS (tok f n k) 28 with
  | false =>
    rw [if_pos (show mr false = 0 by decide), if_neg (show ¬ false = true by decide)]
    have eb : (tb (rp M v0 (iw ((25 - d : Nat) : Int))) fun z33 => some (Sum.inl (z33.1, z33.2))) = rp M v0 (iw ((25 - d : Nat) : Int)) := by
      cases rp M v0 (iw ((25 - d : Nat) : Int)) with
      | none => rfl
      | some v => cases v <;> rfl
    rw [eb]
    exact hP.2 M k h
  | true =>
    have s1 := (isS_t.mp c28).1
    have kn0 : (tok f n k).kd ≠ 0 := by rw [s1]; decide
    obtain ⟨t1, t2, t3, t4⟩ := tail_tks f hk kn0 h.2.1
    have t4' : LT f n k = LT f n (tok f n k).to + 1 := t4
    rw [if_neg (show ¬ mr true = 0 by decide), if_pos rfl]
    cases d with
    | zero =>
      have hD0 : D = none := hD
      rw [hD0, show iw ((25 - 0 : Nat) : Int) = iw ((25 : Nat) : Int) from rfl, E_deep0 h]
      exact RE.err (WB.refl M f n k) h.1.1 hk rfl
    | succ d =>
      obtain ⟨E, U, hp, hX, hU⟩ := hD
      rw [hp, E_deep1 hd, tb_l, t1]
      simp only [h.g, v1012, hS, Option.bind_some, hdt_tks f t2]
      refine RE.nx (WB.refl M f n k) h kn0 (fun h5 => ?_) (fun N wN wMN hN => ?_)
      · left
        have nl : isLn (tok f n (tok f n k).to) = false := by unfold isLn; rw [h5]; simp
        rw [nl, if_neg (by decide), hX.1 _ t2 h5]
        rfl
      · have nN := wMN.1.1
        simp only [hN.g, v1012, hN.st, Option.bind_some]
        by_cases cl : isLn (tok f n (tok f n k).to) = true
        · obtain ⟨l1, l2⟩ := isLn_t.mp cl
          obtain ⟨x1, x2, x3⟩ := hN.1.2.2.2.2.1 (Or.inr l1)
          rw [E_laneW hN.st rfl (by rw [hN.1.2.1]; exact l1) hN.k0 x1.1 x2 (by omega), Option.bind_some, if_neg (fun q => (lnW_neg _).mp q l2), if_pos cl]
          have kn1 : (tok f n (tok f n k).to).kd ≠ 0 := by rw [l1]; decide
          obtain ⟨u1, u2, u3, u4⟩ := tail_tks f t2 kn1 hN.2.1
          have u4' : LT f n (tok f n k).to = LT f n (tok f n (tok f n k).to).to + 1 := u4
          rw [u1]
          refine RE.nx wN hN kn1 (fun h5 => ?_) (fun O wO wNO hO => ?_)
          · left
            rw [hdt_tks f u2, isS_5 h5, if_neg (by decide)]
          · have nO := wNO.1.1
            simp only [hO.g, v1012, hO.st, Option.bind_some]
            refine RE.ex (res := fun r => pthen (U r) fun e r => .inr (.cst (tok f n k).pl (lnW (tok f n (tok f n k).to).wd) e, r)) wO hO (by decide) (fun c30 h5 => ?_) (fun P c30 wP wOP hP' => ?_)
            · left
              have kn3 : (tok f n (tok f n (tok f n k).to).to).kd ≠ 0 := by rw [(isS_t.mp c30).1]; decide
              obtain ⟨v1, v2, v3, v4⟩ := tail_tks f u2 kn3 hO.2.1
              show pthen (U _) _ = _
              rw [hU.1 _ v2 h5]
              rfl
            · have nP := wOP.1.1
              have kn3 : (tok f n (tok f n (tok f n k).to).to).kd ≠ 0 := by rw [(isS_t.mp c30).1]; decide
              obtain ⟨v1, v2, v3, v4⟩ := tail_tks f u2 kn3 hO.2.1
              have v4' : LT f n (tok f n (tok f n k).to).to = LT f n (tok f n (tok f n (tok f n k).to).to).to + 1 := v4
              rw [hP'.v, Option.bind_some]
              refine RE.th wP (hU.2 P _ hP') (fun e j q1 q2 q3 q4 q5 => ?_) (fun e j a Q q1 q2 q3 q4 q5 hQ hNe => ?_)
              · exact Or.inr ⟨_, rfl, trivial, by show e.ht + 1 + _ ≤ _; omega⟩
              · have nQ := q5.1.1
                obtain ⟨N1, N2, m1, m2, m3, m4, m5⟩ := E_mkCst (M := Q) (B := B) (tok f n k).pl (lnW (tok f n (tok f n k).to).wd) hNe q2 (by omega) nQ
                have x34 : x_cn 34 = 4 := by decide
                have g1 := m4.2.1
                have g2 := m4.2.2.1
                simp only [ng_of (NCl.start Q 34).2.2.2 (show (34 : Nat) ≠ 0 by decide), m1, m2, m3, Option.bind_some]
                exact ⟨trivial, j, N2, rfl, hQ.2.2.1, by show e.ht + 1 + _ ≤ _; omega, (q4.w (by omega)).new m4.1 (by omega) (by omega), hQ.1.1.n2 m4.1, Or.inr ⟨hQ.2.1, m_nx Q, rfl, hQ.n2 m4.1, NEx.mono _ m5 (by omega) (Nat.le_refl _)⟩⟩
        · have ln : ∃ v, F_X5_laneWord N 1012 = some v ∧ v < 0 := by
            by_cases l1 : (tok f n (tok f n k).to).kd = 2
            · obtain ⟨x1, x2, x3⟩ := hN.1.2.2.2.2.1 (Or.inr l1)
              refine ⟨_, E_laneW hN.st rfl (by rw [hN.1.2.1]; exact l1) hN.k0 x1.1 x2 (by omega), ?_⟩
              exact (lnW_neg _).mpr (fun q => cl (isLn_t.mpr ⟨l1, q⟩))
            · exact ⟨-1, E_laneN hN.st (by rw [hN.1.2.1]; exact l1), by decide⟩
          obtain ⟨v, v1, v2⟩ := ln
          rw [v1, Option.bind_some, if_pos v2, if_neg cl, hN.v, Option.bind_some]
          refine RE.th wN (hX.2 N _ hN) (fun e j q1 q2 q3 q4 q5 => ?_) (fun e j a O q1 q2 q3 q4 q5 hO hNe => ?_)
          · left
            rw [hdt_tks f q3, isS_5 q5, if_neg (by decide)]
          · have nO := q5.1.1
            simp only [hO.g, v1012, hO.st, Option.bind_some]
            refine RE.ex (res := fun r => .inr (e, r)) q4 hO (by decide) (fun c30 h5 => ?_) (fun P c30 wP wOP hP' => ?_)
            · have kn3 : (tok f n j).kd ≠ 0 := by rw [(isS_t.mp c30).1]; decide
              obtain ⟨v1, v2, v3, v4⟩ := tail_tks f hO.2.2.1 kn3 hO.2.1
              have v4' : LT f n j = LT f n (tok f n j).to + 1 := v4
              exact Or.inr ⟨e, rfl, q2, by omega⟩
            · have kn3 : (tok f n j).kd ≠ 0 := by rw [(isS_t.mp c30).1]; decide
              obtain ⟨v1, v2, v3, v4⟩ := tail_tks f hO.2.2.1 kn3 hO.2.1
              have v4' : LT f n j = LT f n (tok f n j).to + 1 := v4
              have nP := wOP.1.1
              exact ⟨q2, _, P, rfl, v2, by omega, wP.w (Nat.zero_le _), hP'.1.1, Or.inr ⟨hP'.2.1, a, rfl, hP', NEx.mono _ (hNe.kk wOP.1 hB1 (by omega)) nN (by omega)⟩⟩
end
