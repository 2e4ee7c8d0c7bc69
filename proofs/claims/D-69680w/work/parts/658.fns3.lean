/-! ===== FORMULAS, 83: the engine reads a function, whole ===== -/
/-- a draft that was read -/
def DRf (H B : Nat) (d : Dft) (a : Nat) (M : Mem) : Prop := ∃ nl dn lr pr en b lo hi, DRh M H B a nl dn lr pr en d.ln d.nm d.pl d.ps ∧ cR M a 1799 = b ∧ NEx M B d.bd lo hi [b] ∧ d.bd.isx ∧ H ≤ lo ∧ hi ≤ m_nx M
section
variable {α : Type} {M N : Mem} {B v0 n k k' s : Nat} {f : Nat → Int32} {G : α → Nat → Mem → Prop}
/-- an expression was read -/
theorem RFx.th {x : Option ((Nat × Mem) ⊕ (Nat × Mem))} {res : Nat ⊕ (Ex × List Tok)} (w : WB M N f n k k' s) (h : RE N B v0 f n k' x res) {y : Nat × Mem → Option ((Nat × Mem) ⊕ (Nat × Mem))} {K : Ex × List Tok → Nat ⊕ (α × List Tok)}
    (h5 : ∀ (e : Ex) (j : Nat), res = .inr (e, tks f n j) → j ≤ n → (tok f n j).kd = 5 → K (e, tks f n j) = .inl (tok f n j).pl)
    (hg : ∀ (e : Ex) (j a : Nat) (O : Mem), res = .inr (e, tks f n j) → e.isx → WB M O f n k j s → WB N O f n k' j 0 → SP O B v0 f n j → NEx O B e (m_nx N) (m_nx O) [a] → RFx M B v0 f n k G (y (a, O)) (K (e, tks f n j))) : RFx M B v0 f n k G (tb x y) (sthen res K) := by
  cases res with
  | inl q =>
    obtain ⟨O, o1, o2, o3, o4, o5⟩ := h
    exact ⟨O, by rw [o1]; rfl, w.1.trans o2, o3, by have := w.2.1; omega, by have := w.2.2; omega⟩
  | inr er =>
    obtain ⟨e, r⟩ := er
    obtain ⟨hx, j, O, rfl, o2, o3, o4, o5, o6⟩ := h
    have wO : WB M O f n k j s := (w.trans o4).w (by omega)
    show RFx M B v0 f n k G _ (K (e, tks f n j))
    rcases o6 with ⟨c1, c2⟩ | ⟨c1, a, c2, c3, c4⟩
    · rw [h5 e j rfl o2 c1]
      exact RFx.err wO o5 o2 (by rw [c2]; rfl)
    · rw [c2]
      exact hg e j a O rfl hx wO o4 c3 c4
end
theorem pPr_t {f : Nat → Int32} {n k m : Nat} {acc : List Pa} (hk : k ≤ n) (h6 : ¬ acc.length = 6) (hl : isLn (tok f n k) = true) : pPr (m + 1) acc (tks f n k) = (if (hdt (tks f n (tok f n k).to)).kd = 1 then
        (if isS (hdt (tks f n (tok f n k).to).tail) 33 = true then pPr m (acc ++ [{ ln := lnW (tok f n k).wd, nm := (hdt (tks f n (tok f n k).to)).wd, pl := (hdt (tks f n (tok f n k).to)).pl }]) (tks f n (tok f n k).to).tail.tail
        else if isS (hdt (tks f n (tok f n k).to).tail) 30 = true then pBd (acc ++ [{ ln := lnW (tok f n k).wd, nm := (hdt (tks f n (tok f n k).to)).wd, pl := (hdt (tks f n (tok f n k).to)).pl }]) (tks f n (tok f n k).to).tail.tail
        else .inl (hdt (tks f n (tok f n k).to).tail).pl)
      else .inl (hdt (tks f n (tok f n k).to)).pl) := by
  obtain ⟨l1, l2⟩ := isLn_t.mp hl
  obtain ⟨t1, t2, -, -⟩ := tail_tks f hk (by rw [l1]; decide) (by rw [l1]; decide)
  show (if acc.length = 6 then _ else if isLn (hdt (tks f n k)) = true then _ else _) = _
  rw [if_neg h6, hdt_tks f hk, if_pos hl, t1]
theorem DRh.w9 {M : Mem} {H B a nl dn lr pr : Nat} {en : List Nat} {l : Int32} {w : List Int32} {p : Nat} {acc : List Pa} (h : DRh M H B a nl dn lr pr en l w p acc) (b : Nat) : DRh (wR M a 1799 b) H B a nl dn lr pr en l w p acc := by
  obtain ⟨⟨a1, a2, a3⟩, ⟨b1, b2, b3, b4, b5, b6, b7⟩, ⟨c1, c2, c3, c4⟩, ⟨d1, d2, d3, d4⟩, ⟨e1, e2, e3, e4⟩, f1, g1, g2, g3⟩ := h
  have d : Df n2 n2 (fun y j => y = a ∧ j = 1799) M (wR M a 1799 b) := Df.wR b ⟨rfl, rfl⟩
  have hS : nTx n2 (fun y j => y = a ∧ j = 1799) M B := fun x i x1 x2 x3 => ⟨fun u => u, fun u => by rw [u.1, a3] at x3; omega⟩
  obtain ⟨t1, t2⟩ := c1.1.tg
  exact ⟨⟨a1, a2, a3⟩, ⟨b1, by rw [cR_wR, if_neg (by omega)]; exact b2.df d hS, b3, by rw [cR_wR, if_neg (by omega)]; exact b4, by rw [cR_wR, if_neg (by omega)]; exact b5, by rw [cR_wR, if_neg (by omega)]; exact b6, b7⟩, ⟨(c1.df d (fun q => q) (fun q => by omega) (fun i hi q => by have := (t2 hi).1; rw [q.1, a3] at this; omega)).1, c2, c3, c4⟩, ⟨d1, d2, d3, d4⟩, ⟨e1, e2, e3, e4⟩, f1, g1, g2, fun i hi => ⟨(g3 i hi).1.df d hS, (g3 i hi).2⟩⟩
section
variable {M0 : Mem} {B v0 n k0 a nl lr pr : Nat} {f : Nat → Int32} {l : Int32} {w : List Int32} {p : Nat}
theorem E_b39 (h0 : 1334 ≤ m_nx M0) : ∀ (m fu : Nat) (acc : List Pa) (M : Mem) (k s dn : Nat) (en : List Nat), acc.length + m = 7 → m ≤ fu → 1 ≤ m → SP M B v0 f n k → DRh M (m_nx M0) B a nl dn lr pr en l w p acc → WB M0 M f n k0 k s → RFx M0 B v0 f n k0 (DRf (m_nx M0) B) (F_X26_function_b39 fu M v0 a) (sthen (pPr m acc (tks f n k)) fun q => .inr ({ ln := l, nm := w, pl := p, ps := q.1.1, bd := q.1.2 }, q.2)) := by
  intro m
  induction m with
  | zero => intro fu acc M k s dn en h1 h2 h3; omega
  | succ m ih =>
    intro fu acc M k s dn en hm hf _ h hD wb
    obtain ⟨fu, rfl⟩ : ∃ j, fu = j + 1 := ⟨fu - 1, by omega⟩
    have hk := h.2.2.1
    have hB := h.2.2.2.2.1.1
    have ga : ∀ {N : Mem}, DRh N (m_nx M0) B a nl dn lr pr en l w p acc → gi N a 1798 = some (iw (acc.length : Int)) ∧ gr N a 1795 = some nl ∧ gr N a 1796 = some lr ∧ gr N a 1797 = some pr := fun {N} hN => ⟨by rw [gi_of hN.1.2.2 (show x_fi 28 1798 = true by decide), hN.2.1.2.2.2.2.2.2], by rw [gr_of hN.1.2.2 (show x_fr 28 1795 = true by decide), hN.2.1.2.2.2.1], by rw [gr_of hN.1.2.2 (show x_fr 28 1796 = true by decide), hN.2.1.2.2.2.2.1], by rw [gr_of hN.1.2.2 (show x_fr 28 1797 = true by decide), hN.2.1.2.2.2.2.2.1]⟩
    obtain ⟨g1, g2, g3, g4⟩ := ga hD
    show RFx M0 B v0 f n k0 _ (F_X26_function_b39_st (F_X26_function_b39 fu) M v0 a) _
    unfold F_X26_function_b39_st
    simp only [g1, g3, h.g, Option.bind_some]
    by_cases c6 : acc.length = 6
    · rw [if_pos (show iw (acc.length : Int) = 6 by rw [c6]; rfl)]
      have e : pPr (m + 1) acc (tks f n k) = .inl (tok f n k).pl := by
        show (if acc.length = 6 then _ else _) = _
        rw [if_pos c6, hdt_tks f hk]
      rw [e]
      exact RFx.wr wb h
    have l6 : acc.length < 6 := by have := hD.2.2.2.2.2.2.1; omega
    rw [if_neg (show ¬ iw (acc.length : Int) = 6 by rw [show (6 : Int32) = iw ((6 : Nat) : Int) from rfl, iw_eq (by omega) (by omega) (by omega) (by omega)]; omega), h.v, Option.bind_some]
    refine RFx.lane wb h (fun q => ?_) (fun q z => ?_) (fun N q w1 wMN hN => ?_)
    · have e : pPr (m + 1) acc (tks f n k) = .inl (tok f n k).pl := by
        show (if acc.length = 6 then _ else if isLn (hdt (tks f n k)) = true then _ else _) = _
        rw [if_neg c6, hdt_tks f hk, if_neg (by rw [q]; decide)]
      rw [e]; rfl
    · obtain ⟨l1, l2⟩ := isLn_t.mp q
      obtain ⟨t1, t2, -, -⟩ := tail_tks f hk (by rw [l1]; decide) h.2.1
      rw [pPr_t hk c6 q, hdt_tks f t2, if_neg (by rw [z]; decide)]; rfl
    rw [pPr_t hk c6 q]
    obtain ⟨k1, hk1⟩ : ∃ k1, k1 = (tok f n k).to := ⟨_, rfl⟩
    rw [← hk1] at w1 wMN hN ⊢
    have hkk := hN.2.2.1
    rw [hdt_tks f hkk]
    have hDN := hD.kk h.st wMN.1 hB
    -- both rows
    obtain ⟨s1, D1⟩ := hDN.w1 (Or.inl rfl) l6 (lnW (tok f n k).wd)
    obtain ⟨N1, e1⟩ : ∃ N1, N1 = wI N lr acc.length (lnW (tok f n k).wd) := ⟨_, rfl⟩
    rw [← e1] at s1 D1
    obtain ⟨s2, D2⟩ := D1.w1 (Or.inr rfl) l6 (iw ((tok f n k1).pl : Int))
    obtain ⟨N2, e2⟩ : ∃ N2, N2 = wI N1 pr acc.length (iw ((tok f n k1).pl : Int)) := ⟨_, rfl⟩
    rw [← e2] at s2 D2
    have tlr := hDN.2.2.2.1
    have tpr := hDN.2.2.2.2.1
    have dN2 : Df (fun x _ => x = lr ∨ x = pr) n2 n2 N N2 := by
      rw [e2, e1]
      exact (Df.wI (P := fun x _ => x = lr ∨ x = pr) (Q := n2) (R := n2) _ (Or.inl rfl)).trans (Df.wI (P := fun x _ => x = lr ∨ x = pr) (Q := n2) (R := n2) _ (Or.inr rfl))
    have sN2 : m_nx N2 = m_nx N ∧ m_sl N2 = m_sl N := by rw [e2, e1]; exact ⟨rfl, rfl⟩
    have hN1 : SP N1 B v0 f n k1 := by
      rw [e1]
      exact hN.dfg (Df.wI (P := at1 lr) (Q := n2) (R := n2) _ rfl) (fun x i hx => ⟨fun z => by unfold at1 at z; omega, fun z => z, fun z => z⟩) (fun x i x1 x2 x3 => ⟨fun z => by unfold at1 at z; rw [z, tlr.2.2.1] at x3; omega, fun z => z⟩) (fun i z => z)
    have hN2 : SP N2 B v0 f n k1 := hN.dfg dN2 (fun x i hx => ⟨fun z => by omega, fun z => z, fun z => z⟩) (fun x i x1 x2 x3 => ⟨fun z => by
      rcases z with z | z
      · rw [z, tlr.2.2.1] at x3; omega
      · rw [z, tpr.2.2.1] at x3; omega, fun z => z⟩) (fun i z => z)
    have w2 : WB M0 N2 f n k0 k1 s := w1.put dN2 (fun x i hx => ⟨fun z => by omega, fun z => z, fun z => z⟩) (by omega) (by omega)
    obtain ⟨j1, j2, j3, j4⟩ := ga D1
    obtain ⟨i1, i2, i3, i4⟩ := ga D2
    have g388 : gi N1 1012 388 = some (iw ((tok f n k1).pl : Int)) := by rw [g1012_388 hN1.st, hN1.1.2.2.1]
    dsimp only
    rw [s1, Option.bind_some, j4, Option.bind_some, j1, Option.bind_some, hN1.g, Option.bind_some, g388, Option.bind_some, s2, Option.bind_some, i2, Option.bind_some, hN2.g, Option.bind_some, v1012 hN2.st, Option.bind_some]
    refine RFx.name w2 hN2 (fun z => ?_) (fun z z5 => ?_) (fun O z w3 wNO hO nmO => ?_)
    · rw [if_neg z]; rfl
    · obtain ⟨t1, t2, -, -⟩ := tail_tks f hkk (by rw [z]; decide) hN.2.1
      rw [if_pos z, t1, hdt_tks f t2, if_neg (by rw [show isS (tok f n (tok f n k1).to) 33 = false from isS_5 z5]; decide), if_neg (by rw [show isS (tok f n (tok f n k1).to) 30 = false from isS_5 z5]; decide)]; rfl
    rw [if_pos z]
    obtain ⟨t1, t2, -, -⟩ := tail_tks f hkk (by rw [z]; decide) hN.2.1
    rw [t1, hdt_tks f t2]
    obtain ⟨k2, hk2⟩ : ∃ k2, k2 = (tok f n k1).to := ⟨_, rfl⟩
    rw [← hk2] at w3 wNO hO t2 ⊢
    have DO := D2.kk hN2.st wNO.1 hB
    have l1O : cI O lr acc.length = lnW (tok f n k).wd := by
      rw [wNO.1.cI (by omega) (fun z => by unfold pK at z; omega), e2, cI_wI, if_neg (fun z => hDN.2.2.2.2.2.1 z.1), e1, cI_wI, if_pos ⟨rfl, rfl⟩]
    have l2O : cI O pr acc.length = iw ((tok f n k1).pl : Int) := by
      rw [wNO.1.cI (by omega) (fun z => by unfold pK at z; omega), e2, cI_wI, if_pos ⟨rfl, rfl⟩]
    obtain ⟨N3, dn', y1, y2, y3, y4, y5, y6, y7⟩ := DO.add (q := { ln := lnW (tok f n k).wd, nm := (tok f n k1).wd, pl := (tok f n k1).pl }) (s0 := cR N2 1012 390) (by have := hO.st.1; omega) h0 hO.2.2.2.2.2 l6 nmO l1O l2O
    obtain ⟨N4, e4⟩ : ∃ N4, N4 = wI N3 a 1798 (iw ((acc.length + 1 : Nat) : Int)) := ⟨_, rfl⟩
    rw [← e4] at y3 y4 y5
    have s4 : m_nx N4 = m_nx N3 ∧ m_sl N4 = m_sl N3 := by rw [e4]; exact ⟨rfl, rfl⟩
    have tg := DO.2.2.1.1.1.tg
    have tdn := tg.2 DO.2.2.1.2.2.2
    have hH3 := DO.2.2.1
    have h4 : SP N4 B v0 f n k2 := hO.dfg y5 (fun x i hx => ⟨fun u => by have := DO.1; omega, fun u => u, fun u => by omega⟩) (fun x i x1 x2 x3 => ⟨fun u => by
      rcases u with u | u
      · rw [u, DO.1.2.2] at x3; omega
      · rw [u, tg.1] at x3; omega, fun u => by
      rcases u with u | u
      · rw [u, tg.1] at x3; omega
      · rw [u, tdn.1] at x3; omega⟩) (fun i u => by
      have := hO.2.2.2.1.1
      rcases u with u | u
      · rw [u, tg.1] at this; omega
      · rw [u, tdn.1] at this; omega)
    have w4 : WB M0 N4 f n k0 k2 s := w3.put y5 (fun x i hx => ⟨fun u => by have := DO.1; omega, fun u => u, fun u => by omega⟩) (by omega) (by omega)
    dsimp only
    rw [vg_of tg.1 (show x_isa 67 67 = true by decide), Option.bind_some, y1, Option.bind_some]
    dsimp only
    rw [y2, Option.bind_some, y3, Option.bind_some, h4.g, Option.bind_some, v1012 h4.st, Option.bind_some]
    obtain ⟨acc', hacc⟩ : ∃ acc', acc' = acc ++ [({ ln := lnW (tok f n k).wd, nm := (tok f n k1).wd, pl := (tok f n k1).pl } : Pa)] := ⟨_, rfl⟩
    rw [← hacc] at y4 ⊢
    have lacc : acc'.length = acc.length + 1 := by rw [hacc, List.length_append, List.length_singleton]
    refine RFx.acc w4 h4 (show 33 ∈ sgB by decide) (fun u u5 => ?_) (fun u => ?_) (fun Q u w5 wNQ hQ => ?_)
    · obtain ⟨v1, v2, -, -⟩ := tail_tks f t2 (isS_k u) hO.2.1
      rw [if_pos u, v1]
      have m1 : 1 ≤ m := by omega
      obtain ⟨m', rfl⟩ : ∃ m', m = m' + 1 := ⟨m - 1, by omega⟩
      have nl5 : isLn (tok f n (tok f n k2).to) = false := by unfold isLn; rw [u5]; simp
      have e : pPr (m' + 1) acc' (tks f n (tok f n k2).to) = .inl (tok f n (tok f n k2).to).pl := by
        show (if acc'.length = 6 then _ else if isLn (hdt (tks f n (tok f n k2).to)) = true then _ else _) = _
        rw [hdt_tks f v2, if_neg (show ¬ isLn (tok f n (tok f n k2).to) = true by rw [nl5]; decide)]
        split <;> rfl
      rw [e]; rfl
    · -- no comma
      dsimp only
      rw [if_pos rfl, if_neg (by rw [u]; decide), h4.g, Option.bind_some, v1012 h4.st, Option.bind_some]
      refine RFx.ex w4 h4 (show 30 ∈ sgB by decide) (fun c => ?_) (fun c c5 => ?_) (fun Q c w5 wNQ hQ => ?_)
      · rw [if_neg (by rw [c]; decide)]; rfl
      · obtain ⟨v1, v2, -, -⟩ := tail_tks f t2 (isS_k c) hO.2.1
        left
        rw [if_pos c, v1]
        unfold pBd
        rw [hdt_tks f v2, if_neg (by rw [show isS (tok f n (tok f n k2).to) 42 = false from isS_5 c5]; decide)]; rfl
      obtain ⟨v1, v2, -, -⟩ := tail_tks f t2 (isS_k c) hO.2.1
      rw [if_pos c, v1]
      obtain ⟨k3, hk3⟩ : ∃ k3, k3 = (tok f n k2).to := ⟨_, rfl⟩
      rw [← hk3] at w5 wNQ hQ v2 ⊢
      have DQ := y4.kk h4.st wNQ.1 hB
      unfold pBd
      rw [hdt_tks f v2, hQ.g, Option.bind_some, v1012 hQ.st, Option.bind_some]
      refine RFx.ex w5 hQ (show 42 ∈ sgB by decide) (fun c2 => ?_) (fun c2 c5 => ?_) (fun R c2 w6 wQR hR => ?_)
      · rw [if_neg (by rw [c2]; decide)]; rfl
      · obtain ⟨u1, u2, -, -⟩ := tail_tks f v2 (isS_k c2) hQ.2.1
        left
        rw [if_pos c2, u1, (E_expression (B := B) (v0 := v0)).1 _ u2 c5]; rfl
      obtain ⟨u1, u2, -, -⟩ := tail_tks f v2 (isS_k c2) hQ.2.1
      rw [if_pos c2, u1]
      obtain ⟨k4, hk4⟩ : ∃ k4, k4 = (tok f n k3).to := ⟨_, rfl⟩
      rw [← hk4] at w6 wQR hR u2 ⊢
      have DR := DQ.kk hQ.st wQR.1 hB
      rw [hR.v, Option.bind_some]
      have RX := (E_expression (B := B) (v0 := v0) (f := f) (n := n)).2 R k4 hR
      have as : sthen (sthen ((prs 24).1 (tks f n k4)) fun er => if isS (hdt er.2) 38 = true then (.inr ((acc', er.1), er.2.tail) : Nat ⊕ ((List Pa × Ex) × List Tok)) else .inl (hdt er.2).pl) (fun q => (.inr ({ ln := l, nm := w, pl := p, ps := q.1.1, bd := q.1.2 }, q.2) : Nat ⊕ (Dft × List Tok))) = sthen ((prs 24).1 (tks f n k4)) fun er => if isS (hdt er.2) 38 = true then .inr (({ ln := l, nm := w, pl := p, ps := acc', bd := er.1 } : Dft), er.2.tail) else .inl (hdt er.2).pl := by
        cases (prs 24).1 (tks f n k4) with
        | inl q => rfl
        | inr er =>
          show sthen (if isS (hdt er.2) 38 = true then _ else _) _ = if isS (hdt er.2) 38 = true then _ else _
          split <;> rfl
      rw [as]
      refine RFx.th (K := fun er => if isS (hdt er.2) 38 = true then .inr (({ ln := l, nm := w, pl := p, ps := acc', bd := er.1 } : Dft), er.2.tail) else .inl (hdt er.2).pl) w6 RX (fun e j r1 r2 r5 => ?_) (fun e j b T r1 ex w7 wRT hT nT => ?_)
      · show (if isS (hdt (tks f n j)) 38 = true then _ else _) = _
        rw [hdt_tks f r2, if_neg (by rw [show isS (tok f n j) 38 = false from isS_5 r5]; decide)]
      · have DT := DR.kk hR.st wRT.1 hB
        have tT := DT.1.2.2
        show RFx M0 B v0 f n k0 _ _ (if isS (hdt (tks f n j)) 38 = true then _ else _)
        rw [hdt_tks f hT.2.2.1]
        dsimp only
        rw [pr_of b tT (show x_wr 28 1799 = true by decide), Option.bind_some]
        obtain ⟨T1, eT1⟩ : ∃ T1, T1 = wR T a 1799 b := ⟨_, rfl⟩
        rw [← eT1]
        have D1 : DRh T1 (m_nx M0) B a nl dn' lr pr (en ++ [cR N2 1012 390]) l w p acc' := by rw [eT1]; exact DT.w9 b
        have d1 : Df n2 n2 (fun y j => y = a ∧ j = 1799) T T1 := by rw [eT1]; exact Df.wR b ⟨rfl, rfl⟩
        have s1 : m_nx T1 = m_nx T ∧ m_sl T1 = m_sl T := by rw [eT1]; exact ⟨rfl, rfl⟩
        have aH := DT.1.1
        have aR : a < m_nx R := DR.1.2.1
        have hT1 : SP T1 B v0 f n j := hT.dfg d1 (fun x i hx => ⟨fun u => u, fun u => u, fun u => by omega⟩) (fun x i x1 x2 x3 => ⟨fun u => u, fun u => by rw [u.1, tT] at x3; omega⟩) (fun i u => by have := hT.2.2.2.1.1; rw [u.1, tT] at this; omega)
        have nT1 : NEx T1 B e (m_nx R) (m_nx T1) [b] := by
          rw [s1.1]
          exact NEx.df d1 (fun x i x1 x2 x3 => ⟨fun u => u, fun u => by rw [u.1, tT] at x3; omega⟩) e (m_nx R) (m_nx T) [b] (fun x i x1 x2 => ⟨fun u => u, fun u => u, fun u => by omega⟩) nT
        have cb : cR T1 a 1799 = b := by rw [eT1, cR_wR, if_pos ⟨rfl, rfl⟩]
        -- a semicolon
        have w8 : WB M0 T1 f n k0 j (s + 1) := w7.put d1 (fun x i hx => ⟨fun u => u, fun u => u, fun u => by omega⟩) (by omega) (by omega)
        rw [hT1.g, Option.bind_some, v1012 hT1.st, Option.bind_some]
        refine RFx.ex w8 hT1 (show 38 ∈ sgB by decide) (fun c3 => ?_) (fun c3 c5 => ?_) (fun U c3 w9 wTU hU => ?_)
        · rw [if_neg (by rw [c3]; decide)]
        · obtain ⟨x1, x2, -, -⟩ := tail_tks f hT.2.2.1 (isS_k c3) hT.2.1
          right
          rw [if_pos c3, x1]
          exact ⟨_, rfl⟩
        · obtain ⟨x1, x2, -, -⟩ := tail_tks f hT.2.2.1 (isS_k c3) hT.2.1
          rw [if_pos c3, x1]
          have nU := wTU.1.1
          have nMR := w6.1.1
          have st0 := hR.st.1
          exact ⟨_, U, rfl, x2, w9.w (Nat.zero_le _), hU.1.1, Or.inr ⟨hU.2.1, a, rfl, hU, w9.w (by omega), nl, dn', lr, pr, _, b, m_nx R, m_nx T1, D1.kk hT1.st wTU.1 hB, by rw [wTU.1.cR (show a < m_nx T1 by rw [s1.1]; exact DT.1.2.1) (fun u => by unfold rK at u; omega)]; exact cb, nT1.kk wTU.1 hB st0, ex, by omega, by omega⟩⟩
    · -- a comma
      obtain ⟨v1, v2, -, -⟩ := tail_tks f t2 (isS_k u) hO.2.1
      dsimp only
      rw [if_neg (show ¬ (1 : Int32) = 0 by decide), if_pos u, v1]
      have DQ := y4.kk h4.st wNQ.1 hB
      exact ih fu acc' Q _ (s + 1) dn' _ (by omega) (by omega) (by omega) hQ DQ w5
end
