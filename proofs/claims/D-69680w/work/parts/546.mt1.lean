/-! ===== TABLES, 32: the model keeps a table ===== -/
theorem AL.row {M : Mem} {a ds : Nat} {es : List Nat} (h : AL M a ds es) (q : 1334 ≤ ds) : m_tg M ds = 1010 := by
  rcases h.2.2.2.2 with e | e
  · have := e.2; omega
  · exact e.2.2.2.1
theorem TM0.df3 {P Q R : Nat → Nat → Prop} {M N : Mem} {Z : Nat → Prop} {t ln dn lc dc : Nat} {en ec : List Nat} {d : TD} (h : TM0 M Z t d ln dn en lc dc ec) (e : Df P Q R M N) (hZ : ∀ x, Z x → x < m_nx M) (hP : ∀ x i, Z x → ¬ P x i) (hR : ∀ x i, Z x → R x i → x = t ∧ i = 3522) : TM0 N Z t d ln dn en lc dc ec := by
  obtain ⟨⟨a1, a2⟩, h1, h2, h3, h4, h5, h6, h7, h8⟩ := h
  have lz : ∀ {l dl : Nat} {es : List Nat}, LZ M Z l dl es → LZ N Z l dl es := fun {l dl es} h => ⟨h.1, h.2.1, h.2.2.df e (hP _ _ h.1) (fun q => by have := hR _ _ h.1 q; omega) (fun i q k => by
    have k1 := hR _ _ (h.2.1 q) k
    have k2 := h.2.2.row q
    rw [k1.1, a2] at k2
    cases k2)⟩
  have nm : ∀ {x : Nat} {w : List Int32}, NMt M Z x w → NMt N Z x w := fun {x w} ⟨q1, q2, q3, q4⟩ => by
    obtain ⟨k1, k2⟩ := q4.df e (hZ _ q1) (hZ _ q3) (fun q => by have := hR _ _ q1 q; omega) (hP _ _ q1) (fun i => hP _ _ q3)
    exact ⟨q1, (e.2.2 x (hZ _ q1)).1.trans q2, by rw [k2]; exact q3, k1⟩
  refine ⟨⟨a1, (e.2.2 t (hZ _ a1)).1.trans a2⟩, by rw [e.cR (hZ _ a1) (fun q => by have := hR _ _ a1 q; omega)]; exact h1, by rw [e.cR (hZ _ a1) (fun q => by have := hR _ _ a1 q; omega)]; exact h2, lz h3, lz h4, h5, h6, fun k hk => nm (h7 k hk), fun k hk => ?_⟩
  obtain ⟨q1, q2, q3, q4⟩ := h8 k hk
  exact ⟨q1, (e.2.2 _ (hZ _ q1)).1.trans q2, by rw [e.cI (hZ _ q1) (hP _ _ q1)]; exact q3, by rw [e.cR (hZ _ q1) (fun q => by have := hR _ _ q1 q; omega)]; exact nm q4⟩
def pTa : Nat → Nat → Prop := fun x i => x = 1068 ∧ (i = 1123 ∨ i = 1124)
def rTa (t m : Nat) : Nat → Nat → Prop := fun x i => (x = t ∧ i = 3522) ∨ (x = 1324 ∧ i = m + 1)
theorem M_tabled {M : Mem} {Z : Nat → Prop} {t ln dn lc dc m W X : Nat} {en ec : List Nat} {d : TD} (hS : ST M) (k0 : K0 M) (g : GT d) (hZ : ∀ x, Z x → 1334 ≤ x ∧ x < m_nx M) (h : TM0 M Z t d ln dn en lc dc ec) (hm : cI M 1068 1123 = iw (m : Int)) (hm2 : m ≤ 40) (hW : cI M 1068 1124 = iw (W : Int)) (hW2 : W ≤ 65536) (hX : X ≤ 1000000) :
    ((m = 40 ∨ 65536 < W + X) → F_X16_tabled M 1068 t (iw (X : Int)) = some (-12, M)) ∧ (¬ (m = 40 ∨ 65536 < W + X) → ∃ M', F_X16_tabled M 1068 t (iw (X : Int)) = some (iw ((m + 1 : Nat) : Int), M') ∧ ST M' ∧ K0 M' ∧ TMt M' (fun x => Z x ∨ x = m_nx M) t d ∧ cI M' 1068 1123 = iw ((m + 1 : Nat) : Int) ∧ cI M' 1068 1124 = iw ((W + X : Nat) : Int) ∧ cR M' 1324 (m + 1) = t ∧ Df pTa n2 (rTa t m) M M' ∧ m_nx M' = m_nx M + 1 ∧ m_sl M' ≤ m_sl M + 16) := by
  have h0 := hS.1
  have g1 := g.1
  have g2 := g.2.1
  have hT := hZ t h.1.1
  have q40 : iw (m : Int) = 40 ↔ m = 40 := by rw [show (40 : Int32) = iw ((40 : Nat) : Int) from rfl, iw_eq (by omega) (by omega) (by omega) (by omega)]; omega
  have qW : (65536 : Int32) < iw ((W + X : Nat) : Int) ↔ 65536 < W + X := by rw [show (65536 : Int32) = iw ((65536 : Nat) : Int) from rfl, iw_le4 (by omega) (by omega)]
  unfold F_X16_tabled F_X16_tabled_b20
  rw [g1068_1123 hS, Option.bind_some, hm]
  by_cases c40 : m = 40
  · rw [if_pos (q40.mpr c40)]
    exact ⟨fun _ => rfl, fun q => absurd (Or.inl c40) q⟩
  · rw [if_neg (fun q => c40 (q40.mp q)), g1068_1124 hS, Option.bind_some, hW, iw_nad]
    by_cases cW : 65536 < W + X
    · rw [if_pos (qW.mpr cW)]
      exact ⟨fun _ => rfl, fun q => absurd (Or.inr cW) q⟩
    · rw [if_neg (fun q => cW (qW.mp q))]
      refine ⟨fun q => absurd q (by omega), fun _ => ?_⟩
      obtain ⟨q1, q2, q3, q4, q5, q6, q7⟩ := (h.c g k0 hZ).g
      simp only [q1, q3, q5, Option.bind_some]
      obtain ⟨L, hL⟩ : ∃ L, L = m_nx M := ⟨_, rfl⟩
      obtain ⟨A0, hA0⟩ : ∃ A0, A0 = m_new M 1005 d.1 := ⟨_, rfl⟩
      have mk0 : mk M 1005 (iw (d.1 : Int)) = some A0 := by rw [mk_of (by omega), ← hA0]
      rw [mk0, Option.bind_some, ← hL]
      have t0 : m_tg A0 t = 55 := by rw [hA0, tg_new, if_neg (by omega)]; exact h.1.2
      obtain ⟨A, hA⟩ : ∃ A, A = wR A0 t 3522 L := ⟨_, rfl⟩
      have p0 : pr A0 t 3522 L = some A := by rw [pr_of _ t0 (show x_wr 55 3522 = true by decide), ← hA]
      rw [p0, Option.bind_some]
      have dA0 : Df n2 n2 (fun x i => x = t ∧ i = 3522) M A0 := by rw [hA0]; exact Df.new _ _
      have dA : Df n2 n2 (fun x i => x = t ∧ i = 3522) M A := dA0.trans (by rw [hA]; exact Df.wR _ ⟨rfl, rfl⟩)
      have SA : ST A := hS.df dA (fun p hp q => by have := stR_lt p hp; omega)
      have kA : K0 A := k0.df hS dA (fun _ _ _ q => q) (fun a i q k => by omega)
      have nA : m_nx A = L + 1 := by rw [hA, hA0, hL]; rfl
      have lA : m_sl A = m_sl M + d.1 := by rw [hA, hA0]; rfl
      have tL : m_tg A L = 1005 := by rw [hA, hA0, hL]; show m_tg (m_new M 1005 d.1) _ = _; rw [tg_new, if_pos rfl]
      have lL : m_ln A L = d.1 := by rw [hA, hA0, hL]; show m_ln (m_new M 1005 d.1) _ = _; rw [ln_new, if_pos rfl]
      have rL : cR A t 3522 = L := by rw [hA, cR_wR, if_pos ⟨rfl, rfl⟩]
      have tA : TM0 A Z t d ln dn en lc dc ec := h.df3 dA (fun x hx => (hZ x hx).2) (fun _ _ _ q => q) (fun x i _ q => q)
      have hZA : ∀ x, Z x → 1334 ≤ x ∧ x < m_nx A := fun x hx => by have := hZ x hx; omega
      have keep : ∀ {N : Mem}, Df (at1 L) n2 n2 A N → TM0 N Z t d ln dn en lc dc ec := fun e => tA.df e (fun x hx => (hZA x hx).2) (fun x i q k => by have := hZ x q; unfold at1 at k; omega) (fun _ _ _ k => k)
      have lo := upl0 (β := Option (Int32 × Mem)) (σ := Unit) (fun N M _ i => F_X16_tabled_b38 N M 1068 t (iw (X : Int)) i) (n := d.1) (by omega) (fun j N _ => ST N ∧ K0 N ∧ Df (at1 L) n2 n2 A N ∧ (∀ i, i < j → cI N L i = lan d.1 d.2.1 d.2.2.2 i) ∧ m_nx N = m_nx A ∧ m_sl N = m_sl A) (fun K N _ i hi hJ => by
        obtain ⟨j1, j2, j3, j4, j5, j6⟩ := hJ
        have tc := (keep j3).c g j2 (fun x hx => by have := hZA x hx; omega)
        have tN : m_tg N t = 55 := (keep j3).1.2
        have x1 : gr N t 3522 = some L := by rw [gr_of tN (show x_fr 55 3522 = true by decide), j3.cR (by omega) (fun q => q), rL]
        have tLN : m_tg N L = 1005 := (j3.2.2 L (by omega)).1.trans tL
        have lLN : m_ln N L = d.1 := (j3.2.2 L (by omega)).2.1.trans lL
        obtain ⟨N1, hN1⟩ : ∃ N1, N1 = wI N L i (lan d.1 d.2.1 d.2.2.2 i) := ⟨_, rfl⟩
        have s1 : si N L (iw (i : Int)) (lan d.1 d.2.1 d.2.2.2 i) = some N1 := by rw [si_of _ tLN lLN hi (by omega), ← hN1]
        have dN : Df (at1 L) n2 n2 N N1 := by rw [hN1]; exact Df.wI _ rfl
        refine ⟨N1, (), ?_, by rw [hN1]; exact j1, j2.df j1 dN (fun a i q k => by unfold at1 at k; omega) (fun a i q k => k), j3.trans dN, fun k hk => ?_, by rw [hN1]; exact j5, by rw [hN1]; exact j6⟩
        · show F_X16_tabled_b38_st (F_X16_tabled_b38 K) N 1068 t (iw (X : Int)) (iw (i : Int)) = _
          unfold F_X16_tabled_b38_st
          simp only [x1, an_of tLN (by decide) lLN, Option.bind_some]
          rw [if_pos (show iw (i : Int) < iw (d.1 : Int) by rw [iw_le4 (by omega) (by omega)]; exact hi)]
          simp only [M_laneOf tc hi, s1, iw_succ, Option.bind_some]
        · rw [hN1, cI_wI]
          by_cases e : k = i
          · rw [if_pos ⟨rfl, e⟩, e]
          · rw [if_neg (by omega)]; exact j4 k (by omega)) (M := A) (s := ()) ⟨SA, kA, Df.refl _ _ _ _, fun i hi => by omega, rfl, rfl⟩
      obtain ⟨K, N, -, e1, j1, j2, j3, j4, j5, j6⟩ := lo
      have tN : m_tg N t = 55 := (keep j3).1.2
      have x1 : gr N t 3522 = some L := by rw [gr_of tN (show x_fr 55 3522 = true by decide), j3.cR (by omega) (fun q => q), rL]
      have tLN : m_tg N L = 1005 := (j3.2.2 L (by omega)).1.trans tL
      have lLN : m_ln N L = d.1 := (j3.2.2 L (by omega)).2.1.trans lL
      have m23 : cI N 1068 1123 = iw (m : Int) := by rw [j3.cI (by omega) (fun q => by unfold at1 at q; omega), dA.cI (by omega) (fun q => q)]; exact hm
      have m24 : cI N 1068 1124 = iw (W : Int) := by rw [j3.cI (by omega) (fun q => by unfold at1 at q; omega), dA.cI (by omega) (fun q => q)]; exact hW
      obtain ⟨N1, hN1⟩ : ∃ N1, N1 = wI N 1068 1124 (iw ((W + X : Nat) : Int)) := ⟨_, rfl⟩
      have S1 : ST N1 := by rw [hN1]; exact j1
      have m231 : cI N1 1068 1123 = iw (m : Int) := by rw [hN1, cI_wI, if_neg (by omega)]; exact m23
      obtain ⟨N2, hN2⟩ : ∃ N2, N2 = wI N1 1068 1123 (iw ((m + 1 : Nat) : Int)) := ⟨_, rfl⟩
      have S2 : ST N2 := by rw [hN2]; exact S1
      have m232 : cI N2 1068 1123 = iw ((m + 1 : Nat) : Int) := by rw [hN2, cI_wI, if_pos ⟨rfl, rfl⟩]
      obtain ⟨O, hO⟩ : ∃ O, O = wR N2 1324 (m + 1) t := ⟨_, rfl⟩
      have s1 : sr N2 1324 (iw ((m + 1 : Nat) : Int)) t = some O := by rw [sr_of (by rw [t1324 S2]; decide) (l1324 S2) (show m + 1 < 41 by omega) (by decide) (Or.inr (by rw [t1324 S2, show m_tg N2 t = 55 by rw [hN2, hN1]; exact tN]; decide)), ← hO]
      have dN1 : Df pTa n2 (rTa t m) N N1 := by rw [hN1]; exact Df.wI _ ⟨rfl, Or.inr rfl⟩
      have dN2 : Df pTa n2 (rTa t m) N1 N2 := by rw [hN2]; exact Df.wI _ ⟨rfl, Or.inl rfl⟩
      have dO2 : Df pTa n2 (rTa t m) N2 O := by rw [hO]; exact Df.wR _ (Or.inr ⟨rfl, rfl⟩)
      have dNO : Df pTa n2 (rTa t m) N O := (dN1.trans dN2).trans dO2
      have dMN : Df pTa n2 (rTa t m) M N := Df.then (dA.mono (fun _ _ q => q.elim) (fun _ _ q => q) (fun x i q => Or.inl q)) j3 (fun x i hx q => by unfold at1 at q; exfalso; omega) (fun _ _ _ q => q) (fun _ _ _ q => q.elim)
      have dMO : Df pTa n2 (rTa t m) M O := dMN.trans dNO
      have SO : ST O := hS.df dMO (fun p hp q => by
        have hh : stR.all (fun p => !(p.1 == 1324)) = true := by decide +kernel
        have hl := stR_lt p hp
        rcases q with q | q
        · omega
        · have k := List.all_eq_true.mp hh p hp
          rw [q.1] at k
          cases k)
      have mO : cI O 1068 1123 = iw ((m + 1 : Nat) : Int) := by rw [hO]; exact m232
      have kO : K0 O := k0.df hS dMO (fun a i q k => by unfold pTa at k; omega) (fun a i q k => by unfold rTa at k; omega)
      have tO : TM0 O Z t d ln dn en lc dc ec := (keep j3).df3 dNO (fun x hx => by have := hZA x hx; omega) (fun x i q k => by have := hZ x q; unfold pTa at k; omega) (fun x i q k => by
        have := hZ x q
        rcases k with k | k
        · exact k
        · omega)
      have rO : cR O t 3522 = L := by
        rw [hO, cR_wR, if_neg (by omega), hN2, hN1]
        show cR N t 3522 = L
        rw [j3.cR (by omega) (fun q => q)]
        exact rL
      have dl := dNO.2.2 L (by omega)
      refine ⟨O, ?_, SO, kO, ⟨⟨ln, dn, en, lc, dc, ec, tO.w (fun x q => Or.inl q)⟩, ?_, ?_⟩, mO, ?_, by rw [hO, cR_wR, if_pos ⟨rfl, rfl⟩], dMO, by rw [hO, hN2, hN1]; show m_nx N = _; omega, by rw [hO, hN2, hN1]; show m_sl N ≤ _; omega⟩
      · refine Eq.trans e1 ?_
        show F_X16_tabled_b38_st (F_X16_tabled_b38 K) N 1068 t (iw (X : Int)) (iw (d.1 : Int)) = _
        unfold F_X16_tabled_b38_st
        simp only [x1, an_of tLN (by decide) lLN, Option.bind_some]
        rw [if_neg (show ¬ iw (d.1 : Int) < iw (d.1 : Int) by rw [iw_le4 (by omega) (by omega)]; omega)]
        simp only [g1068_1124, p1068_1124, j1, m24, iw_nad, ← hN1, g1068_1123, p1068_1123, S1, m231, iw_succ, ← hN2, g1068_1122, S2, m232, s1, SO, mO, Option.bind_some]
      · rw [rO]; exact ⟨Or.inr rfl, dl.1.trans tLN, dl.2.1.trans lLN⟩
      · intro c hc
        rw [rO, hO, hN2, hN1]
        show cI (wI (wI N 1068 1124 (iw ((W + X : Nat) : Int))) 1068 1123 (iw ((m + 1 : Nat) : Int))) L c = _
        rw [cI_wI, if_neg (by omega), cI_wI, if_neg (by omega)]
        exact j4 c hc
      · rw [hO, hN2]
        show cI (wI N1 1068 1123 (iw ((m + 1 : Nat) : Int))) 1068 1124 = _
        rw [cI_wI, if_neg (by omega), hN1, cI_wI, if_pos ⟨rfl, rfl⟩]
