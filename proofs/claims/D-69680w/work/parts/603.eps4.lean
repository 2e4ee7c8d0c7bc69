/-! ===== FORMULAS, 28: the engine reads literals, names and calls ===== -/
/-- a reader of the engine against a plain one -/
def SimX (F : Mem → Option ((Nat × Mem) ⊕ (Nat × Mem))) (p : PRs) (B v0 : Nat) (f : Nat → Int32) (n : Nat) : Prop := (∀ k, k ≤ n → (tok f n k).kd = 5 → p (tks f n k) = .inl (tok f n k).pl) ∧ ∀ M k, SP M B v0 f n k → RE M B v0 f n k (F M) (p (tks f n k))
section
variable {B v0 n : Nat} {f : Nat → Int32}
theorem E_deep0 {M : Mem} {k : Nat} (h : SP M B v0 f n k) : F_X26_deeper M v0 (iw ((25 : Nat) : Int)) = some (.inr (1003, eT M 1 (iw ((tok f n k).pl : Int)))) := by
  unfold F_X26_deeper
  rw [if_pos (show iw ((25 : Nat) : Int) = 25 from rfl), h.g, Option.bind_some, E_wrongK h.st, h.1.2.2.1]
theorem E_deep1 {M : Mem} {d : Nat} (hd : d + 1 ≤ 24) : F_X26_deeper M v0 (iw ((25 - (d + 1) : Nat) : Int)) = some (.inl (iw ((25 - d : Nat) : Int), M)) := by
  unfold F_X26_deeper
  rw [if_neg (by rw [show (25 : Int32) = iw ((25 : Nat) : Int) from rfl, iw_eq (by omega) (by omega) (by omega) (by omega)]; omega), iw_succ, show 25 - (d + 1) + 1 = 25 - d by omega]
/-- a literal: made, then the next token -/
theorem E_litN {M : Mem} {k : Nat} (h : SP M B v0 f n k) (h0 : (tok f n k).kd ≠ 0) (l : Int32) (b : Int64) : RE M B v0 f n k ((F_X30_init (mo M 31) (m_nx M) (iw ((tok f n k).pl : Int)) l b).bind fun z2 => (gr z2 v0 1728).bind fun t3 => (vg z2 t3 6).bind fun _ => tb (F_X5_next z2 t3) fun z5 => some (.inl (m_nx M, z5))) (.inr (.lit (tok f n k).pl l b, (tks f n k).tail)) := by
  have hB := h.2.2.2.2.1
  obtain ⟨N, e1, e2, e3⟩ := E_mkLit (M := M) (B := B) (tok f n k).pl l b
  have hN := h.n2 e2.1
  obtain ⟨O, d, t, b1, b2, c⟩ := E_stepN hN h0
  obtain ⟨t1, t2, t3, t4⟩ := tail_tks f h.2.2.1 h0 h.2.1
  have x31 : x_cn 31 = 4 := by decide
  have g1 := e2.2.1
  have g2 := e2.2.2.1
  have wO : WB M O f n k (tok f n k).to 0 := ⟨e2.1.mono (fun _ _ q => q.elim) (fun _ _ q => q.elim) (fun _ _ q => q.elim) |>.trans d, by unfold LT; omega, by unfold LT; omega⟩
  rw [e1, Option.bind_some, hN.g, Option.bind_some, v1012 hN.st, Option.bind_some, t1]
  refine ⟨trivial, (tok f n k).to, O, rfl, t2, ?_, wO, t, ?_⟩
  · show 1 + LT f n (tok f n k).to ≤ LT f n k
    unfold LT
    omega
  · rcases c with ⟨c1, c2⟩ | ⟨c1, c2, c3⟩
    · exact Or.inl ⟨c1, by rw [c2]; rfl⟩
    · refine Or.inr ⟨c1, m_nx M, by rw [c2]; rfl, c3, ?_⟩
      exact NEx.mono _ (e3.kk d hB.1 (by omega)) (Nat.le_refl _) d.1
theorem lnW_tf : lnW (cty 61).1 = -1 ∧ lnW (cty 56).1 = -1 ∧ (cty 61).1 ≠ (cty 56).1 := by decide +kernel
/-- arguments -/
theorem E_args {re rp ru : Mem → Nat → Int32 → Option ((Nat × Mem) ⊕ (Nat × Mem))} {rb : Mem → Nat → Int32 → Int32 → Option ((Nat × Mem) ⊕ (Nat × Mem))} {E : PRs} {dep : Int32} (hE : SimX (fun M => re M v0 dep) E B v0 f n) {M0 : Mem} {k0 p sN la : Nat} {w : List Int32} (h1334 : 1334 ≤ m_nx M0) (hla : m_nx M0 ≤ la) (hk0 : k0 ≤ n) (hn : n ≤ 4000) (hv0 : v0 < m_nx M0) (hBM : B ≤ m_nx M0) (hB : 1334 ≤ B) :
    ∀ (m N : Nat) (es : List Ex) (as : List Nat) (M : Mem) (k da hi : Nat), SP M B v0 f n k → LT f n k ≤ m → m + 1 ≤ N → Df pK qK rK M0 M → m_nx M + 70 * LT f n k + 19 * es.length + 20 ≤ m_nx M0 + 70 * LT f n k0 → m_sl M + 300 * LT f n k + 150 * es.length + 150 ≤ m_sl M0 + 300 * LT f n k0 + rcs M da → AP M la da as → la < m_nx M → m_nx M0 ≤ da → da < m_nx M → NAr M B la da es (m_nx M0) hi as → hi ≤ m_nx M → NmW M B sN w → (Ex.row es).ht + LT f n k + 2 ≤ LT f n k0 →
    RE M0 B v0 f n k0 (F_X26_primary_b165 rp ru rb re N M v0 (iw (p : Int)) sN dep la) (pAr E p w m es (tks f n k)) := by
  intro m
  induction m with
  | zero =>
    intro N es as M k da hi hS hm
    have := LT_pos f hS.2.2.1
    omega
  | succ m ih =>
    intro N es as M k da hi hS hm hN dM bn bs hA hl hd0 hd1 hR hhi hw hht
    obtain ⟨N', rfl⟩ : ∃ N', N = N' + 1 := ⟨N - 1, by omega⟩
    have rcb := hA.rcb
    have lenA := NAr.len es hR
    have LTk := LT_le f n k0
    have w0 : WB M0 M f n k0 k 0 := ⟨dM, by omega, by rw [lenA] at rcb; omega⟩
    show RE M0 B v0 f n k0 (F_X26_primary_b165_st rp ru rb re (F_X26_primary_b165 rp ru rb re N') M v0 (iw (p : Int)) sN dep la) (pthen (E (tks f n k)) fun e r => if isS (hdt r) 33 = true then pAr E p w m (es ++ [e]) r.tail else if isS (hdt r) 30 = true then .inr (.cal p w (Ex.row (es ++ [e])), r.tail) else .inl (hdt r).pl)
    unfold F_X26_primary_b165_st
    rw [hS.v, Option.bind_some]
    refine RE.th w0 (hE.2 M k hS) (fun e j q1 q2 q3 q4 q5 => ?_) (fun e j a O q1 q2 q3 q4 q5 hO hNe => ?_)
    · rw [hdt_tks f q3]
      left
      have n1 : isS (tok f n j) 33 = false := by unfold isS; rw [q5]; simp
      have n2 : isS (tok f n j) 30 = false := by unfold isS; rw [q5]; simp
      rw [n1, n2, if_neg (by decide), if_neg (by decide)]
    · have hj := hO.2.2.1
      -- the argument is added
      have hnO := q5.1.1
      obtain ⟨aO, rO⟩ := hA.df q5.1 (fun q => by unfold pK at q; omega) (fun q => by unfold rK at q; omega) (fun i _ q => by unfold rK at q; omega)
      obtain ⟨a', t, pp, y1, y2, y3, y4, y5⟩ := NEx.one e q2 hNe
      cases y1
      have asg : x_asg (m_tg O a) 1010 = true := by
        rw [y3.2.1]
        have : t = 30 ∨ t = 31 ∨ t = 32 ∨ t = 33 ∨ t = 34 ∨ t = 35 ∨ t = 36 := by omega
        rcases this with rfl | rfl | rfl | rfl | rfl | rfl | rfl <;> decide
      have ltj := LT_pos f hj
      obtain ⟨G, da', z1, z2, z3, z4, z5, z6, z7⟩ := aO.add (v := a) (by omega) hO.2.2.2.2.2 (by rw [lenA]; omega) (Or.inr ⟨by omega, asg⟩)
      have nG := z4.1
      have laO : m_tg O la = 67 := aO.1.2.1
      have daO : m_tg O da = 1010 := (aO.1.tg.2 (by omega)).1
      have hz : ∀ x i, x < 1334 → ¬ at1 la x i ∧ ¬ n2 x i ∧ ¬ ((x = la ∧ i = 4288) ∨ (x = da ∧ 1334 ≤ da)) := fun x i hx => ⟨fun q => by unfold at1 at q; omega, fun q => q, fun q => by omega⟩
      have hTx : nTx (at1 la) (fun x i => (x = la ∧ i = 4288) ∨ (x = da ∧ 1334 ≤ da)) O B := fun x i x1 x2 x3 => by
        refine ⟨fun q => ?_, fun q => ?_⟩
        · unfold at1 at q; rw [q, laO] at x3; omega
        · rcases q with q | q
          · rw [q.1, laO] at x3; omega
          · rw [q.1, daO] at x3; omega
      have sG : SP G B v0 f n j := hO.dfg z4 hz hTx (fun i q => by omega)
      have neG : NEx G B e (m_nx M) (m_nx O) [a] := NEx.df z4 hTx e _ _ _ (fun x i x1 x2 => ⟨fun q => by unfold at1 at q; omega, fun q => q, fun q => by omega⟩) hNe
      have naO : NAr O B la da es (m_nx M0) hi as := NAr.df q5.1 (nTx_K hB) es (fun x i x1 x2 _ _ => ⟨fun q => by unfold pK at q; omega, fun q => by unfold qK at q; omega, fun q => by unfold rK at q; omega⟩) hR
      have naG0 : NAr G B la da es (m_nx M0) hi as := NAr.df z4 hTx es (fun x i x1 x2 x3 x4 => ⟨fun q => x3 q, fun q => q, fun q => by rcases q with q | q; exact x3 q.1; exact x4 q.1⟩) naO
      have naG : NAr G B la da' (es ++ [e]) (m_nx M0) (m_nx O) (as ++ [a]) := NAr.snoc neG q2 hnO (by omega) (by rcases z3 with q | q <;> omega) es (NAr.rr es naG0 (by rcases z3 with q | q; exact Or.inl q; exact Or.inr (by omega))) hhi
      have hwG : NmW G B sN w := (hw.kk q5.1 hB).df z4 hTx
      have dG : Df pK qK rK M0 G := (dM.trans q5.1).then z4 (fun x i hx q => (show False by unfold at1 at q; omega).elim) (fun _ _ _ q => q.elim) (fun x i hx q => (show False by omega).elim)
      have hes : (es ++ [e]).length = es.length + 1 := by rw [List.length_append, List.length_singleton]
      have b5 := q5.2.1
      have b6 := q5.2.2
      have rh : (Ex.row (es ++ [e])).ht + LT f n j + 2 ≤ LT f n k0 := by rw [row_ht]; omega
      have rcb2 := z2.rcb
      have lG : (as ++ [a]).length = es.length + 1 := by rw [List.length_append, List.length_singleton, lenA]
      rw [lG] at rcb2
      rw [vg_of laO (show x_isa 67 67 = true by decide), Option.bind_some, z1, Option.bind_some, sG.g, Option.bind_some, v1012 sG.st, Option.bind_some, hdt_tks f hj]
      unfold F_X5_accept
      rw [v1012 sG.st, Option.bind_some, E_isS sG (show 33 ∈ sgB by decide), Option.bind_some]
      have hdaG : da' < m_nx G := (z2.1.tg.2 z7).2
      cases c33 : isS (tok f n j) 33 with
      | true =>
        have kn0 : (tok f n j).kd ≠ 0 := by rw [(isS_t.mp c33).1]; decide
        obtain ⟨t1, t2, t3, t4⟩ := tail_tks f hj kn0 hO.2.1
        have t4' : LT f n j = LT f n (tok f n j).to + 1 := t4
        rw [if_neg (show ¬ mr true = 0 by decide), if_pos rfl, Option.bind_some, t1]
        obtain ⟨H, dH, tH, h1, h2, c⟩ := E_stepN sG kn0
        have wH : WB M0 H f n k0 (tok f n j).to 0 := ⟨dG.trans dH, by omega, by omega⟩
        rcases c with ⟨c1, c2⟩ | ⟨c1, c2, c3⟩
        · rw [c2]
          refine RE.none wH tH t2 c1 rfl (Or.inl ?_)
          obtain ⟨m', rfl⟩ : ∃ m', m = m' + 1 := ⟨m - 1, by have := LT_pos f t2; omega⟩
          show pthen (E (tks f n (tok f n j).to)) _ = _
          rw [hE.1 _ t2 c1]
          rfl
        · rw [c2]
          simp only [tb_l]
          rw [if_neg (show ¬ (1 : Int32) = 0 by decide)]
          obtain ⟨aH, rH⟩ := z2.df dH (fun q => by unfold pK at q; omega) (fun q => by unfold rK at q; omega) (fun i _ q => by unfold rK at q; omega)
          have naH : NAr H B la da' (es ++ [e]) (m_nx M0) (m_nx O) (as ++ [a]) := NAr.df dH (nTx_K hB) _ (fun x i x1 x2 _ _ => ⟨fun q => by unfold pK at q; omega, fun q => by unfold qK at q; omega, fun q => by unfold rK at q; omega⟩) naG
          have nH := dH.1
          exact ih N' (es ++ [e]) (as ++ [a]) H (tok f n j).to da' (m_nx O) c3 (by omega) (by omega) (dG.trans dH) (by rw [hes]; omega) (by rw [hes]; omega) aH (by omega) (by rcases z3 with q | q <;> omega) (by omega) naH (by omega) (hwG.kk dH hB) (by omega)
      | false =>
        rw [if_pos (show mr false = 0 by decide), if_neg (show ¬ false = true by decide)]
        simp only [tb_l]
        rw [if_pos trivial, sG.g, Option.bind_some, v1012 sG.st, Option.bind_some]
        have wG : WB M0 G f n k0 j 0 := ⟨dG, by omega, by omega⟩
        have RX := RE.ex (B := B) (v0 := v0) (c := 30) wG sG (by decide) (y := fun z27 => (ng (mo z27 33) (m_nx z27)).bind fun _ => (F_X32_init (mo z27 33) (m_nx z27) (iw (p : Int)) sN la).bind fun z31 => F_X26_primary_b214 rp ru rb re xN z31 la (m_nx z27) (0 : Int32)) (res := fun r => .inr (.cal p w (Ex.row (es ++ [e])), r))
          (fun c30 c5 => Or.inr ⟨_, rfl, trivial, by
            have kn0 : (tok f n j).kd ≠ 0 := by rw [(isS_t.mp c30).1]; decide
            obtain ⟨t1, t2, t3, t4⟩ := tail_tks f hj kn0 hO.2.1
            have t4' : LT f n j = LT f n (tok f n j).to + 1 := t4
            show (Ex.row (es ++ [e])).ht + 1 + LT f n (tok f n j).to ≤ LT f n k0
            omega⟩)
          (fun H c30 wH wGH sH => by
            have kn0 : (tok f n j).kd ≠ 0 := by rw [(isS_t.mp c30).1]; decide
            obtain ⟨t1, t2, t3, t4⟩ := tail_tks f hj kn0 hO.2.1
            have t4' : LT f n j = LT f n (tok f n j).to + 1 := t4
            have dH := wGH.1
            have nH := dH.1
            obtain ⟨aH, rH⟩ := z2.df dH (fun q => by unfold pK at q; omega) (fun q => by unfold rK at q; omega) (fun i _ q => by unfold rK at q; omega)
            have naH : NAr H B la da' (es ++ [e]) (m_nx M0) (m_nx O) (as ++ [a]) := NAr.df dH (nTx_K hB) _ (fun x i x1 x2 _ _ => ⟨fun q => by unfold pK at q; omega, fun q => by unfold qK at q; omega, fun q => by unfold rK at q; omega⟩) naG
            have hwH := hwG.kk dH hB
            -- the node
            have i0 := NCl.start H 33
            obtain ⟨e1, i1⟩ := E_nd0 i0 (by decide) (iw (p : Int))
            obtain ⟨A, hA'⟩ : ∃ A, A = nd0 (mo H 33) (m_nx H) (iw (p : Int)) := ⟨_, rfl⟩
            rw [← hA'] at e1 i1
            obtain ⟨c1, c2⟩ := nd0_c (mo H 33) (m_nx H) (iw (p : Int))
            rw [← hA'] at c1 c2
            have i2 := i1.wI 2114 (-1)
            have i3 := i2.wR 2112 sN
            have i4 := i3.wR 2113 la
            obtain ⟨N1, hN1⟩ : ∃ N1, N1 = wR (wR (wI A (m_nx H) 2114 (-1)) (m_nx H) 2112 sN) (m_nx H) 2113 la := ⟨_, rfl⟩
            rw [← hN1] at i4
            have ini : F_X32_init (mo H 33) (m_nx H) (iw (p : Int)) sN la = some N1 := by
              unfold F_X32_init
              rw [ng_of i0.2.2.2 (by decide), Option.bind_some, e1, Option.bind_some, pi_of (-1) i1.2.2.2 (show x_wi 33 2114 = true by decide) rfl, Option.bind_some, pr_of sN i2.2.2.2 (show x_wr 33 2112 = true by decide), Option.bind_some, pr_of la i3.2.2.2 (show x_wr 33 2113 = true by decide), Option.bind_some, hN1]
            have f8 : cI N1 (m_nx H) 1858 = iw ((1 : Nat) : Int) := by rw [hN1, cI_wR, cI_wR, cI_wI, if_neg (by omega)]; exact c1
            have f6 : cI N1 (m_nx H) 1856 = iw (p : Int) := by rw [hN1, cI_wR, cI_wR, cI_wI, if_neg (by omega)]; exact c2
            have f14 : cI N1 (m_nx H) 2114 = -1 := by rw [hN1, cI_wR, cI_wR, cI_wI, if_pos ⟨rfl, rfl⟩]
            have f12 : cR N1 (m_nx H) 2112 = sN := by rw [hN1, cR_wR, if_neg (by omega), cR_wR, if_pos ⟨rfl, rfl⟩]
            have f13 : cR N1 (m_nx H) 2113 = la := by rw [hN1, cR_wR, if_pos ⟨rfl, rfl⟩]
            have lsz : es.length + 1 ≤ 20000 := by have := dM.1; omega
            -- heights
            have hl : ∀ (mm Nf i : Nat) (K : Mem), i + mm = es.length + 1 → mm + 1 ≤ Nf → NCl H K 33 → cI K (m_nx H) 1858 = iw (((Ex.row ((es ++ [e]).take i)).ht + 1 : Nat) : Int) → cI K (m_nx H) 1856 = iw (p : Int) → cI K (m_nx H) 2114 = -1 → cR K (m_nx H) 2112 = sN → cR K (m_nx H) 2113 = la → ∃ K', F_X26_primary_b214 rp ru rb re Nf K la (m_nx H) (iw (i : Int)) = some (.inl (m_nx H, K')) ∧ NCl H K' 33 ∧ cI K' (m_nx H) 1858 = iw (((Ex.row (es ++ [e])).ht + 1 : Nat) : Int) ∧ cI K' (m_nx H) 1856 = iw (p : Int) ∧ cI K' (m_nx H) 2114 = -1 ∧ cR K' (m_nx H) 2112 = sN ∧ cR K' (m_nx H) 2113 = la := by
              intro mm
              induction mm with
              | zero =>
                intro Nf i K hi' hNf k1 k2 k3 k4 k5 k6
                obtain ⟨Nf', rfl⟩ : ∃ Nf', Nf = Nf' + 1 := ⟨Nf - 1, by omega⟩
                have aK := aH.1.df k1.1 (fun q => q) (fun q => q) (fun _ _ q => q)
                rw [List.take_of_length_le (by omega)] at k2
                refine ⟨K, ?_, k1, k2, k3, k4, k5, k6⟩
                show F_X26_primary_b214_st rp ru rb re (F_X26_primary_b214 rp ru rb re Nf') K la (m_nx H) (iw (i : Int)) = _
                unfold F_X26_primary_b214_st
                rw [vg_of aK.2.1 (show x_isa 67 67 = true by decide), Option.bind_some, aK.size, Option.bind_some, if_neg (by rw [iw_le4 (by omega) (by omega)]; omega)]
              | succ mm ihm =>
                intro Nf i K hi' hNf k1 k2 k3 k4 k5 k6
                obtain ⟨Nf', rfl⟩ : ∃ Nf', Nf = Nf' + 1 := ⟨Nf - 1, by omega⟩
                have aK := aH.1.df k1.1 (fun q => q) (fun q => q) (fun _ _ q => q)
                obtain ⟨tt, pq, n1, n2, n3, n4⟩ := NAr.at (es ++ [e]) i naH (by omega)
                have nK : ND K ((as ++ [a]).getD i 0) tt pq ((es ++ [e]).getD i .anl).ht := n1.df k1.1 (fun _ q => q)
                have htb : ((es ++ [e]).getD i .anl).ht ≤ 10000 := by
                  have : ∀ (l : List Ex) (j : Nat), j < l.length → (l.getD j .anl).ht ≤ (Ex.row l).ht := by
                    intro l
                    induction l with
                    | nil => intro j hj; cases hj
                    | cons x xs ihx =>
                      intro j hj
                      cases j with
                      | zero => show x.ht ≤ max x.ht _; omega
                      | succ j =>
                        have := ihx j (by rw [List.length_cons] at hj; omega)
                        show (xs.getD j .anl).ht ≤ max x.ht (Ex.row xs).ht
                        omega
                  have := this (es ++ [e]) i (by omega)
                  omega
                have htt : (Ex.row ((es ++ [e]).take i)).ht ≤ 10000 := by
                  have : ∀ (l : List Ex) (j : Nat), (Ex.row (l.take j)).ht ≤ (Ex.row l).ht := by
                    intro l
                    induction l with
                    | nil => intro j; rw [List.take_nil]; exact Nat.le_refl _
                    | cons x xs ihx =>
                      intro j
                      cases j with
                      | zero => exact Nat.zero_le _
                      | succ j =>
                        have := ihx j
                        show max x.ht (Ex.row (xs.take j)).ht ≤ max x.ht (Ex.row xs).ht
                        omega
                  have := this (es ++ [e]) i
                  omega
                have O1 := E_over k1.2.2.2 nK.2.1 (by decide) n2 k2 nK.2.2.2 (by omega) (by omega)
                have tk := take_getD (d := Ex.anl) (l := es ++ [e]) (i := i) (by omega)
                have mx : max ((Ex.row ((es ++ [e]).take i)).ht + 1) (((es ++ [e]).getD i .anl).ht + 1) = (Ex.row ((es ++ [e]).take (i + 1))).ht + 1 := by rw [tk, row_ht]; omega
                rw [mx] at O1
                obtain ⟨K', g1, g2⟩ := ihm Nf' (i + 1) (wI K (m_nx H) 1858 (iw (((Ex.row ((es ++ [e]).take (i + 1))).ht + 1 : Nat) : Int))) (by omega) (by omega) (k1.wI 1858 _) (by rw [cI_wI, if_pos ⟨rfl, rfl⟩]) (by rw [cI_wI, if_neg (by omega)]; exact k3) (by rw [cI_wI, if_neg (by omega)]; exact k4) k5 k6
                refine ⟨K', ?_, g2⟩
                rw [← g1]
                show F_X26_primary_b214_st rp ru rb re (F_X26_primary_b214 rp ru rb re Nf') K la (m_nx H) (iw (i : Int)) = _
                unfold F_X26_primary_b214_st
                have cc29 : cc K ((as ++ [a]).getD i 0) 29 = some () := by
                  refine cc_of nK.2.1 ?_
                  have : tt = 30 ∨ tt = 31 ∨ tt = 32 ∨ tt = 33 ∨ tt = 34 ∨ tt = 35 ∨ tt = 36 := by omega
                  rcases this with rfl | rfl | rfl | rfl | rfl | rfl | rfl <;> decide
                simp only [vg_of aK.2.1 (show x_isa 67 67 = true by decide), aK.size, Option.bind_some, if_pos ((iw_le4 (show i ≤ 2147483647 by omega) (show (as ++ [a]).length ≤ 2147483647 by omega)).mpr (by omega)), aK.get (show i < (as ++ [a]).length by omega), cc29, vg_of k1.2.2.2 (show x_isa 33 29 = true by decide), O1, iw_succ]
            obtain ⟨K, u1, u2, u3, u4, u5, u6, u7⟩ := hl (es.length + 1) xN 0 N1 (by omega) (by have : xN = 1099511627776 := rfl; omega) i4 f8 f6 f14 f12 f13
            have x33 : x_cn 33 = 9 := by decide
            have nK := u2.2.1
            have sK := u2.2.2.1
            have wK : WB M0 K f n k0 (tok f n j).to 0 := ⟨wH.1.then u2.1 (fun _ _ _ q => q.elim) (fun _ _ _ q => q.elim) (fun _ _ _ q => q.elim), by have := wH.2.1; omega, by have := wH.2.2; omega⟩
            show RE M0 B v0 f n k0 ((ng (mo H 33) (m_nx H)).bind fun _ => (F_X32_init (mo H 33) (m_nx H) (iw (p : Int)) sN la).bind fun z31 => F_X26_primary_b214 rp ru rb re xN z31 la (m_nx H) (0 : Int32)) (.inr (.cal p w (Ex.row (es ++ [e])), tks f n (tok f n j).to))
            rw [ng_of i0.2.2.2 (by decide), Option.bind_some, ini, Option.bind_some, show F_X26_primary_b214 rp ru rb re xN N1 la (m_nx H) 0 = _ from u1]
            refine ⟨trivial, (tok f n j).to, K, rfl, t2, ?_, wK, sH.1.1.n2 u2.1, Or.inr ⟨sH.2.1, m_nx H, rfl, sH.n2 u2.1, ?_⟩⟩
            · show (Ex.row (es ++ [e])).ht + 1 + LT f n (tok f n j).to ≤ LT f n k0
              omega
            · have naK : NAr K B la da' (es ++ [e]) (m_nx M0) (m_nx O) (as ++ [a]) := NAr.df u2.1 nTx_n2 _ (fun _ _ _ _ _ _ => ⟨fun q => q, fun q => q, fun q => q⟩) naH
              exact ⟨m_nx H, la, da', as ++ [a], m_nx O, rfl, NAr.row _ naK, ⟨NAr.le _ naK, by omega, by omega⟩, ⟨by omega, u2.2.2.2, u4, u3⟩, by rw [u6]; exact hwH.n2 u2.1, u7, u5, aH.1.df u2.1 (fun q => q) (fun q => q) (fun _ _ q => q), ⟨hla, by omega⟩, ⟨by rcases z3 with q | q <;> omega, by omega⟩⟩)
        rw [hdt_tks f hj] at RX
        exact RX
end
