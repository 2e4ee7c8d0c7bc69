/-! ===== FORMULAS, 84: the engine reads functions ===== -/
section
variable {B v0 n k : Nat} {f : Nat → Int32}
theorem E_init27 {M : Mem} {H a s p : Nat} {l : Int32} {w : List Int32} (h0 : 1334 ≤ m_nx M) (hH : 1334 ≤ H) (ha : H ≤ a ∧ a < m_nx M ∧ m_tg M a = 28) (hc : cI M a 1798 = 0) (hw : NmW M B s w) : ∃ N nl dn lr pr, F_X27_init M a l s (iw (p : Int)) = some N ∧ DRh N H B a nl dn lr pr [] l w p [] ∧ Df (at1 a) n2 (at1 a) M N ∧ m_nx N ≤ m_nx M + 4 ∧ m_sl N ≤ m_sl M + 30 := by
  obtain ⟨a1, a2, a3⟩ := ha
  have c0 := NCl.start M 67
  have x67 : x_cn 67 = 3 := by decide
  obtain ⟨A, hA⟩ : ∃ A, A = mo M 67 := ⟨_, rfl⟩
  rw [← hA] at c0
  have iA : cI A (m_nx M) 4289 = 0 := by rw [hA]; show cI (m_new M 67 (x_cn 67)) _ _ = _; rw [cI_new, if_pos rfl]
  have g1 := c0.2.1
  have g2 := c0.2.2.1
  obtain ⟨D, i1, i2, i3, i4, i5, i6⟩ := AP.initN (c := 4) (by omega) c0.2.2.2 iA (by omega) (by decide) (by decide)
  have dD : Df n2 n2 n2 M D := c0.1.then i3 (fun x i hx q => by unfold at1 at q; omega) (fun _ _ _ q => q) (fun x i hx q => by unfold at1 at q; omega)
  have tD : m_tg D a = 28 := (dD.2.2 a a2).1.trans a3
  obtain ⟨D1, e1⟩ : ∃ D1, D1 = wR D a 1795 (m_nx M) := ⟨_, rfl⟩
  obtain ⟨D2, e2⟩ : ∃ D2, D2 = m_new D1 1005 6 := ⟨_, rfl⟩
  obtain ⟨D3, e3⟩ : ∃ D3, D3 = wR D2 a 1796 (m_nx D1) := ⟨_, rfl⟩
  obtain ⟨D4, e4⟩ : ∃ D4, D4 = m_new D3 1005 6 := ⟨_, rfl⟩
  obtain ⟨D5, e5⟩ : ∃ D5, D5 = wR D4 a 1797 (m_nx D3) := ⟨_, rfl⟩
  obtain ⟨D6, e6⟩ : ∃ D6, D6 = wI D5 a 1792 l := ⟨_, rfl⟩
  obtain ⟨D7, e7⟩ : ∃ D7, D7 = wR D6 a 1793 s := ⟨_, rfl⟩
  obtain ⟨D8, e8⟩ : ∃ D8, D8 = wI D7 a 1794 (iw (p : Int)) := ⟨_, rfl⟩
  have t1 : m_tg D1 a = 28 := by rw [e1]; exact tD
  have n1 : m_nx D1 = m_nx D := by rw [e1]; rfl
  have aD : a < m_nx D := by omega
  have t2 : m_tg D2 a = 28 := by rw [e2, tg_new, if_neg (by omega)]; exact t1
  have n2' : m_nx D2 = m_nx D + 1 := by rw [e2]; show m_nx D1 + 1 = _; omega
  have t3 : m_tg D3 a = 28 := by rw [e3]; exact t2
  have n3 : m_nx D3 = m_nx D2 := by rw [e3]; rfl
  have t4 : m_tg D4 a = 28 := by rw [e4, tg_new, if_neg (by omega)]; exact t3
  have n4 : m_nx D4 = m_nx D + 2 := by rw [e4]; show m_nx D3 + 1 = _; omega
  have t5 : m_tg D5 a = 28 := by rw [e5]; exact t4
  have t6 : m_tg D6 a = 28 := by rw [e6]; exact t5
  have t7 : m_tg D7 a = 28 := by rw [e7]; exact t6
  have n8 : m_nx D8 = m_nx D + 2 := by rw [e8, e7, e6, e5]; exact n4
  have s8 : m_sl D8 = m_sl D + 12 := by
    rw [e8, e7, e6, e5]
    show m_sl D4 = _
    rw [e4, sl_new, e3]
    show m_sl D2 + 6 = _
    rw [e2, sl_new, e1]
    rfl
  have dd : Df (at1 a) n2 (at1 a) D D8 := by
    have d1 : Df (at1 a) n2 (at1 a) D D1 := by rw [e1]; exact Df.wR _ rfl
    have d2 : Df (at1 a) n2 (at1 a) D1 D2 := by rw [e2]; exact Df.new _ _
    have d3 : Df (at1 a) n2 (at1 a) D2 D3 := by rw [e3]; exact Df.wR _ rfl
    have d4 : Df (at1 a) n2 (at1 a) D3 D4 := by rw [e4]; exact Df.new _ _
    have d5 : Df (at1 a) n2 (at1 a) D4 D5 := by rw [e5]; exact Df.wR _ rfl
    have d6 : Df (at1 a) n2 (at1 a) D5 D6 := by rw [e6]; exact Df.wI _ rfl
    have d7 : Df (at1 a) n2 (at1 a) D6 D7 := by rw [e7]; exact Df.wR _ rfl
    have d8 : Df (at1 a) n2 (at1 a) D7 D8 := by rw [e8]; exact Df.wI _ rfl
    exact ((((((d1.trans d2).trans d3).trans d4).trans d5).trans d6).trans d7).trans d8
  have dM : Df (at1 a) n2 (at1 a) M D8 := (dD.mono (fun _ _ q => q.elim) (fun _ _ q => q.elim) (fun _ _ q => q.elim)).trans dd
  have cR8 : ∀ i, cR D8 a i = if i = 1793 then s else if i = 1797 then m_nx D3 else if i = 1796 then m_nx D1 else if i = 1795 then m_nx M else cR D a i := fun i => by
    rw [e8, cR_wI, e7, cR_wR, e6, cR_wI, e5, cR_wR, e4, cR_new, if_neg (show ¬ a = m_nx D3 by omega), e3, cR_wR, e2, cR_new, if_neg (show ¬ a = m_nx D1 by omega), e1, cR_wR]
    by_cases q1 : i = 1793
    · rw [if_pos ⟨rfl, q1⟩, if_pos q1]
    rw [if_neg (fun q => q1 q.2), if_neg q1]
    by_cases q2 : i = 1797
    · rw [if_pos ⟨rfl, q2⟩, if_pos q2]
    rw [if_neg (fun q => q2 q.2), if_neg q2]
    by_cases q3 : i = 1796
    · rw [if_pos ⟨rfl, q3⟩, if_pos q3]
    rw [if_neg (fun q => q3 q.2), if_neg q3]
    by_cases q4 : i = 1795
    · rw [if_pos ⟨rfl, q4⟩, if_pos q4]
    · rw [if_neg (fun q => q4 q.2), if_neg q4]
  have cI8 : ∀ i, cI D8 a i = if i = 1794 then iw (p : Int) else if i = 1792 then l else cI D a i := fun i => by
    rw [e8, cI_wI, e7, cI_wR, e6, cI_wI, e5, cI_wR, e4, cI_new, if_neg (show ¬ a = m_nx D3 by omega), e3, cI_wR, e2, cI_new, if_neg (show ¬ a = m_nx D1 by omega), e1, cI_wR]
    by_cases q1 : i = 1794
    · rw [if_pos ⟨rfl, q1⟩, if_pos q1]
    rw [if_neg (fun q => q1 q.2), if_neg q1]
    by_cases q2 : i = 1792
    · rw [if_pos ⟨rfl, q2⟩, if_pos q2]
    · rw [if_neg (fun q => q2 q.2), if_neg q2]
  have hS : nTx (at1 a) (at1 a) M B := fun x i x1 x2 x3 => ⟨fun u => by unfold at1 at u; rw [u, a3] at x3; omega, fun u => by unfold at1 at u; rw [u, a3] at x3; omega⟩
  have tl : m_tg D8 (m_nx D1) = 1005 ∧ m_ln D8 (m_nx D1) = 6 := by
    rw [e8, e7, e6, e5]
    show m_tg D4 _ = 1005 ∧ m_ln D4 _ = 6
    rw [e4, tg_new, if_neg (by omega), ln_new, if_neg (by omega), e3]
    show m_tg D2 _ = 1005 ∧ m_ln D2 _ = 6
    rw [e2, tg_new, if_pos rfl, ln_new, if_pos rfl]
    exact ⟨rfl, rfl⟩
  have tp : m_tg D8 (m_nx D3) = 1005 ∧ m_ln D8 (m_nx D3) = 6 := by
    rw [e8, e7, e6, e5]
    show m_tg D4 _ = 1005 ∧ m_ln D4 _ = 6
    rw [e4, tg_new, if_pos rfl, ln_new, if_pos rfl]
    exact ⟨rfl, rfl⟩
  refine ⟨D8, m_nx M, m_nx A, m_nx D1, m_nx D3, ?_, ⟨⟨a1, by omega, by rw [e8]; exact t7⟩, ⟨by rw [cI8]; rfl, by rw [cR8]; exact hw.df dM hS, by rw [cI8]; rfl, by rw [cR8]; rfl, by rw [cR8]; rfl, by rw [cR8]; rfl, ?_⟩, ⟨(i2.df dd (fun q => by unfold at1 at q; omega) (fun q => by unfold at1 at q; omega) (fun i hi q => by unfold at1 at q; omega)).1, by omega, by omega, by omega⟩, ⟨by omega, by omega, tl⟩, ⟨by omega, by omega, tp⟩, by omega, Nat.zero_le _, rfl, fun i hi => absurd hi (Nat.not_lt_zero _)⟩, dM, by omega, by omega⟩
  · unfold F_X27_init
    dsimp only
    rw [← hA, ng_of a3 (by decide), Option.bind_some, ng_of c0.2.2.2 (by decide), Option.bind_some, show F_J6_init A (m_nx M) 4 = some D from i1, Option.bind_some, pr_of _ tD (show x_wr 28 1795 = true by decide), Option.bind_some, ← e1, show mk D1 1005 6 = some (m_new D1 1005 6) from mk_of (n := 6) (by decide), ← e2, Option.bind_some, pr_of _ t2 (show x_wr 28 1796 = true by decide), ← e3, Option.bind_some, show mk D3 1005 6 = some (m_new D3 1005 6) from mk_of (n := 6) (by decide), ← e4, Option.bind_some, pr_of _ t4 (show x_wr 28 1797 = true by decide), ← e5, Option.bind_some, pi_of l t5 (show x_wi 28 1792 = true by decide) rfl, ← e6, Option.bind_some, pr_of s t6 (show x_wr 28 1793 = true by decide), ← e7, Option.bind_some, pi_of _ t7 (show x_wi 28 1794 = true by decide) rfl, ← e8, Option.bind_some]
  · rw [cI8]
    show cI D a 1798 = iw ((0 : Nat) : Int)
    rw [dD.cI a2 (fun q => q), hc]
    rfl
/-- a function -/
theorem E_function {M : Mem} (h : SP M B v0 f n k) : RFx M B v0 f n k (DRf (m_nx M) B) (F_X26_function M v0) (pFn (tks f n k)) := by
  have hk := h.2.2.1
  have hB := h.2.2.2.2.1.1
  have st0 := h.st.1
  unfold F_X26_function pFn
  rw [h.v, Option.bind_some, hdt_tks f hk]
  refine RFx.lane (WB.refl M f n k) h (fun q => ?_) (fun q z => ?_) (fun N q w1 wMN hN => ?_)
  · rw [if_neg (by rw [q]; decide)]
  · obtain ⟨l1, l2⟩ := isLn_t.mp q
    obtain ⟨t1, t2, -, -⟩ := tail_tks f hk (by rw [l1]; decide) h.2.1
    rw [if_pos q, t1, hdt_tks f t2, if_neg (by rw [z]; decide)]
  obtain ⟨l1, l2⟩ := isLn_t.mp q
  obtain ⟨t1, t2, -, -⟩ := tail_tks f hk (by rw [l1]; decide) h.2.1
  rw [if_pos q, t1, hdt_tks f t2]
  obtain ⟨k1, hk1⟩ : ∃ k1, k1 = (tok f n k).to := ⟨_, rfl⟩
  rw [← hk1] at w1 wMN hN t2 ⊢
  have g388 : gi N 1012 388 = some (iw ((tok f n k1).pl : Int)) := by rw [g1012_388 hN.st, hN.1.2.2.1]
  have c0 := NCl.start N 28
  have x28 : x_cn 28 ≤ 20 := by decide
  obtain ⟨A, hA⟩ : ∃ A, A = mo N 28 := ⟨_, rfl⟩
  dsimp only
  rw [hN.g, Option.bind_some, g388, Option.bind_some, ← hA]
  rw [← hA] at c0
  have g1 := c0.2.1
  have g2 := c0.2.2.1
  have hA' := hN.n2 c0.1
  have wA : WB M A f n k k1 0 := w1.new c0.1 (by omega) (by omega)
  have cA : cI A (m_nx N) 1798 = 0 := by rw [hA]; show cI (m_new N 28 (x_cn 28)) _ _ = _; rw [cI_new, if_pos rfl]
  rw [hA'.g, Option.bind_some, v1012 hA'.st, Option.bind_some]
  refine RFx.name wA hA' (fun z => ?_) (fun z z5 => ?_) (fun O z w3 wAO hO nmO => ?_)
  · rw [if_neg z]
  · obtain ⟨u1, u2, -, -⟩ := tail_tks f t2 (by rw [z]; decide) hN.2.1
    rw [if_pos z, u1, hdt_tks f u2, if_neg (by rw [show isS (tok f n (tok f n k1).to) 28 = false from isS_5 z5]; decide)]
  obtain ⟨u1, u2, -, -⟩ := tail_tks f t2 (by rw [z]; decide) hN.2.1
  rw [if_pos z, u1, hdt_tks f u2]
  obtain ⟨k2, hk2⟩ : ∃ k2, k2 = (tok f n k1).to := ⟨_, rfl⟩
  rw [← hk2] at w3 wAO hO u2 ⊢
  have nMN := wMN.1.1
  have aO : m_nx M ≤ m_nx N ∧ m_nx N < m_nx O ∧ m_tg O (m_nx N) = 28 := ⟨nMN, by have := wAO.1.1; omega, (wAO.1.2.2 _ (by omega)).1.trans c0.2.2.2⟩
  have cO : cI O (m_nx N) 1798 = 0 := by rw [wAO.1.cI (by omega) (fun u => by unfold pK at u; omega)]; exact cA
  obtain ⟨P, nl, dn, lr, pr, p1, p2, p3, p4, p5⟩ := E_init27 (B := B) (p := (tok f n k1).pl) (l := lnW (tok f n k).wd) hO.st.1 st0 aO cO nmO
  dsimp only
  rw [ng_of aO.2.2 (by decide), Option.bind_some, p1, Option.bind_some]
  have hP : SP P B v0 f n k2 := hO.dfg p3 (fun x i hx => ⟨fun u => by unfold at1 at u; omega, fun u => u, fun u => by unfold at1 at u; omega⟩) (fun x i x1 x2 x3 => ⟨fun u => by unfold at1 at u; rw [u, aO.2.2] at x3; omega, fun u => by unfold at1 at u; rw [u, aO.2.2] at x3; omega⟩) (fun i u => by unfold at1 at u; have := hO.2.2.2.1.1; rw [u, aO.2.2] at this; omega)
  have wP : WB M P f n k k2 0 := w3.put p3 (fun x i hx => ⟨fun u => by unfold at1 at u; omega, fun u => u, fun u => by unfold at1 at u; omega⟩) (by omega) (by omega)
  rw [hP.g, Option.bind_some, v1012 hP.st, Option.bind_some]
  refine RFx.ex wP hP (show 28 ∈ sgB by decide) (fun c => ?_) (fun c c5 => ?_) (fun Q c w5 wPQ hQ => ?_)
  · rw [if_neg (by rw [c]; decide)]
  · obtain ⟨v1, v2, -, -⟩ := tail_tks f u2 (isS_k c) hO.2.1
    left
    have nl5 : isLn (tok f n (tok f n k2).to) = false := by unfold isLn; rw [c5]; simp
    have e : pPr 7 [] (tks f n (tok f n k2).to) = .inl (tok f n (tok f n k2).to).pl := by
      show (if ([] : List Pa).length = 6 then _ else if isLn (hdt (tks f n (tok f n k2).to)) = true then _ else _) = _
      rw [if_neg (by decide), hdt_tks f v2, if_neg (by rw [nl5]; decide)]
    rw [if_pos c, v1, e]; rfl
  · obtain ⟨v1, v2, -, -⟩ := tail_tks f u2 (isS_k c) hO.2.1
    rw [if_pos c, v1]
    have hx : xN = 1099511627776 := rfl
    exact E_b39 st0 7 xN [] Q _ _ dn [] rfl (by omega) (by omega) hQ (p2.kk hP.st wPQ.1 hB) w5
end
