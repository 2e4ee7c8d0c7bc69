/-! ===== GRIDS, 13: both make a grid of what they worked out ===== -/
/-- ints that are worked with and told nowhere -/
def psc : Nat → Nat → Prop := fun a i => (a = 1000 ∧ i = 89) ∨ a = 1002 ∨ a = 1006 ∨ a = 1007 ∨ a = 1008 ∨ (1012 ≤ a ∧ a ≤ 1036) ∨ (1041 ≤ a ∧ a ≤ 1050) ∨ a = 1059 ∨ a = 1062 ∨ a = 1075 ∨ a = 1076 ∨ (1080 ≤ a ∧ a ≤ 1082) ∨ (1084 ≤ a ∧ a ≤ 1323)
/-- longs -/
def qsc : Nat → Nat → Prop := fun a _ => a < 1334
/-- the engine's -/
def rE : Nat → Nat → Prop := fun a _ => a = 1005
theorem qt_rE : qt rE := fun a i q1 q2 => by unfold rE at q2; omega
theorem qt_pNE : qt pNE := fun a i q1 q2 => by unfold pNE at q2; omega
theorem qt_pGr : qt pGr := fun a i q1 q2 => by unfold pGr at q2; omega
theorem qt_rGr : qt rGr := fun a i q1 q2 => by unfold rGr at q2; omega
theorem qt_psc : qt psc := fun a i q1 q2 => by unfold psc at q2; omega
theorem qt_qsc : qt qsc := fun a i q1 q2 => by unfold qsc at q2; omega
theorem ST.gr {P Q : Nat → Nat → Prop} {M M' : Mem} (h : ST M) (d : Df P Q rGr M M') : ST M' := h.df d (fun p hp hr => by
  rcases hr with e | e
  · exact (stR_na p hp).1 e
  · exact (stR_na p hp).2.1 e)
/-- a row to take cells from -/
def rowok (M : Mem) (r p : Nat) : Prop := r ≠ 0 ∧ r ≠ 6 ∧ r < m_nx M ∧ m_tg M r = 1006 ∧ p ≤ m_ln M r ∧ m_ln M r ≤ 100000
theorem I5.df {P Q R : Nat → Nat → Prop} {M M' : Mem} (h : ST M) (h5 : I5 M) (d : Df P Q R M M') (hP : qt P) (hQ : qt Q) (hR : qt R) (hp : noGr P) (hr : ∀ i, ¬ R 1005 i ∧ ¬ R 1070 i) : I5 M' := by
  obtain ⟨m, w, K, n, Z, S, T, X, Y, C, D, L, Pp, h5⟩ := h5
  exact ⟨m, w, K, n, Z, S, T, X, Y, C, D, L, Pp, h5.df h d hP hQ hR hp hr⟩
/-- both make a grid: the engine first; what the model does then, after what it works out -/
theorem mkB {PA QA : Nat → Nat → Prop} {M A : Mem} {m w : Nat} {K : Nat → Int32} {n : Nat → Nat} {Z : Nat → Nat → Nat} {S T : Nat → Nat → Int32} {X Y : Nat → Int32} {C D L : Nat → Nat} {P : Nat → Int32} (h : ST M) (h5 : I5w M m w K n Z S T X Y C D L P)
    (dA : Df PA QA rsc M A) (pA : qt PA) (qA : qt QA) (gA : noGr PA)
    {k : Int32} {n' : Nat} {z : Nat → Nat} {r : Nat} (v : Nat → Int64) (hk : Lk k) (hn : n' ≤ 4) (hz : ∀ i, i < n' → cI A 1062 i = iw (z i) ∧ z i ≤ 4096) (ha : cI A 1000 89 = iw n') (hr : prd z n' ≤ 100000 → rowok A r (prd z n')) (hv : prd z n' ≤ 100000 → ∀ i, i < prd z n' → cJ A r i = v i ∧ vb k (v i)) :
    ∃ M1, F_X0_made A 1000 k r = some ((if room m w 1 (prd z n') = true then iw ((m + 1 : Nat) : Int) else -12), M1) ∧ ST M1 ∧ Df pNE n2 rE A M1 ∧ m_nx M1 ≤ m_nx A + 4 ∧ (room m w 1 (prd z n') = false → M1 = A) ∧ cI M1 1068 1093 = iw m ∧ cI M1 1068 1094 = iw w ∧
      ∀ (PB QB : Nat → Nat → Prop) (B : Mem), Df PB QB rsc M1 B → qt PB → qt QB → noGr PB →
        F_X16_isRoom B 1068 (nl (prd z n')) 1 = some (mr (room m w 1 (prd z n'))) ∧
        (room m w 1 (prd z n') = false → I5 B ∧ Df (fun a i => PA a i ∨ PB a i ∨ pGr a i) (fun a i => QA a i ∨ QB a i) (rG M) M B ∧ bud B + m_sl M ≤ bud M + m_sl B) ∧
        (room m w 1 (prd z n') = true → ∀ sa r', IRw B sa n' (fun i => iw (z i)) → rowok B r' (prd z n') → (∀ i, i < prd z n' → cJ B r' i = v i) →
          ∃ M2, F_X16_made B 1068 k sa r' = some (iw ((m + 1 : Nat) : Int), M2) ∧ I5 M2 ∧ Df (fun a i => PA a i ∨ PB a i ∨ pGr a i) (fun a i => QA a i ∨ QB a i) (rG M) M M2 ∧ m_nx M2 = m_nx B + 3 ∧ Df pNM n2 rGr B M2 ∧ bud M2 + m_sl M + m_sl M1 ≤ bud M + m_sl A + m_sl B + 100) := by
  have h0 := h.1
  have nA := dA.1
  have h5' := h5
  obtain ⟨q1, q2, q3, q4, q5, q6, q7, q8⟩ := h5'
  have hAs : ST A := h.sc dA
  have c193 : cI A 1004 193 = iw m := by rw [dA.cI (by omega) (gA _ _ (Or.inl ⟨rfl, Or.inl rfl⟩))]; exact q3
  have c194 : cI A 1004 194 = iw w := by rw [dA.cI (by omega) (gA _ _ (Or.inl ⟨rfl, Or.inr rfl⟩))]; exact q5
  have d193 : cI A 1068 1093 = iw m := by rw [dA.cI (by omega) (gA _ _ (Or.inr ⟨rfl, Or.inl rfl⟩))]; exact q4
  have d194 : cI A 1068 1094 = iw w := by rw [dA.cI (by omega) (gA _ _ (Or.inr ⟨rfl, Or.inr rfl⟩))]; exact q6
  have pl := prd_le (z := z) n' (fun i hi => (hz i hi).2)
  have hp62 : prd z n' < 2 ^ 62 := by
    have : 4096 ^ n' ≤ 4096 ^ 4 := Nat.pow_le_pow_right (by decide) hn
    omega
  have u1 : ∀ PB QB : Nat → Nat → Prop, Df (fun a i => PA a i ∨ PB a i ∨ pGr a i) (fun a i => QA a i ∨ QB a i) (rG M) M A := fun _ _ => dA.mono (fun _ _ p => Or.inl p) (fun _ _ p => Or.inl p) (fun _ _ p => Or.inr p)
  rcases E_made (k := k) (r := r) hAs hn hz ha q1 q2 c193 c194 (fun hp => Or.inr (hr hp)) with ⟨rm, md⟩ | ⟨rm, hp, hm, hwp, M1, e0, e1, eS, e2, e3, e4, eC, e5, e6, e7, e8⟩
  · refine ⟨A, by rw [rm, md]; rfl, hAs, Df.refl _ _ _ _, by omega, fun _ => rfl, d193, d194, fun PB QB B dB pB qB gB => ⟨?_, fun _ => ?_, fun hh => by rw [rm] at hh; exact absurd hh (by decide)⟩⟩
    · exact M_room (g := 1) (hAs.sc dB) q1 q2 (by decide) hp62 (by rw [dB.cI (by omega) (gB _ _ (Or.inr ⟨rfl, Or.inl rfl⟩))]; exact d193) (by rw [dB.cI (by omega) (gB _ _ (Or.inr ⟨rfl, Or.inr rfl⟩))]; exact d194)
    · have dd : Df (fun a i => PA a i ∨ PB a i) (fun a i => QA a i ∨ QB a i) rsc M B := (dA.mono (fun _ _ p => Or.inl p) (fun _ _ p => Or.inl p) (fun _ _ p => p)).trans (dB.mono (fun _ _ p => Or.inr p) (fun _ _ p => Or.inr p) (fun _ _ p => p))
      refine ⟨⟨m, w, K, n, Z, S, T, X, Y, C, D, L, P, h5.df h dd (fun a i a1 a2 => a2.elim (pA a i a1) (pB a i a1)) (fun a i a1 a2 => a2.elim (qA a i a1) (qB a i a1)) qt_rsc (fun a i a1 a2 => a2.elim (gA a i a1) (gB a i a1)) rsc_5⟩, dd.mono (fun _ _ p => p.imp id Or.inl) (fun _ _ p => p) (fun _ _ p => Or.inr p), ?_⟩
      unfold bud
      rw [dB.cI (by omega) (gB _ _ (Or.inl ⟨rfl, Or.inr rfl⟩)), c194, q5]
      omega
  · have h1 : ST M1 := hAs.df e8 (fun p hp hr => (stR_na p hp).1 hr.1)
    refine ⟨M1, by rw [rm, e0]; rfl, h1, e8.mono (fun _ _ p => p) (fun _ _ p => p) (fun _ _ p => p.1), by omega, fun hh => by rw [rm] at hh; exact absurd hh (by decide), by rw [e8.cI (by omega) (by unfold pNE; omega)]; exact d193, by rw [e8.cI (by omega) (by unfold pNE; omega)]; exact d194, fun PB QB B dB pB qB gB => ⟨?_, fun hh => by rw [rm] at hh; exact absurd hh (by decide), fun _ sa r' hs hrB hvB => ?_⟩⟩
    · exact M_room (g := 1) (h1.sc dB) q1 q2 (by decide) hp62 (by rw [dB.cI (by omega) (gB _ _ (Or.inr ⟨rfl, Or.inl rfl⟩)), e8.cI (by omega) (by unfold pNE; omega)]; exact d193) (by rw [dB.cI (by omega) (gB _ _ (Or.inr ⟨rfl, Or.inr rfl⟩)), e8.cI (by omega) (by unfold pNE; omega)]; exact d194)
    · have hBs : ST B := h1.sc dB
      have nB := dB.1
      obtain ⟨M2, f0, f1, fS, f2, f3, f4, fC, f5, f6, f7, f8⟩ := M_made (k := k) (r := r') (z := z) hBs hn (fun i hi => (hz i hi).2) hs hp hm hwp (by rw [dB.cI (by omega) (gB _ _ (Or.inr ⟨rfl, Or.inl rfl⟩)), e8.cI (by omega) (by unfold pNE; omega)]; exact d193) (by rw [dB.cI (by omega) (gB _ _ (Or.inr ⟨rfl, Or.inr rfl⟩)), e8.cI (by omega) (by unfold pNE; omega)]; exact d194) (Or.inr hrB)
      obtain ⟨g5, gD⟩ := mk2 h h5 hm dA pA qA gA hk hn (fun i hi => (hz i hi).2) hp hwp e1 e2 e3 e4 e5 e6 e7 e8 dB pB qB gB f1 f2 f3 f4 f5 f6 f7 f8 (fun i hi => by
        rw [eC i hi, fC i hi, if_neg (hr hp).1, if_neg hrB.1, (hv hp i hi).1, hvB i hi]
        exact ⟨rfl, (hv hp i hi).2⟩)
      refine ⟨M2, f0, g5, gD.mono (fun _ _ p => p) (fun _ _ p => p) (fun _ _ p => rG_of q1 q3 p), f1, f8.mono (fun _ _ p => p) (fun _ _ p => p) (fun _ _ p => Or.inr p.1), ?_⟩
      have x22 : x_cn 22 ≤ 20 := by decide
      have x23 : x_cn 23 ≤ 20 := by decide
      unfold bud
      rw [f8.cI (by omega) (by unfold pNM; omega), dB.cI (by omega) (gB _ _ (Or.inl ⟨rfl, Or.inr rfl⟩)), e6, q5, iw_toInt (by omega) (by omega), iw_toInt (by omega) (by omega)]
      omega
/-- the same, the model looking for room and making in one -/
theorem mkC {PA QA : Nat → Nat → Prop} {M A : Mem} {m w : Nat} {K : Nat → Int32} {n : Nat → Nat} {Z : Nat → Nat → Nat} {S T : Nat → Nat → Int32} {X Y : Nat → Int32} {C D L : Nat → Nat} {P : Nat → Int32} (h : ST M) (h5 : I5w M m w K n Z S T X Y C D L P)
    (dA : Df PA QA rsc M A) (pA : qt PA) (qA : qt QA) (gA : noGr PA)
    {k : Int32} {n' : Nat} {z : Nat → Nat} {r : Nat} (v : Nat → Int64) (hk : Lk k) (hn : n' ≤ 4) (hz : ∀ i, i < n' → cI A 1062 i = iw (z i) ∧ z i ≤ 4096) (ha : cI A 1000 89 = iw n') (hr : prd z n' ≤ 100000 → rowok A r (prd z n')) (hv : prd z n' ≤ 100000 → ∀ i, i < prd z n' → cJ A r i = v i ∧ vb k (v i)) :
    ∃ (ρ : Int32) (M1 : Mem), F_X0_made A 1000 k r = some (ρ, M1) ∧ ST M1 ∧ Df pNE n2 rE A M1 ∧ m_nx M1 ≤ m_nx A + 4 ∧
      ∀ (PB QB : Nat → Nat → Prop) (B : Mem), Df PB QB rsc M1 B → qt PB → qt QB → noGr PB →
        ∀ sa r', IRw B sa n' (fun i => iw (z i)) → (prd z n' ≤ 100000 → rowok B r' (prd z n') ∧ ∀ i, i < prd z n' → cJ B r' i = v i) →
          ∃ M2, F_X16_madeIfRoom B 1068 k sa r' = some (ρ, M2) ∧ I5 M2 ∧ Df (fun a i => PA a i ∨ PB a i ∨ pGr a i) (fun a i => QA a i ∨ QB a i) (rG M) M M2 ∧ m_nx M2 ≤ m_nx B + 3 ∧ Df pNM n2 rGr B M2 ∧ bud M2 + m_sl M + m_sl M1 ≤ bud M + m_sl A + m_sl B + 100 := by
  obtain ⟨M1, e0, e1, e2, e3, e4, -, -, e6⟩ := mkB h h5 dA pA qA gA (k := k) (r := r) v hk hn hz ha hr hv
  refine ⟨_, M1, e0, e1, e2, e3, fun PB QB B dB pB qB gB sa r' hs hB => ?_⟩
  obtain ⟨f1, f2, f3⟩ := e6 PB QB B dB pB qB gB
  have hBs : ST B := e1.sc dB
  have hc := M_count16 (n := n') (z := z) hs.2.2.1 hs.2.2.2.1 (Nat.le_refl _) hn (fun i hi => ⟨hs.2.2.2.2 i hi, (hz i hi).2⟩)
  have sl1 := e2.2.1
  have head : F_X16_madeIfRoom B 1068 k sa r' = if room m w 1 (prd z n') = true then F_X16_made B 1068 k sa r' else some (-12, B) := by
    simp only [F_X16_madeIfRoom, F_X16_madeIfRoom_b26, an_of hs.2.2.1 (by decide) hs.2.2.2.1, hc, v1068, hBs, f1, Option.bind_some]
    cases room m w 1 (prd z n')
    · rfl
    · simp only [show ¬ mr true = 0 by decide, if_false, if_true]
      cases F_X16_made B 1068 k sa r' <;> rfl
  cases hb : room m w 1 (prd z n') with
  | false =>
    obtain ⟨g1, g2, g3⟩ := f2 hb
    rw [hb, if_neg (by decide)] at head
    have := e4 hb
    subst this
    exact ⟨B, by rw [head, if_neg (by decide)], g1, g2, by omega, Df.refl _ _ _ _, by omega⟩
  | true =>
    have hd := of_decide_eq_true hb
    obtain ⟨g1, g2⟩ := hB (by omega)
    obtain ⟨M2, k1, k2, k3, k4, k6, k5⟩ := f3 hb sa r' hs g1 g2
    rw [hb, if_pos rfl, k1] at head
    exact ⟨M2, by rw [head, if_pos rfl], k2, k3, by omega, k6, k5⟩

/-- what a call may change: scratch and p; grids' books too -/
def pp (p : Nat → Nat → Prop) : Nat → Nat → Prop := fun a i => psc a i ∨ p a i
def pg (p : Nat → Nat → Prop) : Nat → Nat → Prop := fun a i => psc a i ∨ p a i ∨ pGr a i
theorem qt_pp {p : Nat → Nat → Prop} (h : qt p) : qt (pp p) := fun a i q1 q2 => q2.elim (qt_psc a i q1) (h a i q1)
theorem noGr_psc : noGr psc := fun a i q1 q2 => by unfold pGr at q1; unfold psc at q2; omega
theorem noGr_pp {p : Nat → Nat → Prop} (h : noGr p) : noGr (pp p) := fun a i q1 q2 => q2.elim (noGr_psc a i q1) (h a i q1)
theorem noGr_n2 : noGr n2 := fun _ _ _ q => q
theorem pp_pg {p : Nat → Nat → Prop} : ∀ a i, pp p a i → pg p a i := fun _ _ q => q.imp id Or.inl
/-- both answer the same; what holds then, what may have changed -/
def CR (p : Nat → Nat → Prop) (R : Nat → Nat → Prop) (I : Mem → Prop) (M : Mem) (f g : Mem → Option (Int32 × Mem)) : Prop :=
  ∃ (r : Int32) (M1 M2 : Mem), f M = some (r, M1) ∧ g M1 = some (r, M2) ∧ I M2 ∧ I5 M2 ∧ Df p qsc R M M2 ∧ m_nx M2 ≤ m_nx M + 9000 ∧ bud M2 ≤ bud M + 80000
/-- a refusal -/
theorem CR.no {p p' : Nat → Nat → Prop} {R : Nat → Nat → Prop} {I : Mem → Prop} {M : Mem} {f g : Mem → Option (Int32 × Mem)} (h : ST M) (h5 : I5 M) (r : Int32) (M1 M2 : Mem) (e1 : f M = some (r, M1)) (e2 : g M1 = some (r, M2)) (hI : I M2) (d : Df p' qsc n2 M M2) (hp : ∀ a i, p' a i → p a i) (q : qt p') (gp : noGr p') (hn : m_nx M2 ≤ m_nx M + 9000) (hs : m_sl M2 ≤ m_sl M + 80000) : CR p R I M f g := by
  refine ⟨r, M1, M2, e1, e2, hI, h5.df h d q qt_qsc qt_n2 gp (fun i => ⟨fun hh => hh, fun hh => hh⟩), d.mono hp (fun _ _ q => q) (fun _ _ q => q.elim), hn, ?_⟩
  unfold bud
  have h0 := h.1
  rw [d.cI (by omega) (gp _ _ (Or.inl ⟨rfl, Or.inr rfl⟩))]
  omega
/-- the model sees the same grids -/
theorem M_see {P Q R : Nat → Nat → Prop} {M N : Mem} (h : ST M) (d : Df P Q R M N) (hN : ST N) (p1 : ¬ P 1068 1095) (p2 : ¬ P 1068 1093) (r1 : ∀ i, ¬ R 1070 i) (g : Int32) : F_X16_codeOf N 1068 g = F_X16_codeOf M 1068 g ∧ F_X16_isGrid N 1068 g = F_X16_isGrid M 1068 g ∧ ar N 1070 g = ar M 1070 g := by
  have h0 := h.1
  have c1 : cI N 1068 1095 = cI M 1068 1095 := d.cI (by omega) p1
  have c2 : cI N 1068 1093 = cI M 1068 1093 := d.cI (by omega) p2
  have c3 : ar N 1070 g = ar M 1070 g := by
    unfold ar m_in
    rw [(d.2.2 1070 (by omega)).1, (d.2.2 1070 (by omega)).2.1]
    split
    · rw [d.cR (by omega) (r1 _)]
    · rfl
  have c4 : F_X16_isGrid N 1068 g = F_X16_isGrid M 1068 g := by
    simp only [F_X16_isGrid, F_X16_isGrid_b26, F_X16_isGrid_b27, g1068_1093, g1068_1092, hN, h, c2, c3, Option.bind_some]
  refine ⟨?_, c4, c3⟩
  simp only [F_X16_codeOf, F_X16_codeOf_b26, g1068_1095, v1068, hN, h, c1, c4, Option.bind_some]
theorem mkB' {p : Nat → Nat → Prop} {M A : Mem} {m w : Nat} {K : Nat → Int32} {n : Nat → Nat} {Z : Nat → Nat → Nat} {S T : Nat → Nat → Int32} {X Y : Nat → Int32} {C D L : Nat → Nat} {P : Nat → Int32} (h : ST M) (h5 : I5w M m w K n Z S T X Y C D L P)
    (dA : Df (pp p) qsc n2 M A) (pA : qt p) (gA : noGr p)
    {k : Int32} {n' : Nat} {z : Nat → Nat} {r : Nat} (v : Nat → Int64) (hk : Lk k) (hn : n' ≤ 4) (hz : ∀ i, i < n' → cI A 1062 i = iw (z i) ∧ z i ≤ 4096) (ha : cI A 1000 89 = iw n') (hr : prd z n' ≤ 100000 → rowok A r (prd z n')) (hv : prd z n' ≤ 100000 → ∀ i, i < prd z n' → cJ A r i = v i ∧ vb k (v i)) :
    ∃ M1, F_X0_made A 1000 k r = some ((if room m w 1 (prd z n') = true then iw ((m + 1 : Nat) : Int) else -12), M1) ∧ ST M1 ∧ Df pNE n2 rE A M1 ∧ m_nx M1 ≤ m_nx A + 4 ∧ (room m w 1 (prd z n') = false → M1 = A) ∧
      ∀ (B : Mem), Df (pp p) qsc n2 M1 B →
        F_X16_isRoom B 1068 (nl (prd z n')) 1 = some (mr (room m w 1 (prd z n'))) ∧
        (room m w 1 (prd z n') = false → I5 B ∧ Df (pg p) qsc (rG M) M B ∧ bud B + m_sl M ≤ bud M + m_sl B) ∧
        (room m w 1 (prd z n') = true → ∀ sa r', IRw B sa n' (fun i => iw (z i)) → rowok B r' (prd z n') → (∀ i, i < prd z n' → cJ B r' i = v i) →
          ∃ M2, F_X16_made B 1068 k sa r' = some (iw ((m + 1 : Nat) : Int), M2) ∧ I5 M2 ∧ Df (pg p) qsc (rG M) M M2 ∧ m_nx M2 = m_nx B + 3 ∧ Df pNM n2 rGr B M2 ∧ bud M2 + m_sl M + m_sl M1 ≤ bud M + m_sl A + m_sl B + 100) := by
  obtain ⟨M1, e0, e1, e2, e3, e4, -, -, e6⟩ := mkB h h5 dA.sc (qt_pp pA) qt_qsc (noGr_pp gA) (k := k) (r := r) v hk hn hz ha hr hv
  refine ⟨M1, e0, e1, e2, e3, e4, fun B dB => ?_⟩
  obtain ⟨f1, f2, f3⟩ := e6 _ _ B dB.sc (qt_pp pA) qt_qsc (noGr_pp gA)
  have mo : ∀ a i, (pp p a i ∨ pp p a i ∨ pGr a i) → pg p a i := fun a i q => by
    rcases q with q | q | q
    · exact pp_pg a i q
    · exact pp_pg a i q
    · exact Or.inr (Or.inr q)
  refine ⟨f1, fun hb => ?_, fun hb sa r' a1 a2 a3 => ?_⟩
  · obtain ⟨g1, g2, g3⟩ := f2 hb
    exact ⟨g1, g2.mono mo (fun _ _ q => q.elim id id) (fun _ _ q => q), g3⟩
  · obtain ⟨M2, k1, k2, k3, k4, k5⟩ := f3 hb sa r' a1 a2 a3
    exact ⟨M2, k1, k2, k3.mono mo (fun _ _ q => q.elim id id) (fun _ _ q => q), k4, k5⟩
theorem mkC' {p : Nat → Nat → Prop} {M A : Mem} {m w : Nat} {K : Nat → Int32} {n : Nat → Nat} {Z : Nat → Nat → Nat} {S T : Nat → Nat → Int32} {X Y : Nat → Int32} {C D L : Nat → Nat} {P : Nat → Int32} (h : ST M) (h5 : I5w M m w K n Z S T X Y C D L P)
    (dA : Df (pp p) qsc n2 M A) (pA : qt p) (gA : noGr p)
    {k : Int32} {n' : Nat} {z : Nat → Nat} {r : Nat} (v : Nat → Int64) (hk : Lk k) (hn : n' ≤ 4) (hz : ∀ i, i < n' → cI A 1062 i = iw (z i) ∧ z i ≤ 4096) (ha : cI A 1000 89 = iw n') (hr : prd z n' ≤ 100000 → rowok A r (prd z n')) (hv : prd z n' ≤ 100000 → ∀ i, i < prd z n' → cJ A r i = v i ∧ vb k (v i)) :
    ∃ (ρ : Int32) (M1 : Mem), F_X0_made A 1000 k r = some (ρ, M1) ∧ ST M1 ∧ Df pNE n2 rE A M1 ∧ m_nx M1 ≤ m_nx A + 4 ∧
      ∀ (B : Mem), Df (pp p) qsc n2 M1 B →
        ∀ sa r', IRw B sa n' (fun i => iw (z i)) → (prd z n' ≤ 100000 → rowok B r' (prd z n') ∧ ∀ i, i < prd z n' → cJ B r' i = v i) →
          ∃ M2, F_X16_madeIfRoom B 1068 k sa r' = some (ρ, M2) ∧ I5 M2 ∧ Df (pg p) qsc (rG M) M M2 ∧ m_nx M2 ≤ m_nx B + 3 ∧ Df pNM n2 rGr B M2 ∧ bud M2 + m_sl M + m_sl M1 ≤ bud M + m_sl A + m_sl B + 100 := by
  obtain ⟨ρ, M1, e0, e1, e2, e3, e6⟩ := mkC h h5 dA.sc (qt_pp pA) qt_qsc (noGr_pp gA) (k := k) (r := r) v hk hn hz ha hr hv
  refine ⟨ρ, M1, e0, e1, e2, e3, fun B dB sa r' a1 a2 => ?_⟩
  obtain ⟨M2, k1, k2, k3, k4, k5⟩ := e6 _ _ B dB.sc (qt_pp pA) qt_qsc (noGr_pp gA) sa r' a1 a2
  refine ⟨M2, k1, k2, k3.mono (fun a i q => ?_) (fun _ _ q => q.elim id id) (fun _ _ q => q), k4, k5⟩
  rcases q with q | q | q
  · exact pp_pg a i q
  · exact pp_pg a i q
  · exact Or.inr (Or.inr q)
theorem mkBs {p : Nat → Nat → Prop} {M A : Mem} {m w : Nat} {K : Nat → Int32} {n : Nat → Nat} {Z : Nat → Nat → Nat} {S T : Nat → Nat → Int32} {X Y : Nat → Int32} {C D L : Nat → Nat} {P : Nat → Int32} (h : ST M) (h5 : I5w M m w K n Z S T X Y C D L P)
    (dA : Df (pp p) qsc rsc M A) (pA : qt p) (gA : noGr p)
    {k : Int32} {n' : Nat} {z : Nat → Nat} {r : Nat} (v : Nat → Int64) (hk : Lk k) (hn : n' ≤ 4) (hz : ∀ i, i < n' → cI A 1062 i = iw (z i) ∧ z i ≤ 4096) (ha : cI A 1000 89 = iw n') (hr : prd z n' ≤ 100000 → rowok A r (prd z n')) (hv : prd z n' ≤ 100000 → ∀ i, i < prd z n' → cJ A r i = v i ∧ vb k (v i)) :
    ∃ M1, F_X0_made A 1000 k r = some ((if room m w 1 (prd z n') = true then iw ((m + 1 : Nat) : Int) else -12), M1) ∧ ST M1 ∧ Df pNE n2 rE A M1 ∧ m_nx M1 ≤ m_nx A + 4 ∧ (room m w 1 (prd z n') = false → M1 = A) ∧
      ∀ (B : Mem), Df (pp p) qsc rsc M1 B →
        F_X16_isRoom B 1068 (nl (prd z n')) 1 = some (mr (room m w 1 (prd z n'))) ∧
        (room m w 1 (prd z n') = false → I5 B ∧ Df (pg p) qsc (rG M) M B ∧ bud B + m_sl M ≤ bud M + m_sl B) ∧
        (room m w 1 (prd z n') = true → ∀ sa r', IRw B sa n' (fun i => iw (z i)) → rowok B r' (prd z n') → (∀ i, i < prd z n' → cJ B r' i = v i) →
          ∃ M2, F_X16_made B 1068 k sa r' = some (iw ((m + 1 : Nat) : Int), M2) ∧ I5 M2 ∧ Df (pg p) qsc (rG M) M M2 ∧ m_nx M2 = m_nx B + 3 ∧ Df pNM n2 rGr B M2 ∧ bud M2 + m_sl M + m_sl M1 ≤ bud M + m_sl A + m_sl B + 100) := by
  obtain ⟨M1, e0, e1, e2, e3, e4, -, -, e6⟩ := mkB h h5 dA (qt_pp pA) qt_qsc (noGr_pp gA) (k := k) (r := r) v hk hn hz ha hr hv
  refine ⟨M1, e0, e1, e2, e3, e4, fun B dB => ?_⟩
  obtain ⟨f1, f2, f3⟩ := e6 _ _ B dB (qt_pp pA) qt_qsc (noGr_pp gA)
  have mo : ∀ a i, (pp p a i ∨ pp p a i ∨ pGr a i) → pg p a i := fun a i q => by
    rcases q with q | q | q
    · exact pp_pg a i q
    · exact pp_pg a i q
    · exact Or.inr (Or.inr q)
  refine ⟨f1, fun hb => ?_, fun hb sa r' a1 a2 a3 => ?_⟩
  · obtain ⟨g1, g2, g3⟩ := f2 hb
    exact ⟨g1, g2.mono mo (fun _ _ q => q.elim id id) (fun _ _ q => q), g3⟩
  · obtain ⟨M2, k1, k2, k3, k4, k5⟩ := f3 hb sa r' a1 a2 a3
    exact ⟨M2, k1, k2, k3.mono mo (fun _ _ q => q.elim id id) (fun _ _ q => q), k4, k5⟩
theorem mkCs {p : Nat → Nat → Prop} {M A : Mem} {m w : Nat} {K : Nat → Int32} {n : Nat → Nat} {Z : Nat → Nat → Nat} {S T : Nat → Nat → Int32} {X Y : Nat → Int32} {C D L : Nat → Nat} {P : Nat → Int32} (h : ST M) (h5 : I5w M m w K n Z S T X Y C D L P)
    (dA : Df (pp p) qsc rsc M A) (pA : qt p) (gA : noGr p)
    {k : Int32} {n' : Nat} {z : Nat → Nat} {r : Nat} (v : Nat → Int64) (hk : Lk k) (hn : n' ≤ 4) (hz : ∀ i, i < n' → cI A 1062 i = iw (z i) ∧ z i ≤ 4096) (ha : cI A 1000 89 = iw n') (hr : prd z n' ≤ 100000 → rowok A r (prd z n')) (hv : prd z n' ≤ 100000 → ∀ i, i < prd z n' → cJ A r i = v i ∧ vb k (v i)) :
    ∃ (ρ : Int32) (M1 : Mem), F_X0_made A 1000 k r = some (ρ, M1) ∧ ST M1 ∧ Df pNE n2 rE A M1 ∧ m_nx M1 ≤ m_nx A + 4 ∧
      ∀ (B : Mem), Df (pp p) qsc rsc M1 B →
        ∀ sa r', IRw B sa n' (fun i => iw (z i)) → (prd z n' ≤ 100000 → rowok B r' (prd z n') ∧ ∀ i, i < prd z n' → cJ B r' i = v i) →
          ∃ M2, F_X16_madeIfRoom B 1068 k sa r' = some (ρ, M2) ∧ I5 M2 ∧ Df (pg p) qsc (rG M) M M2 ∧ m_nx M2 ≤ m_nx B + 3 ∧ Df pNM n2 rGr B M2 ∧ bud M2 + m_sl M + m_sl M1 ≤ bud M + m_sl A + m_sl B + 100 := by
  obtain ⟨ρ, M1, e0, e1, e2, e3, e6⟩ := mkC h h5 dA (qt_pp pA) qt_qsc (noGr_pp gA) (k := k) (r := r) v hk hn hz ha hr hv
  refine ⟨ρ, M1, e0, e1, e2, e3, fun B dB sa r' a1 a2 => ?_⟩
  obtain ⟨M2, k1, k2, k3, k4, k5⟩ := e6 _ _ B dB (qt_pp pA) qt_qsc (noGr_pp gA) sa r' a1 a2
  refine ⟨M2, k1, k2, k3.mono (fun a i q => ?_) (fun _ _ q => q.elim id id) (fun _ _ q => q), k4, k5⟩
  rcases q with q | q | q
  · exact pp_pg a i q
  · exact pp_pg a i q
  · exact Or.inr (Or.inr q)
/-- a refusal, with references that are worked with -/
theorem CR.nos {p p' : Nat → Nat → Prop} {I : Mem → Prop} {M : Mem} {f g : Mem → Option (Int32 × Mem)} (h : ST M) (h5 : I5 M) (r : Int32) (M1 M2 : Mem) (e1 : f M = some (r, M1)) (e2 : g M1 = some (r, M2)) (hI : I M2) (d : Df p' qsc rsc M M2) (hp : ∀ a i, p' a i → p a i) (q : qt p') (gp : noGr p') (hn : m_nx M2 ≤ m_nx M + 9000) (hs : m_sl M2 ≤ m_sl M + 80000) : CR p (rG M) I M f g := by
  refine ⟨r, M1, M2, e1, e2, hI, h5.df h d q qt_qsc qt_rsc gp rsc_5, d.mono hp (fun _ _ q => q) (fun _ _ q => Or.inr q), hn, ?_⟩
  unfold bud
  have h0 := h.1
  rw [d.cI (by omega) (gp _ _ (Or.inl ⟨rfl, Or.inr rfl⟩))]
  omega
