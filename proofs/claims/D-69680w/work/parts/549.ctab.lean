/-! ===== CALLS: table ===== -/
def pTt : Nat → Nat → Prop := fun a i => (a = 1000 ∧ (i = 95 ∨ i = 65)) ∨ (a = 1068 ∧ (i = 1091 ∨ i = 1089 ∨ i = 1123 ∨ i = 1124)) ∨ (a = 1037 ∧ (i = 771 ∨ i = 773 ∨ i = 774 ∨ i = 776 ∨ i = 779 ∨ i = 780)) ∨ (a = 1038 ∧ i = 833) ∨ a = 1039
def rTt : Nat → Nat → Prop := fun a i => rsc a i ∨ a = 1040 ∨ a = 1324
theorem qt_pTt : qt pTt := fun a i q1 q2 => by unfold pTt at q2; omega
theorem noGr_pTt : noGr pTt := fun a i q1 q2 => by unfold pGr at q1; unfold pTt at q2; omega
theorem qt_rTt : qt rTt := fun a i q1 q2 => by
  rcases q2 with q | q | q
  · exact qt_rsc a i q1 q
  · omega
  · omega
theorem rTt_5 (i : Nat) : ¬ rTt 1005 i ∧ ¬ rTt 1070 i := ⟨fun q => by rcases q with q | q | q; exact (rsc_5 i).1 q; omega; omega, fun q => by rcases q with q | q | q; exact (rsc_5 i).2 q; omega; omega⟩
theorem rTt_st : ∀ p ∈ stR, ¬ rTt p.1 p.2.1 := fun p hp q => by
  rcases q with q | q | q
  · exact q.2 p hp ⟨rfl, rfl⟩
  · have hh : stR.all (fun p => !(p.1 == 1040)) = true := by decide +kernel
    have k := List.all_eq_true.mp hh p hp
    rw [q] at k
    cases k
  · have hh : stR.all (fun p => !(p.1 == 1324)) = true := by decide +kernel
    have k := List.all_eq_true.mp hh p hp
    rw [q] at k
    cases k
theorem rsc_772 : rsc 1037 772 := ⟨by omega, fun p hp q => by
  have hh : stR.all (fun p => !(p.1 == 1037 && p.2.1 == 772)) = true := by decide +kernel
  have k := List.all_eq_true.mp hh p hp
  rw [q.1, q.2] at k
  cases k⟩
theorem tab_no {M M2 : Mem} (h : ST M) (h5 : I5 M) (d : Df (pp pTt) qsc rTt M M2) : I5 M2 ∧ bud M2 + m_sl M = bud M + m_sl M2 := by
  refine ⟨h5.df h d (qt_pp qt_pTt) qt_qsc qt_rTt (noGr_pp noGr_pTt) rTt_5, ?_⟩
  have h0 := h.1
  unfold bud
  rw [d.cI (by omega) (noGr_pp noGr_pTt _ _ (Or.inl ⟨rfl, Or.inr rfl⟩))]
  omega
theorem pp_pTt : ∀ a i, ((a = 1000 ∧ (i = 94 ∨ i = 96 ∨ i = 97 ∨ i = 98 ∨ i = 91)) ∨ (a = 1068 ∧ (i = 1102 ∨ i = 1113 ∨ i = 1095 ∨ i = 1132 ∨ i = 1117)) ∨ a = 1063 ∨ a = 1083) → ¬ pp pTt a i := fun a i q hh => by
  unfold pp psc pTt at hh
  omega
/-- what table leaves -/
def TCn (M : Mem) (t : Nat) (Z : Nat → Prop) : Prop := ∃ (r : Int32) (M1 M2 : Mem) (Z' : Nat → Prop), F_X0_table M 1000 = some (r, M1) ∧ F_X16_table M1 1068 = some (r, M2) ∧ I1 M2 ∧ I4 M2 ∧ I6 M2 Z' ∧ (∀ x, Z x → Z' x) ∧ (∀ x, Z' x → Z x ∨ m_nx M ≤ x) ∧ I5 M2 ∧ Df (pp pTt) qsc rTt M M2 ∧ m_nx M2 ≤ m_nx M + 10 * t + 100 ∧ bud M2 ≤ bud M + ((3605 * t + 17000 : Nat) : Int)
def pT1 : Nat → Nat → Prop := fun a i => pTd a i ∨ (a = 1000 ∧ (i = 95 ∨ i = 65))
def pT2 : Nat → Nat → Prop := fun a i => a = 1002 ∨ (a = 1000 ∧ i = 95)
def pT3 : Nat → Nat → Prop := fun a i => (a = 1068 ∧ (i = 1091 ∨ i = 1089)) ∨ a = 1075
theorem psc_t (i : Nat) : psc 1041 i ∧ psc 1042 i ∧ psc 1043 i ∧ psc 1002 i ∧ psc 1075 i := by unfold psc; exact ⟨by omega, by omega, by omega, by omega, by omega⟩
theorem pTt_37 {i : Nat} (h : i = 771 ∨ i = 773 ∨ i = 774 ∨ i = 776 ∨ i = 779 ∨ i = 780) : pp pTt 1037 i := Or.inr (Or.inr (Or.inr (Or.inl ⟨rfl, h⟩)))
theorem pT1_p : ∀ a i, pT1 a i → pp pTt a i := fun a i q => by
  rcases q with ((⟨rfl, q⟩ | rfl | rfl | rfl) | ⟨rfl, q⟩) | q
  · exact pTt_37 (by omega)
  · exact Or.inl (psc_t i).1
  · exact Or.inl (psc_t i).2.1
  · exact Or.inl (psc_t i).2.2.1
  · exact pTt_37 (by omega)
  · exact Or.inr (Or.inl q)
theorem pT2_p : ∀ a i, pT2 a i → pp pTt a i := fun a i q => by
  rcases q with rfl | ⟨rfl, q⟩
  · exact Or.inl (psc_t i).2.2.2.1
  · exact Or.inr (Or.inl ⟨rfl, Or.inl q⟩)
theorem pT3_p : ∀ a i, pT3 a i → pp pTt a i := fun a i q => by
  rcases q with ⟨rfl, q⟩ | rfl
  · exact Or.inr (Or.inr (Or.inl ⟨rfl, by omega⟩))
  · exact Or.inl (psc_t i).2.2.2.2
theorem pMk_p (W : Nat) : ∀ a i, pMk W a i → pp pTt a i := fun a i q => by
  rcases q with ⟨rfl, q⟩ | ⟨rfl, q⟩ | ⟨rfl, q⟩
  · exact pTt_37 (Or.inl q)
  · exact Or.inr (Or.inr (Or.inr (Or.inr (Or.inr rfl))))
  · exact Or.inr (Or.inr (Or.inr (Or.inr (Or.inl ⟨rfl, q⟩))))
theorem pMt_p : ∀ a i, pMt a i → pp pTt a i := fun a i q => by
  rcases q with ⟨rfl, q⟩ | rfl
  · exact Or.inr (Or.inr (Or.inl ⟨rfl, by omega⟩))
  · exact Or.inl (psc_t i).2.2.2.2
theorem rTd_t : ∀ a i, rTd a i → rTt a i := fun a i q => by
  unfold rTd at q
  rw [q.1, q.2]
  exact Or.inl rsc_772
theorem pp_66 : ¬ pp pTt 1000 66 ∧ ¬ pp pTt 1068 1090 := by unfold pp psc pTt; omega
theorem pT1_n : (∀ i, ¬ pT1 1068 i) ∧ (∀ i, ¬ pT1 1069 i) ∧ ¬ pT1 1037 771 ∧ ¬ pT1 1038 833 ∧ (∀ i, ¬ pT1 1039 i) ∧ (∀ x i, 1334 ≤ x → ¬ pT1 x i) := by
  refine ⟨fun i q => ?_, fun i q => ?_, fun q => ?_, fun q => ?_, fun i q => ?_, fun x i hx q => ?_⟩ <;> unfold pT1 pTd pTC at q <;> omega
theorem rTd_n : (∀ i, ¬ rTd 1040 i) ∧ (∀ i, ¬ rTd 1324 i) ∧ (∀ x i, 1334 ≤ x → ¬ rTd x i) := by
  refine ⟨fun i q => ?_, fun i q => ?_, fun x i hx q => ?_⟩ <;> unfold rTd at q <;> omega
theorem tab_a {M : Mem} {t f : Nat} (h : ST M) (h1 : I1w M t f) (z97 : cI M 1000 97 = 0) : ∃ A1, F_X0_table M 1000 = tc (F_X11_read A1 1037 1001 (iw (t : Int))) (fun z13 => some (z13.1, z13.2)) (fun z14 => F_X0_table_b33 z14.2 z14.1 1000) ∧ ST A1 ∧ Df (fun a i => a = 1000 ∧ (i = 95 ∨ i = 65)) n2 n2 M A1 ∧ m_nx A1 = m_nx M ∧ m_sl A1 = m_sl M ∧ cI A1 1000 65 = 0 ∧ cI A1 1000 95 = -1 := by
  obtain ⟨t1, t2, t3, t4, t5, t6, t7, t8⟩ := h1
  obtain ⟨A, hA⟩ : ∃ A, A = wI M 1000 95 (-1) := ⟨_, rfl⟩
  have sA : ST A := hA ▸ h
  have cA : cI A 1000 97 = cI M 1000 97 := by rw [hA, cI_wI, if_neg (by decide)]
  obtain ⟨A1, hA1⟩ : ∃ A1, A1 = wI A 1000 65 0 := ⟨_, rfl⟩
  have sA1 : ST A1 := hA1 ▸ sA
  have us : F_X0_used A 1000 = some (iw (t : Int), A1) := by
    have : cI A 1000 65 = iw (t : Int) := by rw [hA, cI_wI, if_neg (by decide)]; exact t4
    simp only [F_X0_used, g1000_65, p1000_65, sA, this, ← hA1, Option.bind_some]
  refine ⟨A1, ?_, sA1, ?_, by rw [hA1, hA]; rfl, by rw [hA1, hA]; rfl, by rw [hA1, cI_wI, if_pos ⟨rfl, rfl⟩], by rw [hA1, cI_wI, if_neg (by decide), hA, cI_wI, if_pos ⟨rfl, rfl⟩]⟩
  · simp only [F_X0_table, p1000_95, h, ← hA, g1000_97, sA, cA, z97, v1000, us, g1000_77, g1000_64, v1037, sA1, Option.bind_some, if_true]
  · rw [hA1, hA]
    exact (Df.wI _ ⟨rfl, Or.inl rfl⟩).trans (Df.wI _ ⟨rfl, Or.inr rfl⟩)
theorem tab_sf {M A1 E : Mem} (h0 : 1334 ≤ m_nx M) (dA1 : Df (fun a i => a = 1000 ∧ (i = 95 ∨ i = 65)) n2 n2 M A1) (nA : m_nx A1 = m_nx M) (a65 : cI A1 1000 65 = 0) (a95 : cI A1 1000 95 = -1) (s : SF A1 E) : Df pT1 n2 rTd M E ∧ (∀ i, cI E 1068 i = cI M 1068 i) ∧ (∀ i, cI E 1069 i = cI M 1069 i) ∧ cI E 1037 771 = cI M 1037 771 ∧ cI E 1038 833 = cI M 1038 833 ∧ cI E 1000 65 = 0 ∧ cI E 1000 95 = -1 := by
  have d2 : Df pT1 n2 rTd M E := (dA1.mono (fun _ _ q => Or.inr q) (fun _ _ q => q) (fun _ _ q => q.elim)).trans (s.2.1.mono (fun _ _ q => Or.inl q) (fun _ _ q => q) (fun _ _ q => q))
  obtain ⟨n1, n2', n3, n4, n5, n6⟩ := pT1_n
  exact ⟨d2, fun i => d2.cI (by omega) (n1 i), fun i => d2.cI (by omega) (n2' i), d2.cI (by omega) n3, d2.cI (by omega) n4, by rw [s.2.1.cI (by omega) (fun q => by unfold pTd pTC at q; omega)]; exact a65, by rw [s.2.1.cI (by omega) (fun q => by unfold pTd pTC at q; omega)]; exact a95⟩
theorem tab_m {M E : Mem} {t f m W : Nat} {ff : Nat → Int32} (h : ST M) (k0 : K0 M) (k4 : m_tg M 4 = 1091 ∧ m_ln M 4 = 0) (h1 : I1w M t f) (hff : ff = cI M 1001) (z95 : cI M 1068 1095 = 0) (e23 : cI M 1068 1123 = iw (m : Int)) (e24 : cI M 1068 1124 = iw (W : Int)) (d : Df (pp pTt) qsc rTt M E) (q1 : ∀ i, cI E 1068 i = cI M 1068 i) (q2 : ∀ i, cI E 1069 i = cI M 1069 i) : ST E ∧ K0 E ∧ (m_tg E 4 = 1091 ∧ m_ln E 4 = 0) ∧ cI E 1068 1095 = 0 ∧ cI E 1068 1089 = iw (t : Int) ∧ (∀ i, i < t → cI E 1069 i = ff i ∧ bt (ff i)) ∧ cI E 1068 1123 = iw (m : Int) ∧ cI E 1068 1124 = iw (W : Int) := by
  obtain ⟨t1, t2, t3, t4, t5, t6, t7, t8⟩ := h1
  have h0 := h.1
  refine ⟨h.df d rTt_st, k0.df h d (fun a i q k => ?_) (fun a i q k => ?_), ⟨(d.2.2 4 (by omega)).1.trans k4.1, (d.2.2 4 (by omega)).2.1.trans k4.2⟩, by rw [q1]; exact z95, by rw [q1]; exact t5, fun i hi => ⟨by rw [q2 i, hff]; exact (t8 i hi).1.symm, by rw [hff]; exact (t8 i hi).2⟩, by rw [q1]; exact e23, by rw [q1]; exact e24⟩
  · clear t8 q1 q2; unfold pp psc pTt at k; omega
  · clear t8 q1 q2
    rcases k with k | k | k
    · have := k.1; omega
    · omega
    · omega
/-- both refuse -/
theorem tab_ref {M E1 E2 M2 : Mem} {t f : Nat} {Z : Nat → Prop} {r c v : Int32} (h : ST M) (h1 : I1 M) (h4 : I4 M) (h5 : I5 M) (h6 : I6 M Z) (u8 : Df pT1 n2 rTd M E1) (u6 : cI E1 1000 65 = 0) (hE2 : E2 = wI (eT E1 c v) 1000 95 v) (hE : F_X0_table M 1000 = some (r, E2)) (w1 : F_X16_table E2 1068 = some (r, M2)) (w2 : cI M2 1068 1091 = v) (w3 : cI M2 1068 1089 = 0) (w4 : Df pT3 n2 n2 E2 M2) (nE : m_nx E1 = m_nx M) (lE : m_sl E1 = m_sl M) (n2' : m_nx M2 ≤ m_nx E2 + 10 * t + 20) (l2 : m_sl M2 ≤ m_sl E2 + 3605 * t + 300) : TCn M t Z := by
  have h0 := h.1
  have dE12 : Df pT2 n2 n2 E1 E2 := by
    rw [hE2]
    unfold eT
    exact ((Df.wI (P := pT2) (Q := n2) (R := n2) (M := E1) (a := 1002) (i := 129) c (Or.inl rfl)).trans (Df.wI (a := 1002) (i := 130) _ (Or.inl rfl))).trans (Df.wI _ (Or.inr ⟨rfl, rfl⟩))
  have nE2 : m_nx E2 = m_nx M ∧ m_sl E2 = m_sl M := by rw [hE2]; exact ⟨nE, lE⟩
  have dM2 : Df (pp pTt) qsc rTt M M2 := ((u8.mono pT1_p (fun _ _ q => q.elim) rTd_t).trans (dE12.mono pT2_p (fun _ _ q => q.elim) (fun _ _ q => q.elim))).trans (w4.mono pT3_p (fun _ _ q => q.elim) (fun _ _ q => q.elim))
  have dM3 : Df (fun a i => pT1 a i ∨ pT2 a i ∨ pT3 a i) n2 rTd M M2 := ((u8.mono (fun _ _ q => Or.inl q) (fun _ _ q => q) (fun _ _ q => q)).trans (dE12.mono (fun _ _ q => Or.inr (Or.inl q)) (fun _ _ q => q) (fun _ _ q => q.elim))).trans (w4.mono (fun _ _ q => Or.inr (Or.inr q)) (fun _ _ q => q) (fun _ _ q => q.elim))
  obtain ⟨y1, y3⟩ := tab_no h h5 dM2
  have c65 : cI M2 1000 65 = 0 := by
    rw [w4.cI (by omega) (fun q => by unfold pT3 at q; omega), hE2, cI_wI, if_neg (by decide)]
    unfold eT
    rw [cI_wI, if_neg (by decide), cI_wI, if_neg (by decide)]
    exact u6
  have c95 : cI M2 1000 95 = v := by rw [w4.cI (by omega) (fun q => by unfold pT3 at q; omega), hE2, cI_wI, if_pos ⟨rfl, rfl⟩]
  obtain ⟨n1, n2'', n3, n4, n5, n6⟩ := pT1_n
  have hZ := h6.1
  refine ⟨r, E2, M2, Z, hE, w1, I1.emp h dM2 h1 c65 w3 pp_66.1 pp_66.2, I4.pl h dM2 h4 (by rw [w2, c95]) pp_pTt, ?_, fun x q => q, fun x q => Or.inl q, y1, dM2, by omega, by omega⟩
  have q23 : ∀ x i, (x = 1039 ∨ x = 1037 ∨ x = 1038 ∨ 1334 ≤ x ∨ (x = 1068 ∧ (i = 1123 ∨ i = 1124))) → ¬ pT2 x i ∧ ¬ pT3 x i := fun x i q => by unfold pT2 pT3; omega
  exact h6.df dM3 h0 ⟨fun x i q k => k.elim (n6 x i (hZ x q).1) (fun k => k.elim (q23 x i (Or.inr (Or.inr (Or.inr (Or.inl (hZ x q).1))))).1 (q23 x i (Or.inr (Or.inr (Or.inr (Or.inl (hZ x q).1))))).2), fun x i q => rTd_n.2.2 x i (hZ x q).1, fun i k => k.elim (n5 i) (fun k => k.elim (q23 _ i (Or.inl rfl)).1 (q23 _ i (Or.inl rfl)).2), fun k => k.elim n3 (fun k => k.elim (q23 _ _ (Or.inr (Or.inl rfl))).1 (q23 _ _ (Or.inr (Or.inl rfl))).2), fun k => k.elim (n1 _) (fun k => k.elim (q23 _ _ (Or.inr (Or.inr (Or.inr (Or.inr ⟨rfl, Or.inl rfl⟩))))).1 (q23 _ _ (Or.inr (Or.inr (Or.inr (Or.inr ⟨rfl, Or.inl rfl⟩))))).2), fun k => k.elim n4 (fun k => k.elim (q23 _ _ (Or.inr (Or.inr (Or.inl rfl)))).1 (q23 _ _ (Or.inr (Or.inr (Or.inl rfl)))).2), fun k => k.elim (n1 _) (fun k => k.elim (q23 _ _ (Or.inr (Or.inr (Or.inr (Or.inr ⟨rfl, Or.inr rfl⟩))))).1 (q23 _ _ (Or.inr (Or.inr (Or.inr (Or.inr ⟨rfl, Or.inr rfl⟩))))).2), rTd_n.1, rTd_n.2.1⟩
/-- what the engine answers -/
theorem tab_b33 {E1 : Mem} (s : ST E1) (c v : Int32) : F_X0_table_b33 (eT E1 c v) 1003 1000 = some (-c, wI (eT E1 c v) 1000 95 v) := by
  have sT : ST (eT E1 c v) := s
  have c30 : cI (eT E1 c v) 1002 130 = v := by unfold eT; rw [cI_wI, if_pos ⟨rfl, rfl⟩]
  obtain ⟨E2, hE2⟩ : ∃ E2, E2 = wI (eT E1 c v) 1000 95 v := ⟨_, rfl⟩
  have c29 : cI E2 1002 129 = c := by rw [hE2, cI_wI, if_neg (by decide)]; unfold eT; rw [cI_wI, if_neg (by decide), cI_wI, if_pos ⟨rfl, rfl⟩]
  have sE2 : ST E2 := hE2 ▸ sT
  rw [← hE2]
  simp only [F_X0_table_b33, g1000_67, g1002_130, sT, c30, p1000_95, ← hE2, g1002_129, sE2, c29, Option.bind_some]
theorem eT_o {E1 : Mem} {c v : Int32} {a i : Nat} (k1 : a ≠ 1000) (k2 : a ≠ 1002) : cI (wI (eT E1 c v) 1000 95 v) a i = cI E1 a i := by
  rw [cI_wI, if_neg (by omega)]
  unfold eT
  rw [cI_wI, if_neg (by omega), cI_wI, if_neg (by omega)]
theorem tab_e2 {M E1 : Mem} {c v : Int32} (u8 : Df pT1 n2 rTd M E1) : Df (pp pTt) qsc rTt M (wI (eT E1 c v) 1000 95 v) := by
  have dE12 : Df pT2 n2 n2 E1 (wI (eT E1 c v) 1000 95 v) := by
    unfold eT
    exact ((Df.wI (P := pT2) (Q := n2) (R := n2) (M := E1) (a := 1002) (i := 129) c (Or.inl rfl)).trans (Df.wI (a := 1002) (i := 130) _ (Or.inl rfl))).trans (Df.wI _ (Or.inr ⟨rfl, rfl⟩))
  exact (u8.mono pT1_p (fun _ _ q => q.elim) rTd_t).trans (dE12.mono pT2_p (fun _ _ q => q.elim) (fun _ _ q => q.elim))
/-- the tables with a new one -/
theorem I6.new {M E1 E2 M2 : Mem} {Z : Nat → Prop} {m W W' : Nat} {D : Nat → Option TD} {d : TD} (h0 : 1334 ≤ m_nx M) (hZ : ∀ x, Z x → 1334 ≤ x ∧ x < m_nx M) (hD : ∀ k, 1 ≤ k → k ≤ m → match D k with
    | none => cR M 1040 k = 0 ∧ cR M 1324 k = 0
    | some d => GT d ∧ TE M Z W (cR M 1040 k) d ∧ TMt M Z (cR M 1324 k) d) (g : GT d) (hm : m < 40) (hW : W ≤ W') (hW2 : W' ≤ 65536)
    (u8 : Df pT1 n2 rTd M E1) (x8 : Df (pMk W) n2 (rMk m) E1 E2) (w7 : Df pMt n2 (rMt m) E2 M2) (nE : m_nx E1 = m_nx M) (nE2 : m_nx E1 + 6 ≤ m_nx E2)
    (x4 : TE E2 (fun x => m_nx E1 ≤ x ∧ x < m_nx E1 + 6) W' (m_nx E1) d) (x5 : cI E2 1037 771 = iw ((m + 1 : Nat) : Int)) (x6 : cR E2 1040 (m + 1) = m_nx E1) (x7 : cI E2 1038 833 = iw (W' : Int))
    (w4 : TMt M2 (fun x => m_nx E2 ≤ x ∧ x < m_nx M2) (cR M2 1324 (m + 1)) d) (w5 : cI M2 1068 1123 = iw ((m + 1 : Nat) : Int)) (w6 : cI M2 1068 1124 = iw (W' : Int)) : I6 M2 (fun x => Z x ∨ (m_nx M ≤ x ∧ x < m_nx M2)) := by
  have nn := w7.1
  have nMt : ∀ x i, (x = 1037 ∨ x = 1038 ∨ x = 1039 ∨ 1334 ≤ x) → ¬ pMt x i := fun x i q k => by unfold pMt at k; omega
  have nMk : ∀ x i, 1334 ≤ x → ¬ pMk W x i := fun x i q k => by unfold pMk pWd at k; omega
  have nMkW : ∀ i, i < W → ¬ pMk W 1039 i := fun i q k => by unfold pMk pWd at k; omega
  have nrMt : ∀ x i, x ≠ 1324 → ¬ rMt m x i := fun x i q k => q k.1
  have nrMk : ∀ x i, x ≠ 1040 → ¬ rMk m x i := fun x i q k => q k.1
  obtain ⟨n1, n2', n3, n4, n5, n6⟩ := pT1_n
  refine ⟨fun x q => ?_, m + 1, W', fun k => if k = m + 1 then some d else D k, by omega, hW2, by rw [w7.cI (by omega) (nMt _ _ (Or.inl rfl))]; exact x5, w5, by rw [w7.cI (by omega) (nMt _ _ (Or.inr (Or.inl rfl)))]; exact x7, w6, fun k k1 k2 => ?_⟩
  · rcases q with q | q
    · have := hZ x q; omega
    · omega
  · simp only []
    by_cases ek : k = m + 1
    · rw [if_pos ek, ek]
      have r40 : cR M2 1040 (m + 1) = m_nx E1 := by rw [w7.cR (by omega) (nrMt _ _ (by decide))]; exact x6
      rw [r40]
      refine ⟨g, ?_, w4.w (fun x q => Or.inr ⟨by have := q.1; omega, q.2⟩)⟩
      refine (x4.df w7 (fun x q => by omega) (fun x i q => nMt x i (Or.inr (Or.inr (Or.inr (by omega))))) (fun x i q => nrMt x i (by omega)) (by omega) (fun i _ => nMt _ _ (Or.inr (Or.inr (Or.inl rfl))))).w (Nat.le_refl _) (fun x q => Or.inr ⟨by omega, by omega⟩)
    · rw [if_neg ek]
      have old := hD k k1 (by omega)
      have r40 : cR M2 1040 k = cR M 1040 k := by rw [w7.cR (by omega) (nrMt _ _ (by decide)), x8.cR (by omega) (fun q => ek q.2), u8.cR (by omega) (rTd_n.1 _)]
      have r24 : cR M2 1324 k = cR M 1324 k := by rw [w7.cR (by omega) (fun q => ek q.2), x8.cR (by omega) (nrMk _ _ (by decide)), u8.cR (by omega) (rTd_n.2.1 _)]
      rw [r40, r24]
      have d3 : Df (fun a i => pT1 a i ∨ pMk W a i ∨ pMt a i) n2 (fun a i => rTd a i ∨ rMk m a i ∨ rMt m a i) M M2 := ((u8.mono (fun _ _ q => Or.inl q) (fun _ _ q => q) (fun _ _ q => Or.inl q)).trans (x8.mono (fun _ _ q => Or.inr (Or.inl q)) (fun _ _ q => q) (fun _ _ q => Or.inr (Or.inl q)))).trans (w7.mono (fun _ _ q => Or.inr (Or.inr q)) (fun _ _ q => q) (fun _ _ q => Or.inr (Or.inr q)))
      have p1 : ∀ x i, Z x → ¬ (pT1 x i ∨ pMk W x i ∨ pMt x i) := fun x i q k => k.elim (n6 x i (hZ x q).1) (fun k => k.elim (nMk x i (hZ x q).1) (nMt x i (Or.inr (Or.inr (Or.inr (hZ x q).1)))))
      have p2 : ∀ x i, Z x → ¬ (rTd x i ∨ rMk m x i ∨ rMt m x i) := fun x i q k => k.elim (rTd_n.2.2 x i (hZ x q).1) (fun k => k.elim (nrMk x i (by have := (hZ x q).1; omega)) (nrMt x i (by have := (hZ x q).1; omega)))
      cases hDk : D k with
      | none => rw [hDk] at old; exact old
      | some d' =>
        rw [hDk] at old
        exact ⟨old.1, (old.2.1.df d3 (fun x q => (hZ x q).2) p1 p2 h0 (fun i hi k => k.elim (n5 i) (fun k => k.elim (nMkW i hi) (nMt _ i (Or.inr (Or.inr (Or.inl rfl))))))).w hW (fun x q => Or.inl q), (old.2.2.df d3 (fun x q => (hZ x q).2) p1 p2).w (fun x q => Or.inl q)⟩
theorem c_table {M : Mem} {t f : Nat} {Z : Nat → Prop} (h : ST M) (k0 : K0 M) (k4 : m_tg M 4 = 1091 ∧ m_ln M 4 = 0) (h1 : I1w M t f) (ht : t ≤ 1280) (h4 : I4 M) (h5 : I5 M) (h6 : I6 M Z) : TCn M t Z := by
  have h0 := h.1
  by_cases c97 : cI M 1000 97 = 1
  · have c95 : cI M 1068 1095 = 1 := by rw [← h4.2.2.2.2.1]; exact c97
    have n10 : ¬ (1 : Int32) = 0 := by decide
    obtain ⟨A, hA⟩ : ∃ A, A = wI M 1000 95 (-1) := ⟨_, rfl⟩
    have sA : ST A := hA ▸ h
    have cA : cI A 1000 97 = cI M 1000 97 := by rw [hA, cI_wI, if_neg (by decide)]
    obtain ⟨B, hB⟩ : ∃ B, B = wI A 1068 1091 (-1) := ⟨_, rfl⟩
    have sB : ST B := hB ▸ sA
    have dB : Df (fun a i => (a = 1000 ∧ i = 95) ∨ (a = 1068 ∧ i = 1091)) n2 n2 M B := by
      rw [hB, hA]
      exact (Df.wI _ (Or.inl ⟨rfl, rfl⟩)).trans (Df.wI _ (Or.inr ⟨rfl, rfl⟩))
    have dB2 : Df (pp pTt) qsc rTt M B := dB.mono (fun a i q => Or.inr (by unfold pTt; omega)) (fun _ _ q => q.elim) (fun _ _ q => q.elim)
    have cB : cI B 1068 1095 = 1 := by rw [dB.cI (by omega) (fun q => by omega)]; exact c95
    obtain ⟨y1, y3⟩ := tab_no h h5 dB2
    have nB : m_nx B = m_nx M ∧ m_sl B = m_sl M := by rw [hB, hA]; exact ⟨rfl, rfl⟩
    obtain ⟨t1, t2, t3, t4, t5, t6, t7, t8⟩ := h1
    have hZ := h6.1
    refine ⟨-13, A, B, Z, ?_, ?_, ⟨t, f, t1, t2, t3, by rw [dB.cI (by omega) (fun q => by omega)]; exact t4, by rw [dB.cI (by omega) (fun q => by omega)]; exact t5, by rw [dB.cI (by omega) (fun q => by omega)]; exact t6, by rw [dB.cI (by omega) (fun q => by omega)]; exact t7, fun i hi => by rw [dB.cI (by omega) (fun q => by omega), dB.cI (by omega) (fun q => by omega)]; exact t8 i hi⟩, ?_, ?_, fun x q => q, fun x q => Or.inl q, y1, dB2, by omega, by omega⟩
    · simp only [F_X0_table, p1000_95, h, ← hA, g1000_97, sA, cA, c97, n10, Option.bind_some, if_false]
    · simp only [F_X16_table, p1068_1091, sA, ← hB, g1068_1095, sB, cB, n10, Option.bind_some, if_false]
    · exact I4.pl h dB2 h4 (by rw [hB, cI_wI, if_neg (by decide), hA, cI_wI, if_pos ⟨rfl, rfl⟩, cI_wI, if_pos ⟨rfl, rfl⟩]) pp_pTt
    · exact h6.df dB h0 ⟨fun x i q k => by have := hZ x q; omega, fun _ _ _ q => q, fun i q => by omega, fun q => by omega, fun q => by omega, fun q => by omega, fun q => by omega, fun _ q => q, fun _ q => q⟩
  have z97 : cI M 1000 97 = 0 := h4.2.2.2.1.resolve_right c97
  have z95 : cI M 1068 1095 = 0 := by rw [← h4.2.2.2.2.1]; exact z97
  have h6x := h6
  obtain ⟨hZ, m, W, D, m40, w65, e71, e23, e33, e24, hD⟩ := h6
  obtain ⟨A1, hdE, sA1, dA1, nA, lA, a65, a95⟩ := tab_a h h1 z97
  obtain ⟨ff, hff⟩ : ∃ ff, ff = cI M 1001 := ⟨_, rfl⟩
  have hb : ∀ i, i < t → bt (ff i) := fun i hi => by rw [hff]; exact (h1.2.2.2.2.2.2.2 i hi).2
  have er := E_readT (M := A1) (f := ff) (n := t) sA1 (by omega) (fun i hi => ⟨by rw [dA1.cI (by omega) (fun q => by omega), hff], hb i hi⟩)
  cases hx : ttx ff t with
  | inl p =>
    rw [hx] at er
    obtain ⟨E1, f1, s1⟩ := er
    obtain ⟨u8, u2, u3, u4, u5, u6, u7⟩ := tab_sf h0 dA1 nA a65 a95 s1
    have hE : F_X0_table M 1000 = some (-20, wI (eT E1 20 (iw (p : Int))) 1000 95 (iw (p : Int))) := by rw [hdE, f1, tc_inr]; exact tab_b33 s1.1 20 _
    obtain ⟨v1, v2, v3, v4, v5, v6, v7, v8⟩ := tab_m h k0 k4 h1 hff z95 e23 e24 (tab_e2 (c := 20) (v := iw (p : Int)) u8) (fun i => (eT_o (by decide) (by decide)).trans (u2 i)) (fun i => (eT_o (by decide) (by decide)).trans (u3 i))
    have mc := M_tableC v1 v2 v3 ht v4 v5 v6 v7 m40 v8 w65
    rw [hx] at mc
    obtain ⟨M2, w1, w2, w3, w4, w5, w6⟩ := mc
    exact tab_ref (f := f) h h1.i1 h4 h5 h6x u8 u6 rfl hE w1 w2 w3 w4 (s1.2.2.1.trans nA) (s1.2.2.2.trans lA) w5 w6
  | inr r =>
    rw [hx] at er
    obtain ⟨E1, f1, tcE, e80, s1, l1, l2, l3, l4⟩ := er
    obtain ⟨u8, u2, u3, u4, u5, u6, u7⟩ := tab_sf h0 dA1 nA a65 a95 s1
    have g := ttx_gt hb hx l1 l2 l3 l4
    have hspl : r.2.2.take r.1 ++ r.2.2.drop r.1 = r.2.2 := List.take_append_drop ..
    have kE1 : K0 E1 := (tab_m h k0 k4 h1 hff z95 e23 e24 (u8.mono pT1_p (fun _ _ q => q.elim) rTd_t) u2 u3).2.1
    have mk := E_makeT (M := E1) (f := ff) (n := t) (C := r.1) (R := r.2.1) (m := m) (W := W) (hd := r.2.2.take r.1) (cs := r.2.2.drop r.1) (by rw [hspl]; exact tcE) kE1 e80 g (u4.trans e71) m40 (u5.trans e33) w65
    rw [hspl] at mk
    by_cases full : m = 40 ∨ 65536 < W + (fla r.2.2).length
    · have hE : F_X0_table M 1000 = some (-12, wI (eT E1 12 (-1)) 1000 95 (-1)) := by
        rw [hdE, f1, mk.1 full]
        exact tab_b33 s1.1 12 (-1)
      obtain ⟨v1, v2, v3, v4, v5, v6, v7, v8⟩ := tab_m h k0 k4 h1 hff z95 e23 e24 (tab_e2 (c := 12) (v := -1) u8) (fun i => (eT_o (by decide) (by decide)).trans (u2 i)) (fun i => (eT_o (by decide) (by decide)).trans (u3 i))
      have mc := M_tableC v1 v2 v3 ht v4 v5 v6 v7 m40 v8 w65
      rw [hx] at mc
      obtain ⟨M2, w1, w2, w3, w4, w5, w6⟩ := (mc _ rfl g).1 full
      exact tab_ref (f := f) h h1.i1 h4 h5 h6x u8 u6 rfl hE w1 w2 w3 w4 (s1.2.2.1.trans nA) (s1.2.2.2.trans lA) w5 w6
    · obtain ⟨E2, x1, x2, x3, x4, x5, x6, x7, x8, x9, x10⟩ := mk.2 full
      have hE : F_X0_table M 1000 = some (iw ((m + 1 : Nat) : Int), E2) := by
        rw [hdE, f1, x1]
        rfl
      have nE1 : m_nx E1 = m_nx M := s1.2.2.1.trans nA
      have lE1 : m_sl E1 = m_sl M := s1.2.2.2.trans lA
      have dE2 : Df (pp pTt) qsc rTt M E2 := (u8.mono pT1_p (fun _ _ q => q.elim) rTd_t).trans (x8.mono (pMk_p W) (fun _ _ q => q.elim) (fun a i q => Or.inr (Or.inl q.1)))
      have k68 : ∀ i, cI E2 1068 i = cI M 1068 i := fun i => by rw [x8.cI (by omega) (fun q => by unfold pMk pWd at q; omega)]; exact u2 i
      have k69 : ∀ i, cI E2 1069 i = cI M 1069 i := fun i => by rw [x8.cI (by omega) (fun q => by unfold pMk pWd at q; omega)]; exact u3 i
      obtain ⟨v1, v2, v3, v4, v5, v6, v7, v8⟩ := tab_m h k0 k4 h1 hff z95 e23 e24 dE2 k68 k69
      have mc := M_tableC v1 v2 v3 ht v4 v5 v6 v7 m40 v8 w65
      rw [hx] at mc
      obtain ⟨M2, w1, w2, w3, w4, w5, w6, w7, w8, w9⟩ := (mc _ rfl g).2 full
      have dM2 : Df (pp pTt) qsc rTt M M2 := dE2.trans (w7.mono pMt_p (fun _ _ q => q.elim) (fun a i q => Or.inr (Or.inr q.1)))
      obtain ⟨y1, y3⟩ := tab_no h h5 dM2
      have hCR : r.1 * r.2.1 ≤ 16 * 499 := Nat.mul_le_mul l3 (by omega)
      have h20 := v1.1
      have c65 : cI M2 1000 65 = 0 := by rw [w7.cI (by omega) (fun q => by unfold pMt at q; omega), x8.cI (by omega) (fun q => by unfold pMk pWd at q; omega)]; exact u6
      have c95 : cI M2 1000 95 = -1 := by rw [w7.cI (by omega) (fun q => by unfold pMt at q; omega), x8.cI (by omega) (fun q => by unfold pMk pWd at q; omega)]; exact u7
      refine ⟨iw ((m + 1 : Nat) : Int), E2, M2, _, hE, w1, I1.emp h dM2 h1.i1 c65 w3 pp_66.1 pp_66.2, I4.pl h dM2 h4 (by rw [w2, c95]) pp_pTt, I6.new h0 hZ hD g (by omega) (by omega) (by omega) u8 x8 w7 nE1 (by omega) x4 x5 x6 x7 w4 w5 w6, fun x q => Or.inl q, fun x q => q.imp id (fun q => q.1), y1, dM2, by omega, by omega⟩
