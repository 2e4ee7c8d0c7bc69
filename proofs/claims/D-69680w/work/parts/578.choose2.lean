/-! ===== CALLS: choose, both sides ===== -/
theorem FW.el {M : Mem} {Z : Nat → Prop} {fs : List Fn} {ea ma : List Nat} {de lm dm t : Nat} (h : FW M Z fs ea ma de lm dm t) (hS : ST M) (hZ : ∀ x, Z x → 1334 ≤ x) : ELb M fs := by
  obtain ⟨h1, h2, h3, h4, ⟨h5, h6⟩, h7, h8, ⟨h9, h10⟩, h11, h12, h13, h14⟩ := h
  refine ⟨hS, de, ea, h5, h11, by omega, fun k hk => ?_⟩
  obtain ⟨⟨⟨_, a2⟩, a3, _, ⟨_, a5⟩, _⟩, _⟩ := h13 k hk
  have g := h14.1 k hk
  exact ⟨a2, a3.2.2.2, hZ _ a3.1, a5, g.2.2.2.2.2.2.2.2.2.1, g.2.2.2.2.2.2.2.2.1⟩
theorem FW.ml {M : Mem} {Z : Nat → Prop} {fs : List Fn} {ea ma : List Nat} {de lm dm t : Nat} (h : FW M Z fs ea ma de lm dm t) (hS : ST M) (hZ : ∀ x, Z x → 1334 ≤ x) : MLb M fs := by
  obtain ⟨h1, h2, h3, h4, ⟨h5, h6⟩, h7, h8, ⟨h9, h10⟩, h11, h12, h13, h14⟩ := h
  refine ⟨hS, lm, dm, ma, h7, h9, h12, by omega, fun k hk => ?_⟩
  obtain ⟨_, ⟨_, a2⟩, _, a3, ⟨dl, es, a4, a5, a6⟩, _⟩ := h13 k hk
  have g := h14.1 k hk
  exact ⟨a2, a3.2.2.2, hZ _ a3.1, ⟨dl, es, a4.2.2, a5, fun i hi => (a6 i hi).1⟩, g.2.2.2.2.2.2.2.2.2.1, g.2.2.2.2.2.2.2.2.1⟩
def pCe : Nat → Nat → Prop := fun a i => a = 1000 ∧ (i = 65 ∨ i = 85)
def pCm : Nat → Nat → Prop := fun a i => a = 1068 ∧ (i = 1089 ∨ i = 1098)
/-- lanes are there, and are lanes -/
def gdL (f : Nat → Int32) (n : Nat) : Prop := 0 < n ∧ ∀ i, i < n → Lk (f i)
theorem bsl_get {f : Nat → Int32} {n i : Nat} (h : i < n) : (bsl f n).getD i 0 = f i := by
  unfold bsl
  rw [List.getD_eq_getElem?_getD, List.getElem?_map, List.getElem?_range h]
  rfl
theorem bsl_mem {f : Nat → Int32} {n : Nat} {x : Int32} (h : x ∈ bsl f n) : ∃ i, i < n ∧ x = f i := by
  unfold bsl at h
  obtain ⟨i, h1, h2⟩ := List.mem_map.mp h
  exact ⟨i, List.mem_range.mp h1, h2.symm⟩
theorem noF_n {M : Mem} {Z : Nat → Prop} {P : Nat → Nat → Prop} (hZ : ∀ x, Z x → 1334 ≤ x) (hP : ∀ a i, P a i → (a = 1000 ∧ i ≠ 71) ∨ (a = 1068 ∧ i ≠ 1106)) : noF P n2 n2 M Z := by
  refine ⟨fun x i q w => ?_, fun x i _ q => q, fun x i _ _ q => q, fun x i q w => ?_, fun i q => q, ⟨fun w => ?_, fun q => q⟩, ⟨fun w => ?_, fun q => q⟩, fun q => q, fun w => ?_, fun w => ?_⟩
  · have := hZ x q; have := hP _ _ w; omega
  · have := hP _ _ w; omega
  · have := hP _ _ w; omega
  · have := hP _ _ w; omega
  · have := hP _ _ w; omega
  · have := hP _ _ w; omega
theorem E_chooseC {M : Mem} {Z : Nat → Prop} {fs : List Fn} {ea ma : List Nat} {de lm dm u t n : Nat} (h : ST M) (hF : FW M Z fs ea ma de lm dm u) (hZ : ∀ x, Z x → 1334 ≤ x ∧ x < m_nx M) (z97 : cI M 1000 97 = 0) (ht : cI M 1000 65 = iw (t : Int)) (hb : ∀ i, i < t → bt (cI M 1001 i)) (t2 : t ≤ 16000) (hn : cI M 1000 85 = iw (n : Int)) (n4 : n ≤ 4) :
    ∃ r M1, F_X0_choose M 1000 = some (r, M1) ∧ ST M1 ∧ Df pCe n2 n2 M M1 ∧ cI M1 1000 65 = 0 ∧ cI M1 1000 85 = 0 ∧ m_nx M1 ≤ m_nx M + 60 ∧ m_sl M1 ≤ m_sl M + 200 ∧ ((¬ gdL (cI M 1060) n ∧ r = -14) ∨ (gdL (cI M 1060) n ∧ 12 < t ∧ r = -15) ∨ (gdL (cI M 1060) n ∧ t ≤ 12 ∧ Chs fs (bsl (cI M 1001) t) (bsl (cI M 1060) n) r)) := by
  have h0 := h.1
  have hxN : xN = 1099511627776 := rfl
  obtain ⟨A1, hA1⟩ : ∃ A1, A1 = wI M 1000 85 0 := ⟨_, rfl⟩
  obtain ⟨A2, hA2⟩ : ∃ A2, A2 = wI A1 1000 65 0 := ⟨_, rfl⟩
  have s1 : ST A1 := hA1 ▸ h
  have s2 : ST A2 := hA2 ▸ s1
  have d2 : Df pCe n2 n2 M A2 := by rw [hA2, hA1]; exact (Df.wI _ ⟨rfl, Or.inr rfl⟩).trans (Df.wI _ ⟨rfl, Or.inl rfl⟩)
  have c97 : cI A1 1000 97 = 0 := by rw [hA1, cI_wI, if_neg (by decide)]; exact z97
  have c65 : cI A1 1000 65 = iw (t : Int) := by rw [hA1, cI_wI, if_neg (by decide)]; exact ht
  have k65 : cI A2 1000 65 = 0 ∧ cI A2 1000 85 = 0 := by rw [hA2, hA1]; exact ⟨by rw [cI_wI, if_pos ⟨rfl, rfl⟩], by rw [cI_wI, if_neg (by decide), cI_wI, if_pos ⟨rfl, rfl⟩]⟩
  have nA : m_nx A2 = m_nx M ∧ m_sl A2 = m_sl M := by rw [hA2, hA1]; exact ⟨rfl, rfl⟩
  obtain ⟨A3, hA3⟩ : ∃ A3, A3 = m_new A2 1005 n := ⟨_, rfl⟩
  have d3 : Df n2 n2 n2 A2 A3 := by rw [hA3]; exact Df.new _ _
  have n3 : m_nx A3 = m_nx M + 1 ∧ m_sl A3 = m_sl M + n := by rw [hA3]; exact ⟨by show m_nx A2 + 1 = _; omega, by show m_sl A2 + n = _; omega⟩
  have tg3 : m_tg A3 (m_nx M) = 1005 ∧ m_ln A3 (m_nx M) = n := by rw [hA3, ← nA.1]; exact ⟨by rw [tg_new, if_pos rfl], by rw [ln_new, if_pos rfl]⟩
  have st : ∀ K, Df n2 n2 n2 A2 K → ST K := fun K d => s2.df d (fun _ _ q => q)
  have c1060 : ∀ K i, Df n2 n2 n2 A2 K → cI K 1060 i = cI M 1060 i := fun K i d => by rw [d.cI (by omega) (fun q => q), d2.cI (by omega) (fun q => by unfold pCe at q; omega)]
  have c1001 : ∀ K i, Df n2 n2 n2 A2 K → cI K 1001 i = cI M 1001 i := fun K i d => by rw [d.cI (by omega) (fun q => q), d2.cI (by omega) (fun q => by unfold pCe at q; omega)]
  -- the lanes
  obtain ⟨K, B, v, e1, j1, j2, j3, j4, j5, j6, j7⟩ := upl0 (β := Option (Int32 × Mem)) (σ := Int32) (fun N K v i => F_X0_choose_b38 N K 1000 (iw (n : Int)) (iw (t : Int)) v (m_nx M) i) (n := n) (by omega)
    (fun i K v => Df n2 n2 n2 A2 K ∧ m_nx K = m_nx A3 ∧ m_sl K = m_sl A3 ∧ m_tg K (m_nx M) = 1005 ∧ m_ln K (m_nx M) = n ∧ (∀ j, j < i → cI K (m_nx M) j = cI M 1060 j) ∧ v = pif (0 < n ∧ ∀ j, j < i → Lk (cI M 1060 j)) 1 0)
    (fun N K v i hi hJ => by
      obtain ⟨k1, k2, k3, k4, k5, k6, k7⟩ := hJ
      have sK := st K k1
      obtain ⟨B, hB⟩ : ∃ B, B = wI K (m_nx M) i (cI M 1060 i) := ⟨_, rfl⟩
      have dB : Df n2 n2 n2 A2 B := by rw [hB]; exact k1.then (Df.wI (P := fun x _ => x = m_nx M) (Q := n2) (R := n2) _ rfl) (fun x j hx q => (show False by omega)) (fun _ _ _ q => q) (fun _ _ _ q => q)
      have sB := st B dB
      obtain ⟨z, z1, -, z2⟩ := lane_eq (cI M 1060 i)
      refine ⟨B, pif (0 < n ∧ ∀ j, j < i + 1 → Lk (cI M 1060 j)) 1 0, ?_, dB, by rw [hB]; exact k2, by rw [hB]; exact k3, by rw [hB]; exact k4, by rw [hB]; exact k5, fun j hj => ?_, rfl⟩
      · show F_X0_choose_b38_st (F_X0_choose_b38 N) K _ _ _ _ _ _ = _
        unfold F_X0_choose_b38_st
        simp only [if_pos ((iw_le4 (show i ≤ 2147483647 by omega) (show n ≤ 2147483647 by omega)).mpr hi), g1000_84, sK, sB, ai_of (t1060 sK) (l1060 sK) (show i < 4 by omega) (by decide), ai_of (t1060 sB) (l1060 sB) (show i < 4 by omega) (by decide), c1060 K i k1, c1060 B i dB, si_of _ k4 k5 hi (by omega), ← hB, Option.bind_some, z1, F_X0_choose_b77, F_X0_choose_b78, iw_succ, k7]
        by_cases q : 0 < n ∧ ∀ j, j < i → Lk (cI M 1060 j)
        · rw [pif_pos q, if_neg (by decide)]
          rcases z2 with ⟨rfl, z2⟩ | ⟨rfl, z2⟩
          · rw [if_pos rfl, pif_neg (fun w => z2 (w.2 i (by omega)))]
          · rw [if_neg (by decide), pif_pos ⟨q.1, fun j hj => by rcases Nat.lt_or_ge j i with x | x; exact q.2 j x; rw [show j = i by omega]; exact z2⟩]
        · rw [pif_neg q, if_pos rfl, pif_neg (fun w => q ⟨w.1, fun j hj => w.2 j (by omega)⟩)]
      · rw [hB, cI_wI]
        by_cases q : j = i
        · rw [if_pos ⟨rfl, q⟩, q]
        · rw [if_neg (fun x => q x.2)]; exact k6 j (by omega))
    (M := A3) (s := pif (0 < n ∧ ∀ j, j < 0 → Lk (cI M 1060 j)) 1 0) ⟨d3, rfl, rfl, tg3.1, tg3.2, fun j hj => by omega, rfl⟩
  have sB := st B j1
  have hgo : F_X0_choose M 1000 = F_X0_choose_b38 (K + 1) B 1000 (iw (n : Int)) (iw (t : Int)) v (m_nx M) (iw (n : Int)) := by
    rw [← e1]
    have p0 : pif (0 < n ∧ ∀ j, j < 0 → Lk (cI M 1060 j)) (1 : Int32) 0 = if 0 < iw (n : Int) then 1 else 0 := by
      by_cases q : 0 < n
      · rw [pif_pos ⟨q, fun j hj => by omega⟩, if_pos (by rw [show (0 : Int32) = iw ((0 : Nat) : Int) from rfl, iw_le4 (by omega) (by omega)]; exact q)]
      · rw [pif_neg (fun w => q w.1), if_neg (by rw [show (0 : Int32) = iw ((0 : Nat) : Int) from rfl, iw_le4 (by omega) (by omega)]; exact q)]
    unfold F_X0_choose F_X0_usedSizes F_X0_used F_X0_choose_b29
    simp only [v1000, g1000_85, p1000_85, h, hn, ← hA1, Option.bind_some, g1000_97, s1, c97, if_true, g1000_65, p1000_65, c65, ← hA2, mk_of (M := A2) (t := 1005) (show n ≤ 67108864 by omega), ← hA3, nA.1]
    rw [p0]
    by_cases q : (0 : Int32) < iw (n : Int)
    · simp only [if_pos q]
    · simp only [if_neg q]
  have dd : ∀ K, Df n2 n2 n2 A2 K → Df pCe n2 n2 M K := fun K d => d2.trans (d.mono (fun _ _ q => q.elim) (fun _ _ q => q) (fun _ _ q => q))
  have kk : ∀ K, Df n2 n2 n2 A2 K → cI K 1000 65 = 0 ∧ cI K 1000 85 = 0 := fun K d => ⟨by rw [d.cI (by omega) (fun q => q)]; exact k65.1, by rw [d.cI (by omega) (fun q => q)]; exact k65.2⟩
  have gv : gdL (cI M 1060) n ↔ v = 1 := by
    rw [j7]
    by_cases q : 0 < n ∧ ∀ j, j < n → Lk (cI M 1060 j)
    · rw [pif_pos q]; exact ⟨fun _ => rfl, fun _ => q⟩
    · rw [pif_neg q]; exact ⟨fun w => (q w).elim, fun w => absurd w (by decide)⟩
  have v01 : v = 0 ∨ v = 1 := by rw [j7]; exact pif01 _
  rw [hgo]
  show ∃ r M1, F_X0_choose_b38_st _ B 1000 _ _ v _ _ = some (r, M1) ∧ _
  unfold F_X0_choose_b38_st
  rw [if_neg (by rw [iw_le4 (by omega) (by omega)]; omega)]
  by_cases hv : v = 0
  · rw [if_pos hv]
    exact ⟨_, B, rfl, sB, dd B j1, (kk B j1).1, (kk B j1).2, by omega, by omega, Or.inl ⟨fun g => by rw [gv.mp g] at hv; exact absurd hv (by decide), rfl⟩⟩
  · have hg := gv.mpr (v01.resolve_left hv)
    rw [if_neg hv]
    by_cases h12 : 12 < t
    · rw [if_pos (by rw [show (12 : Int32) = iw ((12 : Nat) : Int) from rfl, iw_le4 (by omega) (by omega)]; exact h12)]
      exact ⟨_, B, rfl, sB, dd B j1, (kk B j1).1, (kk B j1).2, by omega, by omega, Or.inr (Or.inl ⟨hg, h12, rfl⟩)⟩
    · rw [if_neg (by rw [show (12 : Int32) = iw ((12 : Nat) : Int) from rfl, iw_le4 (by omega) (by omega)]; exact h12)]
      obtain ⟨C, hC⟩ : ∃ C, C = mo B 75 := ⟨_, rfl⟩
      have dC : Df n2 n2 n2 B C := by rw [hC]; exact Df.new _ _
      have tC : m_tg C (m_nx B) = 75 := by rw [hC]; show m_tg (m_new B 75 _) _ = _; rw [tg_new, if_pos rfl]
      have iC : cI C (m_nx B) 4739 = 0 := by rw [hC]; show cI (m_new B 75 _) _ _ = _; rw [cI_new, if_pos rfl]
      have nC : m_nx C = m_nx B + 1 ∧ m_sl C = m_sl B + 4 := by rw [hC]; exact ⟨rfl, rfl⟩
      obtain ⟨D, x1, x2, x3, x4, x5⟩ := BD.init (c := t) (by omega) tC iC (by omega) (by omega)
      have dBD : Df n2 n2 n2 B D := dC.then x3 (fun x i hx q => (show False by unfold at1 at q; omega)) (fun _ _ _ q => q) (fun x i hx q => (show False by unfold at1 at q; omega))
      obtain ⟨K2, E, -, e3, E0⟩ := upl0 (β := Option (Int32 × Mem)) (σ := Unit) (fun N K _ i => F_X0_choose_b114 N K 1000 (iw (t : Int)) (m_nx M) (m_nx B) i) (n := t) (by omega)
        (fun i K _ => NB B (m_nx B) t (cI M 1001) i K)
        (fun N K _ i hi hJ => by
          have sK : ST K := by obtain ⟨_, _, _, q, _⟩ := hJ; exact sB.df q (fun _ _ w => w)
          have cK : cI K 1001 i = cI M 1001 i := by obtain ⟨_, _, _, q, _⟩ := hJ; rw [q.cI (by omega) (fun w => w)]; exact c1001 B i j1
          have vK : vg K (m_nx B) 75 = some () := by obtain ⟨_, _, q, _⟩ := hJ; exact vg_of q.2.1 (show x_isa 75 75 = true by decide)
          obtain ⟨K', k1, k2⟩ := hJ.step (by omega) (by omega) hi (hb i hi)
          refine ⟨K', (), ?_, k2⟩
          show F_X0_choose_b114_st (F_X0_choose_b114 N) K _ _ _ _ _ = _
          unfold F_X0_choose_b114_st
          simp only [if_pos ((iw_le4 (show i ≤ 2147483647 by omega) (show t ≤ 2147483647 by omega)).mpr hi), g1000_64, sK, ab_of (Or.inr (Or.inl (t1001 sK))) (l1001 sK) (show i < 16000 by omega) (by decide), cK, vK, k1, Option.bind_some, iw_succ])
        (M := D) (s := ()) ⟨m_nx C, t, x2, dBD, Nat.le_refl _, by omega, by omega, by omega, by omega⟩
      obtain ⟨ds, c, y1, y2, y3, y4, y5, y6, y7⟩ := E0
      have sE : ST E := sB.df y2 (fun _ _ w => w)
      obtain ⟨G, g1, g2, g3, g4, g5, g6, g7⟩ := y1.str (by rw [bsl_len]; omega) (by have := y2.1; omega)
      have dG : Df n2 n2 n2 B G := y2.trans g5
      have dAG : Df n2 n2 n2 A2 G := j1.trans dG
      have sG := st G dAG
      have fG : FW G Z fs ea ma de lm dm u := hF.df (dd G dAG) h0 (fun x hx => (hZ x hx).2) (noF_n (fun x hx => (hZ x hx).1) (fun a i q => by unfold pCe at q; omega))
      have hRI : RIl G (m_nx M) (bsl (cI M 1060) n) := RIl.df (M := B) ⟨j4, by rw [bsl_len]; exact j5, fun i hi => by rw [bsl_len] at hi; rw [bsl_get hi]; exact j6 i hi⟩ dG (by omega) (fun _ q => q)
      obtain ⟨r, r1, r2⟩ := E_choose (fG.el sG (fun x hx => (hZ x hx).1)) hF.2.2.2.2.2.2.2.2.2.2.2 g2 (by have := y2.1; omega) hRI (fun l hl => by obtain ⟨i, q1, rfl⟩ := bsl_mem hl; exact hg.2 i q1) (by rw [bsl_len]; omega)
      rw [bsl_len] at g7
      have x76 : x_cn 76 = 4 := by decide
      refine ⟨r, G, ?_, sG, dd G dAG, (kk G dAG).1, (kk G dAG).2, by omega, by omega, Or.inr (Or.inr ⟨hg, by omega, r2⟩)⟩
      rw [← hC]
      simp only [ng_of tC (show (75 : Nat) ≠ 0 by decide), x1, Option.bind_some]
      rw [e3]
      show F_X0_choose_b114_st _ E _ _ _ _ _ = _
      unfold F_X0_choose_b114_st
      rw [if_neg (by rw [iw_le4 (by omega) (by omega)]; omega)]
      simp only [g1000_70, sE, vg_of y1.2.1 (show x_isa 75 75 = true by decide), g1, v1009, sG, r1, Option.bind_some]
