/-! ===== TABLES, 28: the engine makes a table ===== -/
/-- a new row of a table -/
theorem E_rowT {A : Mem} {t g tg n : Nat} {β : Type} {k : Mem → Option β} (ht : m_tg A t = 53) (hg : x_wr 53 g = true) (h1 : t < m_nx A) (hn : n ≤ 67108864) : ∃ B, ((mk A tg (iw (n : Int))).bind fun M5 => (pr M5 t g (m_nx A)).bind k) = k B ∧ m_nx B = m_nx A + 1 ∧ m_sl B = m_sl A + n ∧ Df n2 n2 (fun x i => x = t ∧ i = g) A B ∧ cR B t g = m_nx A ∧ m_tg B (m_nx A) = tg ∧ m_ln B (m_nx A) = n ∧ m_tg B t = 53 := by
  obtain ⟨B0, hB0⟩ : ∃ B0, B0 = m_new A tg n := ⟨_, rfl⟩
  obtain ⟨B, hB⟩ : ∃ B, B = wR B0 t g (m_nx A) := ⟨_, rfl⟩
  have t0 : m_tg B0 t = 53 := by rw [hB0, tg_new, if_neg (by omega)]; exact ht
  refine ⟨B, ?_, by rw [hB, hB0]; rfl, by rw [hB, hB0]; rfl, ?_, by rw [hB, cR_wR, if_pos ⟨rfl, rfl⟩], by rw [hB, hB0]; show m_tg (m_new A tg n) _ = _; rw [tg_new, if_pos rfl], by rw [hB, hB0]; show m_ln (m_new A tg n) _ = _; rw [ln_new, if_pos rfl], by rw [hB]; exact t0⟩
  · rw [mk_of hn, Option.bind_some, ← hB0, pr_of _ t0 hg, Option.bind_some, ← hB]
  · have d0 : Df n2 n2 (fun x i => x = t ∧ i = g) A B0 := by rw [hB0]; exact Df.new _ _
    rw [hB]
    exact d0.trans (Df.wR _ ⟨rfl, rfl⟩)
def at6 (t : Nat) : Nat → Nat → Prop := fun x _ => x = t
/-- a new table of the engine, its rows empty -/
theorem E_mkT {M : Mem} {C R : Nat} (hC : C ≤ 16) (hR : R < 500) : ∃ A, F_X52_init (mo M 53) (m_nx M) (iw (C : Int)) (iw (R : Int)) = some A ∧ ng (mo M 53) (m_nx M) = some () ∧ Df n2 n2 n2 M A ∧ m_nx A = m_nx M + 6 ∧ m_sl A ≤ m_sl M + 20 + 3 * C + 2 * (C * R) ∧ m_tg A (m_nx M) = 53 ∧ cI A (m_nx M) 3392 = iw (C : Int) ∧ cI A (m_nx M) 3393 = iw (R : Int) ∧
    (cR A (m_nx M) 3394 = m_nx M + 1 ∧ cR A (m_nx M) 3395 = m_nx M + 2 ∧ cR A (m_nx M) 3396 = m_nx M + 3 ∧ cR A (m_nx M) 3397 = m_nx M + 4 ∧ cR A (m_nx M) 3398 = m_nx M + 5) ∧
    (m_tg A (m_nx M + 1) = 1005 ∧ m_ln A (m_nx M + 1) = C) ∧ (m_tg A (m_nx M + 2) = 1002 ∧ m_ln A (m_nx M + 2) = C) ∧ (m_tg A (m_nx M + 3) = 1005 ∧ m_ln A (m_nx M + 3) = C * R) ∧ (m_tg A (m_nx M + 4) = 1002 ∧ m_ln A (m_nx M + 4) = C * R) ∧ (m_tg A (m_nx M + 5) = 1005 ∧ m_ln A (m_nx M + 5) = C) := by
  have x53 : x_cn 53 ≤ 20 := by decide
  have hCR : C * R ≤ 16 * 499 := Nat.mul_le_mul hC (by omega)
  obtain ⟨T, hT⟩ : ∃ T, T = m_nx M := ⟨_, rfl⟩
  obtain ⟨A0, hA0⟩ : ∃ A0, A0 = mo M 53 := ⟨_, rfl⟩
  rw [← hT, ← hA0]
  have d0 : Df n2 n2 n2 M A0 := hA0 ▸ Df.new _ _
  have n0 : m_nx A0 = T + 1 := by rw [hA0, hT]; rfl
  have l0 : m_sl A0 ≤ m_sl M + 20 := by rw [hA0]; show m_sl M + x_cn 53 ≤ _; omega
  have t0 : m_tg A0 T = 53 := by rw [hA0, hT]; show m_tg (m_new M 53 (x_cn 53)) (m_nx M) = 53; exact tg_new.trans (if_pos rfl)
  obtain ⟨A1, hA1⟩ : ∃ A1, A1 = wI (wI A0 T 3392 (iw (C : Int))) T 3393 (iw (R : Int)) := ⟨_, rfl⟩
  have t1 : m_tg A1 T = 53 := by rw [hA1]; exact t0
  have n1 : m_nx A1 = T + 1 := by rw [hA1]; exact n0
  have l1 : m_sl A1 = m_sl A0 := by rw [hA1]; rfl
  have c92 : cI A1 T 3392 = iw (C : Int) := by rw [hA1, cI_wI, if_neg (by omega), cI_wI, if_pos ⟨rfl, rfl⟩]
  have c93 : cI A1 T 3393 = iw (R : Int) := by rw [hA1, cI_wI, if_pos ⟨rfl, rfl⟩]
  have p1 : pi A0 T 3392 (iw (C : Int)) = some (wI A0 T 3392 (iw (C : Int))) := pi_of _ t0 (by decide) rfl
  have p2 : pi (wI A0 T 3392 (iw (C : Int))) T 3393 (iw (R : Int)) = some A1 := by rw [pi_of _ (show m_tg (wI A0 T 3392 (iw (C : Int))) T = 53 from t0) (by decide) rfl, ← hA1]
  have d1 : Df (at1 T) n2 n2 A0 A1 := by rw [hA1]; exact (Df.wI (P := at1 T) (Q := n2) (R := n2) (M := A0) (a := T) (i := 3392) _ rfl).trans (Df.wI _ rfl)
  have D1 : Df n2 n2 n2 M A1 := d0.then d1 (fun x i hx q => by unfold at1 at q; omega) (fun _ _ _ q => q) (fun _ _ _ q => q)
  unfold F_X52_init
  rw [ng_of t0 (by decide), Option.bind_some, p1, Option.bind_some, p2, Option.bind_some, iw_nml]
  obtain ⟨A2, e2, n2', l2, d2, r2, g2, s2, t2⟩ := E_rowT (A := A1) (t := T) (g := 3394) (tg := 1005) (n := C) (k := fun M6 => (mk M6 1002 (iw (C : Int))).bind fun M7 => (pr M7 T 3395 (m_nx M6)).bind fun M8 => (mk M8 1005 (iw ((C * R : Nat) : Int))).bind fun M9 => (pr M9 T 3396 (m_nx M8)).bind fun M10 => (mk M10 1002 (iw ((C * R : Nat) : Int))).bind fun M11 => (pr M11 T 3397 (m_nx M10)).bind fun M12 => (mk M12 1005 (iw (C : Int))).bind fun M13 => (pr M13 T 3398 (m_nx M12)).bind fun M14 => some M14) t1 (by decide) (by omega) (by omega)
  rw [e2]
  obtain ⟨A3, e3, n3', l3, d3, r3, g3, s3, t3⟩ := E_rowT (A := A2) (t := T) (g := 3395) (tg := 1002) (n := C) (k := fun M8 => (mk M8 1005 (iw ((C * R : Nat) : Int))).bind fun M9 => (pr M9 T 3396 (m_nx M8)).bind fun M10 => (mk M10 1002 (iw ((C * R : Nat) : Int))).bind fun M11 => (pr M11 T 3397 (m_nx M10)).bind fun M12 => (mk M12 1005 (iw (C : Int))).bind fun M13 => (pr M13 T 3398 (m_nx M12)).bind fun M14 => some M14) t2 (by decide) (by omega) (by omega)
  rw [e3]
  obtain ⟨A4, e4, n4', l4, d4, r4, g4, s4, t4⟩ := E_rowT (A := A3) (t := T) (g := 3396) (tg := 1005) (n := C * R) (k := fun M10 => (mk M10 1002 (iw ((C * R : Nat) : Int))).bind fun M11 => (pr M11 T 3397 (m_nx M10)).bind fun M12 => (mk M12 1005 (iw (C : Int))).bind fun M13 => (pr M13 T 3398 (m_nx M12)).bind fun M14 => some M14) t3 (by decide) (by omega) (by omega)
  rw [e4]
  obtain ⟨A5, e5, n5', l5, d5, r5, g5, s5, t5⟩ := E_rowT (A := A4) (t := T) (g := 3397) (tg := 1002) (n := C * R) (k := fun M12 => (mk M12 1005 (iw (C : Int))).bind fun M13 => (pr M13 T 3398 (m_nx M12)).bind fun M14 => some M14) t4 (by decide) (by omega) (by omega)
  rw [e5]
  obtain ⟨A6, e6, n6', l6, d6, r6, g6, s6, t6⟩ := E_rowT (A := A5) (t := T) (g := 3398) (tg := 1005) (n := C) (k := fun M14 => some M14) t5 (by decide) (by omega) (by omega)
  rw [e6]
  have m2 : m_nx A2 = T + 2 := by omega
  have m3 : m_nx A3 = T + 3 := by omega
  have m4 : m_nx A4 = T + 4 := by omega
  have m5 : m_nx A5 = T + 5 := by omega
  rw [n1] at r2 g2 s2
  rw [m2] at r3 g3 s3
  rw [m3] at r4 g4 s4
  rw [m4] at r5 g5 s5
  rw [m5] at r6 g6 s6
  have q6 := d6.mono (P' := n2) (Q' := n2) (R' := fun x i => x = T ∧ 3398 ≤ i) (fun _ _ q => q) (fun _ _ q => q) (fun x i q => ⟨q.1, by omega⟩)
  have q5 := (d5.mono (P' := n2) (Q' := n2) (R' := fun x i => x = T ∧ 3397 ≤ i) (fun _ _ q => q) (fun _ _ q => q) (fun x i q => ⟨q.1, by omega⟩)).trans (q6.mono (fun _ _ q => q) (fun _ _ q => q) (fun x i q => ⟨q.1, by omega⟩))
  have q4 := (d4.mono (P' := n2) (Q' := n2) (R' := fun x i => x = T ∧ 3396 ≤ i) (fun _ _ q => q) (fun _ _ q => q) (fun x i q => ⟨q.1, by omega⟩)).trans (q5.mono (fun _ _ q => q) (fun _ _ q => q) (fun x i q => ⟨q.1, by omega⟩))
  have q3 := (d3.mono (P' := n2) (Q' := n2) (R' := fun x i => x = T ∧ 3395 ≤ i) (fun _ _ q => q) (fun _ _ q => q) (fun x i q => ⟨q.1, by omega⟩)).trans (q4.mono (fun _ _ q => q) (fun _ _ q => q) (fun x i q => ⟨q.1, by omega⟩))
  have q2 := (d2.mono (P' := n2) (Q' := n2) (R' := fun x i => x = T ∧ 3394 ≤ i) (fun _ _ q => q) (fun _ _ q => q) (fun x i q => ⟨q.1, by omega⟩)).trans (q3.mono (fun _ _ q => q) (fun _ _ q => q) (fun x i q => ⟨q.1, by omega⟩))
  refine ⟨A6, rfl, rfl, D1.then q2 (fun _ _ _ q => q) (fun _ _ _ q => q) (fun x i hx q => by omega), by omega, by omega, t6, by rw [q2.cI (by omega) (fun q => q)]; exact c92, by rw [q2.cI (by omega) (fun q => q)]; exact c93, ⟨by rw [q3.cR (by omega) (fun q => by omega)]; exact r2, by rw [q4.cR (by omega) (fun q => by omega)]; exact r3, by rw [q5.cR (by omega) (fun q => by omega)]; exact r4, by rw [q6.cR (by omega) (fun q => by omega)]; exact r5, r6⟩, ⟨(q3.2.2 _ (by omega)).1.trans g2, (q3.2.2 _ (by omega)).2.1.trans s2⟩, ⟨(q4.2.2 _ (by omega)).1.trans g3, (q4.2.2 _ (by omega)).2.1.trans s3⟩, ⟨(q5.2.2 _ (by omega)).1.trans g4, (q5.2.2 _ (by omega)).2.1.trans s4⟩, ⟨(q6.2.2 _ (by omega)).1.trans g5, (q6.2.2 _ (by omega)).2.1.trans s5⟩, ⟨g6, s6⟩⟩
def pWd (W : Nat) : Nat → Nat → Prop := fun x i => (x = 1039 ∧ W ≤ i) ∨ (x = 1038 ∧ i = 833)
/-- bytes are kept behind those that are kept -/
theorem E_addW {M : Mem} {W n a p L : Nat} {u : Nat → Int32} (h : ST M) (hW : cI M 1038 833 = iw (W : Int)) (hr : W + n ≤ 65536) (ta : m_tg M a = 1002) (la : m_ln M a = L) (hL : L ≤ 65536) (hp : p + n ≤ L) (ha : a = 1039 → p + n ≤ W) (h38 : a < m_nx M) (hu : ∀ j, j < n → cI M a (p + j) = u j ∧ asc (u j)) : ∃ M', F_X12_add M 1038 a (iw (p : Int)) (iw (n : Int)) = some (iw (W : Int), M') ∧ ST M' ∧ Df (pWd W) n2 n2 M M' ∧ cI M' 1038 833 = iw ((W + n : Nat) : Int) ∧ (∀ j, j < n → cI M' 1039 (W + j) = u j) ∧ m_nx M' = m_nx M ∧ m_sl M' = m_sl M := by
  have hnx := h.1
  have lo := upl0 (β := Option (Int32 × Mem)) (σ := Unit) (fun N M _ i => F_X12_add_b3 N M 1038 a (iw (p : Int)) (iw (n : Int)) i) (n := n) (by omega) (fun j N _ => ST N ∧ Df (fun x i => x = 1039 ∧ W ≤ i) n2 n2 M N ∧ (∀ i, i < j → cI N 1039 (W + i) = u i) ∧ m_nx N = m_nx M ∧ m_sl N = m_sl M) (fun K N _ i hi hJ => by
    obtain ⟨j1, j2, j3, j4, j5⟩ := hJ
    obtain ⟨u1, u2⟩ := hu i hi
    have w33 : cI N 1038 833 = iw (W : Int) := by rw [j2.cI (by omega) (fun q => by omega)]; exact hW
    have a1 : ab N a (iw ((p + i : Nat) : Int)) = some (u i) := by
      rw [ab_of (Or.inr (Or.inl ((j2.2.2 a h38).1.trans ta))) ((j2.2.2 a h38).2.1.trans la) (show p + i < L by omega) (by omega), j2.cI h38 (fun q => by have := ha q.1; omega), u1]
    obtain ⟨N', hN'⟩ : ∃ N', N' = wI N 1039 (W + i) (u i) := ⟨_, rfl⟩
    have s1 : sb N 1039 (iw ((W + i : Nat) : Int)) (u i) = some N' := by
      rw [sb_of _ (t1039 j1) (l1039 j1) (show W + i < 65536 by omega) (by decide), u2.ok.2.2.2, ← hN']
    refine ⟨N', (), ?_, by rw [hN']; exact j1, j2.trans (by rw [hN']; exact Df.wI _ ⟨rfl, by omega⟩), fun k hk => ?_, by rw [hN']; exact j4, by rw [hN']; exact j5⟩
    · show F_X12_add_b3_st (F_X12_add_b3 K) N 1038 a (iw (p : Int)) (iw (n : Int)) (iw (i : Int)) = _
      unfold F_X12_add_b3_st
      rw [if_pos (show iw (i : Int) < iw (n : Int) by rw [iw_le4 (by omega) (by omega)]; exact hi)]
      simp only [g1038_832, g1038_833, j1, w33, iw_nad, a1, s1, iw_succ, Option.bind_some]
    · rw [hN', cI_wI]
      by_cases e : k = i
      · rw [if_pos ⟨rfl, by omega⟩, e]
      · rw [if_neg (by omega)]; exact j3 k (by omega)) (M := M) (s := ()) ⟨h, Df.refl _ _ _ _, fun i hi => by omega, rfl, rfl⟩
  obtain ⟨K, N, -, e1, j1, j2, j3, j4, j5⟩ := lo
  have w33 : cI N 1038 833 = iw (W : Int) := by rw [j2.cI (by omega) (fun q => by omega)]; exact hW
  obtain ⟨O, hO⟩ : ∃ O, O = wI N 1038 833 (iw ((W + n : Nat) : Int)) := ⟨_, rfl⟩
  have sO : ST O := by rw [hO]; exact j1
  have oW : cI O 1038 833 = iw ((W + n : Nat) : Int) := by rw [hO, cI_wI, if_pos ⟨rfl, rfl⟩]
  refine ⟨O, ?_, sO, (j2.mono (fun x i q => Or.inl q) (fun _ _ q => q) (fun _ _ q => q)).trans (by rw [hO]; exact Df.wI _ (Or.inr ⟨rfl, rfl⟩)), oW, fun j hj => by rw [hO, cI_wI, if_neg (by omega)]; exact j3 j hj, by rw [hO]; exact j4, by rw [hO]; exact j5⟩
  show F_X12_add_b3 xN M 1038 a (iw (p : Int)) (iw (n : Int)) 0 = _
  refine Eq.trans e1 ?_
  show F_X12_add_b3_st (F_X12_add_b3 K) N 1038 a (iw (p : Int)) (iw (n : Int)) (iw (n : Int)) = _
  unfold F_X12_add_b3_st
  rw [if_neg (show ¬ iw (n : Int) < iw (n : Int) by rw [iw_le4 (by omega) (by omega)]; omega)]
  simp only [g1038_833, p1038_833, j1, w33, iw_nad, ← hO, sO, oW, Option.bind_some]
  rw [iw_nsub (by omega), show W + n - n = W by omega]
