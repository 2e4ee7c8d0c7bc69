/-! ===== TABLES, 31: the engine keeps what it has read ===== -/
theorem sat_le : ∀ (cs : List (List Int32 × Bool)) (k : Nat), k < cs.length → sat cs k + (cl cs k).1.length ≤ (fla cs).length
  | [], k, hk => by cases hk
  | c :: cs, 0, hk => by
    show 0 + c.1.length ≤ (fla (c :: cs)).length
    rw [fla_cons, List.length_append]
    omega
  | c :: cs, k + 1, hk => by
    have ih := sat_le cs k (by simpa using hk)
    have e : cl (c :: cs) (k + 1) = cl cs k := rfl
    unfold sat
    rw [e, List.take_succ_cons, fla_cons, fla_cons, List.length_append, List.length_append]
    unfold sat at ih
    omega
theorem fla_asc {cs : List (List Int32 × Bool)} (h : ∀ k, k < cs.length → ascs (cl cs k).1) : ascs (fla cs) := by
  intro i hi
  have e : wf (fla cs) i = (fla cs)[i] := by unfold wf; rw [List.getD_eq_getElem?_getD, List.getElem?_eq_getElem hi]; rfl
  rw [e]
  have hm : (fla cs)[i] ∈ fla cs := List.getElem_mem hi
  generalize (fla cs)[i] = x at hm
  unfold fla at hm
  obtain ⟨l, h1, h2⟩ := List.mem_flatten.mp hm
  obtain ⟨c, h3, h4⟩ := List.mem_map.mp h1
  obtain ⟨k, hk, h5⟩ := List.getElem_of_mem h3
  obtain ⟨j, hj, h6⟩ := List.getElem_of_mem h2
  have ec : cl cs k = c := by unfold cl; rw [List.getD_eq_getElem?_getD, List.getElem?_eq_getElem hk, h5]; rfl
  have := h k hk
  rw [ec, h4] at this
  have q := this j hj
  unfold wf at q
  rw [List.getD_eq_getElem?_getD, List.getElem?_eq_getElem hj, h6] at q
  exact q
def pMk (W : Nat) : Nat → Nat → Prop := fun x i => (x = 1037 ∧ i = 771) ∨ pWd W x i
def rMk (m : Nat) : Nat → Nat → Prop := fun x i => x = 1040 ∧ i = m + 1
theorem rMk_st (m : Nat) : ∀ p ∈ stR, ¬ rMk m p.1 p.2.1 := fun p hp q => by
  have hh : stR.all (fun p => !(p.1 == 1040)) = true := by decide +kernel
  have k := List.all_eq_true.mp hh p hp
  rw [q.1] at k
  cases k
theorem E_full {M : Mem} (h : ST M) : F_X11_make_b23 M 1037 = some (.inr (1003, eT M 12 (-1))) := by
  unfold F_X11_make_b23
  rw [g1037_768 h, Option.bind_some]
  exact eTh_of h 12
theorem E_makeT {M : Mem} {f : Nat → Int32} {n C R m W : Nat} {hd cs : List (List Int32 × Bool)} (t : TC M f n n (hd ++ cs)) (k0 : K0 M) (h80 : cI M 1037 780 = iw (C : Int)) (g : GT (C, R, hd, cs)) (hm : cI M 1037 771 = iw (m : Int)) (hm2 : m ≤ 40) (hW : cI M 1038 833 = iw (W : Int)) (hW2 : W ≤ 65536) :
    ((m = 40 ∨ 65536 < W + (fla (hd ++ cs)).length) → F_X11_make M 1037 (iw (R : Int)) = some (.inr (1003, eT M 12 (-1)))) ∧ (¬ (m = 40 ∨ 65536 < W + (fla (hd ++ cs)).length) → ∃ M', F_X11_make M 1037 (iw (R : Int)) = some (.inl (iw ((m + 1 : Nat) : Int), M')) ∧ ST M' ∧ K0 M' ∧ TE M' (fun x => m_nx M ≤ x ∧ x < m_nx M + 6) (W + (fla (hd ++ cs)).length) (m_nx M) (C, R, hd, cs) ∧ cI M' 1037 771 = iw ((m + 1 : Nat) : Int) ∧ cR M' 1040 (m + 1) = m_nx M ∧ cI M' 1038 833 = iw ((W + (fla (hd ++ cs)).length : Nat) : Int) ∧ Df (pMk W) n2 (rMk m) M M' ∧ m_nx M' = m_nx M + 6 ∧ m_sl M' ≤ m_sl M + 20 + 3 * C + 2 * (C * R)) := by
  obtain ⟨TTm, t79, tk⟩ := t
  have hS := TTm.1
  have h0 := hS.1
  obtain ⟨X, hX⟩ : ∃ X, X = (fla (hd ++ cs)).length := ⟨_, rfl⟩
  have h76 : cI M 1037 776 = iw (X : Int) := by rw [hX]; exact TTm.2.2.2.2.2.2.2.1
  have hX2 : X ≤ 16000 := by have := TTm.2.2.2.2.2.2.2.2.1; have := TTm.2.2.2.1; omega
  have h41 := TTm.2.2.2.2.2.2.2.2.2
  obtain ⟨g1, g2, g3, g4, g5, g6, g7⟩ := g
  have g : GT (C, R, hd, cs) := ⟨g1, g2, g3, g4, g5, g6, g7⟩
  simp only [] at g1 g2 g3 g4 g5 g6 g7
  have hCR : C * R ≤ 16 * 499 := Nat.mul_le_mul g2 (by omega)
  have hcl : (hd ++ cs).length = C + C * R := by rw [List.length_append, g4, g5]
  have cl1 : ∀ k, k < C → cl (hd ++ cs) k = cl hd k := fun k hk => by
    unfold cl; rw [List.getD_eq_getElem?_getD, List.getElem?_append_left (by omega), ← List.getD_eq_getElem?_getD]
  have cl2 : ∀ k, cl (hd ++ cs) (C + k) = cl cs k := fun k => by
    unfold cl; rw [List.getD_eq_getElem?_getD, List.getElem?_append_right (by omega), ← List.getD_eq_getElem?_getD, g4, show C + k - C = k by omega]
  have call : ∀ k, k < (hd ++ cs).length → ascs (cl (hd ++ cs) k).1 ∧ (cl (hd ++ cs) k).1.length ≤ 40 := fun k hk => by
    by_cases c : k < C
    · rw [cl1 k c]; exact ⟨(g6 k c).1, by have := (g6 k c).2.2; omega⟩
    · rw [show k = C + (k - C) by omega, cl2]; exact ⟨(g7 _ (by omega)).1, (g7 _ (by omega)).2.1⟩
  rw [← hX]
  unfold F_X11_make
  rw [g1037_771 hS, Option.bind_some, hm]
  have q40 : iw (m : Int) = 40 ↔ m = 40 := by rw [show (40 : Int32) = iw ((40 : Nat) : Int) from rfl, iw_eq (by omega) (by omega) (by omega) (by omega)]; omega
  have qW : (65536 : Int32) < iw ((W + X : Nat) : Int) ↔ 65536 < W + X := by rw [show (65536 : Int32) = iw ((65536 : Nat) : Int) from rfl, iw_le4 (by omega) (by omega)]
  have room : F_X12_hasRoom M 1038 (iw (X : Int)) = some (if 65536 < W + X then 0 else 1) := by
    unfold F_X12_hasRoom F_X12_hasRoom_b16
    rw [g1038_833 hS, Option.bind_some, hW, iw_nad]
    by_cases c : 65536 < W + X
    · rw [if_pos (qW.mpr c), if_pos c]; rfl
    · rw [if_neg (fun q => c (qW.mp q)), if_neg c]; rfl
  have n1 : ¬ (1 : Int32) = 0 := by decide
  by_cases c40 : m = 40
  · rw [if_pos (q40.mpr c40)]
    exact ⟨fun _ => E_full hS, fun q => absurd (Or.inl c40) q⟩
  · rw [if_neg (fun q => c40 (q40.mp q))]
    simp only [g1037_769, g1037_776, v1038, hS, h76, room, Option.bind_some]
    by_cases cW : 65536 < W + X
    · rw [if_pos cW, if_pos rfl]
      exact ⟨fun _ => E_full hS, fun q => absurd (Or.inr cW) q⟩
    · rw [if_neg cW, if_neg n1]
      refine ⟨fun q => absurd q (by omega), fun _ => ?_⟩
      obtain ⟨A, a1, a2, a3, a4, a5, a6, a7, a8, ⟨b1, b2, b3, b4, b5⟩, c1, c2, c3, c4, c5⟩ := E_mkT (M := M) (C := C) (R := R) g2 g3
      obtain ⟨T, hT⟩ : ∃ T, T = m_nx M := ⟨_, rfl⟩
      rw [← hT] at a1 a2 a4 a6 a7 a8 b1 b2 b3 b4 b5 c1 c2 c3 c4 c5 ⊢
      have SA : ST A := hS.df a3 n2_st
      have kA : K0 A := k0.df hS a3 (fun _ _ _ q => q) (fun _ _ _ q => q)
      have A80 : cI A 1037 780 = iw (C : Int) := by rw [a3.cI (by omega) (fun q => q)]; exact h80
      have A76 : cI A 1037 776 = iw (X : Int) := by rw [a3.cI (by omega) (fun q => q)]; exact h76
      have A71 : cI A 1037 771 = iw (m : Int) := by rw [a3.cI (by omega) (fun q => q)]; exact hm
      have A33 : cI A 1038 833 = iw (W : Int) := by rw [a3.cI (by omega) (fun q => q)]; exact hW
      have M80 : gi (mo M 53) 1037 780 = some (iw (C : Int)) := by
        have d0 : Df n2 n2 n2 M (mo M 53) := Df.new _ _
        have s0 : ST (mo M 53) := hS.df d0 n2_st
        rw [g1037_780 s0, d0.cI (by omega) (fun q => q), h80]
      obtain ⟨B, e1, SB, dB, B33, Bw, nB, lB⟩ := E_addW (M := A) (W := W) (n := X) (a := 1041) (p := 0) (L := 16000) (u := wf (fla (hd ++ cs))) SA A33 (by omega) (t1041 SA) (l1041 SA) (by decide) (by omega) (fun q => by cases q) (by omega) (fun j hj => by
        rw [Nat.zero_add, a3.cI (by omega) (fun q => q)]
        exact ⟨h41 j (by omega), fla_asc (fun k hk => (call k hk).1) j (by omega)⟩)
      have dBm : Df (pMk W) n2 (rMk m) A B := dB.mono (fun x i q => Or.inr q) (fun _ _ q => q) (fun _ _ q => q.elim)
      have pB : ∀ x, T ≤ x → ∀ i, ¬ pWd W x i := fun x hx i q => by unfold pWd at q; omega
      have kB : K0 B := kA.df SA dB (fun a i q k => by unfold pWd at k; omega) (fun _ _ _ q => q)
      have hk : ∀ k, k < (hd ++ cs).length → cI B 1042 k = iw (sat (hd ++ cs) k : Nat) ∧ cI B 1043 k = enc (cl (hd ++ cs) k) ∧ (cl (hd ++ cs) k).1.length ≤ 40 := fun k hk => by
        rw [dB.cI (by omega) (fun q => by unfold pWd at q; omega), dB.cI (by omega) (fun q => by unfold pWd at q; omega), a3.cI (by omega) (fun q => q), a3.cI (by omega) (fun q => q)]
        exact ⟨(tk k hk).1, (tk k hk).2, (call k hk).2⟩
      have B80 : cI B 1037 780 = iw (C : Int) := by rw [dB.cI (by omega) (fun q => by unfold pWd at q; omega)]; exact A80
      have gB : ∀ x, T ≤ x → x < T + 6 → m_tg B x = m_tg A x ∧ m_ln B x = m_ln A x := fun x h1 h2 => ⟨(dB.2.2 x (by omega)).1, (dB.2.2 x (by omega)).2.1⟩
      have rB : ∀ g, cR B T g = cR A T g := fun g => dB.cR (by omega) (fun q => q)
      obtain ⟨D, e2, SD, dD, Dw, nD, lD⟩ := E_fill1 (M0 := B) (T := T) (C := C) (R := R) (W := W) (cs := hd ++ cs) SB B80 g2 (by omega) (by omega) (by omega) (by omega) ((gB T (by omega) (by omega)).1.trans a6) ((rB _).trans b1) ((rB _).trans b2) ⟨(gB _ (by omega) (by omega)).1.trans c1.1, (gB _ (by omega) (by omega)).2.trans c1.2⟩ ⟨(gB _ (by omega) (by omega)).1.trans c2.1, (gB _ (by omega) (by omega)).2.trans c2.2⟩ hk
      have kD : K0 D := kB.df SB dD (fun a i q k => by omega) (fun _ _ _ q => q)
      have gD : ∀ x, T ≤ x → x < T + 6 → m_tg D x = m_tg A x ∧ m_ln D x = m_ln A x := fun x h1 h2 => ⟨(dD.2.2 x (by omega)).1.trans (gB x h1 h2).1, (dD.2.2 x (by omega)).2.1.trans (gB x h1 h2).2⟩
      have rD : ∀ g, cR D T g = cR A T g := fun g => (dD.cR (by omega) (fun q => q)).trans (rB g)
      obtain ⟨E, e3, SE', dE, Ew, nE, lE⟩ := E_fill2 (M0 := D) (T := T) (C := C) (R := R) (W := W) (cs := hd ++ cs) SD (by rw [dD.cI (by omega) (fun q => by omega)]; exact B80) hcl (by omega) (by omega) (by omega) ((gD T (by omega) (by omega)).1.trans a6) ((rD _).trans b3) ((rD _).trans b4) ⟨(gD _ (by omega) (by omega)).1.trans c3.1, (gD _ (by omega) (by omega)).2.trans c3.2⟩ ⟨(gD _ (by omega) (by omega)).1.trans c4.1, (gD _ (by omega) (by omega)).2.trans c4.2⟩ (fun k hk' => by
        rw [dD.cI (by omega) (fun q => by omega), dD.cI (by omega) (fun q => by omega)]
        exact hk k hk')
      have kE : K0 E := kD.df SD dE (fun a i q k => by omega) (fun _ _ _ q => q)
      have gE : ∀ x, T ≤ x → x < T + 6 → m_tg E x = m_tg A x ∧ m_ln E x = m_ln A x := fun x h1 h2 => ⟨(dE.2.2 x (by omega)).1.trans (gD x h1 h2).1, (dE.2.2 x (by omega)).2.1.trans (gD x h1 h2).2⟩
      have rE' : ∀ g, cR E T g = cR A T g := fun g => (dE.cR (by omega) (fun q => q)).trans (rD g)
      have cE : ∀ i, cI E T i = cI A T i := fun i => by rw [dE.cI (by omega) (fun q => by omega), dD.cI (by omega) (fun q => by omega), dB.cI (by omega) (pB _ (by omega) _)]
      have wE : ∀ j, j < X → cI E 1039 (W + j) = wf (fla (hd ++ cs)) j := fun j hj => by
        rw [dE.cI (by omega) (fun q => by omega), dD.cI (by omega) (fun q => by omega)]
        exact Bw j hj
      have wat : ∀ k, k < (hd ++ cs).length → W + sat (hd ++ cs) k + (cl (hd ++ cs) k).1.length ≤ W + X ∧ ∀ i, i < (cl (hd ++ cs) k).1.length → cI E 1039 (W + sat (hd ++ cs) k + i) = wf (cl (hd ++ cs) k).1 i := fun k hk' => by
        have s1 := sat_le (hd ++ cs) k hk'
        refine ⟨by omega, fun i hi => ?_⟩
        have s2 := fla_at (hd ++ cs) k i hk' hi
        rw [Nat.add_assoc, wE _ (by omega)]
        exact s2.2
      have te : TE0 E (fun x => (T ≤ x ∧ x < T + 6) ∧ x ≠ T + 5) (W + X) T (C, R, hd, cs) := by
        refine ⟨⟨⟨⟨by omega, by omega⟩, by omega⟩, (gE T (by omega) (by omega)).1.trans a6⟩, (cE _).trans a7, (cE _).trans a8, ?_, ?_⟩
        · rw [rE', rE', b1, b2]
          refine ⟨⟨⟨⟨by omega, by omega⟩, by omega⟩, (gE _ (by omega) (by omega)).1.trans c1.1, (gE _ (by omega) (by omega)).2.trans c1.2⟩, ⟨⟨⟨by omega, by omega⟩, by omega⟩, (gE _ (by omega) (by omega)).1.trans c2.1, (gE _ (by omega) (by omega)).2.trans c2.2⟩, fun k hk' => ?_⟩
          simp only [] at hk' ⊢
          have w := wat k (by omega)
          have dk := Dw k hk'
          rw [cl1 k hk'] at w dk
          exact ⟨by rw [dE.cI (by omega) (fun q => by omega)]; exact dk.2, _, by rw [dE.cI (by omega) (fun q => by omega)]; exact dk.1, w.1, w.2⟩
        · rw [rE', rE', b3, b4]
          refine ⟨⟨⟨⟨by omega, by omega⟩, by omega⟩, (gE _ (by omega) (by omega)).1.trans c3.1, (gE _ (by omega) (by omega)).2.trans c3.2⟩, ⟨⟨⟨by omega, by omega⟩, by omega⟩, (gE _ (by omega) (by omega)).1.trans c4.1, (gE _ (by omega) (by omega)).2.trans c4.2⟩, fun k hk' => ?_⟩
          simp only [] at hk' ⊢
          have w := wat (C + k) (by omega)
          have dk := Ew k hk'
          rw [cl2 k] at w dk
          exact ⟨dk.2, _, dk.1, w.1, w.2⟩
      have E71 : cI E 1037 771 = iw (m : Int) := by rw [dE.cI (by omega) (fun q => by omega), dD.cI (by omega) (fun q => by omega), dB.cI (by omega) (fun q => by unfold pWd at q; omega)]; exact A71
      obtain ⟨F, f1, SF', kF, tF, F71, F40, dF, nF, lF⟩ := E_finish (M := E) (Z := fun x => T ≤ x ∧ x < T + 6) (W := W + X) (T := T) (L := T + 5) (m := m) (d := (C, R, hd, cs)) SE' kE g (by omega) te (fun x hx => by omega) ((rE' _).trans b5) (by omega) ((gE _ (by omega) (by omega)).1.trans c5.1) ((gE _ (by omega) (by omega)).2.trans c5.2) E71 (by omega)
      refine ⟨F, ?_, SF', kF, tF, F71, F40, ?_, ?_, by omega, by omega⟩
      · simp only [M80, a2, a1, g1037_769, g1037_775, g1037_776, v1038, SA, A76, Option.bind_some]
        rw [show F_X12_add A 1038 1041 0 (iw (X : Int)) = _ from e1, Option.bind_some, e2, e3, f1]
        rfl
      · rw [dF.cI (by omega) (fun q => by omega), dE.cI (by omega) (fun q => by omega), dD.cI (by omega) (fun q => by omega)]
        exact B33
      · refine Df.then (Df.then (Df.then ((a3.mono (fun _ _ q => q.elim) (fun _ _ q => q) (fun _ _ q => q.elim)).trans dBm) dD (fun x i hx q => ?_) (fun _ _ _ q => q) (fun _ _ _ q => q.elim)) dE (fun x i hx q => ?_) (fun _ _ _ q => q) (fun _ _ _ q => q.elim)) dF (fun x i hx q => ?_) (fun _ _ _ q => q) (fun x i hx q => q)
        · exfalso; omega
        · exfalso; omega
        · rcases q with q | q
          · exfalso; omega
          · exact Or.inl q
