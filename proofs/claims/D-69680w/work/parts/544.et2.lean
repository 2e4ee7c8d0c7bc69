/-! ===== TABLES, 30: the engine fills a table ===== -/
theorem enc_b {c : List Int32 × Bool} (h : c.1.length ≤ 40) : j_i2b (enc c) = enc c := by
  obtain ⟨e1, e2, e3, e4⟩ := enc_ok (show c.1.length < 64 by omega)
  unfold enc
  by_cases hc : c.2 = true
  · rw [if_pos hc]; exact e3
  · rw [if_neg hc]
    by_cases h0 : c.1.length = 0
    · rw [if_pos h0]; decide
    · rw [if_neg h0]; exact e4
/-- where a word begins -/
def sat (cs : List (List Int32 × Bool)) (k : Nat) : Nat := (fla (cs.take k)).length
theorem E_fill1 {M0 : Mem} {T C R W : Nat} {cs : List (List Int32 × Bool)} (hS : ST M0) (h80 : cI M0 1037 780 = iw (C : Int)) (hC : C ≤ 16) (hl : C ≤ cs.length) (hl2 : cs.length ≤ 8000) (hT : 1334 ≤ T) (hT2 : T + 2 < m_nx M0) (tT : m_tg M0 T = 53) (r1 : cR M0 T 3394 = T + 1) (r2 : cR M0 T 3395 = T + 2) (g1 : m_tg M0 (T + 1) = 1005 ∧ m_ln M0 (T + 1) = C) (g2 : m_tg M0 (T + 2) = 1002 ∧ m_ln M0 (T + 2) = C)
    (hk : ∀ k, k < cs.length → cI M0 1042 k = iw (sat cs k : Nat) ∧ cI M0 1043 k = enc (cl cs k) ∧ (cl cs k).1.length ≤ 40) : ∃ M', F_X11_make_b66 xN M0 1037 (iw (R : Int)) T (iw (W : Int)) 0 = F_X11_make_b114 xN M' 1037 (iw (R : Int)) T (iw (W : Int)) 0 ∧ ST M' ∧ Df (fun x _ => x = T + 1 ∨ x = T + 2) n2 n2 M0 M' ∧ (∀ k, k < C → cI M' (T + 1) k = iw ((W + sat cs k : Nat) : Int) ∧ cI M' (T + 2) k = enc (cl cs k)) ∧ m_nx M' = m_nx M0 ∧ m_sl M' = m_sl M0 := by
  have lo := upl0 (β := Option ((Int32 × Mem) ⊕ (Nat × Mem))) (σ := Unit) (fun N M _ i => F_X11_make_b66 N M 1037 (iw (R : Int)) T (iw (W : Int)) i) (n := C) (by omega) (fun j N _ => ST N ∧ Df (fun x _ => x = T + 1 ∨ x = T + 2) n2 n2 M0 N ∧ (∀ k, k < j → cI N (T + 1) k = iw ((W + sat cs k : Nat) : Int) ∧ cI N (T + 2) k = enc (cl cs k)) ∧ m_nx N = m_nx M0 ∧ m_sl N = m_sl M0) (fun K N _ i hi hJ => by
    obtain ⟨j1, j2, j3, j4, j5⟩ := hJ
    obtain ⟨u1, u2, u3⟩ := hk i (by omega)
    have n80 : cI N 1037 780 = iw (C : Int) := by rw [j2.cI (by omega) (fun q => by omega)]; exact h80
    have tN : m_tg N T = 53 := (j2.2.2 T (by omega)).1.trans tT
    have x1 : gr N T 3394 = some (T + 1) := by rw [gr_of tN (show x_fr 53 3394 = true by decide), j2.cR (by omega) (fun q => q), r1]
    have a1 : ai N 1042 (iw (i : Int)) = some (iw (sat cs i : Nat)) := by rw [ai_of (t1042 j1) (l1042 j1) (show i < 8000 by omega) (by decide), j2.cI (by omega) (fun q => by omega), u1]
    obtain ⟨N1, hN1⟩ : ∃ N1, N1 = wI N (T + 1) i (iw ((W + sat cs i : Nat) : Int)) := ⟨_, rfl⟩
    have s1 : si N (T + 1) (iw (i : Int)) (iw ((W + sat cs i : Nat) : Int)) = some N1 := by rw [si_of _ ((j2.2.2 (T + 1) (by omega)).1.trans g1.1) ((j2.2.2 (T + 1) (by omega)).2.1.trans g1.2) hi (by omega), ← hN1]
    have S1 : ST N1 := by rw [hN1]; exact j1
    have x2 : gr N1 T 3395 = some (T + 2) := by rw [gr_of (show m_tg N1 T = 53 by rw [hN1]; exact tN) (show x_fr 53 3395 = true by decide), hN1]; show some (cR N T 3395) = _; rw [j2.cR (by omega) (fun q => q), r2]
    have a2 : ab N1 1043 (iw (i : Int)) = some (enc (cl cs i)) := by rw [ab_of (Or.inr (Or.inl (t1043 S1))) (l1043 S1) (show i < 8000 by omega) (by decide), hN1, cI_wI, if_neg (by omega), j2.cI (by omega) (fun q => by omega), u2]
    obtain ⟨N2, hN2⟩ : ∃ N2, N2 = wI N1 (T + 2) i (enc (cl cs i)) := ⟨_, rfl⟩
    have s2 : sb N1 (T + 2) (iw (i : Int)) (enc (cl cs i)) = some N2 := by rw [sb_of _ (show m_tg N1 (T + 2) = 1002 by rw [hN1]; exact (j2.2.2 (T + 2) (by omega)).1.trans g2.1) (show m_ln N1 (T + 2) = C by rw [hN1]; exact (j2.2.2 (T + 2) (by omega)).2.1.trans g2.2) hi (by omega), enc_b u3, ← hN2]
    refine ⟨N2, (), ?_, by rw [hN2]; exact S1, (j2.trans (show Df _ n2 n2 N N1 by rw [hN1]; exact Df.wI _ (Or.inl rfl))).trans (by rw [hN2]; exact Df.wI _ (Or.inr rfl)), fun k hk => ?_, by rw [hN2, hN1]; exact j4, by rw [hN2, hN1]; exact j5⟩
    · show F_X11_make_b66_st (F_X11_make_b66 K) N 1037 (iw (R : Int)) T (iw (W : Int)) (iw (i : Int)) = _
      unfold F_X11_make_b66_st
      rw [g1037_780 j1, Option.bind_some, n80, if_pos (show iw (i : Int) < iw (C : Int) by rw [iw_le4 (by omega) (by omega)]; exact hi)]
      simp only [x1, g1037_777, j1, a1, iw_nad, s1, x2, g1037_778, S1, a2, s2, iw_succ, Option.bind_some]
    · rw [hN2, cI_wI, if_neg (by omega), hN1, cI_wI, cI_wI, cI_wI]
      by_cases e : k = i
      · rw [if_pos ⟨rfl, e⟩, if_pos ⟨rfl, e⟩, e]; exact ⟨rfl, rfl⟩
      · rw [if_neg (by omega), if_neg (by omega), if_neg (by omega)]; exact j3 k (by omega)) (M := M0) (s := ()) ⟨hS, Df.refl _ _ _ _, fun i hi => by omega, rfl, rfl⟩
  obtain ⟨K, N, -, e1, j1, j2, j3, j4, j5⟩ := lo
  refine ⟨N, ?_, j1, j2, j3, j4, j5⟩
  refine Eq.trans e1 ?_
  have n80 : cI N 1037 780 = iw (C : Int) := by rw [j2.cI (by omega) (fun q => by omega)]; exact h80
  show F_X11_make_b66_st (F_X11_make_b66 K) N 1037 (iw (R : Int)) T (iw (W : Int)) (iw (C : Int)) = _
  unfold F_X11_make_b66_st
  rw [g1037_780 j1, Option.bind_some, n80, if_neg (show ¬ iw (C : Int) < iw (C : Int) by rw [iw_le4 (by omega) (by omega)]; omega)]
theorem E_fill2 {M0 : Mem} {T C R W : Nat} {cs : List (List Int32 × Bool)} (hS : ST M0) (h80 : cI M0 1037 780 = iw (C : Int)) (hl : cs.length = C + C * R) (hl2 : cs.length ≤ 8000) (hT : 1334 ≤ T) (hT2 : T + 4 < m_nx M0) (tT : m_tg M0 T = 53) (r1 : cR M0 T 3396 = T + 3) (r2 : cR M0 T 3397 = T + 4) (g1 : m_tg M0 (T + 3) = 1005 ∧ m_ln M0 (T + 3) = C * R) (g2 : m_tg M0 (T + 4) = 1002 ∧ m_ln M0 (T + 4) = C * R)
    (hk : ∀ k, k < cs.length → cI M0 1042 k = iw (sat cs k : Nat) ∧ cI M0 1043 k = enc (cl cs k) ∧ (cl cs k).1.length ≤ 40) : ∃ M', F_X11_make_b114 xN M0 1037 (iw (R : Int)) T (iw (W : Int)) 0 = ((F_X11_finish M' 1037 T).bind fun z17 => some (.inl (z17.1, z17.2))) ∧ ST M' ∧ Df (fun x _ => x = T + 3 ∨ x = T + 4) n2 n2 M0 M' ∧ (∀ k, k < C * R → cI M' (T + 3) k = iw ((W + sat cs (C + k) : Nat) : Int) ∧ cI M' (T + 4) k = enc (cl cs (C + k))) ∧ m_nx M' = m_nx M0 ∧ m_sl M' = m_sl M0 := by
  obtain ⟨X, hX⟩ : ∃ X, X = C * R := ⟨_, rfl⟩
  rw [← hX] at hl g1 g2 ⊢
  have lo := upl0 (β := Option ((Int32 × Mem) ⊕ (Nat × Mem))) (σ := Unit) (fun N M _ i => F_X11_make_b114 N M 1037 (iw (R : Int)) T (iw (W : Int)) i) (n := X) (by omega) (fun j N _ => ST N ∧ Df (fun x _ => x = T + 3 ∨ x = T + 4) n2 n2 M0 N ∧ (∀ k, k < j → cI N (T + 3) k = iw ((W + sat cs (C + k) : Nat) : Int) ∧ cI N (T + 4) k = enc (cl cs (C + k))) ∧ m_nx N = m_nx M0 ∧ m_sl N = m_sl M0) (fun K N _ i hi hJ => by
    obtain ⟨j1, j2, j3, j4, j5⟩ := hJ
    obtain ⟨u1, u2, u3⟩ := hk (C + i) (by omega)
    have n80 : cI N 1037 780 = iw (C : Int) := by rw [j2.cI (by omega) (fun q => by omega)]; exact h80
    have tN : m_tg N T = 53 := (j2.2.2 T (by omega)).1.trans tT
    have x1 : gr N T 3396 = some (T + 3) := by rw [gr_of tN (show x_fr 53 3396 = true by decide), j2.cR (by omega) (fun q => q), r1]
    have a1 : ai N 1042 (iw ((C + i : Nat) : Int)) = some (iw (sat cs (C + i) : Nat)) := by rw [ai_of (t1042 j1) (l1042 j1) (show C + i < 8000 by omega) (by decide), j2.cI (by omega) (fun q => by omega), u1]
    obtain ⟨N1, hN1⟩ : ∃ N1, N1 = wI N (T + 3) i (iw ((W + sat cs (C + i) : Nat) : Int)) := ⟨_, rfl⟩
    have s1 : si N (T + 3) (iw (i : Int)) (iw ((W + sat cs (C + i) : Nat) : Int)) = some N1 := by rw [si_of _ ((j2.2.2 (T + 3) (by omega)).1.trans g1.1) ((j2.2.2 (T + 3) (by omega)).2.1.trans g1.2) hi (by omega), ← hN1]
    have S1 : ST N1 := by rw [hN1]; exact j1
    have n81 : cI N1 1037 780 = iw (C : Int) := by rw [hN1, cI_wI, if_neg (by omega)]; exact n80
    have x2 : gr N1 T 3397 = some (T + 4) := by rw [gr_of (show m_tg N1 T = 53 by rw [hN1]; exact tN) (show x_fr 53 3397 = true by decide), hN1]; show some (cR N T 3397) = _; rw [j2.cR (by omega) (fun q => q), r2]
    have a2 : ab N1 1043 (iw ((C + i : Nat) : Int)) = some (enc (cl cs (C + i))) := by rw [ab_of (Or.inr (Or.inl (t1043 S1))) (l1043 S1) (show C + i < 8000 by omega) (by decide), hN1, cI_wI, if_neg (by omega), j2.cI (by omega) (fun q => by omega), u2]
    obtain ⟨N2, hN2⟩ : ∃ N2, N2 = wI N1 (T + 4) i (enc (cl cs (C + i))) := ⟨_, rfl⟩
    have s2 : sb N1 (T + 4) (iw (i : Int)) (enc (cl cs (C + i))) = some N2 := by rw [sb_of _ (show m_tg N1 (T + 4) = 1002 by rw [hN1]; exact (j2.2.2 (T + 4) (by omega)).1.trans g2.1) (show m_ln N1 (T + 4) = X by rw [hN1]; exact (j2.2.2 (T + 4) (by omega)).2.1.trans g2.2) hi (by omega), enc_b u3, ← hN2]
    refine ⟨N2, (), ?_, by rw [hN2]; exact S1, (j2.trans (show Df _ n2 n2 N N1 by rw [hN1]; exact Df.wI _ (Or.inl rfl))).trans (by rw [hN2]; exact Df.wI _ (Or.inr rfl)), fun k hk => ?_, by rw [hN2, hN1]; exact j4, by rw [hN2, hN1]; exact j5⟩
    · show F_X11_make_b114_st (F_X11_make_b114 K) N 1037 (iw (R : Int)) T (iw (W : Int)) (iw (i : Int)) = _
      unfold F_X11_make_b114_st
      rw [g1037_780 j1, Option.bind_some, n80, iw_nml, ← hX, if_pos (show iw (i : Int) < iw (X : Int) by rw [iw_le4 (by omega) (by omega)]; exact hi)]
      simp only [x1, g1037_777, g1037_780, j1, n80, a1, iw_nad, s1, x2, g1037_778, S1, n81, a2, s2, iw_succ, Option.bind_some]
    · rw [hN2, cI_wI, if_neg (by omega), hN1, cI_wI, cI_wI, cI_wI]
      by_cases e : k = i
      · rw [if_pos ⟨rfl, e⟩, if_pos ⟨rfl, e⟩, e]; exact ⟨rfl, rfl⟩
      · rw [if_neg (by omega), if_neg (by omega), if_neg (by omega)]; exact j3 k (by omega)) (M := M0) (s := ()) ⟨hS, Df.refl _ _ _ _, fun i hi => by omega, rfl, rfl⟩
  obtain ⟨K, N, -, e1, j1, j2, j3, j4, j5⟩ := lo
  refine ⟨N, ?_, j1, j2, j3, j4, j5⟩
  refine Eq.trans e1 ?_
  have n80 : cI N 1037 780 = iw (C : Int) := by rw [j2.cI (by omega) (fun q => by omega)]; exact h80
  show F_X11_make_b114_st (F_X11_make_b114 K) N 1037 (iw (R : Int)) T (iw (W : Int)) (iw (X : Int)) = _
  unfold F_X11_make_b114_st
  rw [g1037_780 j1, Option.bind_some, n80, iw_nml, ← hX, if_neg (show ¬ iw (X : Int) < iw (X : Int) by rw [iw_le4 (by omega) (by omega)]; omega), v1037 j1, Option.bind_some]
/-- the engine's table but for its lanes -/
def TE0 (M : Mem) (Z : Nat → Prop) (W t : Nat) (d : TD) : Prop := (Z t ∧ m_tg M t = 53) ∧ cI M t 3392 = iw (d.1 : Int) ∧ cI M t 3393 = iw (d.2.1 : Int) ∧ RW M Z W (cR M t 3394) (cR M t 3395) d.1 d.2.2.1 ∧ RW M Z W (cR M t 3396) (cR M t 3397) (d.1 * d.2.1) d.2.2.2
theorem TE0.df {P Q R : Nat → Nat → Prop} {M N : Mem} {Z : Nat → Prop} {W t : Nat} {d : TD} (h : TE0 M Z W t d) (e : Df P Q R M N) (hZ : ∀ x, Z x → x < m_nx M) (hP : ∀ x i, Z x → ¬ P x i) (hR : ∀ x i, Z x → ¬ R x i) (h0 : 1334 ≤ m_nx M) (hW : ∀ i, i < W → ¬ P 1039 i) : TE0 N Z W t d := by
  obtain ⟨⟨a1, a2⟩, h1, h2, h3, h4⟩ := h
  have hr : ∀ g, cR N t g = cR M t g := fun g => e.cR (hZ _ a1) (hR _ _ a1)
  unfold TE0
  simp only [hr]
  exact ⟨⟨a1, (e.2.2 t (hZ _ a1)).1.trans a2⟩, by rw [e.cI (hZ _ a1) (hP _ _ a1)]; exact h1, by rw [e.cI (hZ _ a1) (hP _ _ a1)]; exact h2, h3.df e hZ hP h0 hW, h4.df e hZ hP h0 hW⟩
theorem TE0.c {M : Mem} {Z : Nat → Prop} {W t : Nat} {d : TD} (h : TE0 M Z W t d) (g : GT d) (hS : ST M) (k0 : K0 M) (hW : W ≤ 65536) : TEc M t d.1 d.2.1 d.2.2.2 := by
  obtain ⟨⟨a1, a2⟩, h1, h2, h3, ⟨⟨b1, b2, b3⟩, ⟨b4, b5, b6⟩, b7⟩⟩ := h
  obtain ⟨g1, g2, g3, g4, g5, g6, g7⟩ := g
  refine ⟨hS, k0, a2, h1, h2, g2, g3, b2, b3, b5, b6, fun k hk => ?_⟩
  obtain ⟨k1, s, k2, k3, k4⟩ := b7 k hk
  exact ⟨k1, (g7 k hk).1, (g7 k hk).2.1, s, k2, by omega, k4⟩
/-- the lanes are found, the table is kept -/
theorem E_finish {M : Mem} {Z : Nat → Prop} {W T L m : Nat} {d : TD} (hS : ST M) (k0 : K0 M) (g : GT d) (hW : W ≤ 65536) (h : TE0 M (fun x => Z x ∧ x ≠ L) W T d) (hZ : ∀ x, Z x → 1334 ≤ x ∧ x < m_nx M) (r5 : cR M T 3398 = L) (zL : Z L) (tL : m_tg M L = 1005) (lL : m_ln M L = d.1) (hm : cI M 1037 771 = iw (m : Int)) (hm2 : m < 40) : ∃ M', F_X11_finish M 1037 T = some (iw ((m + 1 : Nat) : Int), M') ∧ ST M' ∧ K0 M' ∧ TE M' Z W T d ∧ cI M' 1037 771 = iw ((m + 1 : Nat) : Int) ∧ cR M' 1040 (m + 1) = T ∧ Df (fun x i => x = L ∨ (x = 1037 ∧ i = 771)) n2 (fun x i => x = 1040 ∧ i = m + 1) M M' ∧ m_nx M' = m_nx M ∧ m_sl M' = m_sl M := by
  have hL := hZ L zL
  have hT := hZ T h.1.1.1
  have h0 := hS.1
  have g1 := g.1
  have g2 := g.2.1
  have hZ' : ∀ x, (Z x ∧ x ≠ L) → x < m_nx M := fun x hx => (hZ x hx.1).2
  have keep : ∀ {N : Mem}, Df (at1 L) n2 n2 M N → TE0 N (fun x => Z x ∧ x ≠ L) W T d := fun e => h.df e hZ' (fun x i q k => q.2 k) (fun x i q k => k) h0 (fun i hi k => by unfold at1 at k; omega)
  have lo := upl0 (β := Option (Int32 × Mem)) (σ := Unit) (fun N M _ i => F_X11_finish_b2 N M 1037 T i) (n := d.1) (by omega) (fun j N _ => ST N ∧ K0 N ∧ Df (at1 L) n2 n2 M N ∧ (∀ i, i < j → cI N L i = lan d.1 d.2.1 d.2.2.2 i) ∧ m_nx N = m_nx M ∧ m_sl N = m_sl M) (fun K N _ i hi hJ => by
    obtain ⟨j1, j2, j3, j4, j5, j6⟩ := hJ
    have tc := (keep j3).c g j1 j2 hW
    have tN : m_tg N T = 53 := (j3.2.2 T hT.2).1.trans h.1.2
    have x1 : gr N T 3398 = some L := by rw [gr_of tN (show x_fr 53 3398 = true by decide), j3.cR hT.2 (fun q => q), r5]
    obtain ⟨N1, hN1⟩ : ∃ N1, N1 = wI N L i (lan d.1 d.2.1 d.2.2.2 i) := ⟨_, rfl⟩
    have s1 : si N L (iw (i : Int)) (lan d.1 d.2.1 d.2.2.2 i) = some N1 := by rw [si_of _ ((j3.2.2 L hL.2).1.trans tL) ((j3.2.2 L hL.2).2.1.trans lL) hi (by omega), ← hN1]
    have dN : Df (at1 L) n2 n2 N N1 := by rw [hN1]; exact Df.wI _ rfl
    refine ⟨N1, (), ?_, by rw [hN1]; exact j1, j2.df j1 dN (fun a i q k => by unfold at1 at k; omega) (fun a i q k => k), j3.trans dN, fun k hk => ?_, by rw [hN1]; exact j5, by rw [hN1]; exact j6⟩
    · show F_X11_finish_b2_st (F_X11_finish_b2 K) N 1037 T (iw (i : Int)) = _
      unfold F_X11_finish_b2_st
      rw [tc.g.2.1, Option.bind_some, if_pos (show iw (i : Int) < iw (d.1 : Int) by rw [iw_le4 (by omega) (by omega)]; exact hi)]
      simp only [x1, v1037, j1, E_laneOf tc hi, s1, iw_succ, Option.bind_some]
    · rw [hN1, cI_wI]
      by_cases e : k = i
      · rw [if_pos ⟨rfl, e⟩, e]
      · rw [if_neg (by omega)]; exact j4 k (by omega)) (M := M) (s := ()) ⟨hS, k0, Df.refl _ _ _ _, fun i hi => by omega, rfl, rfl⟩
  obtain ⟨K, N, -, e1, j1, j2, j3, j4, j5, j6⟩ := lo
  have tc := (keep j3).c g j1 j2 hW
  have tN : m_tg N T = 53 := (j3.2.2 T hT.2).1.trans h.1.2
  have m7 : cI N 1037 771 = iw (m : Int) := by rw [j3.cI (by omega) (fun q => by unfold at1 at q; omega)]; exact hm
  obtain ⟨N1, hN1⟩ : ∃ N1, N1 = wI N 1037 771 (iw ((m + 1 : Nat) : Int)) := ⟨_, rfl⟩
  have S1 : ST N1 := by rw [hN1]; exact j1
  have m71 : cI N1 1037 771 = iw ((m + 1 : Nat) : Int) := by rw [hN1, cI_wI, if_pos ⟨rfl, rfl⟩]
  obtain ⟨O, hO⟩ : ∃ O, O = wR N1 1040 (m + 1) T := ⟨_, rfl⟩
  have s1 : sr N1 1040 (iw ((m + 1 : Nat) : Int)) T = some O := by rw [sr_of (by rw [t1040 S1]; decide) (l1040 S1) (show m + 1 < 41 by omega) (by decide) (Or.inr (by rw [t1040 S1, show m_tg N1 T = 53 by rw [hN1]; exact tN]; decide)), ← hO]
  have dO : Df (fun x i => x = L ∨ (x = 1037 ∧ i = 771)) n2 (fun x i => x = 1040 ∧ i = m + 1) M O := ((j3.mono (fun x i q => Or.inl q) (fun _ _ q => q) (fun _ _ q => q.elim)).trans (show Df _ _ _ N N1 by rw [hN1]; exact Df.wI _ (Or.inr ⟨rfl, rfl⟩))).trans (by rw [hO]; exact Df.wR _ ⟨rfl, rfl⟩)
  have SO : ST O := hS.df dO (fun p hp q => by
    have hh : stR.all (fun p => !(p.1 == 1040)) = true := by decide +kernel
    have k := List.all_eq_true.mp hh p hp
    rw [q.1] at k
    cases k)
  have mO : cI O 1037 771 = iw ((m + 1 : Nat) : Int) := by rw [hO]; exact m71
  have kO : K0 O := k0.df hS dO (fun a i q k => by omega) (fun a i q k => by omega)
  have dl := dO.2.2 L hL.2
  have eO : TE0 O (fun x => Z x ∧ x ≠ L) W T d := h.df dO hZ' (fun x i q k => by have := hZ x q.1; rcases k with k | k; exact q.2 k; omega) (fun x i q k => by have := hZ x q.1; omega) h0 (fun i hi k => by omega)
  have rO : cR O T 3398 = L := by rw [dO.cR hT.2 (fun q => by omega)]; exact r5
  obtain ⟨⟨a1, a2⟩, a3, a4, a5, a6⟩ := eO
  refine ⟨O, ?_, SO, kO, ⟨⟨a1.1, a2⟩, a3, a4, a5.w (Nat.le_refl _) (fun x q => q.1), a6.w (Nat.le_refl _) (fun x q => q.1), ?_, ?_⟩, mO, by rw [hO, cR_wR, if_pos ⟨rfl, rfl⟩], dO, by rw [hO, hN1]; exact j5, by rw [hO, hN1]; exact j6⟩
  · show F_X11_finish_b2 xN M 1037 T 0 = _
    refine Eq.trans e1 ?_
    show F_X11_finish_b2_st (F_X11_finish_b2 K) N 1037 T (iw (d.1 : Int)) = _
    unfold F_X11_finish_b2_st
    rw [tc.g.2.1, Option.bind_some, if_neg (show ¬ iw (d.1 : Int) < iw (d.1 : Int) by rw [iw_le4 (by omega) (by omega)]; omega)]
    simp only [g1037_771, p1037_771, g1037_770, j1, m7, iw_succ, ← hN1, S1, m71, s1, SO, mO, Option.bind_some]
  · rw [rO]; exact ⟨zL, dl.1.trans tL, dl.2.1.trans lL⟩
  · intro c hc
    rw [rO, hO, hN1]
    show cI (wI N 1037 771 _) L c = _
    rw [cI_wI, if_neg (by omega)]
    exact j4 c hc
