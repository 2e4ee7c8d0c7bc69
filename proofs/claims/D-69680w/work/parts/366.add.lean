/-! ===== GRIDS, 11: one grid more on both sides ===== -/
theorem I5w.add {Pp Qq Rr : Nat → Nat → Prop} {M M2 : Mem} {m w w' : Nat} {K : Nat → Int32} {n : Nat → Nat} {Z : Nat → Nat → Nat} {S T : Nat → Nat → Int32} {X Y : Nat → Int32} {C D L : Nat → Nat} {P : Nat → Int32} (h : ST M) (h5 : I5w M m w K n Z S T X Y C D L P) (hm : m < 400) (hw : w' ≤ 100000)
    (d : Df Pp Qq Rr M M2) (hP : qt Pp) (hQ : qt Qq) (hR : qt Rr) (hr : ∀ i, i ≠ m + 1 → ¬ Rr 1005 i ∧ ¬ Rr 1070 i)
    (c1 : cI M2 1004 193 = iw ((m + 1 : Nat) : Int)) (c2 : cI M2 1068 1093 = iw ((m + 1 : Nat) : Int)) (c3 : cI M2 1004 194 = iw w') (c4 : cI M2 1068 1094 = iw w')
    {k : Int32} {n' : Nat} {z : Nat → Nat} {s t : Nat → Int32} {x y : Int32} {c e l : Nat} {p : Int32} (gp : GP M2 (cR M2 1005 (m + 1)) (cR M2 1070 (m + 1)) k n' z s t x y c e l p)
    (sh : ∀ g, 1 ≤ g → g ≤ m → cR M 1005 g ≠ 0 → (c = C g ↔ e = D g) ∧ (c = C g → k = K g) ∧ c ≠ D g ∧ C g ≠ e) (hce : c ≠ e) : I5 M2 := by
  have h0 := h.1
  obtain ⟨q1, q2, q3, q4, q5, q6, q7, q8⟩ := h5
  have r5 : ∀ g, g ≠ m + 1 → cR M2 1005 g = cR M 1005 g := fun g hg => d.cR (by omega) (hr g hg).1
  have r7 : ∀ g, g ≠ m + 1 → cR M2 1070 g = cR M 1070 g := fun g hg => d.cR (by omega) (hr g hg).2
  refine ⟨m + 1, w', fun g => if g = m + 1 then k else K g, fun g => if g = m + 1 then n' else n g, fun g => if g = m + 1 then z else Z g, fun g => if g = m + 1 then s else S g, fun g => if g = m + 1 then t else T g, fun g => if g = m + 1 then x else X g, fun g => if g = m + 1 then y else Y g, fun g => if g = m + 1 then c else C g, fun g => if g = m + 1 then e else D g, fun g => if g = m + 1 then l else L g, fun g => if g = m + 1 then p else P g, by omega, hw, c1, c2, c3, c4, fun g a1 a2 => ?_, fun g g' a1 a2 a3 a4 a5 a6 => ?_⟩
  · by_cases eg : g = m + 1
    · subst eg
      simp only [if_true]
      exact Or.inr gp
    · simp only [eg, if_false]
      rw [r5 g eg, r7 g eg]
      exact (q7 g a1 (by omega)).imp id (fun g' => g'.df d hP hQ hR)
  · by_cases eg : g = m + 1
    · by_cases eg' : g' = m + 1
      · simp only [eg, eg', if_true]
        exact ⟨trivial, fun _ => trivial, hce⟩
      · rw [r5 g' eg'] at a6
        obtain ⟨s1, s2, s3, s4⟩ := sh g' a3 (by omega) a6
        simp only [eg, eg', if_true, if_false]
        exact ⟨s1, s2, s3⟩
    · rw [r5 g eg] at a5
      by_cases eg' : g' = m + 1
      · obtain ⟨s1, s2, s3, s4⟩ := sh g a1 (by omega) a5
        simp only [eg, eg', if_true, if_false]
        exact ⟨⟨fun hh => (s1.mp hh.symm).symm, fun hh => (s1.mpr hh.symm).symm⟩, fun hh => (s2 hh.symm).symm, s4⟩
      · rw [r5 g' eg'] at a6
        simp only [eg, eg', if_false]
        exact q8 g g' a1 (by omega) a3 (by omega) a5 a6
/-- cells of a new grid are no one else's -/
theorem I5w.fresh {M : Mem} {m w : Nat} {K : Nat → Int32} {n : Nat → Nat} {Z : Nat → Nat → Nat} {S T : Nat → Nat → Int32} {X Y : Nat → Int32} {C D L : Nat → Nat} {P : Nat → Int32} (h5 : I5w M m w K n Z S T X Y C D L P) {c e : Nat} (hc : m_nx M ≤ c) (he : m_nx M ≤ e) (k : Int32) : ∀ g, 1 ≤ g → g ≤ m → cR M 1005 g ≠ 0 → (c = C g ↔ e = D g) ∧ (c = C g → k = K g) ∧ c ≠ D g ∧ C g ≠ e := by
  obtain ⟨q1, q2, q3, q4, q5, q6, q7, q8⟩ := h5
  intro g a1 a2 a3
  rcases q7 g a1 a2 with z0 | gp
  · exact absurd z0.1 a3
  · have hC := gp.2.2.2.2.2.2.2.1
    have h1 := hC.2.1
    have h2 := hC.2.2.2.1
    exact ⟨⟨fun hh => by omega, fun hh => by omega⟩, fun hh => by omega, by omega, by omega⟩
/-- a new grid's two sides -/
theorem GP.mk {M : Mem} {a b : Nat} {k : Int32} {n : Nat} {z : Nat → Nat} {c d : Nat} (gE : GE M a k n z (fun i => iw (sfx z n (n - 1 - i) : Nat)) 0 c 0) (gM : GM M b k n z (fun i => iw (mfx z n (n - 1 - i) : Nat)) 0 d 0) (hk : Lk k) (hn : n ≤ 4) (hz : ∀ i, i < n → z i ≤ 4096) (hp : prd z n ≤ 100000)
    (c1 : 1334 ≤ c) (c2 : c < m_nx M) (c3 : 1334 ≤ d) (c4 : d < m_nx M) (c5 : m_tg M c = 1006) (c6 : m_tg M d = 1006) (c7 : m_ln M c = prd z n) (c8 : m_ln M d = prd z n) (c9 : ∀ i, i < prd z n → cJ M c i = cJ M d i ∧ vb k (cJ M c i)) :
    GP M a b k n z (fun i => iw (sfx z n (n - 1 - i) : Nat)) (fun i => iw (mfx z n (n - 1 - i) : Nat)) 0 0 c d (prd z n) 0 := by
  refine ⟨gE, gM, hk, hn, hz, hp, Or.inl rfl, ⟨c1, c2, c3, c4, c5, c6, c7, c8, hp, c9⟩, fun h0 => ?_⟩
  have hpos := (prd_pos n).mp h0
  exact ⟨rfl, fun i hi _ => by show iw _ = iw _; rw [mfx_eq hpos hp _ (by omega)], new_VL hpos hp⟩
/-- the shape at hand is taken from a row of sizes -/
def pShape : Nat → Nat → Prop := fun a i => a = 1062 ∨ (a = 1000 ∧ i = 89)
theorem E_shape_loop {src L n : Nat} (hn : n ≤ 4) (hL : n ≤ L) (hL2 : L < 2147483648) (hsrc : src ≠ 1062) : ∀ (e N i : Nat) (M : Mem), i + e = n → e + 1 ≤ N → ST M → m_tg M src = 1005 → m_ln M src = L → (∀ x, x < i → cI M 1062 x = cI M src x) →
    ∃ M', F_X0_shapeOf_b7 N M 1000 src (iw (n : Int)) (iw (i : Int)) = some M' ∧ m_nx M' = m_nx M ∧ m_sl M' = m_sl M ∧ Df (fun a _ => a = 1062) n2 n2 M M' ∧ ∀ x, x < n → cI M' 1062 x = cI M src x := by
  intro e
  induction e with
  | zero =>
    intro N i M hi hN h t1 l1 hx
    obtain ⟨N, rfl⟩ : ∃ x, N = x + 1 := ⟨N - 1, by omega⟩
    refine ⟨M, ?_, rfl, rfl, Df.refl _ _ _ _, fun x hx' => hx x (by omega)⟩
    show F_X0_shapeOf_b7_st (F_X0_shapeOf_b7 N) M 1000 _ _ _ = _
    unfold F_X0_shapeOf_b7_st
    rw [if_neg (by rw [iw_le4 (by omega) (by omega)]; omega)]
  | succ e ih =>
    intro N i M hi hN h t1 l1 hx
    obtain ⟨N, rfl⟩ : ∃ x, N = x + 1 := ⟨N - 1, by omega⟩
    have a1 : ai M src (iw (i : Int)) = some (cI M src i) := ai_of t1 l1 (by omega) hL2
    have s1 : si M 1062 (iw (i : Int)) (cI M src i) = some (wI M 1062 i (cI M src i)) := si_of _ (t1062 h) (l1062 h) (by omega) (by decide)
    have e2 : iw (i : Int) + 1 = iw ((i + 1 : Nat) : Int) := by rw [show (1 : Int32) = iw 1 from rfl, iw_add]; rfl
    have step : F_X0_shapeOf_b7 (N + 1) M 1000 src (iw (n : Int)) (iw (i : Int)) = F_X0_shapeOf_b7 N (wI M 1062 i (cI M src i)) 1000 src (iw (n : Int)) (iw ((i + 1 : Nat) : Int)) := by
      show F_X0_shapeOf_b7_st (F_X0_shapeOf_b7 N) M 1000 _ _ _ = _
      unfold F_X0_shapeOf_b7_st
      rw [if_pos (by rw [iw_le4 (by omega) (by omega)]; omega)]
      simp only [g1000_88, h, a1, s1, Option.bind_some, e2]
    rw [step]
    have hcs : ∀ x, cI (wI M 1062 i (cI M src i)) src x = cI M src x := fun x => by rw [cI_wI, if_neg (fun hh => hsrc hh.1)]
    obtain ⟨M', f1, f2, f3, f4, f5⟩ := ih N (i + 1) (wI M 1062 i (cI M src i)) (by omega) (by omega) h t1 l1 (fun x hx' => by
      rw [hcs]
      by_cases ex : x = i
      · subst ex
        rw [cI_wI, if_pos ⟨rfl, rfl⟩]
      · rw [cI_wI, if_neg (fun hh => ex hh.2)]
        exact hx x (by omega))
    refine ⟨M', f1, f2, f3, (Df.wI (P := fun a _ => a = 1062) (Q := n2) (R := n2) (a := 1062) (i := i) _ rfl).trans f4, fun x hx' => by rw [f5 x hx', hcs]⟩
theorem E_shapeOf {M : Mem} {src L n : Nat} (h : ST M) (hn : n ≤ 4) (hL : n ≤ L) (hL2 : L < 2147483648) (hsrc : src ≠ 1062) (hs0 : src ≠ 1000) (t1 : m_tg M src = 1005) (l1 : m_ln M src = L) : ∃ M', F_X0_shapeOf M 1000 src (iw (n : Int)) = some M' ∧ m_nx M' = m_nx M ∧ m_sl M' = m_sl M ∧ Df pShape n2 n2 M M' ∧ cI M' 1000 89 = iw n ∧ ∀ x, x < n → cI M' 1062 x = cI M src x := by
  have h0 := h.1
  obtain ⟨M', f1, f2, f3, f4, f5⟩ := E_shape_loop (src := src) (L := L) (n := n) hn hL hL2 hsrc n xN 0 (wI M 1000 89 (iw (n : Int))) (by omega) (by have : xN = 1099511627776 := rfl; omega) h t1 l1 (fun x hx => by omega)
  refine ⟨M', ?_, f2, f3, ?_, ?_, fun x hx => ?_⟩
  · unfold F_X0_shapeOf
    rw [p1000_89 h]
    exact f1
  · exact (Df.wI (P := pShape) (Q := n2) (R := n2) (a := 1000) (i := 89) _ (Or.inr ⟨rfl, rfl⟩)).trans (f4.mono (fun a i p => Or.inl p) (fun _ _ p => p) (fun _ _ p => p))
  · rw [f4.cI (show 1000 < m_nx M by omega) (by omega), cI_wI, if_pos ⟨rfl, rfl⟩]
  · rw [f5 x hx, cI_wI, if_neg (fun hh => hs0 hh.1)]
/-- the first of a row of ints, as a row of their own -/
theorem M_first_loop {src L n b : Nat} (hn : n ≤ 4) (hL : n ≤ L) (hL2 : L < 2147483648) (hsb : src ≠ b) : ∀ (e N i : Nat) (M : Mem), i + e = n → e + 1 ≤ N → m_tg M src = 1005 → m_ln M src = L → m_tg M b = 1005 → m_ln M b = n → (∀ x, x < i → cI M b x = cI M src x) →
    ∃ M', F_X16_first_b6 N M src (iw (n : Int)) b (iw (i : Int)) = some (b, M') ∧ m_nx M' = m_nx M ∧ m_sl M' = m_sl M ∧ Df (fun a _ => a = b) n2 n2 M M' ∧ ∀ x, x < n → cI M' b x = cI M src x := by
  intro e
  induction e with
  | zero =>
    intro N i M hi hN t1 l1 t2 l2 hx
    obtain ⟨N, rfl⟩ : ∃ x, N = x + 1 := ⟨N - 1, by omega⟩
    refine ⟨M, ?_, rfl, rfl, Df.refl _ _ _ _, fun x hx' => hx x (by omega)⟩
    show F_X16_first_b6_st (F_X16_first_b6 N) M _ _ _ _ = _
    unfold F_X16_first_b6_st
    rw [if_neg (by rw [iw_le4 (by omega) (by omega)]; omega)]
  | succ e ih =>
    intro N i M hi hN t1 l1 t2 l2 hx
    obtain ⟨N, rfl⟩ : ∃ x, N = x + 1 := ⟨N - 1, by omega⟩
    have a1 : ai M src (iw (i : Int)) = some (cI M src i) := ai_of t1 l1 (by omega) hL2
    have s1 : si M b (iw (i : Int)) (cI M src i) = some (wI M b i (cI M src i)) := si_of _ t2 l2 (by omega) (by omega)
    have e2 : iw (i : Int) + 1 = iw ((i + 1 : Nat) : Int) := by rw [show (1 : Int32) = iw 1 from rfl, iw_add]; rfl
    have step : F_X16_first_b6 (N + 1) M src (iw (n : Int)) b (iw (i : Int)) = F_X16_first_b6 N (wI M b i (cI M src i)) src (iw (n : Int)) b (iw ((i + 1 : Nat) : Int)) := by
      show F_X16_first_b6_st (F_X16_first_b6 N) M _ _ _ _ = _
      unfold F_X16_first_b6_st
      rw [if_pos (by rw [iw_le4 (by omega) (by omega)]; omega)]
      simp only [a1, s1, Option.bind_some, e2]
    rw [step]
    have hcs : ∀ x, cI (wI M b i (cI M src i)) src x = cI M src x := fun x => by rw [cI_wI, if_neg (fun hh => hsb hh.1)]
    obtain ⟨M', f1, f2, f3, f4, f5⟩ := ih N (i + 1) (wI M b i (cI M src i)) (by omega) (by omega) t1 l1 t2 l2 (fun x hx' => by
      rw [hcs]
      by_cases ex : x = i
      · subst ex
        rw [cI_wI, if_pos ⟨rfl, rfl⟩]
      · rw [cI_wI, if_neg (fun hh => ex hh.2)]
        exact hx x (by omega))
    refine ⟨M', f1, f2, f3, (Df.wI (P := fun a _ => a = b) (Q := n2) (R := n2) (a := b) (i := i) _ rfl).trans f4, fun x hx' => by rw [f5 x hx', hcs]⟩
theorem M_first {M : Mem} {src L n : Nat} (h0 : 1334 ≤ m_nx M) (hn : n ≤ 4) (hL : n ≤ L) (hL2 : L < 2147483648) (hsrc : src < m_nx M) (t1 : m_tg M src = 1005) (l1 : m_ln M src = L) : ∃ M', F_X16_first M src (iw (n : Int)) = some (m_nx M, M') ∧ m_nx M' = m_nx M + 1 ∧ m_sl M' = m_sl M + n ∧ Df n2 n2 n2 M M' ∧ IRw M' (m_nx M) n (fun i => cI M src i) := by
  obtain ⟨M2, hM2⟩ : ∃ M2, M2 = m_new M 1005 n := ⟨_, rfl⟩
  have d2 : Df n2 n2 n2 M M2 := by rw [hM2]; exact Df.new _ _
  have tT : m_tg M2 (m_nx M) = 1005 := by rw [hM2, tg_new, if_pos rfl]
  have lT : m_ln M2 (m_nx M) = n := by rw [hM2, ln_new, if_pos rfl]
  have n2' : m_nx M2 = m_nx M + 1 := by rw [hM2]; rfl
  have sl2 : m_sl M2 = m_sl M + n := by rw [hM2]; rfl
  obtain ⟨M', f1, f2, f3, f4, f5⟩ := M_first_loop (src := src) (L := L) (n := n) (b := m_nx M) hn hL hL2 (by omega) n xN 0 M2 (by omega) (by have : xN = 1099511627776 := rfl; omega) ((d2.2.2 _ hsrc).1.trans t1) ((d2.2.2 _ hsrc).2.1.trans l1) tT lT (fun x hx => by omega)
  refine ⟨M', ?_, by omega, by omega, ?_, ?_⟩
  · unfold F_X16_first
    rw [mk_of (by omega)]
    simp only [Option.bind_some]
    rw [← hM2]
    exact f1
  · refine ⟨by omega, by omega, fun a ha => ?_⟩
    have a1 := f4.2.2 a (by omega)
    have a2 := d2.2.2 a ha
    exact ⟨a1.1.trans a2.1, a1.2.1.trans a2.2.1, fun i => ⟨fun _ => by rw [(a1.2.2 i).1 (by omega), (a2.2.2 i).1 (fun hh => hh)], fun _ => by rw [(a1.2.2 i).2.1 (fun hh => hh), (a2.2.2 i).2.1 (fun hh => hh)], fun _ => by rw [(a1.2.2 i).2.2 (fun hh => hh), (a2.2.2 i).2.2 (fun hh => hh)]⟩⟩
  · have a1 := f4.2.2 (m_nx M) (by omega)
    exact ⟨h0, by omega, a1.1.trans tT, a1.2.1.trans lT, fun i hi => by rw [f5 i hi, d2.cI hsrc (fun hh => hh)]⟩
