/-! ===== TABLES, 29: tables of both sides ===== -/
/-- columns, rows, names, cells -/
abbrev TD : Type := Nat × Nat × List (List Int32 × Bool) × List (List Int32 × Bool)
/-- no sign " and no comma -/
def nosg (w : List Int32) : Prop := ∀ i, i < w.length → bn (wf w i) ≠ 34 ∧ bn (wf w i) ≠ 44
def GT (d : TD) : Prop := 1 ≤ d.1 ∧ d.1 ≤ 16 ∧ d.2.1 < 500 ∧ d.2.2.1.length = d.1 ∧ d.2.2.2.length = d.1 * d.2.1 ∧ (∀ k, k < d.1 → ascs (cl d.2.2.1 k).1 ∧ 1 ≤ (cl d.2.2.1 k).1.length ∧ (cl d.2.2.1 k).1.length ≤ 20) ∧ ∀ k, k < d.1 * d.2.1 → ascs (cl d.2.2.2 k).1 ∧ (cl d.2.2.2 k).1.length ≤ 40 ∧ ((cl d.2.2.2 k).2 = false → nosg (cl d.2.2.2 k).1)
/-- words whose places stand in row a, their lengths in row b -/
def RW (M : Mem) (Z : Nat → Prop) (W a b n : Nat) (ws : List (List Int32 × Bool)) : Prop := (Z a ∧ m_tg M a = 1005 ∧ m_ln M a = n) ∧ (Z b ∧ m_tg M b = 1002 ∧ m_ln M b = n) ∧ ∀ k, k < n → cI M b k = enc (cl ws k) ∧ ∃ s : Nat, cI M a k = iw (s : Int) ∧ s + (cl ws k).1.length ≤ W ∧ ∀ i, i < (cl ws k).1.length → cI M 1039 (s + i) = wf (cl ws k).1 i
/-- the engine's table -/
def TE (M : Mem) (Z : Nat → Prop) (W t : Nat) (d : TD) : Prop := (Z t ∧ m_tg M t = 53) ∧ cI M t 3392 = iw (d.1 : Int) ∧ cI M t 3393 = iw (d.2.1 : Int) ∧ RW M Z W (cR M t 3394) (cR M t 3395) d.1 d.2.2.1 ∧ RW M Z W (cR M t 3396) (cR M t 3397) (d.1 * d.2.1) d.2.2.2 ∧ (Z (cR M t 3398) ∧ m_tg M (cR M t 3398) = 1005 ∧ m_ln M (cR M t 3398) = d.1) ∧ ∀ c, c < d.1 → cI M (cR M t 3398) c = lan d.1 d.2.1 d.2.2.2 c
/-- a text of the model -/
def NMt (M : Mem) (Z : Nat → Prop) (e : Nat) (w : List Int32) : Prop := Z e ∧ m_tg M e = 76 ∧ Z (cR M e 4864) ∧ SB M e w
def CMt (M : Mem) (Z : Nat → Prop) (e : Nat) (c : List Int32 × Bool) : Prop := Z e ∧ m_tg M e = 56 ∧ cI M e 3585 = mr c.2 ∧ NMt M Z (cR M e 3584) c.1
/-- a list of the model -/
def LZ (M : Mem) (Z : Nat → Prop) (l dl : Nat) (es : List Nat) : Prop := Z l ∧ (1334 ≤ dl → Z dl) ∧ AL M l dl es
/-- the model's table but for its lanes -/
def TM0 (M : Mem) (Z : Nat → Prop) (t : Nat) (d : TD) (ln dn : Nat) (en : List Nat) (lc dc : Nat) (ec : List Nat) : Prop := (Z t ∧ m_tg M t = 55) ∧ cR M t 3520 = ln ∧ cR M t 3521 = lc ∧ LZ M Z ln dn en ∧ LZ M Z lc dc ec ∧ en.length = d.1 ∧ ec.length = d.1 * d.2.1 ∧ (∀ k, k < d.1 → NMt M Z (en.getD k 0) (cl d.2.2.1 k).1) ∧ ∀ k, k < d.1 * d.2.1 → CMt M Z (ec.getD k 0) (cl d.2.2.2 k)
def TMt (M : Mem) (Z : Nat → Prop) (t : Nat) (d : TD) : Prop := (∃ ln dn en lc dc ec, TM0 M Z t d ln dn en lc dc ec) ∧ (Z (cR M t 3522) ∧ m_tg M (cR M t 3522) = 1005 ∧ m_ln M (cR M t 3522) = d.1) ∧ ∀ c, c < d.1 → cI M (cR M t 3522) c = lan d.1 d.2.1 d.2.2.2 c
/-- both sides hold the same tables -/
def I6 (M : Mem) (Z : Nat → Prop) : Prop := (∀ x, Z x → 1334 ≤ x ∧ x < m_nx M) ∧ ∃ (m W : Nat) (D : Nat → Option TD), m ≤ 40 ∧ W ≤ 65536 ∧ cI M 1037 771 = iw (m : Int) ∧ cI M 1068 1123 = iw (m : Int) ∧ cI M 1038 833 = iw (W : Int) ∧ cI M 1068 1124 = iw (W : Int) ∧ ∀ k, 1 ≤ k → k ≤ m → match D k with
  | none => cR M 1040 k = 0 ∧ cR M 1324 k = 0
  | some d => GT d ∧ TE M Z W (cR M 1040 k) d ∧ TMt M Z (cR M 1324 k) d
/-! what stays -/
section
variable {P Q R : Nat → Nat → Prop} {M N : Mem} {Z : Nat → Prop}
theorem RW.df {W a b n : Nat} {ws : List (List Int32 × Bool)} (h : RW M Z W a b n ws) (d : Df P Q R M N) (hZ : ∀ x, Z x → x < m_nx M) (hP : ∀ x i, Z x → ¬ P x i) (h0 : 1334 ≤ m_nx M) (hW : ∀ i, i < W → ¬ P 1039 i) : RW N Z W a b n ws := by
  obtain ⟨⟨a1, a2, a3⟩, ⟨b1, b2, b3⟩, h⟩ := h
  have da := d.2.2 a (hZ _ a1)
  have db := d.2.2 b (hZ _ b1)
  refine ⟨⟨a1, da.1.trans a2, da.2.1.trans a3⟩, ⟨b1, db.1.trans b2, db.2.1.trans b3⟩, fun k hk => ?_⟩
  obtain ⟨k1, s, k2, k3, k4⟩ := h k hk
  exact ⟨by rw [d.cI (hZ _ b1) (hP _ _ b1)]; exact k1, s, by rw [d.cI (hZ _ a1) (hP _ _ a1)]; exact k2, k3, fun i hi => by rw [d.cI (by omega) (hW _ (by omega))]; exact k4 i hi⟩
theorem RW.w {W W' a b n : Nat} {ws : List (List Int32 × Bool)} {Z' : Nat → Prop} (h : RW M Z W a b n ws) (hW : W ≤ W') (hZ : ∀ x, Z x → Z' x) : RW M Z' W' a b n ws := by
  obtain ⟨⟨a1, a2, a3⟩, ⟨b1, b2, b3⟩, h⟩ := h
  refine ⟨⟨hZ _ a1, a2, a3⟩, ⟨hZ _ b1, b2, b3⟩, fun k hk => ?_⟩
  obtain ⟨k1, s, k2, k3, k4⟩ := h k hk
  exact ⟨k1, s, k2, by omega, k4⟩
theorem TE.df {W t : Nat} {d : TD} (h : TE M Z W t d) (e : Df P Q R M N) (hZ : ∀ x, Z x → x < m_nx M) (hP : ∀ x i, Z x → ¬ P x i) (hR : ∀ x i, Z x → ¬ R x i) (h0 : 1334 ≤ m_nx M) (hW : ∀ i, i < W → ¬ P 1039 i) : TE N Z W t d := by
  obtain ⟨⟨a1, a2⟩, h1, h2, h3, h4, ⟨h5, h6, h7⟩, h8⟩ := h
  have hr : ∀ g, cR N t g = cR M t g := fun g => e.cR (hZ _ a1) (hR _ _ a1)
  unfold TE
  simp only [hr]
  have dl := e.2.2 _ (hZ _ h5)
  exact ⟨⟨a1, (e.2.2 t (hZ _ a1)).1.trans a2⟩, by rw [e.cI (hZ _ a1) (hP _ _ a1)]; exact h1, by rw [e.cI (hZ _ a1) (hP _ _ a1)]; exact h2, h3.df e hZ hP h0 hW, h4.df e hZ hP h0 hW, ⟨h5, dl.1.trans h6, dl.2.1.trans h7⟩, fun c hc => by rw [e.cI (hZ _ h5) (hP _ _ h5)]; exact h8 c hc⟩
theorem TE.w {W W' t : Nat} {d : TD} {Z' : Nat → Prop} (h : TE M Z W t d) (hW : W ≤ W') (hZ : ∀ x, Z x → Z' x) : TE M Z' W' t d := by
  obtain ⟨⟨a1, a2⟩, h1, h2, h3, h4, ⟨h5, h6, h7⟩, h8⟩ := h
  exact ⟨⟨hZ _ a1, a2⟩, h1, h2, h3.w hW hZ, h4.w hW hZ, ⟨hZ _ h5, h6, h7⟩, h8⟩
theorem NMt.df {e : Nat} {w : List Int32} (h : NMt M Z e w) (d : Df P Q R M N) (hZ : ∀ x, Z x → x < m_nx M) (hP : ∀ x i, Z x → ¬ P x i) (hR : ∀ x i, Z x → ¬ R x i) : NMt N Z e w := by
  obtain ⟨h1, h2, h3, h4⟩ := h
  obtain ⟨k1, k2⟩ := h4.df d (hZ _ h1) (hZ _ h3) (hR _ _ h1) (hP _ _ h1) (fun i => hP _ _ h3)
  exact ⟨h1, (d.2.2 e (hZ _ h1)).1.trans h2, by rw [k2]; exact h3, k1⟩
theorem NMt.w {e : Nat} {w : List Int32} {Z' : Nat → Prop} (h : NMt M Z e w) (hZ : ∀ x, Z x → Z' x) : NMt M Z' e w := ⟨hZ _ h.1, h.2.1, hZ _ h.2.2.1, h.2.2.2⟩
theorem CMt.df {e : Nat} {c : List Int32 × Bool} (h : CMt M Z e c) (d : Df P Q R M N) (hZ : ∀ x, Z x → x < m_nx M) (hP : ∀ x i, Z x → ¬ P x i) (hR : ∀ x i, Z x → ¬ R x i) : CMt N Z e c := by
  obtain ⟨h1, h2, h3, h4⟩ := h
  exact ⟨h1, (d.2.2 e (hZ _ h1)).1.trans h2, by rw [d.cI (hZ _ h1) (hP _ _ h1)]; exact h3, by rw [d.cR (hZ _ h1) (hR _ _ h1)]; exact h4.df d hZ hP hR⟩
theorem CMt.w {e : Nat} {c : List Int32 × Bool} {Z' : Nat → Prop} (h : CMt M Z e c) (hZ : ∀ x, Z x → Z' x) : CMt M Z' e c := ⟨hZ _ h.1, h.2.1, h.2.2.1, h.2.2.2.w hZ⟩
theorem LZ.df {l dl : Nat} {es : List Nat} (h : LZ M Z l dl es) (d : Df P Q R M N) (hZ : ∀ x, Z x → x < m_nx M) (hP : ∀ x i, Z x → ¬ P x i) (hR : ∀ x i, Z x → ¬ R x i) : LZ N Z l dl es := ⟨h.1, h.2.1, h.2.2.df d (hP _ _ h.1) (hR _ _ h.1) (fun i q => hR _ _ (h.2.1 q))⟩
theorem LZ.w {l dl : Nat} {es : List Nat} {Z' : Nat → Prop} (h : LZ M Z l dl es) (hZ : ∀ x, Z x → Z' x) : LZ M Z' l dl es := ⟨hZ _ h.1, fun q => hZ _ (h.2.1 q), h.2.2⟩
theorem TM0.df {t ln dn lc dc : Nat} {en ec : List Nat} {d : TD} (h : TM0 M Z t d ln dn en lc dc ec) (e : Df P Q R M N) (hZ : ∀ x, Z x → x < m_nx M) (hP : ∀ x i, Z x → ¬ P x i) (hR : ∀ x i, Z x → ¬ R x i) : TM0 N Z t d ln dn en lc dc ec := by
  obtain ⟨⟨a1, a2⟩, h1, h2, h3, h4, h5, h6, h7, h8⟩ := h
  exact ⟨⟨a1, (e.2.2 t (hZ _ a1)).1.trans a2⟩, by rw [e.cR (hZ _ a1) (hR _ _ a1)]; exact h1, by rw [e.cR (hZ _ a1) (hR _ _ a1)]; exact h2, h3.df e hZ hP hR, h4.df e hZ hP hR, h5, h6, fun k hk => (h7 k hk).df e hZ hP hR, fun k hk => (h8 k hk).df e hZ hP hR⟩
theorem TM0.w {t ln dn lc dc : Nat} {en ec : List Nat} {d : TD} {Z' : Nat → Prop} (h : TM0 M Z t d ln dn en lc dc ec) (hZ : ∀ x, Z x → Z' x) : TM0 M Z' t d ln dn en lc dc ec := by
  obtain ⟨⟨a1, a2⟩, h1, h2, h3, h4, h5, h6, h7, h8⟩ := h
  exact ⟨⟨hZ _ a1, a2⟩, h1, h2, h3.w hZ, h4.w hZ, h5, h6, fun k hk => (h7 k hk).w hZ, fun k hk => (h8 k hk).w hZ⟩
theorem TMt.df {t : Nat} {d : TD} (h : TMt M Z t d) (e : Df P Q R M N) (hZ : ∀ x, Z x → x < m_nx M) (hP : ∀ x i, Z x → ¬ P x i) (hR : ∀ x i, Z x → ¬ R x i) : TMt N Z t d := by
  obtain ⟨⟨ln, dn, en, lc, dc, ec, h0⟩, ⟨h1, h2, h3⟩, h4⟩ := h
  have ht := h0.1.1
  have hr : cR N t 3522 = cR M t 3522 := e.cR (hZ _ ht) (hR _ _ ht)
  have dl := e.2.2 _ (hZ _ h1)
  unfold TMt
  rw [hr]
  exact ⟨⟨ln, dn, en, lc, dc, ec, h0.df e hZ hP hR⟩, ⟨h1, dl.1.trans h2, dl.2.1.trans h3⟩, fun c hc => by rw [e.cI (hZ _ h1) (hP _ _ h1)]; exact h4 c hc⟩
theorem TMt.w {t : Nat} {d : TD} {Z' : Nat → Prop} (h : TMt M Z t d) (hZ : ∀ x, Z x → Z' x) : TMt M Z' t d := by
  obtain ⟨⟨ln, dn, en, lc, dc, ec, h0⟩, ⟨h1, h2, h3⟩, h4⟩ := h
  exact ⟨⟨ln, dn, en, lc, dc, ec, h0.w hZ⟩, ⟨hZ _ h1, h2, h3⟩, h4⟩
/-- the tables are left alone -/
def noT (P R : Nat → Nat → Prop) (Z : Nat → Prop) : Prop := (∀ x i, Z x → ¬ P x i) ∧ (∀ x i, Z x → ¬ R x i) ∧ (∀ i, ¬ P 1039 i) ∧ ¬ P 1037 771 ∧ ¬ P 1068 1123 ∧ ¬ P 1038 833 ∧ ¬ P 1068 1124 ∧ (∀ i, ¬ R 1040 i) ∧ ∀ i, ¬ R 1324 i
theorem I6.df (h : I6 M Z) (e : Df P Q R M N) (h0 : 1334 ≤ m_nx M) (hn : noT P R Z) : I6 N Z := by
  obtain ⟨hZ, m, W, D, h1, h2, h3, h4, h5, h6, h7⟩ := h
  obtain ⟨p1, p2, p3, p4, p5, p6, p7, p8, p9⟩ := hn
  have nn := e.1
  refine ⟨fun x hx => ⟨(hZ x hx).1, by have := (hZ x hx).2; omega⟩, m, W, D, h1, h2, by rw [e.cI (by omega) p4]; exact h3, by rw [e.cI (by omega) p5]; exact h4, by rw [e.cI (by omega) p6]; exact h5, by rw [e.cI (by omega) p7]; exact h6, fun k k1 k2 => ?_⟩
  have hk := h7 k k1 k2
  have r1 : cR N 1040 k = cR M 1040 k := e.cR (by omega) (p8 _)
  have r2 : cR N 1324 k = cR M 1324 k := e.cR (by omega) (p9 _)
  rw [r1, r2]
  cases hD : D k with
  | none => rw [hD] at hk; exact hk
  | some d =>
    rw [hD] at hk
    exact ⟨hk.1, hk.2.1.df e (fun x hx => (hZ x hx).2) p1 p2 h0 (fun i _ => p3 i), hk.2.2.df e (fun x hx => (hZ x hx).2) p1 p2⟩
end
/-- what the engine's functions ask of a table -/
theorem TE.c {M : Mem} {Z : Nat → Prop} {W t : Nat} {d : TD} (h : TE M Z W t d) (g : GT d) (hS : ST M) (k0 : K0 M) (hW : W ≤ 65536) : TEc M t d.1 d.2.1 d.2.2.2 := by
  obtain ⟨⟨a1, a2⟩, h1, h2, h3, ⟨⟨b1, b2, b3⟩, ⟨b4, b5, b6⟩, b7⟩, h5⟩ := h
  obtain ⟨g1, g2, g3, g4, g5, g6, g7⟩ := g
  refine ⟨hS, k0, a2, h1, h2, g2, g3, b2, b3, b5, b6, fun k hk => ?_⟩
  obtain ⟨k1, s, k2, k3, k4⟩ := b7 k hk
  exact ⟨k1, (g7 k hk).1, (g7 k hk).2.1, s, k2, by omega, k4⟩
theorem CMt.c {M : Mem} {Z : Nat → Prop} {e : Nat} {c : List Int32 × Bool} (h : CMt M Z e c) (hZ : ∀ x, Z x → 1334 ≤ x ∧ x < m_nx M) (ha : ascs c.1) (hl : c.1.length ≤ 40) : MC M e c := by
  obtain ⟨h1, h2, h3, h4⟩ := h
  exact ⟨h2, h3, h4.2.2.2, by have := (hZ _ h4.1).1; omega, ha, hl⟩
theorem TM0.c {M : Mem} {Z : Nat → Prop} {t ln dn lc dc : Nat} {en ec : List Nat} {d : TD} (h : TM0 M Z t d ln dn en lc dc ec) (g : GT d) (k0 : K0 M) (hZ : ∀ x, Z x → 1334 ≤ x ∧ x < m_nx M) : TMc M t d.1 d.2.1 ln dn en lc dc ec d.2.2.2 := by
  obtain ⟨⟨a1, a2⟩, h1, h2, h3, h4, h5, h6, h7, h8⟩ := h
  obtain ⟨g1, g2, g3, g4, g5, g6, g7⟩ := g
  exact ⟨k0, a2, h1, h2, h3.2.2, h5, g1, g2, g3, h4.2.2, h6, fun k hk => (h8 k hk).c hZ (g7 k hk).1 (g7 k hk).2.1⟩
