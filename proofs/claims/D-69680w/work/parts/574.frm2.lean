/-! ===== FORMULAS, 2: functions of both sides ===== -/
/-- a row of ints -/
def RIl (M : Mem) (r : Nat) (ls : List Int32) : Prop := m_tg M r = 1005 ∧ m_ln M r = ls.length ∧ ∀ i, i < ls.length → cI M r i = ls.getD i 0
/-- words that were written -/
def EIs (M : Mem) (Z : Nat → Prop) (c : Nat) (ws : List Int32) : Prop := (Z c ∧ m_tg M c = 40) ∧ cI M c 2561 = iw (ws.length : Nat) ∧ (Z (cR M c 2560) ∧ m_tg M (cR M c 2560) = 1005 ∧ ws.length ≤ m_ln M (cR M c 2560) ∧ m_ln M (cR M c 2560) ≤ 1000000) ∧ ∀ i, i < ws.length → cI M (cR M c 2560) i = ws.getD i 0
/-- the engine's function -/
def EF (M : Mem) (Z : Nat → Prop) (a : Nat) (f : Fn) : Prop := (Z a ∧ m_tg M a = 39) ∧ NMt M Z (cR M a 2496) f.nm ∧ cI M a 2497 = f.ln ∧ (Z (cR M a 2498) ∧ RIl M (cR M a 2498) f.ps) ∧ EIs M Z (cR M a 2499) (fwE f)
/-- a step of the model -/
def MOp (M : Mem) (Z : Nat → Prop) (fa : List Nat) (a : Nat) (o : Mo) : Prop := (Z a ∧ m_tg M a = 48) ∧ cI M a 3072 = o.op ∧ cR M a 3073 = o.tx ∧ cI M a 3074 = o.k ∧ cI M a 3075 = o.j ∧ cI M a 3076 = o.to ∧ cI M a 3077 = o.n ∧ cI M a 3078 = o.jp ∧ cJ M a 3079 = o.bt ∧ cR M a 3080 = (if o.fn = 0 then 0 else fa.getD (o.fn - 1) 0)
def MCd (M : Mem) (Z : Nat → Prop) (fa : List Nat) (c : Nat) (os : List Mo) : Prop := (Z c ∧ m_tg M c = 47) ∧ ∃ dl es, LZ M Z (cR M c 3008) dl es ∧ es.length = os.length ∧ ∀ i, i < os.length → MOp M Z fa (es.getD i 0) (os.getD i mo0)
/-- lanes in a list -/
def MLn (M : Mem) (Z : Nat → Prop) (l : Nat) (ps : List Int32) : Prop := ∃ dl es, LZ M Z l dl es ∧ es.length = ps.length ∧ ∀ i, i < ps.length → IB M (es.getD i 0) (ps.getD i 0) ∧ es.getD i 0 < 1000
/-- the model's function -/
def MF (M : Mem) (Z : Nat → Prop) (fa : List Nat) (a : Nat) (f : Fn) : Prop := (Z a ∧ m_tg M a = 44) ∧ cI M a 2816 = f.ln ∧ NMt M Z (cR M a 2817) f.nm ∧ MLn M Z (cR M a 2821) f.ps ∧ MCd M Z fa (cR M a 2823) (fwM f)
/-- both hold the same functions -/
def FW (M : Mem) (Z : Nat → Prop) (fs : List Fn) (ea ma : List Nat) (de lm dm t : Nat) : Prop :=
  fs.length ≤ t ∧ t ≤ 40 ∧ cI M 1000 71 = iw (t : Int) ∧ cI M 1068 1106 = iw (t : Int) ∧ (ALb M 1010 de ea ∧ (de = 1011 ∨ Z de)) ∧ cR M 1068 1105 = lm ∧ (lm = 1077 ∨ Z lm) ∧ (AL M lm dm ma ∧ (1334 ≤ dm → Z dm)) ∧ ea.length = fs.length ∧ ma.length = fs.length ∧
  (∀ k, k < fs.length → EF M Z (ea.getD k 0) (fs.getD k fn0) ∧ MF M Z ma (ma.getD k 0) (fs.getD k fn0)) ∧ Gf fs
def I10 (M : Mem) (Z : Nat → Prop) : Prop := (∀ x, Z x → 1334 ≤ x ∧ x < m_nx M) ∧ ∃ (fs : List Fn) (ea ma : List Nat) (de lm dm t : Nat), FW M Z fs ea ma de lm dm t
/-- the functions are left alone -/
def noF (P Q R : Nat → Nat → Prop) (M : Mem) (Z : Nat → Prop) : Prop := (∀ x i, Z x → ¬ P x i) ∧ (∀ x i, Z x → ¬ R x i) ∧ (∀ x i, Z x → m_tg M x = 48 → ¬ Q x i) ∧ (∀ x i, x < 1000 → ¬ P x i) ∧ (∀ i, ¬ R 1011 i) ∧ (¬ P 1010 4289 ∧ ¬ R 1010 4288) ∧ (¬ P 1077 4289 ∧ ¬ R 1077 4288) ∧ ¬ R 1068 1105 ∧ ¬ P 1000 71 ∧ ¬ P 1068 1106
section
variable {P Q R : Nat → Nat → Prop} {M N : Mem} {Z : Nat → Prop}
theorem RIl.df {r : Nat} {ls : List Int32} (h : RIl M r ls) (d : Df P Q R M N) (hr : r < m_nx M) (hP : ∀ i, ¬ P r i) : RIl N r ls := by
  obtain ⟨h1, h2, h3⟩ := h
  have u := d.2.2 r hr
  exact ⟨u.1.trans h1, u.2.1.trans h2, fun i hi => by rw [d.cI hr (hP i)]; exact h3 i hi⟩
theorem EIs.df {c : Nat} {ws : List Int32} (h : EIs M Z c ws) (d : Df P Q R M N) (hZ : ∀ x, Z x → x < m_nx M) (hP : ∀ x i, Z x → ¬ P x i) (hR : ∀ x i, Z x → ¬ R x i) : EIs N Z c ws := by
  obtain ⟨⟨h1, h2⟩, h3, ⟨h4, h5, h6, h7⟩, h8⟩ := h
  have er : cR N c 2560 = cR M c 2560 := d.cR (hZ _ h1) (hR _ _ h1)
  have u := d.2.2 _ (hZ _ h4)
  unfold EIs
  rw [er]
  exact ⟨⟨h1, (d.2.2 c (hZ _ h1)).1.trans h2⟩, by rw [d.cI (hZ _ h1) (hP _ _ h1)]; exact h3, ⟨h4, u.1.trans h5, by rw [u.2.1]; exact h6, by rw [u.2.1]; exact h7⟩, fun i hi => by rw [d.cI (hZ _ h4) (hP _ _ h4)]; exact h8 i hi⟩
theorem EF.df {a : Nat} {f : Fn} (h : EF M Z a f) (d : Df P Q R M N) (hZ : ∀ x, Z x → x < m_nx M) (hP : ∀ x i, Z x → ¬ P x i) (hR : ∀ x i, Z x → ¬ R x i) : EF N Z a f := by
  obtain ⟨⟨h1, h2⟩, h3, h4, ⟨h5, h6⟩, h7⟩ := h
  have er : ∀ g, cR N a g = cR M a g := fun g => d.cR (hZ _ h1) (hR _ _ h1)
  unfold EF
  simp only [er]
  exact ⟨⟨h1, (d.2.2 a (hZ _ h1)).1.trans h2⟩, h3.df d hZ hP hR, by rw [d.cI (hZ _ h1) (hP _ _ h1)]; exact h4, ⟨h5, h6.df d (hZ _ h5) (fun i => hP _ _ h5)⟩, h7.df d hZ hP hR⟩
theorem MOp.df {fa : List Nat} {a : Nat} {o : Mo} (h : MOp M Z fa a o) (d : Df P Q R M N) (hZ : ∀ x, Z x → x < m_nx M) (hP : ∀ x i, Z x → ¬ P x i) (hR : ∀ x i, Z x → ¬ R x i) (hQ : ∀ x i, Z x → m_tg M x = 48 → ¬ Q x i) : MOp N Z fa a o := by
  obtain ⟨⟨h1, h2⟩, h⟩ := h
  have e1 : ∀ g, cI N a g = cI M a g := fun g => d.cI (hZ _ h1) (hP _ _ h1)
  have e2 : ∀ g, cR N a g = cR M a g := fun g => d.cR (hZ _ h1) (hR _ _ h1)
  have e3 : ∀ g, cJ N a g = cJ M a g := fun g => ((d.2.2 a (hZ _ h1)).2.2 g).2.1 (hQ _ _ h1 h2)
  unfold MOp
  simp only [e1, e2, e3]
  exact ⟨⟨h1, (d.2.2 a (hZ _ h1)).1.trans h2⟩, h⟩
theorem MCd.df {fa : List Nat} {c : Nat} {os : List Mo} (h : MCd M Z fa c os) (d : Df P Q R M N) (hZ : ∀ x, Z x → x < m_nx M) (hP : ∀ x i, Z x → ¬ P x i) (hR : ∀ x i, Z x → ¬ R x i) (hQ : ∀ x i, Z x → m_tg M x = 48 → ¬ Q x i) : MCd N Z fa c os := by
  obtain ⟨⟨h1, h2⟩, dl, es, h3, h4, h5⟩ := h
  have er : cR N c 3008 = cR M c 3008 := d.cR (hZ _ h1) (hR _ _ h1)
  unfold MCd
  rw [er]
  exact ⟨⟨h1, (d.2.2 c (hZ _ h1)).1.trans h2⟩, dl, es, h3.df d hZ hP hR, h4, fun i hi => (h5 i hi).df d hZ hP hR hQ⟩
theorem MLn.df {l : Nat} {ps : List Int32} (h : MLn M Z l ps) (d : Df P Q R M N) (hZ : ∀ x, Z x → x < m_nx M) (hP : ∀ x i, Z x → ¬ P x i) (hR : ∀ x i, Z x → ¬ R x i) (hC : ∀ x i, x < 1000 → ¬ P x i) : MLn N Z l ps := by
  obtain ⟨dl, es, h3, h4, h5⟩ := h
  exact ⟨dl, es, h3.df d hZ hP hR, h4, fun i hi => ⟨(h5 i hi).1.df d (hC _ _ (h5 i hi).2), (h5 i hi).2⟩⟩
theorem MF.df {fa : List Nat} {a : Nat} {f : Fn} (h : MF M Z fa a f) (d : Df P Q R M N) (hZ : ∀ x, Z x → x < m_nx M) (hP : ∀ x i, Z x → ¬ P x i) (hR : ∀ x i, Z x → ¬ R x i) (hQ : ∀ x i, Z x → m_tg M x = 48 → ¬ Q x i) (hC : ∀ x i, x < 1000 → ¬ P x i) : MF N Z fa a f := by
  obtain ⟨⟨h1, h2⟩, h3, h4, h5, h6⟩ := h
  have er : ∀ g, cR N a g = cR M a g := fun g => d.cR (hZ _ h1) (hR _ _ h1)
  unfold MF
  simp only [er]
  exact ⟨⟨h1, (d.2.2 a (hZ _ h1)).1.trans h2⟩, by rw [d.cI (hZ _ h1) (hP _ _ h1)]; exact h3, h4.df d hZ hP hR, h5.df d hZ hP hR hC, h6.df d hZ hP hR hQ⟩
theorem EIs.w {Z' : Nat → Prop} {c : Nat} {ws : List Int32} (h : EIs M Z c ws) (hZ : ∀ x, Z x → Z' x) : EIs M Z' c ws := ⟨⟨hZ _ h.1.1, h.1.2⟩, h.2.1, ⟨hZ _ h.2.2.1.1, h.2.2.1.2⟩, h.2.2.2⟩
theorem EF.w {Z' : Nat → Prop} {a : Nat} {f : Fn} (h : EF M Z a f) (hZ : ∀ x, Z x → Z' x) : EF M Z' a f := ⟨⟨hZ _ h.1.1, h.1.2⟩, h.2.1.w hZ, h.2.2.1, ⟨hZ _ h.2.2.2.1.1, h.2.2.2.1.2⟩, h.2.2.2.2.w hZ⟩
theorem MOp.w {Z' : Nat → Prop} {fa : List Nat} {a : Nat} {o : Mo} (h : MOp M Z fa a o) (hZ : ∀ x, Z x → Z' x) : MOp M Z' fa a o := ⟨⟨hZ _ h.1.1, h.1.2⟩, h.2⟩
theorem MCd.w {Z' : Nat → Prop} {fa : List Nat} {c : Nat} {os : List Mo} (h : MCd M Z fa c os) (hZ : ∀ x, Z x → Z' x) : MCd M Z' fa c os := by
  obtain ⟨⟨h1, h2⟩, dl, es, h3, h4, h5⟩ := h
  exact ⟨⟨hZ _ h1, h2⟩, dl, es, h3.w hZ, h4, fun i hi => (h5 i hi).w hZ⟩
theorem MLn.w {Z' : Nat → Prop} {l : Nat} {ps : List Int32} (h : MLn M Z l ps) (hZ : ∀ x, Z x → Z' x) : MLn M Z' l ps := by
  obtain ⟨dl, es, h3, h4, h5⟩ := h
  exact ⟨dl, es, h3.w hZ, h4, h5⟩
theorem MF.w {Z' : Nat → Prop} {fa : List Nat} {a : Nat} {f : Fn} (h : MF M Z fa a f) (hZ : ∀ x, Z x → Z' x) : MF M Z' fa a f := ⟨⟨hZ _ h.1.1, h.1.2⟩, h.2.1, h.2.2.1.w hZ, h.2.2.2.1.w hZ, h.2.2.2.2.w hZ⟩
theorem FW.df {fs : List Fn} {ea ma : List Nat} {de lm dm t : Nat} (h : FW M Z fs ea ma de lm dm t) (d : Df P Q R M N) (h0 : 1334 ≤ m_nx M) (hZ : ∀ x, Z x → x < m_nx M) (hn : noF P Q R M Z) : FW N Z fs ea ma de lm dm t := by
  obtain ⟨h1, h2, h3, h4, ⟨h5, h6⟩, h7, h8, ⟨h9, h10⟩, h11, h12, h13, h14⟩ := h
  obtain ⟨p1, p2, p3, p4, p5, ⟨p6, p7⟩, ⟨p8, p9⟩, p10, p11, p12⟩ := hn
  refine ⟨h1, h2, by rw [d.cI (by omega) p11]; exact h3, by rw [d.cI (by omega) p12]; exact h4, ⟨h5.df d p6 p7 (fun i _ q => ?_), h6⟩, by rw [d.cR (by omega) p10]; exact h7, h8, ⟨h9.df d ?_ ?_ (fun i q => p2 _ _ (h10 q)), h10⟩, h11, h12, fun k hk => ⟨(h13 k hk).1.df d hZ p1 p2, (h13 k hk).2.df d hZ p1 p2 p3 p4⟩, h14⟩
  · rcases h6 with rfl | h6
    · exact p5 i q
    · exact p2 _ _ h6 q
  · rcases h8 with rfl | h8
    · exact p8
    · exact p1 _ _ h8
  · rcases h8 with rfl | h8
    · exact p9
    · exact p2 _ _ h8
theorem I10.df (h : I10 M Z) (d : Df P Q R M N) (h0 : 1334 ≤ m_nx M) (hn : noF P Q R M Z) : I10 N Z := by
  obtain ⟨hZ, fs, ea, ma, de, lm, dm, t, h⟩ := h
  have nn := d.1
  exact ⟨fun x hx => ⟨(hZ x hx).1, by have := (hZ x hx).2; omega⟩, fs, ea, ma, de, lm, dm, t, h.df d h0 (fun x hx => (hZ x hx).2) hn⟩
end
