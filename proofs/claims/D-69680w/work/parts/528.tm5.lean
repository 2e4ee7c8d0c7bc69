/-! ===== TABLES, 14: the model's cells ===== -/
/-- cells at addresses -/
def CLS (M : Mem) (B : Nat) (es : List Nat) (cs : List (List Int32 × Bool)) : Prop := es.length = cs.length ∧ ∀ i, i < es.length → m_tg M (es.getD i 0) = 56 ∧ B ≤ es.getD i 0 ∧ es.getD i 0 < m_nx M ∧ cI M (es.getD i 0) 3585 = mr (cs.getD i ([], false)).2 ∧
  SB M (cR M (es.getD i 0) 3584) (cs.getD i ([], false)).1 ∧ m_tg M (cR M (es.getD i 0) 3584) = 76 ∧ B ≤ cR M (es.getD i 0) 3584 ∧ cR M (es.getD i 0) 3584 < m_nx M ∧ B ≤ cR M (cR M (es.getD i 0) 3584) 4864 ∧ cR M (cR M (es.getD i 0) 3584) 4864 < m_nx M
theorem CLS.df {P Q R : Nat → Nat → Prop} {M N : Mem} {B : Nat} {es : List Nat} {cs : List (List Int32 × Bool)} (h : CLS M B es cs) (d : Df P Q R M N) (hP : ∀ x i, x < m_nx M → P x i → m_tg M x ≠ 76 ∧ m_tg M x ≠ 1002 ∧ m_tg M x ≠ 1008 ∧ m_tg M x ≠ 56) (hR : ∀ x i, x < m_nx M → R x i → m_tg M x ≠ 76 ∧ m_tg M x ≠ 56) : CLS N B es cs := by
  refine ⟨h.1, fun i hi => ?_⟩
  obtain ⟨a1, a2, a3, a4, h1, h2, h3, h4, h5, h6⟩ := h.2 i hi
  have nn := d.1
  have e : cR N (es.getD i 0) 3584 = cR M (es.getD i 0) 3584 := d.cR a3 (fun q => (hR _ _ a3 q).2 a1)
  obtain ⟨k1, k2⟩ := h1.df d h4 h6 (fun q => (hR _ _ h4 q).1 h2) (fun q => (hP _ _ h4 q).1 h2) (fun i q => by
    have := hP _ _ h6 q
    rcases h1.2.2.1 with e | e
    · exact this.2.2.1 e
    · exact this.2.1 e)
  rw [e, k2]
  exact ⟨(d.2.2 _ a3).1.trans a1, a2, by omega, by rw [d.cI a3 (fun q => (hP _ _ a3 q).2.2.2 a1)]; exact a4, k1, (d.2.2 _ h4).1.trans h2, h3, by omega, h5, by omega⟩
theorem CLS.add {M : Mem} {B c r : Nat} {es : List Nat} {cs : List (List Int32 × Bool)} {w : List Int32} {b : Bool} (h : CLS M B es cs) (a1 : m_tg M c = 56) (a2 : B ≤ c) (a3 : c < m_nx M) (a4 : cI M c 3585 = mr b) (a5 : cR M c 3584 = r) (h1 : SB M r w) (h2 : m_tg M r = 76) (h3 : B ≤ r) (h4 : r < m_nx M) (h5 : B ≤ cR M r 4864) (h6 : cR M r 4864 < m_nx M) : CLS M B (es ++ [c]) (cs ++ [(w, b)]) := by
  refine ⟨by rw [List.length_append, List.length_append, h.1]; rfl, fun i hi => ?_⟩
  rw [List.length_append, List.length_singleton] at hi
  by_cases k : i < es.length
  · rw [gd_l k, gd_l (by have := h.1; omega)]
    exact h.2 i k
  · have e : i = es.length := by omega
    have e2 : i = cs.length := by have := h.1; omega
    rw [e, gd_r, ← e, e2, gd_r, a5]
    exact ⟨a1, a2, a3, a4, h1, h2, h3, h4, h5, h6⟩
/-- the reader, its table, the names and the cells -/
def MRl (M : Mem) (B o tb ln dn : Nat) (en : List Nat) (lc dc : Nat) (ec : List Nat) (f : Nat → Int32) (n a : Nat) (ns : List (List Int32)) (cs : List (List Int32 × Bool)) : Prop := MRn M B o tb ln dn en f n a ns ∧ cR M tb 3521 = lc ∧ AL M lc dc ec ∧ CLS M B ec cs ∧ B ≤ lc ∧ (dc < 1334 ∨ B ≤ dc) ∧ ln ≠ lc ∧ (1334 ≤ dc → dn ≠ dc)
theorem MRl.gc {M : Mem} {B o tb ln dn lc dc n a : Nat} {en ec : List Nat} {f : Nat → Int32} {ns : List (List Int32)} {cs : List (List Int32 × Bool)} (h : MRl M B o tb ln dn en lc dc ec f n a ns cs) : gr M tb 3521 = some lc ∧ vg M lc 67 = some () := by
  obtain ⟨⟨t, h1, h2, h3, -⟩, h5, h6, -⟩ := h
  exact ⟨by rw [gr_of h3 (show x_fr 55 3521 = true by decide), h5], vg_of h6.2.1 (by decide)⟩
theorem MRl.word {M M1 : Mem} {B o tb ln dn lc dc n a r p : Nat} {en ec : List Nat} {f : Nat → Int32} {ns : List (List Int32)} {cs : List (List Int32 × Bool)} {w : List Int32} {b : Bool} (h : MRl M B o tb ln dn en lc dc ec f n a ns cs) (d : WDr M M1 o r f n w b p) : MRl M1 B o tb ln dn en lc dc ec f n p ns cs := by
  have hw := h.1.word d
  obtain ⟨h0, h5, h6, h7, h8⟩ := h
  have d9 := d.2.2.2.2.2.2.2.2.1
  have ht := h0.1.2.1
  have htb := h0.2.2.1
  exact ⟨hw, by rw [d9.cR htb (fun q => q)]; exact h5, h6.df d9 (fun q => by have := q.2; omega) (fun q => q) (fun _ _ q => q), h7.df d9 (fun x i hx q => by rw [q.1, ht]; decide) (fun _ _ _ q => q.elim), h8⟩
