/-! ===== TABLES, 15: the model keeps a cell ===== -/
theorem fit_3585 (b : Bool) : x_fit (x_ft 3585) (mr b) = true := by cases b <;> decide
theorem MRn.df {P Q R : Nat → Nat → Prop} {M N : Mem} {B o tb ln dn n a : Nat} {en : List Nat} {f : Nat → Int32} {ns : List (List Int32)} (h : MRn M B o tb ln dn en f n a ns) (d : Df P Q R M N) (hS : ST N) (hP : ∀ x i, x < m_nx M → P x i → m_tg M x ≠ 76 ∧ m_tg M x ≠ 1002 ∧ m_tg M x ≠ 1008) (hR : ∀ x i, x < m_nx M → R x i → m_tg M x ≠ 76 ∧ m_tg M x ≠ 54 ∧ m_tg M x ≠ 55) (hPo : ∀ i, ¬ P o i) (h69 : ∀ i, ¬ P 1069 i) (hl : ¬ P ln 4289) (hl2 : ¬ R ln 4288) (hd : ∀ i, 1334 ≤ dn → ¬ R dn i) : MRn N B o tb ln dn en f n a ns := by
  obtain ⟨t, h1, h2, h3, h4, h5, h6, h7⟩ := h
  have nn := d.1
  exact ⟨t.df d hS (fun i q => (hR _ _ t.1 q).2.1 t.2.1) hPo h69, by rw [d.cR t.1 (fun q => (hR _ _ t.1 q).2.1 t.2.1)]; exact h1, by omega, (d.2.2 tb h2).1.trans h3, by rw [d.cR h2 (fun q => (hR _ _ h2 q).2.2 h3)]; exact h4, h5.df d hl hl2 hd, h6.df d hP (fun x i hx q => (hR x i hx q).1), h7⟩
/-- the cell itself -/
theorem M_mkcell {M : Mem} {r : Nat} {b : Bool} : ∃ A, F_X55_init (mo M 56) (m_nx M) r (mr b) = some A ∧ Df n2 n2 n2 M A ∧ m_nx A = m_nx M + 1 ∧ m_sl A = m_sl M + x_cn 56 ∧ m_tg A (m_nx M) = 56 ∧ cI A (m_nx M) 3585 = mr b ∧ cR A (m_nx M) 3584 = r ∧ ng (mo M 56) (m_nx M) = some () := by
  obtain ⟨A0, hA0⟩ : ∃ A0, A0 = mo M 56 := ⟨_, rfl⟩
  have t0 : m_tg A0 (m_nx M) = 56 := by rw [hA0]; show m_tg (m_new M 56 _) _ = _; rw [tg_new, if_pos rfl]
  have d0 : Df n2 n2 n2 M A0 := by rw [hA0]; exact Df.new _ _
  obtain ⟨A1, hA1⟩ : ∃ A1, A1 = wR A0 (m_nx M) 3584 r := ⟨_, rfl⟩
  obtain ⟨A, hA⟩ : ∃ A, A = wI A1 (m_nx M) 3585 (mr b) := ⟨_, rfl⟩
  have t1 : m_tg A1 (m_nx M) = 56 := by rw [hA1]; exact t0
  rw [← hA0]
  refine ⟨A, ?_, ?_, by rw [hA, hA1, hA0]; rfl, by rw [hA, hA1, hA0]; rfl, by rw [hA]; exact t1, by rw [hA, cI_wI, if_pos ⟨rfl, rfl⟩], ?_, ng_of t0 (by decide)⟩
  · unfold F_X55_init
    rw [ng_of t0 (by decide), Option.bind_some, pr_of _ t0 (show x_wr 56 3584 = true by decide), ← hA1, Option.bind_some, pi_of _ t1 (show x_wi 56 3585 = true by decide) (fit_3585 b), ← hA]
    rfl
  · have d1 : Df (at1 (m_nx M)) n2 (at1 (m_nx M)) A0 A := by
      rw [hA, hA1]
      exact (Df.wR (P := at1 (m_nx M)) (Q := n2) (R := at1 (m_nx M)) (M := A0) (a := m_nx M) (i := 3584) _ rfl).trans (Df.wI _ rfl)
    exact d0.then d1 (fun y _ hy q => by unfold at1 at q; omega) (fun _ _ _ q => q) (fun y _ hy q => by unfold at1 at q; omega)
  · rw [hA]
    show cR A1 _ _ = r
    rw [hA1, cR_wR, if_pos ⟨rfl, rfl⟩]
