/-! ===== FORMULAS, 11: the engine reads a sign, whole ===== -/
def okS (q : Nat × Nat) : Prop := 20 ≤ q.2 ∧ q.2 < 65
theorem okS_ite {p : Prop} [Decidable p] {a b : Nat × Nat} (ha : okS a) (hb : okS b) : okS (if p then a else b) := by
  split
  · exact ha
  · exact hb
theorem sgl_rng (c d e : Int32) : 20 ≤ (sgl c d e).2 ∧ (sgl c d e).2 < 65 := by
  show okS (sgl c d e)
  unfold sgl
  repeat' apply okS_ite
  all_goals exact ⟨by decide, by decide⟩
theorem sgl_1 {c d e : Int32} (h : n29 c) (h1 : nSg c d e = 1) : (sgl c d e).1 = 1 ∧ F_X5_sign c 1 d = some (sgl c d e).2 ∧ 20 ≤ (sgl c d e).2 ∧ (sgl c d e).2 < 65 := by
  unfold nSg at h1
  have h3 : ¬ (c = 62 ∧ d = 62 ∧ e = 62) := fun q => by rw [if_pos q] at h1; exact absurd h1 (by decide)
  rw [if_neg h3] at h1
  have h2 : ¬ ((c = 60 ∧ (d = 60 ∨ d = 61)) ∨ (c = 62 ∧ (d = 62 ∨ d = 61)) ∨ ((c = 61 ∨ c = 33) ∧ d = 61) ∨ ((c = 38 ∨ c = 124) ∧ d = c)) := fun q => by rw [if_pos q] at h1; exact absurd h1 (by decide)
  clear h1
  rcases h with rfl | rfl | rfl | rfl | rfl | rfl | rfl | rfl | rfl | rfl | rfl | rfl | rfl | rfl | rfl | rfl | rfl | rfl | rfl
  · exact ⟨rfl, rfl, sgl_rng _ _ _⟩
  · exact ⟨rfl, rfl, sgl_rng _ _ _⟩
  · exact ⟨rfl, rfl, sgl_rng _ _ _⟩
  · exact ⟨rfl, rfl, sgl_rng _ _ _⟩
  · exact ⟨rfl, rfl, sgl_rng _ _ _⟩
  · exact ⟨rfl, rfl, sgl_rng _ _ _⟩
  · have q : d ≠ 61 := fun q => h2 (Or.inr (Or.inr (Or.inl ⟨Or.inl rfl, q⟩)))
    refine ⟨by simp [sgl, q], ?_, sgl_rng _ _ _⟩
    simp [sgl, q]; rfl
  · exact ⟨rfl, rfl, sgl_rng _ _ _⟩
  · exact ⟨rfl, rfl, sgl_rng _ _ _⟩
  · exact ⟨rfl, rfl, sgl_rng _ _ _⟩
  · exact ⟨rfl, rfl, sgl_rng _ _ _⟩
  · exact ⟨rfl, rfl, sgl_rng _ _ _⟩
  · have q : d ≠ 60 := fun q => h2 (Or.inl ⟨rfl, Or.inl q⟩)
    have q2 : d ≠ 61 := fun q => h2 (Or.inl ⟨rfl, Or.inr q⟩)
    refine ⟨by simp [sgl, q, q2], ?_, sgl_rng _ _ _⟩
    simp [sgl, q, q2]; rfl
  · have q : d ≠ 62 := fun q => h2 (Or.inr (Or.inl ⟨rfl, Or.inl q⟩))
    have q2 : d ≠ 61 := fun q => h2 (Or.inr (Or.inl ⟨rfl, Or.inr q⟩))
    refine ⟨by simp [sgl, q, q2], ?_, sgl_rng _ _ _⟩
    simp [sgl, q, q2]; rfl
  · have q : d ≠ 61 := fun q => h2 (Or.inr (Or.inr (Or.inl ⟨Or.inr rfl, q⟩)))
    refine ⟨by simp [sgl, q], ?_, sgl_rng _ _ _⟩
    simp [sgl, q]; rfl
  · exact ⟨rfl, rfl, sgl_rng _ _ _⟩
  · have q : d ≠ 38 := fun q => h2 (Or.inr (Or.inr (Or.inr ⟨Or.inl rfl, q⟩)))
    refine ⟨by simp [sgl, q], ?_, sgl_rng _ _ _⟩
    simp [sgl, q]; rfl
  · exact ⟨rfl, rfl, sgl_rng _ _ _⟩
  · have q : d ≠ 124 := fun q => h2 (Or.inr (Or.inr (Or.inr ⟨Or.inr rfl, q⟩)))
    refine ⟨by simp [sgl, q], ?_, sgl_rng _ _ _⟩
    simp [sgl, q]; rfl
theorem sgl_0 {c d e : Int32} (h : ¬ n29 c) : sgl c d e = (0, 20) := by
  unfold n29 at h
  simp only [not_or] at h
  obtain ⟨h1, h2, h3, h4, h5, h6, h7, h8, h9, h10, h11, h12, h13, h14, h15, h16, h17, h18, h19⟩ := h
  unfold sgl
  simp only [if_neg h1, if_neg h2, if_neg h3, if_neg h4, if_neg h5, if_neg h6, if_neg h7, if_neg h8, if_neg h9, if_neg h10, if_neg h11, if_neg h12, if_neg h13, if_neg h14, if_neg h15, if_neg h16, if_neg h17, if_neg h18, if_neg h19]
theorem sgl_2 {c d e : Int32} (h : nSg c d e = 2) : (sgl c d e).1 = 2 ∧ F_X5_sign c 2 d = some (sgl c d e).2 ∧ 20 ≤ (sgl c d e).2 ∧ (sgl c d e).2 < 65 := by
  unfold nSg at h
  have h3 : ¬ (c = 62 ∧ d = 62 ∧ e = 62) := fun q => by rw [if_pos q] at h; exact absurd h (by decide)
  rw [if_neg h3] at h
  have h2 : (c = 60 ∧ (d = 60 ∨ d = 61)) ∨ (c = 62 ∧ (d = 62 ∨ d = 61)) ∨ ((c = 61 ∨ c = 33) ∧ d = 61) ∨ ((c = 38 ∨ c = 124) ∧ d = c) := Classical.byContradiction (fun q => by rw [if_neg q] at h; exact absurd h (by decide))
  clear h
  rcases h2 with ⟨rfl, rfl | rfl⟩ | ⟨rfl, rfl | rfl⟩ | ⟨rfl | rfl, rfl⟩ | ⟨rfl | rfl, rfl⟩
  · exact ⟨rfl, rfl, sgl_rng _ _ _⟩
  · exact ⟨rfl, rfl, sgl_rng _ _ _⟩
  · have q : e ≠ 62 := fun q => h3 ⟨rfl, rfl, q⟩
    refine ⟨by simp [sgl, q], ?_, sgl_rng _ _ _⟩
    simp [sgl, q]; rfl
  · exact ⟨rfl, rfl, sgl_rng _ _ _⟩
  · exact ⟨rfl, rfl, sgl_rng _ _ _⟩
  · exact ⟨rfl, rfl, sgl_rng _ _ _⟩
  · exact ⟨rfl, rfl, sgl_rng _ _ _⟩
  · exact ⟨rfl, rfl, sgl_rng _ _ _⟩
theorem nSg_v (c d e : Int32) : nSg c d e = 1 ∨ nSg c d e = 2 ∨ (nSg c d e = 3 ∧ c = 62 ∧ d = 62 ∧ e = 62) := by
  unfold nSg
  split
  · rename_i h; exact Or.inr (Or.inr ⟨rfl, h⟩)
  · split
    · exact Or.inr (Or.inl rfl)
    · exact Or.inl rfl
theorem E_readSign {M : Mem} {f : Nat → Int32} {n : Nat} (t : TBk M f n) {a : Nat} (h : cI M 1012 388 = iw (a : Int)) (ha : a < n) : RK M f n (F_X5_readSign M 1012 (iw (a : Int)) (lk f n a)) (tkS f n a) := by
  rw [E_sgN t (Nat.le_of_lt ha)]
  unfold tkS tkS2
  obtain ⟨c, hc⟩ : ∃ c, c = lk f n a := ⟨_, rfl⟩
  obtain ⟨d, hd⟩ : ∃ d, d = lk f n (a + 1) := ⟨_, rfl⟩
  obtain ⟨e, he⟩ : ∃ e, e = lk f n (a + 2) := ⟨_, rfl⟩
  rw [← hc, ← hd, ← he]
  rcases nSg_v c d e with q | q | ⟨q, rfl, rfl, rfl⟩
  · rw [q]
    rcases E_sg1 t h ha (d := d) hc with ⟨w1, w2⟩ | ⟨w1, w2⟩
    · obtain ⟨x1, x2, x3, x4⟩ := sgl_1 ((n29_iff c).mp w1) q
      rw [w2, x1, if_neg (by decide)]
      exact RK.sgn t h rfl x2 ⟨x3, x4⟩ (by decide) (by decide) (by omega)
    · rw [sgl_0 (fun y => by obtain ⟨i, i1, i2⟩ := (n29_iff c).mpr y; exact w1 i i1 i2), if_pos rfl]
      exact w2
  · obtain ⟨x1, x2, x3, x4⟩ := sgl_2 q
    rw [q, x1, if_neg (by decide)]
    exact RK.sgn t h rfl x2 ⟨x3, x4⟩ (by decide) (by decide) (by omega)
  · rw [q, show (sgl 62 62 62).1 = 3 from rfl, if_neg (by decide)]
    exact RK.sgn t h rfl (show F_X5_sign 62 3 62 = some (sgl 62 62 62).2 from rfl) (by decide) (by decide) (by decide) (by omega)
