/-! ===== FORMULAS, 18: the model's signs ===== -/
theorem M_sgn (c d e : Int32) : F_X41_sign c d e = some (iw ((sgl c d e).1 : Nat)) ∧ ((sgl c d e).1 = 1 → F_X41_signOf c = some (sgl c d e).2) ∧ ((sgl c d e).1 ≠ 0 → (sgl c d e).1 ≠ 1 → F_X41_longSignOf c d (iw ((sgl c d e).1 : Nat)) = some (sgl c d e).2) := by
  by_cases c62 : c = 62
  · subst c62
    by_cases d62 : d = 62
    · subst d62
      by_cases e62 : e = 62
      · subst e62; exact ⟨rfl, fun q => absurd q (by decide), fun _ _ => rfl⟩
      · have es : sgl 62 62 e = (2, 46) := by simp [sgl, e62]
        rw [es]
        refine ⟨?_, fun q => absurd q (by decide), fun _ _ => rfl⟩
        simp [F_X41_sign, e62]; rfl
    · by_cases d61 : d = 61
      · subst d61; exact ⟨rfl, fun q => absurd q (show ¬ (2 : Nat) = 1 by decide), fun _ _ => rfl⟩
      · have es : sgl 62 d e = (1, 44) := by simp [sgl, d62, d61]
        rw [es]
        refine ⟨?_, fun _ => rfl, fun _ q => absurd rfl q⟩
        simp [F_X41_sign, F_X41_sign_b24, F_X41_sign_b56, d62, d61]; rfl
  by_cases c60 : c = 60
  · subst c60
    by_cases d60 : d = 60
    · subst d60; exact ⟨rfl, fun q => absurd q (show ¬ (2 : Nat) = 1 by decide), fun _ _ => rfl⟩
    · by_cases d61 : d = 61
      · subst d61; exact ⟨rfl, fun q => absurd q (show ¬ (2 : Nat) = 1 by decide), fun _ _ => rfl⟩
      · have es : sgl 60 d e = (1, 39) := by simp [sgl, d60, d61]
        rw [es]
        refine ⟨?_, fun _ => rfl, fun _ q => absurd rfl q⟩
        simp [F_X41_sign, F_X41_sign_b24, F_X41_sign_b56, d60, d61]; rfl
  by_cases c61 : c = 61
  · subst c61
    by_cases d61 : d = 61
    · subst d61; exact ⟨rfl, fun q => absurd q (show ¬ (2 : Nat) = 1 by decide), fun _ _ => rfl⟩
    · have es : sgl 61 d e = (1, 42) := by simp [sgl, d61]
      rw [es]
      refine ⟨?_, fun _ => rfl, fun _ q => absurd rfl q⟩
      simp [F_X41_sign, F_X41_sign_b24, F_X41_sign_b56, d61]; rfl
  by_cases c33 : c = 33
  · subst c33
    by_cases d61 : d = 61
    · subst d61; exact ⟨rfl, fun q => absurd q (show ¬ (2 : Nat) = 1 by decide), fun _ _ => rfl⟩
    · have es : sgl 33 d e = (1, 23) := by simp [sgl, d61]
      rw [es]
      refine ⟨?_, fun _ => rfl, fun _ q => absurd rfl q⟩
      by_cases d33 : d = 33
      · subst d33; rfl
      · simp [F_X41_sign, F_X41_sign_b24, F_X41_sign_b56, d61, d33]; rfl
  by_cases c38 : c = 38
  · subst c38
    by_cases d38 : d = 38
    · subst d38; exact ⟨rfl, fun q => absurd q (show ¬ (2 : Nat) = 1 by decide), fun _ _ => rfl⟩
    · have es : sgl 38 d e = (1, 26) := by simp [sgl, d38]
      rw [es]
      refine ⟨?_, fun _ => rfl, fun _ q => absurd rfl q⟩
      by_cases d61 : d = 61
      · subst d61; rfl
      · simp [F_X41_sign, F_X41_sign_b24, F_X41_sign_b56, d61, d38]; rfl
  by_cases c124 : c = 124
  · subst c124
    by_cases d124 : d = 124
    · subst d124; exact ⟨rfl, fun q => absurd q (show ¬ (2 : Nat) = 1 by decide), fun _ _ => rfl⟩
    · have es : sgl 124 d e = (1, 62) := by simp [sgl, d124]
      rw [es]
      refine ⟨?_, fun _ => rfl, fun _ q => absurd rfl q⟩
      by_cases d61 : d = 61
      · subst d61; rfl
      · simp [F_X41_sign, F_X41_sign_b24, F_X41_sign_b56, d61, d124]; rfl
  have b0 : F_X41_sign c d e = F_X41_sign_b81 c := by
    unfold F_X41_sign F_X41_sign_b24 F_X41_sign_b56
    simp [c62, c60, c61, c33, c38, c124]
  by_cases h : n29 c
  · have hs : ∀ k : Nat × Nat, sgl c d e = k → k.1 = 1 → F_X41_sign_b81 c = some 1 → F_X41_signOf c = some k.2 → F_X41_sign c d e = some (iw ((sgl c d e).1 : Nat)) ∧ ((sgl c d e).1 = 1 → F_X41_signOf c = some (sgl c d e).2) ∧ ((sgl c d e).1 ≠ 0 → (sgl c d e).1 ≠ 1 → F_X41_longSignOf c d (iw ((sgl c d e).1 : Nat)) = some (sgl c d e).2) := fun k h1 h2 h3 h4 => by
      rw [b0, h1, h2, h3]
      exact ⟨rfl, fun _ => h4, fun _ q => absurd rfl q⟩
    rcases h with rfl | rfl | rfl | rfl | rfl | rfl | rfl | rfl | rfl | rfl | rfl | rfl | rfl | rfl | rfl | rfl | rfl | rfl | rfl
    · exact hs (1, 28) rfl rfl rfl rfl
    · exact hs (1, 30) rfl rfl rfl rfl
    · exact hs (1, 33) rfl rfl rfl rfl
    · exact hs (1, 38) rfl rfl rfl rfl
    · exact hs (1, 48) rfl rfl rfl rfl
    · exact hs (1, 37) rfl rfl rfl rfl
    · exact absurd rfl c61
    · exact hs (1, 32) rfl rfl rfl rfl
    · exact hs (1, 34) rfl rfl rfl rfl
    · exact hs (1, 31) rfl rfl rfl rfl
    · exact hs (1, 35) rfl rfl rfl rfl
    · exact hs (1, 25) rfl rfl rfl rfl
    · exact absurd rfl c60
    · exact absurd rfl c62
    · exact absurd rfl c33
    · exact hs (1, 64) rfl rfl rfl rfl
    · exact absurd rfl c38
    · exact hs (1, 49) rfl rfl rfl rfl
    · exact absurd rfl c124
  · rw [b0, sgl_0 h]
    unfold n29 at h
    simp only [not_or] at h
    obtain ⟨h1, h2, h3, h4, h5, h6, h7, h8, h9, h10, h11, h12, h13, h14, h15, h16, h17, h18, h19⟩ := h
    refine ⟨?_, fun q => absurd q (show ¬ (0 : Nat) = 1 by decide), fun q => absurd rfl q⟩
    unfold F_X41_sign_b81
    simp only [if_neg h1, if_neg h2, if_neg h3, if_neg h4, if_neg h5, if_neg h6, if_neg h7, if_neg h8, if_neg h9, if_neg h10, if_neg h11, if_neg h12, if_neg h13, if_neg h14, if_neg h15, if_neg h16, if_neg h17, if_neg h18, if_neg h19]
    rfl
