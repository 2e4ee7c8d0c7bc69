/-! ===== NUMBERS, 8: the engine joins two halves ===== -/
def pa (p V : Nat) (a b : Nat → Nat) (i : Nat) : Nat := (a i + b i * (V ^ i % p) % p) % p
def pb (p V : Nat) (a b : Nat → Nat) (i : Nat) : Nat := (a i + p - b i * (V ^ i % p) % p) % p
theorem pair_l {p V fr hf : Nat} {a b : Nat → Nat} (h2 : 2 ≤ p) (hp : p ≤ 1000000007) (hV : V < p) (hb : fr + 2 * hf ≤ 1024) (hab : ∀ i, i < hf → a i < p ∧ b i < p) : ∀ (e N k : Nat) (M : Mem), k + e = hf → ST M → cJ M 1035 705 = nl p → (∀ i, k ≤ i → i < hf → cJ M 1036 (fr + i) = nl (a i) ∧ cJ M 1036 (fr + hf + i) = nl (b i)) →
    ∃ M', F_X10_pair_b6 (N + 1 + e) M 1035 (iw (fr : Int)) (iw (hf : Int)) (nl V) (nl (V ^ k % p)) (iw ((fr + k : Nat) : Int)) = some M' ∧ ST M' ∧ cJ M' 1035 705 = nl p ∧ (∀ i, k ≤ i → i < hf → cJ M' 1036 (fr + i) = nl (pa p V a b i) ∧ cJ M' 1036 (fr + hf + i) = nl (pb p V a b i)) ∧ (∀ i, (i < fr + k ∨ (fr + hf ≤ i ∧ i < fr + hf + k) ∨ fr + 2 * hf ≤ i) → cJ M' 1036 i = cJ M 1036 i) ∧ Df n2 (at1 1036) n2 M M' ∧ m_nx M' = m_nx M ∧ m_sl M' = m_sl M := by
  have np : ¬ nl p = 0 := fun hh => by
    have := (nl_eq (m := p) (n := 0) (by omega) (by omega)).mp hh
    omega
  intro e
  induction e with
  | zero =>
    intro N k M hk h hP hr
    refine ⟨M, ?_, h, hP, fun i h1 h2 => by omega, fun i _ => rfl, Df.refl _ _ _ _, rfl, rfl⟩
    show F_X10_pair_b6_st (F_X10_pair_b6 N) M 1035 _ _ _ _ _ = _
    unfold F_X10_pair_b6_st
    rw [iw_nad, if_neg (by rw [iw_le4 (by omega) (by omega)]; omega)]
  | succ e ih =>
    intro N k M hk h hP hr
    obtain ⟨r1, r2⟩ := hr k (Nat.le_refl _) (by omega)
    obtain ⟨ka, kb⟩ := hab k (by omega)
    obtain ⟨w, hw⟩ : ∃ w, w = V ^ k % p := ⟨_, rfl⟩
    have wlt : w < p := by rw [hw]; exact Nat.mod_lt _ (by omega)
    have bw : b k * w ≤ 1000000007 * 1000000007 := Nat.mul_le_mul (by omega) (by omega)
    have wv : w * V ≤ 1000000007 * 1000000007 := Nat.mul_le_mul (by omega) (by omega)
    obtain ⟨bb, hbb⟩ : ∃ bb, bb = b k * w % p := ⟨_, rfl⟩
    have bblt : bb < p := by rw [hbb]; exact Nat.mod_lt _ (by omega)
    obtain ⟨A, hA⟩ : ∃ A, A = wJ M 1036 (fr + k) (nl ((a k + bb) % p)) := ⟨_, rfl⟩
    have sA : ST A := hA ▸ h
    obtain ⟨B, hB⟩ : ∃ B, B = wJ A 1036 (fr + hf + k) (nl ((a k + p - bb) % p)) := ⟨_, rfl⟩
    have sB : ST B := hB ▸ sA
    have PA : cJ A 1035 705 = nl p := by rw [hA, cJ_wJ, if_neg (by omega)]; exact hP
    have PB : cJ B 1035 705 = nl p := by rw [hB, cJ_wJ, if_neg (by omega)]; exact PA
    have dB : Df n2 (at1 1036) n2 M B := by
      rw [hB, hA]
      exact (Df.wJ (P := n2) (Q := at1 1036) (R := n2) (M := M) (a := 1036) (i := fr + k) _ rfl).trans (Df.wJ (P := n2) (Q := at1 1036) (R := n2) (a := 1036) (i := fr + hf + k) _ rfl)
    have eB : ∀ i, i ≠ fr + k → i ≠ fr + hf + k → cJ B 1036 i = cJ M 1036 i := fun i h1 h2 => by rw [hB, cJ_wJ, if_neg (by omega), hA, cJ_wJ, if_neg (by omega)]
    have ew : V ^ (k + 1) % p = w * V % p := by rw [Nat.pow_succ, Nat.mul_mod, ← hw, Nat.mod_eq_of_lt hV]
    have hd : F_X10_pair_b6 (N + 1 + (e + 1)) M 1035 (iw (fr : Int)) (iw (hf : Int)) (nl V) (nl (V ^ k % p)) (iw ((fr + k : Nat) : Int)) = F_X10_pair_b6 (N + 1 + e) B 1035 (iw (fr : Int)) (iw (hf : Int)) (nl V) (nl (V ^ (k + 1) % p)) (iw ((fr + (k + 1) : Nat) : Int)) := by
      show F_X10_pair_b6_st (F_X10_pair_b6 (N + 1 + e)) M 1035 _ _ _ _ _ = _
      unfold F_X10_pair_b6_st
      rw [iw_nad, iw_nad, if_pos (by rw [iw_le4 (by omega) (by omega)]; omega), ← hw, show fr + k + hf = fr + hf + k by omega]
      simp only [g1035_704, g1035_705, h, hP, al_of (t1036 h) (l1036 h) (show fr + k < 1024 by omega) (show (1024 : Nat) < 2147483648 by decide), al_of (t1036 h) (l1036 h) (show fr + hf + k < 1024 by omega) (show (1024 : Nat) < 2147483648 by decide), r1, r2, np, if_false, Option.bind_some]
      rw [nl_mul, nl_rem (by omega) (by omega), ← hbb, nl_add, nl_rem (by omega) (by omega), sj_of _ (t1036 h) (l1036 h) (show fr + k < 1024 by omega) (show (1024 : Nat) < 2147483648 by decide), ← hA, Option.bind_some]
      simp only [g1035_704, g1035_705, sA, PA, np, if_false, Option.bind_some]
      rw [nl_add, nl_sub (by omega) (by omega), nl_rem (by omega) (by omega), sj_of _ (t1036 sA) (l1036 sA) (show fr + hf + k < 1024 by omega) (show (1024 : Nat) < 2147483648 by decide), ← hB, Option.bind_some]
      simp only [g1035_705, sB, PB, np, if_false, Option.bind_some]
      rw [nl_mul, nl_rem (by omega) (by omega), ← ew, iw_succ, show fr + k + 1 = fr + (k + 1) by omega]
    obtain ⟨M', y1, y2, y3, y4, y5, y6, y7, y8⟩ := ih N (k + 1) B (by omega) sB PB (fun i h1 h2 => by
      rw [eB _ (by omega) (by omega), eB _ (by omega) (by omega)]
      exact hr i (by omega) h2)
    refine ⟨M', by rw [hd, y1], y2, y3, fun i h1 h2 => ?_, fun i hi => ?_, dB.trans y6, y7.trans (by rw [hB, hA]; rfl), y8.trans (by rw [hB, hA]; rfl)⟩
    · by_cases c : i = k
      · subst c
        rw [y5 _ (by omega), y5 _ (by omega)]
        unfold pa pb
        rw [← hw, ← hbb]
        refine ⟨?_, ?_⟩
        · rw [hB, cJ_wJ, if_neg (by omega), hA, cJ_wJ, if_pos ⟨rfl, rfl⟩]
        · rw [hB, cJ_wJ, if_pos ⟨rfl, rfl⟩]
      · exact y4 i (by omega) h2
    · rw [y5 i (by omega), eB i (by omega) (by omega)]
