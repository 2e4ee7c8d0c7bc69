/-! ===== NUMBERS, 10: a stage, the engine's loop over the blocks ===== -/
theorem E_pair {M : Mem} {p V fr hf : Nat} {a b : Nat → Nat} (h : ST M) (hP : cJ M 1035 705 = nl p) (h2 : 2 ≤ p) (hp : p ≤ 1000000007) (hV : V < p) (hb : fr + 2 * hf ≤ 1024) (hab : ∀ i, i < hf → a i < p ∧ b i < p) (hr : ∀ i, i < hf → cJ M 1036 (fr + i) = nl (a i) ∧ cJ M 1036 (fr + hf + i) = nl (b i)) :
    ∃ M', F_X10_pair M 1035 (iw (fr : Int)) (iw (hf : Int)) (nl V) = some M' ∧ ST M' ∧ cJ M' 1035 705 = nl p ∧ (∀ i, i < hf → cJ M' 1036 (fr + i) = nl (pa p V a b i) ∧ cJ M' 1036 (fr + hf + i) = nl (pb p V a b i)) ∧ (∀ i, (i < fr ∨ fr + 2 * hf ≤ i) → cJ M' 1036 i = cJ M 1036 i) ∧ Df n2 (at1 1036) n2 M M' ∧ m_nx M' = m_nx M ∧ m_sl M' = m_sl M := by
  have hxN : xN = 1099511627776 := rfl
  obtain ⟨N, hN⟩ : ∃ N, N + 1 + hf = xN := ⟨xN - 1 - hf, by omega⟩
  obtain ⟨M', y1, y2, y3, y4, y5, y6, y7, y8⟩ := pair_l h2 hp hV hb hab hf N 0 M (by omega) h hP (fun i _ hi => hr i hi)
  refine ⟨M', ?_, y2, y3, fun i hi => y4 i (Nat.zero_le _) hi, fun i hi => y5 i (by omega), y6, y7, y8⟩
  rw [hN, Nat.pow_zero, Nat.mod_eq_of_lt (show 1 < p by omega), Nat.add_zero] at y1
  unfold F_X10_pair
  exact y1
/-- all blocks of a stage -/
theorem blocks {k41 : Mem → Nat → Int32 → Int32 → Int64 → Int32 → Option Mem} {p V hf nb n : Nat} {v3 : Int32} {v4 : Int64} {A B : Nat → Nat → Nat} (h2 : 2 ≤ p) (hp : p ≤ 1000000007) (hV : V < p) (hf0 : 1 ≤ hf) (hfb : hf ≤ 1024) (hn : n = nb * (2 * hf)) (hn2 : n ≤ 1024) (hab : ∀ q i, i < hf → A q i < p ∧ B q i < p) : ∀ (e N q : Nat) (M : Mem), q + e = nb → ST M → cJ M 1035 705 = nl p → (∀ x i, q ≤ x → x < nb → i < hf → cJ M 1036 (x * (2 * hf) + i) = nl (A x i) ∧ cJ M 1036 (x * (2 * hf) + hf + i) = nl (B x i)) →
    ∃ M', F_X10_work_b65 k41 (N + 1 + e) M 1035 (iw (n : Int)) v3 v4 (iw (hf : Int)) (nl V) (iw ((q * (2 * hf) : Nat) : Int)) = k41 M' 1035 (iw (n : Int)) v3 v4 (iw ((2 * hf : Nat) : Int)) ∧ ST M' ∧ cJ M' 1035 705 = nl p ∧ (∀ x i, q ≤ x → x < nb → i < hf → cJ M' 1036 (x * (2 * hf) + i) = nl (pa p V (A x) (B x) i) ∧ cJ M' 1036 (x * (2 * hf) + hf + i) = nl (pb p V (A x) (B x) i)) ∧ (∀ i, i < q * (2 * hf) → cJ M' 1036 i = cJ M 1036 i) ∧ Df n2 (at1 1036) n2 M M' ∧ m_nx M' = m_nx M ∧ m_sl M' = m_sl M := by
  intro e
  induction e with
  | zero =>
    intro N q M hq h hP hr
    have hq' : q = nb := by omega
    have hq2 : q * (2 * hf) = n := by rw [hq', hn]
    refine ⟨M, ?_, h, hP, fun x i h1 h2 => by omega, fun i _ => rfl, Df.refl _ _ _ _, rfl, rfl⟩
    show F_X10_work_b65_st k41 (F_X10_work_b65 k41 N) M 1035 _ _ _ _ _ _ = _
    unfold F_X10_work_b65_st
    rw [hq2, if_neg (by rw [iw_le4 (by omega) (by omega)]; omega), show iw (hf : Int) * (2 : Int32) = iw ((2 * hf : Nat) : Int) from iw_mul2 hf]
  | succ e ih =>
    intro N q M hq h hP hr
    have hle : q * (2 * hf) + 2 * hf ≤ n := by
      rw [hn, ← Nat.succ_mul]
      exact Nat.mul_le_mul_right _ (by omega)
    obtain ⟨M1, y1, y2, y3, y4, y5, y6, y7, y8⟩ := E_pair (fr := q * (2 * hf)) h hP h2 hp hV (by omega) (hab q) (fun i hi => hr q i (Nat.le_refl _) (by omega) hi)
    have hd : F_X10_work_b65 k41 (N + 1 + (e + 1)) M 1035 (iw (n : Int)) v3 v4 (iw (hf : Int)) (nl V) (iw ((q * (2 * hf) : Nat) : Int)) = F_X10_work_b65 k41 (N + 1 + e) M1 1035 (iw (n : Int)) v3 v4 (iw (hf : Int)) (nl V) (iw (((q + 1) * (2 * hf) : Nat) : Int)) := by
      show F_X10_work_b65_st k41 (F_X10_work_b65 k41 (N + 1 + e)) M 1035 _ _ _ _ _ _ = _
      unfold F_X10_work_b65_st
      rw [if_pos (by rw [iw_le4 (by omega) (by omega)]; omega)]
      simp only [v1035, h, y1, Option.bind_some]
      rw [show (2 : Int32) * iw (hf : Int) = iw ((2 * hf : Nat) : Int) by rw [Int32.mul_comm]; exact iw_mul2 hf, iw_nad, ← Nat.succ_mul q (2 * hf)]
    obtain ⟨M', z1, z2, z3, z4, z5, z6, z7, z8⟩ := ih N (q + 1) M1 (by omega) y2 y3 (fun x i h1 hx hi => by
      have hx2 : (q + 1) * (2 * hf) ≤ x * (2 * hf) := Nat.mul_le_mul_right _ h1
      rw [Nat.succ_mul q (2 * hf)] at hx2
      rw [y5 _ (by omega), y5 _ (by omega)]
      exact hr x i (by omega) hx hi)
    rw [Nat.succ_mul q (2 * hf)] at z5
    refine ⟨M', by rw [hd, z1], z2, z3, fun x i h1 hx hi => ?_, fun i hi => by rw [z5 i (by omega), y5 i (by omega)], y6.trans z6, z7.trans y7, z8.trans y8⟩
    by_cases c : x = q
    · subst c
      rw [z5 _ (by omega), z5 _ (by omega)]
      exact y4 i hi
    · exact z4 x i (by omega) hx hi
