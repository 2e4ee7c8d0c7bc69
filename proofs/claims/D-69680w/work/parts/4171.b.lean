/-! b -/
/-- the model's log and its end -/
def LO (M : Mem) (vs : List Int32) : Prop := cI M 1068 1131 = iw (vs.length : Nat) ∧ ∀ i, i < vs.length → cI M 1329 i = vs.getD i 0
def atL : Nat → Nat → Prop := fun a i => (a = 1068 ∧ i = 1131) ∨ a = 1329
theorem M_logn_loop {v : Int64} : ∀ (w N : Nat) (vs : List Int32) (M : Mem), w + 1 ≤ N → w ≤ 8 → vs.length + w ≤ 60000 → ST M → LO M vs → ∃ M', F_X16_logNumber_b5 N M 1068 v (iw ((w : Int) - 1)) = some M' ∧ LO M' (vs ++ nbs v w) ∧ Df atL n2 n2 M M' ∧ m_nx M' = m_nx M ∧ m_sl M' = m_sl M ∧ ST M' := by
  intro w
  induction w with
  | zero =>
    intro N vs M hN hw hl h e
    obtain ⟨N, rfl⟩ : ∃ y, N = y + 1 := ⟨N - 1, by omega⟩
    refine ⟨M, ?_, by show LO M (vs ++ []); rw [List.append_nil]; exact e, Df.refl _ _ _ _, rfl, rfl, h⟩
    show F_X16_logNumber_b5_st (F_X16_logNumber_b5 N) M _ _ _ = _
    unfold F_X16_logNumber_b5_st
    rw [if_pos (by decide)]
  | succ w ih =>
    intro N vs M hN hw hl h e
    obtain ⟨N, rfl⟩ : ∃ y, N = y + 1 := ⟨N - 1, by omega⟩
    obtain ⟨b, hb⟩ : ∃ b, b = j_i2b (j_lshr v ((8 : Int32) * iw (w : Int))).toInt32 := ⟨_, rfl⟩
    obtain ⟨A, hA⟩ : ∃ A, A = wI M 1329 vs.length b := ⟨_, rfl⟩
    obtain ⟨B, hB⟩ : ∃ B, B = wI A 1068 1131 (iw ((vs.length + 1 : Nat) : Int)) := ⟨_, rfl⟩
    have sA : ST A := by rw [hA]; exact h
    have sB : ST B := by rw [hB]; exact sA
    have cA : cI A 1068 1131 = iw (vs.length : Nat) := by rw [hA, cI_wI, if_neg (fun q => absurd q.1 (by decide))]; exact e.1
    have hl2 : (vs ++ [b]).length = vs.length + 1 := by rw [List.length_append, List.length_singleton]
    have lo : LO B (vs ++ [b]) := by
      refine ⟨by rw [hB, cI_wI, if_pos ⟨rfl, rfl⟩, hl2], fun i hi => ?_⟩
      rw [hl2] at hi
      rw [hB, cI_wI, if_neg (fun q => absurd q.1 (by decide)), hA, cI_wI, getD_snoc]
      by_cases ci : i = vs.length
      · rw [if_pos ⟨rfl, ci⟩, if_pos ci]
      · rw [if_neg (fun q => ci q.2), if_neg ci]
        exact e.2 i (by omega)
    have dB : Df atL n2 n2 M B := by
      rw [hB, hA]
      exact (Df.wI (P := atL) (Q := n2) (R := n2) (M := M) (a := 1329) (i := vs.length) _ (Or.inr rfl)).trans (Df.wI (P := atL) (Q := n2) (R := n2) (a := 1068) (i := 1131) _ (Or.inl ⟨rfl, rfl⟩))
    obtain ⟨M', f1, f2, f3, f4, f5, f6⟩ := ih N _ B (by omega) (by omega) (by omega) sB lo
    rw [List.append_assoc] at f2
    have e0 : ((w + 1 : Nat) : Int) - 1 = (w : Int) := by omega
    have e3 : iw (w : Int) + -1 = iw ((w : Int) - 1) := by rw [show (-1 : Int32) = iw (-1) from rfl, iw_add]; rfl
    refine ⟨M', ?_, ?_, dB.trans f3, by rw [f4, hB, hA]; rfl, by rw [f5, hB, hA]; rfl, f6⟩
    · rw [← f1]
      show F_X16_logNumber_b5_st (F_X16_logNumber_b5 N) M _ _ _ = _
      unfold F_X16_logNumber_b5_st
      rw [e0, if_neg (by rw [iw_lt0 (by omega) (by omega)]; omega)]
      have s1 : sb M 1329 (iw (vs.length : Nat)) (j_i2b (j_lshr v ((8 : Int32) * iw (w : Int))).toInt32) = some A := by
        rw [sb_of _ (t1329 h) (l1329 h) (by omega) (by decide), i2b_i2b, hA, hb]
      simp only [g1068_1129, g1068_1131, h, e.1, s1, sA, cA, iw_succ, p1068_1131, e3, Option.bind_some, ← hB]
    · rw [hb] at f2
      exact f2
theorem M_logn {M : Mem} {w : Nat} {v : Int64} {vs : List Int32} (h : ST M) (e : LO M vs) (hw : w ≤ 8) (hl : vs.length + w ≤ 60000) : ∃ M', F_X16_logNumber M 1068 v (iw (w : Int)) = some M' ∧ LO M' (vs ++ nbs v w) ∧ Df atL n2 n2 M M' ∧ m_nx M' = m_nx M ∧ m_sl M' = m_sl M ∧ ST M' := by
  obtain ⟨M', f1, f2⟩ := M_logn_loop (v := v) w xN vs M (by have : xN = 1099511627776 := rfl; omega) hw hl h e
  refine ⟨M', ?_, f2⟩
  unfold F_X16_logNumber
  rw [show (1 : Int32) = iw 1 from rfl, iw_sub]
  exact f1
