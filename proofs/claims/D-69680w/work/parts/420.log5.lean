/-! ===== THE LOG, 5: the model keeps a grid ===== -/
theorem nbs_b (v : Int64) : ∀ w, ∀ x ∈ nbs v w, j_i2b x = x
  | 0, x, h => by cases h
  | w + 1, x, h => by
    rcases List.mem_cons.mp h with rfl | q
    · exact i2b_i2b _
    · exact nbs_b v w x q
theorem szl_b (z : Nat → Nat) : ∀ e i, ∀ x ∈ szl z e i, j_i2b x = x
  | 0, i, x, h => by cases h
  | e + 1, i, x, h => by
    rcases List.mem_append.mp (show x ∈ nbs (iw (z i)).toInt64 2 ++ szl z e (i + 1) from h) with q | q
    · exact nbs_b _ _ x q
    · exact szl_b z e (i + 1) x q
theorem cel_b (val : Nat → Int64) (w : Nat) : ∀ e i, ∀ x ∈ cel val w e i, j_i2b x = x
  | 0, i, x, h => by cases h
  | e + 1, i, x, h => by
    rcases List.mem_append.mp (show x ∈ nbs (val i) w ++ cel val w e (i + 1) from h) with q | q
    · exact nbs_b _ _ x q
    · exact cel_b val w e (i + 1) x q
theorem gbc_b (k : Int32) (n : Nat) (z : Nat → Nat) (val : Nat → Int64) : ∀ x ∈ gbc k n z val, j_i2b x = x := by
  intro x h
  unfold gbc gby at h
  rcases List.mem_append.mp h with q | q
  · rcases List.mem_append.mp q with q | q
    · rcases List.mem_append.mp q with q | q
      · simp only [List.mem_cons, List.not_mem_nil, or_false] at q
        rcases q with rfl | rfl | rfl | rfl <;> exact i2b_i2b _
      · exact szl_b _ _ _ x q
    · exact cel_b _ _ _ _ x q
  · exact nbs_b _ _ x q
theorem nml_b (nm : Nat → Int32) : ∀ e i, ∀ x ∈ nml nm e i, j_i2b x = x
  | 0, i, x, h => by cases h
  | e + 1, i, x, h => by
    rcases List.mem_cons.mp (show x ∈ j_i2b (nm i) :: nml nm e (i + 1) from h) with rfl | q
    · exact i2b_i2b _
    · exact nml_b nm e (i + 1) x q
theorem getD_mem {l : List Int32} {i : Nat} (h : i < l.length) : l.getD i 0 ∈ l := by
  rw [List.getD_eq_getElem?_getD, List.getElem?_eq_getElem h]
  exact List.getElem_mem h
theorem drop_succ {l : List Int32} {i : Nat} (h : i < l.length) : l.drop i = l.getD i 0 :: l.drop (i + 1) := by
  rw [List.getD_eq_getElem?_getD, List.getElem?_eq_getElem h]
  exact List.drop_eq_getElem_cons h
section MKEEP
variable {nm : Nat → Int32} {nl : Nat}
theorem M_knm {fr : Int32} (hnl : nl ≤ 20) : ∀ (e N i : Nat) (vs : List Int32) (M : Mem), i + e = nl → vs.length + e ≤ 60000 → ST M → (∀ q, q < nl → cI M 1069 q = nm q) → LO M vs → ∃ M', F_X16_keep_b157 (N + 1 + e) M 1068 (iw (nl : Int)) fr (iw (i : Int)) = F_X16_keep_b185 xN M' 1068 fr (iw ((0 : Nat) : Int)) ∧ LO M' (vs ++ nml nm e i) ∧ Df atL n2 n2 M M' ∧ m_nx M' = m_nx M ∧ m_sl M' = m_sl M ∧ ST M' := by
  intro e
  induction e with
  | zero =>
    intro N i vs M hi hl sM hnm eo
    refine ⟨M, ?_, by show LO M (vs ++ []); rw [List.append_nil]; exact eo, Df.refl _ _ _ _, rfl, rfl, sM⟩
    show F_X16_keep_b157_st (F_X16_keep_b157 N) M _ _ _ _ = _
    unfold F_X16_keep_b157_st
    rw [if_neg (by rw [iw_le4 (by omega) (by omega)]; omega)]
    rfl
  | succ e ih =>
    intro N i vs M hi hl sM hnm eo
    have h0 := sM.1
    obtain ⟨A, a1, a2, a3, a4, a5, sA⟩ := M_logn (w := 1) (v := (nm i).toInt64) sM eo (by decide) (by omega)
    rw [nbs_1] at a2
    have a1' : F_X16_logNumber M 1068 (nm i).toInt64 1 = some A := a1
    have hl2 : (vs ++ [j_i2b (nm i)]).length = vs.length + 1 := by rw [List.length_append, List.length_singleton]
    obtain ⟨M', f1, f2, f3, f4, f5, f6⟩ := ih N (i + 1) _ A (by omega) (by omega) sA (fun q hq => by rw [a3.cI (by omega) (by unfold atL; omega)]; exact hnm q hq) a2
    rw [List.append_assoc] at f2
    refine ⟨M', ?_, f2, a3.trans f3, by omega, by omega, f6⟩
    rw [← f1]
    show F_X16_keep_b157_st (F_X16_keep_b157 (N + 1 + e)) M _ _ _ _ = _
    unfold F_X16_keep_b157_st
    rw [if_pos (by rw [iw_le4 (by omega) (by omega)]; omega)]
    simp only [g1068_1088, sM, ab_of (Or.inr (Or.inl (t1069 sM))) (l1069 sM) (show i < 16000 by omega) (by decide), hnm i (by omega), v1068, a1', iw_succ, Option.bind_some]
theorem M_kgb {fr : Int32} {o : Nat} {gb : List Int32} (ob : BYT o) (hb : ∀ x ∈ gb, j_i2b x = x) (hg : gb.length ≤ 30000) : ∀ (e N i : Nat) (vs : List Int32) (M : Mem), i + e = gb.length → vs.length + e ≤ 60000 → ST M → cR M 1068 1126 = o → MO M o gb → LO M vs → ∃ M', F_X16_keep_b185 (N + 1 + e) M 1068 fr (iw (i : Int)) = F_X16_keep_b226 xN M' 1068 fr 0 fr ∧ LO M' (vs ++ gb.drop i) ∧ Df atL n2 n2 M M' ∧ m_nx M' = m_nx M ∧ m_sl M' = m_sl M ∧ ST M' := by
  intro e
  induction e with
  | zero =>
    intro N i vs M hi hl sM hr mo eo
    refine ⟨M, ?_, by rw [List.drop_eq_nil_of_le (by omega), List.append_nil]; exact eo, Df.refl _ _ _ _, rfl, rfl, sM⟩
    show F_X16_keep_b185_st (F_X16_keep_b185 N) M _ _ _ = _
    unfold F_X16_keep_b185_st
    simp only [g1068_1126, sM, hr, (ob.f sM).2.1, mo.1, Option.bind_some]
    rw [if_neg (by rw [iw_le4 (by omega) (by omega)]; omega)]
  | succ e ih =>
    intro N i vs M hi hl sM hr mo eo
    have h0 := sM.1
    have oo := (ob.f sM).2.2.2.2.2.2
    obtain ⟨bb, hbb⟩ : ∃ bb, bb = gb.getD i 0 := ⟨_, rfl⟩
    have jb : j_i2b bb = bb := hb _ (by rw [hbb]; exact getD_mem (by omega))
    obtain ⟨A, a1, a2, a3, a4, a5, sA⟩ := M_logn (w := 1) (v := bb.toInt64) sM eo (by decide) (by omega)
    rw [nbs_1, jb] at a2
    have a1' : F_X16_logNumber M 1068 bb.toInt64 1 = some A := a1
    have hl2 : (vs ++ [bb]).length = vs.length + 1 := by rw [List.length_append, List.length_singleton]
    have nO : ∀ j, ¬ atL o j := fun j q => by unfold atL at q; unfold BYT at ob; omega
    have nO1 : ∀ j, ¬ atL (o + 1) j := fun j q => by unfold atL at q; unfold BYT at ob; omega
    have moA : MO A o gb := ⟨by rw [a3.cI (by omega) (nO _)]; exact mo.1, fun q hq => by rw [a3.cI (by omega) (nO1 _)]; exact mo.2 q hq⟩
    obtain ⟨M', f1, f2, f3, f4, f5, f6⟩ := ih N (i + 1) _ A (by omega) (by omega) sA (by rw [a3.cR (by omega) (fun q => q)]; exact hr) moA a2
    rw [List.append_assoc] at f2
    refine ⟨M', ?_, ?_, a3.trans f3, by omega, by omega, f6⟩
    · rw [← f1]
      show F_X16_keep_b185_st (F_X16_keep_b185 (N + 1 + e)) M _ _ _ = _
      unfold F_X16_keep_b185_st
      simp only [g1068_1126, sM, hr, (ob.f sM).2.1, mo.1, Option.bind_some]
      rw [if_pos (by rw [iw_le4 (by omega) (by omega)]; omega)]
      simp only [(ob.f sM).1, ab_of (Or.inr (Or.inl (ob.f sM).2.2.2.2.1)) (ob.f sM).2.2.2.2.2.1 (show i < 30000 by omega) (by decide), mo.2 i (by omega), ← hbb, v1068, sM, a1', iw_succ, Option.bind_some]
    · rw [drop_succ (show i < gb.length by omega), ← hbb]
      exact f2
theorem M_kcp {fr : Int32} {to : Nat} (hto : to ≤ 60000) : ∀ (e N i : Nat) (M : Mem), i + e = to → ST M → cI M 1068 1131 = iw (to : Int) → ∃ M' N', F_X16_keep_b279 (N + 1 + e) M 1068 fr (iw (i : Int)) = F_X16_keep_b279 (N' + 1) M' 1068 fr (iw (to : Int)) ∧ Df (at1 1330) n2 n2 M M' ∧ m_nx M' = m_nx M ∧ m_sl M' = m_sl M ∧ ST M' ∧ (∀ q, i ≤ q → q < to → cI M' 1330 q = j_i2b (cI M 1329 q)) ∧ (∀ q, q < i → cI M' 1330 q = cI M 1330 q) := by
  intro e
  induction e with
  | zero =>
    intro N i M hi sM hc
    have : i = to := by omega
    subst this
    exact ⟨M, N, rfl, Df.refl _ _ _ _, rfl, rfl, sM, fun q h1 h2 => by omega, fun _ _ => rfl⟩
  | succ e ih =>
    intro N i M hi sM hc
    have h0 := sM.1
    obtain ⟨A, hA⟩ : ∃ A, A = wI M 1330 i (j_i2b (cI M 1329 i)) := ⟨_, rfl⟩
    have sA : ST A := by rw [hA]; exact sM
    have dA : Df (at1 1330) n2 n2 M A := by rw [hA]; exact Df.wI _ rfl
    obtain ⟨M', N', f1, f2, f3, f4, f5, f6, f7⟩ := ih N (i + 1) A (by omega) sA (by rw [dA.cI (by omega) (by unfold at1; omega)]; exact hc)
    refine ⟨M', N', ?_, dA.trans f2, by rw [f3, hA]; rfl, by rw [f4, hA]; rfl, f5, fun q h1 h2 => ?_, fun q hq => ?_⟩
    · rw [← f1]
      show F_X16_keep_b279_st (F_X16_keep_b279 (N + 1 + e)) M _ _ _ = _
      unfold F_X16_keep_b279_st
      simp only [g1068_1131, g1068_1130, g1068_1129, sM, hc, Option.bind_some]
      rw [if_pos (by rw [iw_le4 (by omega) (by omega)]; omega)]
      simp only [ab_of (Or.inr (Or.inl (t1329 sM))) (l1329 sM) (show i < 60000 by omega) (by decide), sb_of (cI M 1329 i) (t1330 sM) (l1330 sM) (show i < 60000 by omega) (by decide), ← hA, iw_succ, Option.bind_some]
    · by_cases ci : q = i
      · rw [ci, f7 i (by omega), hA, cI_wI, if_pos ⟨rfl, rfl⟩]
      · rw [f6 q (by omega) h2, dA.cI (by omega) (by unfold at1; omega)]
    · rw [f7 q (by omega), hA, cI_wI, if_neg (fun w => by omega)]
end MKEEP
