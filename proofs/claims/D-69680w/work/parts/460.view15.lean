/-! ===== VIEWS, 15: the model goes through the items ===== -/
def p45 (v4 v5 : Nat) : Nat → Nat → Prop := fun x _ => x = v4 ∨ x = v5
def VMo (M1 M : Mem) (v4 v5 w : Nat) (σ : VS) : Prop := ST M ∧ Df (p45 v4 v5) n2 n2 M1 M ∧ m_nx M = m_nx M1 ∧ m_sl M = m_sl M1 ∧ m_tg M v4 = 1005 ∧ m_ln M v4 = w ∧ m_tg M v5 = 1005 ∧ m_ln M v5 = w ∧ v4 ≠ v5 ∧ (∀ j, j < σ.1 → cI M v4 j = iw (σ.2.2.2.1 j : Nat) ∧ cI M v5 j = σ.2.2.2.2 j) ∧ ∀ j, σ.1 ≤ j → cI M v5 j = 0
theorem VMo.put {M1 M : Mem} {v4 v5 w : Nat} {σ : VS} (v : VMo M1 M v4 v5 w σ) (a : Nat) (b : Int32) (d : Nat) (x : Int32) : VMo M1 (wI (wI M v4 σ.1 (iw (a : Nat))) v5 σ.1 b) v4 v5 w (σ.1 + 1, d, x, putn σ.2.2.2.1 σ.1 a, putn σ.2.2.2.2 σ.1 b) := by
  obtain ⟨h1, h2, h3, h4, h5, h6, h7, h8, h9, h10, h11⟩ := v
  refine ⟨h1, (h2.trans (Df.wI _ (Or.inl rfl))).trans (Df.wI _ (Or.inr rfl)), h3, h4, h5, h6, h7, h8, h9, fun j hj => ?_, fun j hj => ?_⟩
  · have hj' : j < σ.1 + 1 := hj
    show cI (wI (wI M v4 σ.1 (iw (a : Nat))) v5 σ.1 b) v4 j = iw ((putn σ.2.2.2.1 σ.1 a j : Nat) : Int) ∧ cI (wI (wI M v4 σ.1 (iw (a : Nat))) v5 σ.1 b) v5 j = putn σ.2.2.2.2 σ.1 b j
    unfold putn
    rw [cI_wI, if_neg (fun q => h9 q.1), cI_wI, cI_wI, cI_wI]
    by_cases c : j = σ.1
    · rw [if_pos ⟨rfl, c⟩, if_pos c, if_pos ⟨rfl, c⟩, if_pos c]
      exact ⟨rfl, rfl⟩
    · rw [if_neg (fun q => c q.2), if_neg c, if_neg (fun q => c q.2), if_neg c, if_neg (fun q => h9 q.1.symm)]
      exact h10 j (by omega)
  · have hj' : σ.1 + 1 ≤ j := hj
    rw [cI_wI, if_neg (by omega), cI_wI, if_neg (fun q => h9 q.1.symm)]
    exact h11 j (by omega)
theorem VMo.st {M1 M : Mem} {v4 v5 w : Nat} {σ : VS} (v : VMo M1 M v4 v5 w σ) (d : Nat) (x : Int32) : VMo M1 M v4 v5 w (σ.1, d, x, σ.2.2.2.1, σ.2.2.2.2) := v
theorem cc5 {M : Mem} {y : Nat} (h : m_tg M y = 1005) : cc M y 1005 = some () := by
  unfold Jvm.Pilot.CGridEngineLaw_law_r3943_d802ca.cc
  rw [h, if_pos (Or.inr (by decide))]
theorem M_vaxes {M : Mem} {own n c : Nat} {k b p : Int32} {z : Nat → Nat} {s : Nat → Int32} (g : GM M own k n z s b c p) : F_X22_axes M own = some (iw (n : Int)) := by
  obtain ⟨g1, g2, g3, g4, g5, g6, g7, g8, g9⟩ := g
  unfold F_X22_axes
  rw [gr_of g3 (show x_fr 23 1473 = true by decide), Option.bind_some, an_of g5.2.2.1 (by decide) g5.2.2.2.1, Option.bind_some]
theorem M_vstep {k37 : Mem → Nat → Nat → Nat → Int32 → Nat → Nat → Int32 → Int32 → Int32 → Int32 → Option ((Nat × Mem) ⊕ (Nat × Mem))} {M0 M1 M : Mem} {own L d v4 v5 w nn c0 y i : Nat} {es : List Nat} {k b0 p0 v3 : Int32} {z : Nat → Nat} {t : Nat → Int32} {σ : VS} {it : Nat → Int} (v : VMo M1 M v4 v5 w σ) (g : GM M own k nn z t b0 c0 p0) (hnn : nn ≤ 4) (hz : ∀ i, i < nn → z i ≤ 4096) (al : AL M L d es) (hi : i < es.length) (hy : es.getD i 0 = y) (r : AR M0 M y it) (hI : IT it) (hw : σ.1 < w) (hw2 : w < 100000) (hd : σ.2.1 ≤ nn) :
    (∀ p, vap nn z t it σ = .inl p → F_X16_viewed_b37_st k37 M 1068 own L v3 v4 v5 (iw (σ.1 : Nat)) (iw (σ.2.1 : Nat)) σ.2.2.1 (iw (i : Int)) = some (.inr (m_nx M, mT M 1 (iw (p : Int))))) ∧
    (∀ σ', vap nn z t it σ = .inr σ' → ∃ M', F_X16_viewed_b37_st k37 M 1068 own L v3 v4 v5 (iw (σ.1 : Nat)) (iw (σ.2.1 : Nat)) σ.2.2.1 (iw (i : Int)) = k37 M' 1068 own L v3 v4 v5 (iw (σ'.1 : Nat)) (iw (σ'.2.1 : Nat)) σ'.2.2.1 (iw ((i + 1 : Nat) : Int)) ∧ VMo M1 M' v4 v5 w σ' ∧ σ'.1 ≤ σ.1 + 1 ∧ σ'.2.1 ≤ nn) := by
  obtain ⟨h1, h2, h3, h4, h5, h6, h7, h8, h9, h10, h11⟩ := id v
  obtain ⟨g1, g2, g3, g4, g5, g6, g7, g8, g9⟩ := id g
  have hI' := hI
  obtain ⟨⟨p, p1, p2⟩, i1, i2, i3, i4, i5, i6, i7⟩ := hI'
  have lenb := al.len
  have pt : (it 0).toNat = p := by rw [p1]; rfl
  have a0 : ai M y 0 = some (iw (p : Int)) := by rw [← p1]; exact r.ai (i := 0) (by decide)
  have a1 : ai M y 1 = some (iw (it 1)) := r.ai (i := 1) (by decide)
  have a3 : ai M y 3 = some (iw (it 3)) := r.ai (i := 3) (by decide)
  have a6 : ai M y 6 = some (iw (it 6)) := r.ai (i := 6) (by decide)
  have a7 : ai M y 7 = some (iw (it 7)) := r.ai (i := 7) (by decide)
  have gt := al.get hi
  rw [hy] at gt
  have s4 : ∀ x, si M v4 (iw (σ.1 : Nat)) x = some (wI M v4 σ.1 x) := fun x => si_of x h5 h6 hw (by omega)
  have q3 : iw (it 1) = 3 ↔ it 1 = 3 := by rw [show (3 : Int32) = iw 3 from rfl, iw_eq (by omega) (by omega) (by omega) (by omega)]
  have q1 : iw (it 1) = 1 ↔ it 1 = 1 := by rw [show (1 : Int32) = iw 1 from rfl, iw_eq (by omega) (by omega) (by omega) (by omega)]
  have q6 : iw (it 6) = 1 ↔ it 6 = 1 := by rw [show (1 : Int32) = iw 1 from rfl, iw_eq (by omega) (by omega) (by omega) (by omega)]
  have qd : iw (σ.2.1 : Nat) = iw (nn : Int) ↔ σ.2.1 = nn := by rw [iw_eq (by omega) (by omega) (by omega) (by omega)]; omega
  have er : ∀ {α : Type}, ((F_X17_at M 1075 1 (iw (p : Int))).bind fun z => (ie z.2 z.1).bind fun _ => (some (.inr (z.1, z.2)) : Option (α ⊕ (Nat × Mem)))) = some (.inr (m_nx M, mT M 1 (iw (p : Int)))) := M_verr h1 _
  have hd0 : F_X16_viewed_b37_st k37 M 1068 own L v3 v4 v5 (iw (σ.1 : Nat)) (iw (σ.2.1 : Nat)) σ.2.2.1 (iw (i : Int)) = if it 1 = 3 then F_X16_viewed_b455 k37 (wI M v4 σ.1 1) 1068 own L v3 v4 v5 (iw ((σ.1 + 1 : Nat) : Int)) (iw (σ.2.1 : Nat)) σ.2.2.1 (iw (i : Int)) else
      if σ.2.1 = nn then some (.inr (m_nx M, mT M 1 (iw (p : Int)))) else
      (ai M (cR M own 1473) (iw (σ.2.1 : Nat))).bind fun t64 => (ai M (cR M own 1474) (iw (σ.2.1 : Nat))).bind fun t66 =>
        if it 1 = 1 then
          (if iw (it 3) < (-t64) then F_X16_viewed_b147 M 1068 y else if iw (it 3) < t64 then
              (if iw (it 3) < 0 then F_X16_viewed_b183 k37 M σ.2.2.1 (iw (it 3) + t64) 1068 own L v3 v4 v5 (iw (σ.1 : Nat)) (iw ((σ.2.1 + 1 : Nat) : Int)) (iw (i : Int)) t66
              else F_X16_viewed_b183 k37 M σ.2.2.1 (iw (it 3)) 1068 own L v3 v4 v5 (iw (σ.1 : Nat)) (iw ((σ.2.1 + 1 : Nat) : Int)) (iw (i : Int)) t66)
            else F_X16_viewed_b147 M 1068 y)
        else F_X16_viewed_b210 k37 M (iw (vstp it)) 1068 own L v3 v4 v5 (iw (σ.1 : Nat)) (iw ((σ.2.1 + 1 : Nat) : Int)) σ.2.2.1 (iw (i : Int)) y t64 t66 := by
    unfold F_X16_viewed_b37_st
    simp only [vg_of al.2.1 (show x_isa 67 67 = true by decide), al.size, Option.bind_some]
    rw [if_pos (by rw [iw_le4 (by omega) (by omega)]; exact hi)]
    simp only [gt, cc5 r.2.2.1, a1, Option.bind_some]
    by_cases c3 : it 1 = 3
    · rw [if_pos (q3.mpr c3), if_pos c3, s4, Option.bind_some, iw_succ]
    · rw [if_neg (fun hh => c3 (q3.mp hh)), if_neg c3, vg_of g3 (show x_isa 23 23 = true by decide), Option.bind_some, M_vaxes g, Option.bind_some]
      by_cases cd : σ.2.1 = nn
      · rw [if_pos (qd.mpr cd), if_pos cd]
        simp only [g1068_1103, v1075, h1, a0, Option.bind_some]
        exact er
      · rw [if_neg (fun hh => cd (qd.mp hh)), if_neg cd]
        simp only [gr_of g3 (show x_fr 23 1473 = true by decide), gr_of g3 (show x_fr 23 1474 = true by decide), g5.ai hnn (show σ.2.1 < nn by omega), g6.ai hnn (show σ.2.1 < nn by omega), a3, a6, a7, Option.bind_some, iw_succ]
        by_cases c1 : it 1 = 1
        · rw [if_pos (q1.mpr c1), if_pos c1]
        · rw [if_neg (fun hh => c1 (q1.mp hh)), if_neg c1]
          unfold vstp
          by_cases c6 : it 6 = 1
          · rw [if_pos (q6.mpr c6), if_pos c6]
          · rw [if_neg (fun hh => c6 (q6.mp hh)), if_neg c6]
            rfl
  rw [hd0]
  unfold vap
  rw [pt]
  by_cases c3 : it 1 = 3
  · rw [if_pos c3, if_pos c3]
    refine ⟨fun q hq => (by cases hq), fun σ' hs => ?_⟩
    cases hs
    refine ⟨wI M v4 σ.1 1, ?_, ?_, Nat.le_refl _, hd⟩
    · unfold F_X16_viewed_b455
      rw [iw_succ]
      rfl
    · have vv := v.put 1 0 σ.2.1 σ.2.2.1
      have e0 : cI (wI M v4 σ.1 1) v5 σ.1 = 0 := by rw [cI_wI, if_neg (fun q => h9 q.1.symm)]; exact h11 _ (Nat.le_refl _)
      have e1 : ∀ x j, cI (wI M v4 σ.1 1) x j = cI (wI (wI M v4 σ.1 (iw ((1 : Nat) : Int))) v5 σ.1 0) x j := fun x j => by
        rw [cI_wI (M := wI M v4 σ.1 (iw ((1 : Nat) : Int)))]
        by_cases c : x = v5 ∧ j = σ.1
        · rw [if_pos c, c.1, c.2]; exact e0
        · rw [if_neg c]; rfl
      obtain ⟨u1, u2, u3, u4, u5, u6, u7, u8, u9, u10, u11⟩ := vv
      exact ⟨h1, h2.trans (Df.wI _ (Or.inl rfl)), h3, h4, h5, h6, h7, h8, h9, fun j hj => by rw [e1, e1]; exact u10 j hj, fun j hj => by rw [e1]; exact u11 j hj⟩
  · rw [if_neg c3, if_neg c3]
    by_cases cd : σ.2.1 = nn
    · rw [if_pos cd, if_pos cd]
      refine ⟨fun q hq => ?_, fun σ' hs => by cases hs⟩
      cases hq
      rfl
    · rw [if_neg cd, if_neg cd]
      have hdl : σ.2.1 < nn := by omega
      have hz' := hz _ hdl
      simp only [g5.ai hnn hdl, g6.ai hnn hdl, Option.bind_some]
      have b147 : F_X16_viewed_b147 M 1068 y = some (.inr (m_nx M, mT M 1 (iw (p : Int)))) := by
        unfold F_X16_viewed_b147
        simp only [g1068_1103, v1075, h1, a0, Option.bind_some]
        exact er
      by_cases c1 : it 1 = 1
      · simp only [if_pos c1]
        rw [iw_neg', iw_add]
        have qa : iw (it 3) < iw (-((z σ.2.1 : Nat) : Int)) ↔ it 3 < -(z σ.2.1 : Int) := iw_lt (by omega) (by omega) (by omega) (by omega)
        have qb : iw (it 3) < iw ((z σ.2.1 : Nat) : Int) ↔ it 3 < (z σ.2.1 : Int) := iw_lt (by omega) (by omega) (by omega) (by omega)
        have qc : iw (it 3) < 0 ↔ it 3 < 0 := iw_lt0 (by omega) (by omega)
        simp only [qa, qb, qc]
        by_cases cr : it 3 < -(z σ.2.1 : Int) ∨ (z σ.2.1 : Int) ≤ it 3
        · rw [if_pos cr]
          refine ⟨fun q hq => ?_, fun σ' hs => by cases hs⟩
          cases hq
          by_cases c5 : it 3 < -(z σ.2.1 : Int)
          · rw [if_pos c5, b147]
          · rw [if_neg c5, if_neg (by omega), b147]
        · rw [if_neg cr]
          refine ⟨fun q hq => (by cases hq), fun σ' hs => ?_⟩
          cases hs
          refine ⟨M, ?_, v.st _ _, by show σ.1 ≤ _; omega, hdl⟩
          rw [if_neg (by omega), if_pos (by omega)]
          unfold F_X16_viewed_b183 F_X16_viewed_b455
          rw [iw_succ]
          by_cases c5 : it 3 < 0
          · rw [if_pos c5, if_pos c5]
          · rw [if_neg c5, if_neg c5]
      · simp only [if_neg c1]
        have hst : -1000000000 < vstp it ∧ vstp it < 1000000000 := by
          unfold vstp
          by_cases c6 : it 6 = 1
          · rw [if_pos c6]; exact i7
          · rw [if_neg c6]; exact ⟨by decide, by decide⟩
        by_cases cs : vstp it = 0
        · rw [if_pos cs]
          refine ⟨fun q hq => ?_, fun σ' hs => by cases hs⟩
          cases hq
          unfold F_X16_viewed_b210
          rw [cs, if_pos (by decide)]
          simp only [g1068_1103, v1075, h1, a0, Option.bind_some]
          exact er
        · rw [if_neg cs]
          refine ⟨fun q hq => (by cases hq), fun σ' hs => ?_⟩
          cases hs
          have bc := sct_le (n := (z σ.2.1 : Int)) (st := vstp it) (hf := it 2) (fr := it 3) (ht := it 4) (to := it 5) (by omega) cs
          rw [M_slice (n := ((z σ.2.1 : Nat) : Int)) r cs ⟨by omega, by omega⟩ hst hI]
          show ∃ M', F_X16_viewed_b410 k37 M 1068 own L v3 v4 v5 (iw (σ.1 : Nat)) (iw ((σ.2.1 + 1 : Nat) : Int)) σ.2.2.1 (iw (i : Int)) (t σ.2.1) (iw (vstp it)) (iw (vsa z it σ.2.1)) (iw (vsc z it σ.2.1 : Nat)) = _ ∧ _
          have bc' : vsc z it σ.2.1 ≤ 4096 := by
            have : ((vsc z it σ.2.1 : Nat) : Int) ≤ (z σ.2.1 : Int) := bc
            omega
          obtain ⟨cc, hcc⟩ : ∃ cc, cc = vsc z it σ.2.1 := ⟨_, rfl⟩
          rw [← hcc] at bc' ⊢
          have qq0 : (0 : Int32) < iw (cc : Nat) ↔ 0 < cc := by rw [show (0 : Int32) = iw ((0 : Nat) : Int) from rfl, iw_le4 (by omega) (by omega)]
          have qq1 : (1 : Int32) < iw (cc : Nat) ↔ 1 < cc := by rw [show (1 : Int32) = iw ((1 : Nat) : Int) from rfl, iw_le4 (by omega) (by omega)]
          have s5 : ∀ x, si (wI M v4 σ.1 (iw (cc : Nat))) v5 (iw (σ.1 : Nat)) x = some (wI (wI M v4 σ.1 (iw (cc : Nat))) v5 σ.1 x) := fun x => si_of x h7 h8 hw (by omega)
          obtain ⟨sd, hsd⟩ : ∃ sd, sd = if 1 < cc then iw (vstp it) * t σ.2.1 else 0 := ⟨_, rfl⟩
          rw [← hsd]
          have e1 : F_X16_viewed_b410 k37 M 1068 own L v3 v4 v5 (iw (σ.1 : Nat)) (iw ((σ.2.1 + 1 : Nat) : Int)) σ.2.2.1 (iw (i : Int)) (t σ.2.1) (iw (vstp it)) (iw (vsa z it σ.2.1)) (iw (cc : Nat)) = F_X16_viewed_b436 k37 (wI M v4 σ.1 (iw (cc : Nat))) v5 (iw (σ.1 : Nat)) sd 1068 own L v3 v4 v5 (iw (σ.1 : Nat)) (iw ((σ.2.1 + 1 : Nat) : Int)) σ.2.2.1 (iw (i : Int)) (t σ.2.1) (iw (vsa z it σ.2.1)) (iw (cc : Nat)) := by
            unfold F_X16_viewed_b410
            rw [s4, Option.bind_some, hsd]
            by_cases c : 1 < cc
            · rw [if_pos (qq1.mpr c), if_pos c]
            · rw [if_neg (fun hh => c (qq1.mp hh)), if_neg c]
          refine ⟨wI (wI M v4 σ.1 (iw (cc : Nat))) v5 σ.1 sd, ?_, v.put cc sd (σ.2.1 + 1) _, Nat.le_refl _, hdl⟩
          rw [e1]
          unfold F_X16_viewed_b436 F_X16_viewed_b455
          rw [s5, Option.bind_some, iw_succ, iw_succ]
          by_cases c : 0 < cc
          · rw [if_pos (qq0.mpr c), if_pos c]
          · rw [if_neg (fun hh => c (qq0.mp hh)), if_neg c]
