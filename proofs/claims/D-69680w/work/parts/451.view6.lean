/-! ===== VIEWS, 6: what the items do to a grid ===== -/
/-- axes so far, axes used, base, sizes, strides -/
abbrev VS := Nat × Nat × Int32 × (Nat → Nat) × (Nat → Int32)
def putn {α : Type} (g : Nat → α) (i : Nat) (v : α) : Nat → α := fun j => if j = i then v else g j
def vax (σ : VS) (v : Nat) (w : Int32) : VS := (σ.1 + 1, σ.2.1, σ.2.2.1, putn σ.2.2.2.1 σ.1 v, putn σ.2.2.2.2 σ.1 w)
def vstp (it : Nat → Int) : Int := if it 6 = 1 then it 7 else 1
def vsa (z : Nat → Nat) (it : Nat → Int) (d : Nat) : Int := sla (z d) (vstp it) (it 2) (it 3)
def vsc (z : Nat → Nat) (it : Nat → Int) (d : Nat) : Nat := sct (vstp it) (vsa z it d) (slb (z d) (vstp it) (it 4) (it 5))
def vap (nn : Nat) (z : Nat → Nat) (s : Nat → Int32) (it : Nat → Int) (σ : VS) : Nat ⊕ VS :=
  if it 1 = 3 then .inr (vax σ 1 0)
  else if σ.2.1 = nn then .inl (it 0).toNat
  else if it 1 = 1 then
    (if it 3 < -(z σ.2.1 : Int) ∨ (z σ.2.1 : Int) ≤ it 3 then .inl (it 0).toNat
    else .inr (σ.1, σ.2.1 + 1, σ.2.2.1 + iw (if it 3 < 0 then it 3 + z σ.2.1 else it 3) * s σ.2.1, σ.2.2.2.1, σ.2.2.2.2))
  else if vstp it = 0 then .inl (it 0).toNat
  else .inr (σ.1 + 1, σ.2.1 + 1, (if 0 < vsc z it σ.2.1 then σ.2.2.1 + iw (vsa z it σ.2.1) * s σ.2.1 else σ.2.2.1), putn σ.2.2.2.1 σ.1 (vsc z it σ.2.1), putn σ.2.2.2.2 σ.1 (if 1 < vsc z it σ.2.1 then iw (vstp it) * s σ.2.1 else 0))
/-- an item as it may be -/
def IT (it : Nat → Int) : Prop := (∃ p : Nat, it 0 = p ∧ p ≤ 16000) ∧ (it 1 = 1 ∨ it 1 = 2 ∨ it 1 = 3) ∧ (it 2 = 0 ∨ it 2 = 1) ∧ (-1000000000 < it 3 ∧ it 3 < 1000000000) ∧ (it 4 = 0 ∨ it 4 = 1) ∧ (-1000000000 < it 5 ∧ it 5 < 1000000000) ∧ (it 6 = 0 ∨ it 6 = 1) ∧ (-1000000000 < it 7 ∧ it 7 < 1000000000)
theorem itv_0 {p k hf fr ht to hs st : Int} : itv p k hf fr ht to hs st 0 = p ∧ itv p k hf fr ht to hs st 1 = k ∧ itv p k hf fr ht to hs st 2 = hf ∧ itv p k hf fr ht to hs st 3 = fr ∧ itv p k hf fr ht to hs st 4 = ht ∧ itv p k hf fr ht to hs st 5 = to ∧ itv p k hf fr ht to hs st 6 = hs ∧ itv p k hf fr ht to hs st 7 = st := ⟨rfl, rfl, rfl, rfl, rfl, rfl, rfl, rfl⟩
theorem IT.of {a : Nat} {k hf fr ht to hs st : Int} (ha : a ≤ 16000) (hk : k = 1 ∨ k = 2 ∨ k = 3) (h1 : hf = 0 ∨ hf = 1) (h2 : -1000000000 < fr ∧ fr < 1000000000) (h3 : ht = 0 ∨ ht = 1) (h4 : -1000000000 < to ∧ to < 1000000000) (h5 : hs = 0 ∨ hs = 1) (h6 : -1000000000 < st ∧ st < 1000000000) : IT (itv a k hf fr ht to hs st) := ⟨⟨a, rfl, ha⟩, hk, h1, h2, h3, h4, h5, h6⟩
theorem vi3_ok {f : Nat → Int32} {n a e : Nat} {hf x ht y : Int} {it : Nat → Int} {b : Nat} (hn : n ≤ 16000) (ha : a ≤ n) (he : e ≤ n) (h1 : hf = 0 ∨ hf = 1) (h2 : -1000000000 < x ∧ x < 1000000000) (h3 : ht = 0 ∨ ht = 1) (h4 : -1000000000 < y ∧ y < 1000000000) (h : vi3 f n a hf x ht y e = .inr (it, b)) : IT it := by
  have le1 := skpa_le (f := f) he
  unfold vi3 at h
  by_cases c : isC f n (skpa f n e) 58 = true
  · have hl := (isC_t.mp c).1
    have le2 := skpa_le (f := f) (a := skpa f n e + 1) (n := n) (by omega)
    rw [if_pos c] at h
    by_cases cn : isN f n (skpa f n (skpa f n e + 1)) = true
    · rw [if_pos cn] at h
      cases hv : vnm f n (skpa f n (skpa f n e + 1)) with
      | inl p => rw [hv] at h; cases h
      | inr wb =>
        rw [hv] at h
        have h' : (Sum.inr (itv (a : Int) 2 hf x ht y 1 wb.1, wb.2) : Nat ⊕ ((Nat → Int) × Nat)) = Sum.inr (it, b) := h
        have hi : itv (a : Int) 2 hf x ht y 1 wb.1 = it := congrArg Prod.fst (Sum.inr.inj h')
        have hb := vnm_b (x := wb.1) (b := wb.2) le2 hv
        rw [← hi]
        exact IT.of (by omega) (Or.inr (Or.inl rfl)) h1 h2 h3 h4 (Or.inr rfl) ⟨hb.1, hb.2.1⟩
    · rw [if_neg cn] at h
      have hi : itv (a : Int) 2 hf x ht y 0 0 = it := congrArg Prod.fst (Sum.inr.inj h)
      rw [← hi]
      exact IT.of (by omega) (Or.inr (Or.inl rfl)) h1 h2 h3 h4 (Or.inl rfl) ⟨by decide, by decide⟩
  · rw [if_neg c] at h
    have hi : itv (a : Int) 2 hf x ht y 0 0 = it := congrArg Prod.fst (Sum.inr.inj h)
    rw [← hi]
    exact IT.of (by omega) (Or.inr (Or.inl rfl)) h1 h2 h3 h4 (Or.inl rfl) ⟨by decide, by decide⟩
theorem vi2_ok {f : Nat → Int32} {n a b0 : Nat} {hf x : Int} {it : Nat → Int} {b : Nat} (hn : n ≤ 16000) (ha : a ≤ n) (he : b0 ≤ n) (h1 : hf = 0 ∨ hf = 1) (h2 : -1000000000 < x ∧ x < 1000000000) (h : vi2 f n a hf x b0 = .inr (it, b)) : IT it := by
  have le1 := skpa_le (f := f) he
  unfold vi2 at h
  by_cases c : isC f n (skpa f n b0) 58 = true
  · have hl := (isC_t.mp c).1
    have le2 := skpa_le (f := f) (a := skpa f n b0 + 1) (n := n) (by omega)
    rw [if_pos c] at h
    by_cases cn : isN f n (skpa f n (skpa f n b0 + 1)) = true
    · rw [if_pos cn] at h
      cases hv : vnm f n (skpa f n (skpa f n b0 + 1)) with
      | inl p => rw [hv] at h; cases h
      | inr wb =>
        rw [hv] at h
        have hb := vnm_b (x := wb.1) (b := wb.2) le2 hv
        exact vi3_ok hn ha hb.2.2.2 h1 h2 (Or.inr rfl) ⟨hb.1, hb.2.1⟩ h
    · rw [if_neg cn] at h
      exact vi3_ok hn ha le2 h1 h2 (Or.inl rfl) ⟨by decide, by decide⟩ h
  · rw [if_neg c] at h
    by_cases c0 : hf = 0
    · rw [if_pos c0] at h; cases h
    · rw [if_neg c0] at h
      have hi : itv (a : Int) 1 1 x 0 0 0 0 = it := congrArg Prod.fst (Sum.inr.inj h)
      rw [← hi]
      exact IT.of (by omega) (Or.inl rfl) (Or.inr rfl) h2 (Or.inl rfl) ⟨by decide, by decide⟩ (Or.inl rfl) ⟨by decide, by decide⟩
theorem vit_ok {f : Nat → Int32} {n a : Nat} {it : Nat → Int} {b : Nat} (hn : n ≤ 16000) (ha : a ≤ n) (h : vit f n a = .inr (it, b)) : IT it := by
  unfold vit at h
  by_cases c : isC f n a 42 = true
  · rw [if_pos c] at h
    have hi : itv (a : Int) 3 0 0 0 0 0 0 = it := congrArg Prod.fst (Sum.inr.inj h)
    rw [← hi]
    exact IT.of (by omega) (Or.inr (Or.inr rfl)) (Or.inl rfl) ⟨by decide, by decide⟩ (Or.inl rfl) ⟨by decide, by decide⟩ (Or.inl rfl) ⟨by decide, by decide⟩
  · rw [if_neg c] at h
    by_cases cn : isN f n a = true
    · rw [if_pos cn] at h
      cases hv : vnm f n a with
      | inl p => rw [hv] at h; cases h
      | inr wb =>
        rw [hv] at h
        have hb := vnm_b (x := wb.1) (b := wb.2) ha hv
        exact vi2_ok hn ha hb.2.2.2 (Or.inr rfl) ⟨hb.1, hb.2.1⟩ h
    · rw [if_neg cn] at h
      exact vi2_ok hn ha ha (Or.inl rfl) ⟨by decide, by decide⟩ h
/-! the engine -/
def VE (M : Mem) (σ : VS) : Prop := cI M 1006 262 = iw (σ.1 : Nat) ∧ cI M 1006 264 = iw (σ.2.1 : Nat) ∧ cI M 1006 263 = σ.2.2.1 ∧ ∀ j, j < σ.1 → j < 4 → cI M 1007 j = iw (σ.2.2.2.1 j : Nat) ∧ cI M 1008 j = σ.2.2.2.2 j
def pVi : Nat → Nat → Prop := fun a i => (a = 1006 ∧ (i = 262 ∨ i = 263 ∨ i = 264)) ∨ a = 1007 ∨ a = 1008
theorem VE.ax {M M' : Mem} {σ : VS} {v : Nat} {w : Int32} (h : ST M) (e : VE M σ) (f3 : cI M' 1006 262 = iw ((σ.1 + 1 : Nat) : Int)) (f4 : ∀ j, cI M' 1007 j = if j = σ.1 ∧ σ.1 < 4 then iw (v : Nat) else cI M 1007 j) (f5 : ∀ j, cI M' 1008 j = if j = σ.1 ∧ σ.1 < 4 then w else cI M 1008 j) (c1 : cI M' 1006 264 = cI M 1006 264) (c2 : cI M' 1006 263 = cI M 1006 263) : VE M' (vax σ v w) := by
  obtain ⟨e1, e2, e3, e4⟩ := e
  refine ⟨f3, c1.trans e2, c2.trans e3, fun j hj h4 => ?_⟩
  have hj' : j < σ.1 + 1 := hj
  show cI M' 1007 j = iw ((putn σ.2.2.2.1 σ.1 v j : Nat) : Int) ∧ cI M' 1008 j = putn σ.2.2.2.2 σ.1 w j
  unfold putn
  rw [f4, f5]
  by_cases c : j = σ.1
  · have cq : j = σ.1 ∧ σ.1 < 4 := ⟨c, by omega⟩
    rw [if_pos cq, if_pos c, if_pos cq, if_pos c]
    exact ⟨rfl, rfl⟩
  · have cq : ¬ (j = σ.1 ∧ σ.1 < 4) := fun q => c q.1
    rw [if_neg cq, if_neg c, if_neg cq, if_neg c]
    exact e4 j (by omega) h4
theorem E_iap {M : Mem} {own c0 : Nat} {k : Int32} {n : Nat} {z : Nat → Nat} {s : Nat → Int32} {x0 : Int32} {p0 : Int32} {σ : VS} {it : Nat → Int} (h : ST M) (g : GE M own k n z s x0 c0 p0) (hn : n ≤ 4) (hz : ∀ i, i < n → z i ≤ 4096) (e : VE M σ) (hi : IT it) (hb : σ.1 ≤ 100000000) (hd : σ.2.1 ≤ n) :
    (∀ p, vap n z s it σ = .inl p → ∃ M', iap M own it = some (.inr (1003, M')) ∧ VF M M' p) ∧
    (∀ σ', vap n z s it σ = .inr σ' → ∃ M', iap M own it = some (.inl M') ∧ ST M' ∧ VE M' σ' ∧ σ'.1 ≤ σ.1 + 1 ∧ σ'.2.1 ≤ n ∧ Df pVi n2 n2 M M' ∧ m_nx M' = m_nx M ∧ m_sl M' = m_sl M) := by
  have h0 := h.1
  have e' := e
  obtain ⟨e1, e2, e3, e4⟩ := e'
  obtain ⟨g1, g2, g3, g4, g5, g6, g7, g8, g9, g10⟩ := id g
  obtain ⟨⟨p, p1, p2⟩, i1, i2, i3, i4, i5, i6, i7⟩ := hi
  have o6 : ¬ own = 6 := by omega
  have o0 : ¬ own = 0 := by omega
  have pp' : iw (it 0) = iw (p : Int) := by rw [p1]
  have pt : (it 0).toNat = p := by rw [p1]; rfl
  unfold iap vap
  rw [pt, pp']
  by_cases c3 : it 1 = 3
  · rw [if_pos c3, if_pos c3]
    refine ⟨fun q hq => (by cases hq), fun σ' hs => ?_⟩
    cases hs
    obtain ⟨M', f1, f2, f3, f4, f5, f6, f7, f8⟩ := E_axis (v := 1) (w := 0) h e1 hb
    exact ⟨M', by rw [f1, Option.bind_some], f2, e.ax (v := 1) h f3 f4 f5 (f6.cI (by omega) (by unfold pAx; omega)) (f6.cI (by omega) (by unfold pAx; omega)), Nat.le_refl _, hd, f6.mono (fun a i q => by unfold pAx at q; unfold pVi; omega) (fun _ _ q => q) (fun _ _ q => q), f7, f8⟩
  · rw [if_neg c3, if_neg c3]
    have qd : cI M 1006 264 = cI M own 1409 ↔ σ.2.1 = n := by rw [e2, g5, iw_eq (by omega) (by omega) (by omega) (by omega)]; omega
    have go264 := g1006_264 h
    have gi1409 := gi_of g3 (show x_fi 22 1409 = true by decide)
    have wr : ∀ {α : Type}, ((F_X3_wrong M 1006 (iw (p : Int))).bind fun z => (ie z.2 z.1).bind fun _ => (some (.inr (z.1, z.2)) : Option (α ⊕ (Nat × Mem)))) = some (.inr (1003, eT M 20 (iw (p : Int)))) := E_vwrong h p
    by_cases c1 : it 1 = 1
    · simp only [if_pos c1]
      by_cases cd : σ.2.1 = n
      · rw [if_pos cd]
        refine ⟨fun q hq => ?_, fun σ' hs => by cases hs⟩
        cases hq
        refine ⟨_, ?_, VF.of h p⟩
        unfold F_X3_single
        rw [if_neg o6, if_neg o0, go264, Option.bind_some, gi1409, Option.bind_some, if_pos (qd.mpr cd), v1006 h, Option.bind_some, wr, tb_r]
      · rw [if_neg cd]
        have hdl : σ.2.1 < n := by omega
        have hz' := hz _ hdl
        have hd1 : F_X3_single M 1006 own (iw (it 3)) (iw (p : Int)) = if it 3 < -(z σ.2.1 : Int) then F_X3_single_b46 M 1006 (iw (p : Int)) else if it 3 < (z σ.2.1 : Int) then (if it 3 < 0 then F_X3_single_b69 M 1006 σ.2.2.1 (iw (it 3 + z σ.2.1)) 1006 own else F_X3_single_b69 M 1006 σ.2.2.1 (iw (it 3)) 1006 own) else F_X3_single_b46 M 1006 (iw (p : Int)) := by
          unfold F_X3_single
          rw [if_neg o6, if_neg o0, go264, Option.bind_some, gi1409, Option.bind_some, if_neg (fun hh => cd (qd.mp hh))]
          simp only [gr_of g3 (show x_fr 22 1410 = true by decide), go264, e2, g6.ai hn hdl, g1006_263, h, e3, Option.bind_some]
          rw [iw_neg', iw_add]
          have qa : iw (it 3) < iw (-((z σ.2.1 : Nat) : Int)) ↔ it 3 < -(z σ.2.1 : Int) := iw_lt (by omega) (by omega) (by omega) (by omega)
          have qb : iw (it 3) < iw ((z σ.2.1 : Nat) : Int) ↔ it 3 < (z σ.2.1 : Int) := iw_lt (by omega) (by omega) (by omega) (by omega)
          have qc : iw (it 3) < 0 ↔ it 3 < 0 := iw_lt0 (by omega) (by omega)
          simp only [qa, qb, qc]
        have b46 : F_X3_single_b46 M 1006 (iw (p : Int)) = some (.inr (1003, eT M 20 (iw (p : Int)))) := by
          unfold F_X3_single_b46
          rw [v1006 h, Option.bind_some, wr]
        by_cases cr : it 3 < -(z σ.2.1 : Int) ∨ (z σ.2.1 : Int) ≤ it 3
        · rw [if_pos cr]
          refine ⟨fun q hq => ?_, fun σ' hs => by cases hs⟩
          cases hq
          refine ⟨_, ?_, VF.of h p⟩
          rw [hd1]
          by_cases c5 : it 3 < -(z σ.2.1 : Int)
          · rw [if_pos c5, b46, tb_r]
          · rw [if_neg c5, if_neg (by omega), b46, tb_r]
        · rw [if_neg cr]
          refine ⟨fun q hq => (by cases hq), fun σ' hs => ?_⟩
          cases hs
          obtain ⟨v, hv⟩ : ∃ v, v = if it 3 < 0 then it 3 + (z σ.2.1 : Int) else it 3 := ⟨_, rfl⟩
          rw [← hv]
          have hd2 : F_X3_single M 1006 own (iw (it 3)) (iw (p : Int)) = F_X3_single_b69 M 1006 σ.2.2.1 (iw v) 1006 own := by
            rw [hd1, if_neg (by omega), if_pos (by omega), hv]
            by_cases c5 : it 3 < 0
            · rw [if_pos c5, if_pos c5]
            · rw [if_neg c5, if_neg c5]
          refine ⟨wI (wI M 1006 263 (σ.2.2.1 + iw v * s σ.2.1)) 1006 264 (iw ((σ.2.1 + 1 : Nat) : Int)), ?_, h, ⟨?_, ?_, ?_, fun j hj h4 => ?_⟩, by show σ.1 ≤ _; omega, hdl, ?_, rfl, rfl⟩
          · rw [hd2]
            unfold F_X3_single_b69
            have c64 : cI (wI M 1006 263 (σ.2.2.1 + iw v * s σ.2.1)) 1006 264 = iw (σ.2.1 : Nat) := by rw [cI_wI, if_neg (by decide)]; exact e2
            simp only [gr_of g3 (show x_fr 22 1411 = true by decide), go264, e2, g7.ai hn hdl, p1006_263, h, Option.bind_some]
            simp only [g1006_264, p1006_264, ST_wI, h, c64, iw_succ, Option.bind_some]
            rw [tb_l]
          · rw [cI_wI, if_neg (by decide), cI_wI, if_neg (by decide)]; exact e1
          · rw [cI_wI, if_pos ⟨rfl, rfl⟩]
          · rw [cI_wI, if_neg (by decide), cI_wI, if_pos ⟨rfl, rfl⟩]
          · rw [cI_wI, if_neg (by omega), cI_wI, if_neg (by omega), cI_wI, if_neg (by omega), cI_wI, if_neg (by omega)]
            exact e4 j hj h4
          · exact (Df.wI (P := pVi) (Q := n2) (R := n2) (M := M) (a := 1006) (i := 263) _ (Or.inl ⟨rfl, Or.inr (Or.inl rfl)⟩)).trans (Df.wI (P := pVi) (Q := n2) (R := n2) (a := 1006) (i := 264) _ (Or.inl ⟨rfl, Or.inr (Or.inr rfl)⟩))
    · simp only [if_neg c1]
      have b184 : F_X3_item_b184 M 1006 (iw (p : Int)) = some (.inr (1003, eT M 20 (iw (p : Int)))) := by
        unfold F_X3_item_b184
        rw [v1006 h, Option.bind_some, wr]
      have hst : -1000000000 < vstp it ∧ vstp it < 1000000000 := by
        unfold vstp
        by_cases c6 : it 6 = 1
        · rw [if_pos c6]; exact i7
        · rw [if_neg c6]; exact ⟨by decide, by decide⟩
      have es : (if it 6 = 1 then it 7 else 1) = vstp it := rfl
      rw [es]
      have q0 : iw (vstp it) = 0 ↔ vstp it = 0 := iw_eq0 (by omega) (by omega)
      by_cases cd : σ.2.1 = n
      · rw [if_pos cd]
        refine ⟨fun q hq => ?_, fun σ' hs => by cases hs⟩
        cases hq
        refine ⟨_, ?_, VF.of h p⟩
        unfold F_X3_item_b163
        rw [if_neg o6, if_neg o0, go264, Option.bind_some, gi1409, Option.bind_some, if_pos (qd.mpr cd), b184]
      · rw [if_neg cd]
        by_cases cs : vstp it = 0
        · rw [if_pos cs]
          refine ⟨fun q hq => ?_, fun σ' hs => by cases hs⟩
          cases hq
          refine ⟨_, ?_, VF.of h p⟩
          unfold F_X3_item_b163
          rw [if_neg o6, if_neg o0, go264, Option.bind_some, gi1409, Option.bind_some, if_neg (fun hh => cd (qd.mp hh)), if_pos (q0.mpr cs), b184]
        · rw [if_neg cs]
          refine ⟨fun q hq => (by cases hq), fun σ' hs => ?_⟩
          cases hs
          have hdl : σ.2.1 < n := by omega
          obtain ⟨M', f1, f2, f3, f4, f5, f6, f7, f8, f9, f10⟩ := E_slice (hf := it 2) (fr := it 3) (ht := it 4) (to := it 5) (st := vstp it) h g hn hdl (hz _ hdl) e2 e1 hb e3 cs hst i3 i5 i2 i4
          refine ⟨M', ?_, f2, ⟨f4, f3, f5, fun j hj h4 => ?_⟩, Nat.le_refl _, hdl, f8, f9, f10⟩
          · unfold F_X3_item_b163
            rw [if_neg o6, if_neg o0, go264, Option.bind_some, gi1409, Option.bind_some, if_neg (fun hh => cd (qd.mp hh)), if_neg (fun hh => cs (q0.mp hh)), v1006 h, Option.bind_some, f1, Option.bind_some]
          · have hj' : j < σ.1 + 1 := hj
            show cI M' 1007 j = iw ((putn σ.2.2.2.1 σ.1 (vsc z it σ.2.1) j : Nat) : Int) ∧ cI M' 1008 j = putn σ.2.2.2.2 σ.1 _ j
            unfold putn
            rw [f6, f7]
            by_cases c : j = σ.1
            · have cq : j = σ.1 ∧ σ.1 < 4 := ⟨c, by omega⟩
              rw [if_pos cq, if_pos c, if_pos cq, if_pos c]
              exact ⟨rfl, rfl⟩
            · have cq : ¬ (j = σ.1 ∧ σ.1 < 4) := fun q => c q.1
              rw [if_neg cq, if_neg c, if_neg cq, if_neg c]
              exact e4 j (by omega) h4
