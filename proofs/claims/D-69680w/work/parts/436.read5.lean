/-! ===== READING, 5: the model reads the head ===== -/
theorem bt_bn {x : Int32} (h : bt x) : (0 ≤ x.toInt ∧ (bn x : Int) = x.toInt) ∨ (x.toInt < 0 ∧ (bn x : Int) = x.toInt + 256) := by
  have h1 := bn_int x
  unfold bt at h
  omega
theorem bt_is {x : Int32} (h : bt x) {c : Nat} (hc : c ≤ 127) : x = iw (c : Int) ↔ bn x = c := by
  have h1 := bt_bn h
  rw [← Int32.toInt_inj, iw_toInt (by omega) (by omega)]
  unfold bt at h
  omega
theorem bt_gt {x : Int32} (h : bt x) {c : Nat} (hc : c ≤ 127) : (x < 0 ∨ iw (c : Int) < x) ↔ c < bn x := by
  have h1 := bt_bn h
  rw [Int32.lt_iff_toInt_lt, Int32.lt_iff_toInt_lt, iw_toInt (by omega) (by omega), show (0 : Int32).toInt = 0 from rfl]
  unfold bt at h
  omega
theorem bt_eq {x : Int32} (h : bt x) (hc : bn x ≤ 127) : x = iw (bn x : Nat) := (bt_is h hc).mpr rfl
theorem two_or (b2 b3 : Int32) : j_ishl (b2 &&& 255) 8 ||| (b3 &&& 255) = iw ((bn b2 * 256 + bn b3 : Nat) : Int) := by
  have h2 := bn_lt b2
  have h3 := bn_lt b3
  rw [bn_and, bn_and, ish_l, ui_ni (by omega), show ui 8 % 32 = 8 from rfl, ni_or (by omega) (by omega), iw_ni]
theorem zRd_2 (g : Nat → Int32) (j : Nat) : zRd g j = bn (g (4 + 2 * j)) * 256 + bn (g (4 + 2 * j + 1)) := by
  show bn (g (4 + 2 * j)) * 256 ^ 1 + (bn (g (4 + 2 * j + 1)) * 256 ^ 0 + 0) = _
  omega
def pMd : Nat → Nat → Prop := fun a i => (a = 1068 ∧ i = 1127) ∨ a = 1075
def qMd : Nat → Nat → Prop := fun a _ => a = 1073
def rMd : Nat → Nat → Prop := fun a i => a = 1068 ∧ i = 1128
theorem rMd_st : ∀ p ∈ stR, ¬ rMd p.1 p.2.1 := by
  unfold rMd
  decide +kernel
def Mrow (M : Mem) (r cap : Nat) : Prop := r < m_nx M ∧ r ≠ 1068 ∧ r ≠ 1075 ∧ m_tg M r = 1002 ∧ m_ln M r = cap ∧ cap ≤ 60000
/-- the model's reader -/
def Mdr (M0 M : Mem) (ax : Nat) (k : Int32) : Prop := ST M ∧ Df pMd qMd rMd M0 M ∧ m_nx M = m_nx M0 + 1 ∧ m_sl M = m_sl M0 + ax ∧ cI M 1068 1127 = k ∧ cR M 1068 1128 = m_nx M0 ∧ m_tg M (m_nx M0) = 1005 ∧ m_ln M (m_nx M0) = ax ∧ ax ≤ 4
def MdF (M0 M : Mem) (p : Nat) : Prop := ST M ∧ Df pMd qMd rMd M0 M ∧ m_nx M ≤ m_nx M0 + 2 ∧ m_sl M ≤ m_sl M0 + 30 ∧ cI M 1075 1153 = iw (p : Int)
theorem mT_pMd (M : Mem) (c p : Int32) : Df pMd qMd rMd M (mT M c p) := ((Df.wI (P := pMd) (Q := qMd) (R := rMd) (M := M) (a := 1075) (i := 1152) c (Or.inr rfl)).trans (Df.wI (P := pMd) (Q := qMd) (R := rMd) (a := 1075) (i := 1153) p (Or.inr rfl))).trans (Df.new (P := pMd) (Q := qMd) (R := rMd) 64 (x_cn 64))
theorem x64_le : x_cn 64 ≤ 20 := by decide
theorem mT_nx (M : Mem) (c p : Int32) : m_nx (mT M c p) = m_nx M + 1 ∧ m_sl (mT M c p) ≤ m_sl M + 20 := ⟨rfl, by have := x64_le; show m_sl M + x_cn 64 ≤ _; omega⟩
theorem MdF.of {M : Mem} (h : ST M) (p : Nat) : MdF M (mT M 20 (iw (p : Int))) p := by
  obtain ⟨a, b⟩ := mT_nx M 20 (iw (p : Int))
  exact ⟨h.df (mT_pMd _ _ _) rMd_st, mT_pMd _ _ _, by omega, by omega, (mT_c 20 _ h.1).2⟩
theorem Mdr.fail {M0 M : Mem} {ax : Nat} {k : Int32} (h : Mdr M0 M ax k) (p : Nat) : MdF M0 (mT M 20 (iw (p : Int))) p := by
  obtain ⟨h1, h2, h3, h4, h5, h6, h7, h8, h9⟩ := h
  obtain ⟨a, b⟩ := mT_nx M 20 (iw (p : Int))
  exact ⟨h1.df (mT_pMd _ _ _) rMd_st, h2.trans (mT_pMd _ _ _), by omega, by omega, (mT_c 20 _ h1.1).2⟩
theorem M_bad {α : Type} {M : Mem} (h : ST M) {x : Int32} : ((F_X16_bad M 1068 x).bind fun z => (ie z.2 z.1).bind fun _ => (some (.inr (z.1, z.2)) : Option (α ⊕ (Nat × Mem)))) = some (.inr (m_nx M, mT M 20 x)) := by
  have t : m_tg (mT M 20 x) (m_nx M) = 64 := by
    show m_tg (m_new (wI (wI M 1075 1152 20) 1075 1153 x) 64 (x_cn 64)) (m_nx M) = 64
    exact tg_new.trans (if_pos rfl)
  unfold F_X16_bad
  simp only [g1068_1103, v1075, h, M_at h, Option.bind_some]
  unfold ie
  rw [if_pos t]
  rfl
theorem M_szl {M0 : Mem} {r cap e ax : Nat} {k : Int32} {g : Nat → Int32} (hg : g = cI M0 r) (b : Mrow M0 r cap) (hc : e ≤ cap) : ∀ (m N j : Nat) (M : Mem), j + m = ax → m + 1 ≤ N → Mdr M0 M ax k → 4 + 2 * j ≤ e → (∀ i, i < j → cI M (m_nx M0) i = iw (zRd g i : Nat) ∧ zRd g i ≤ 4096) →
    (∀ p, szE g e m j = some p → ∃ x M', F_X16_headOf_b163 N M 1068 r (iw (e : Int)) (iw ((4 + 2 * j : Nat) : Int)) (iw (j : Int)) = some (.inr (x, M')) ∧ MdF M0 M' p) ∧
    (szE g e m j = none → ∃ M', F_X16_headOf_b163 N M 1068 r (iw (e : Int)) (iw ((4 + 2 * j : Nat) : Int)) (iw (j : Int)) = some (.inl (iw ((4 + 2 * ax : Nat) : Int), M')) ∧ Mdr M0 M' ax k ∧ 4 + 2 * ax ≤ e ∧ ∀ i, i < ax → cI M' (m_nx M0) i = iw (zRd g i : Nat) ∧ zRd g i ≤ 4096) := by
  obtain ⟨b1, b2, b3, b4, b5, b6⟩ := b
  intro m
  induction m with
  | zero =>
    intro N j M hj hN hr he hz
    obtain ⟨N, rfl⟩ : ∃ y, N = y + 1 := ⟨N - 1, by omega⟩
    have : j = ax := by omega
    subst this
    obtain ⟨h1, h2, h3, h4, h5, h6, h7, h8, h9⟩ := id hr
    refine ⟨fun p hp => by exact absurd hp (by show ¬ (none : Option Nat) = some p; exact fun q => by cases q), fun _ => ⟨M, ?_, hr, he, hz⟩⟩
    show F_X16_headOf_b163_st (F_X16_headOf_b163 N) M 1068 _ _ _ _ = _
    unfold F_X16_headOf_b163_st
    simp only [g1068_1128, h1, h6, an_of h7 (by decide) h8, Option.bind_some]
    rw [if_neg (by rw [iw_le4 (by omega) (by omega)]; omega)]
  | succ m ih =>
    intro N j M hj hN hr he hz
    obtain ⟨N, rfl⟩ : ∃ y, N = y + 1 := ⟨N - 1, by omega⟩
    obtain ⟨h1, h2, h3, h4, h5, h6, h7, h8, h9⟩ := id hr
    have e0 : szE g e (m + 1) j = if e < 4 + 2 * j + 2 then some (4 + 2 * j) else if 4096 < zRd g j then some (4 + 2 * j) else szE g e m (j + 1) := rfl
    have st0 : ∀ x, F_X16_headOf_b163 (N + 1) M 1068 r (iw (e : Int)) (iw ((4 + 2 * j : Nat) : Int)) (iw (j : Int)) = x ↔ F_X16_headOf_b163_st (F_X16_headOf_b163 N) M 1068 r (iw (e : Int)) (iw ((4 + 2 * j : Nat) : Int)) (iw (j : Int)) = x := fun x => Iff.rfl
    have q2 : iw (e : Int) - iw ((4 + 2 * j : Nat) : Int) < 2 ↔ e < 4 + 2 * j + 2 := by
      rw [iw_nsub he, show (2 : Int32) = iw ((2 : Nat) : Int) from rfl, iw_le4 (by omega) (by omega)]
      omega
    by_cases c1 : e < 4 + 2 * j + 2
    · rw [if_pos c1] at e0
      refine ⟨fun p hp => ⟨m_nx M, mT M 20 (iw ((4 + 2 * j : Nat) : Int)), ?_, ?_⟩, fun hn => by rw [e0] at hn; cases hn⟩
      · rw [st0]
        unfold F_X16_headOf_b163_st
        simp only [g1068_1128, h1, h6, an_of h7 (by decide) h8, Option.bind_some]
        rw [if_pos (by rw [iw_le4 (by omega) (by omega)]; omega), if_pos (q2.mpr c1)]
        simp only [v1068, h1, Option.bind_some]
        exact M_bad h1
      · rw [e0] at hp
        cases hp
        exact hr.fail _
    · rw [if_neg c1] at e0
      have dr := h2.2.2 r b1
      have by1 : ∀ i, i < cap → ab M r (iw (i : Int)) = some (g i) := fun i hi => by
        rw [ab_of (Or.inr (Or.inl (dr.1.trans b4))) (dr.2.1.trans b5) hi (by omega), h2.cI b1 (by unfold pMd; omega), hg]
      obtain ⟨B, hB⟩ : ∃ B, B = wI M (m_nx M0) j (iw (zRd g j : Nat)) := ⟨_, rfl⟩
      have sB : ST B := hB ▸ h1
      have cB : ∀ i, cI B (m_nx M0) i = if i = j then iw (zRd g j : Nat) else cI M (m_nx M0) i := fun i => by
        rw [hB, cI_wI]
        by_cases c : i = j
        · rw [if_pos ⟨rfl, c⟩, if_pos c]
        · rw [if_neg (by omega), if_neg c]
      have rB : Mdr M0 B ax k := by
        refine ⟨sB, ?_, by rw [hB]; exact h3, by rw [hB]; exact h4, ?_, by rw [hB]; exact h6, by rw [hB]; exact h7, by rw [hB]; exact h8, h9⟩
        · rw [hB]
          exact Df.then h2 (Df.wI (P := fun a _ => a = m_nx M0) (Q := n2) (R := n2) _ rfl) (fun x i hx hp => by exact absurd hp (by omega)) (fun _ _ _ q => q.elim) (fun _ _ _ q => q.elim)
        · have := h1.1
          have := h2.1
          have : m_nx M0 ≠ 1068 := fun hh => by
            rw [hh] at h7
            rw [t1068 h1] at h7
            exact absurd h7 (by decide)
          rw [hB, cI_wI, if_neg (by omega)]
          exact h5
      have bz : zRd g j < 65536 := bev_lt g 2 (4 + 2 * j)
      have hd : F_X16_headOf_b163 (N + 1) M 1068 r (iw (e : Int)) (iw ((4 + 2 * j : Nat) : Int)) (iw (j : Int)) = if 4096 < zRd g j then some (.inr (m_nx B, mT B 20 (iw ((4 + 2 * j : Nat) : Int)))) else F_X16_headOf_b163 N B 1068 r (iw (e : Int)) (iw ((4 + 2 * (j + 1) : Nat) : Int)) (iw ((j + 1 : Nat) : Int)) := by
        rw [st0]
        unfold F_X16_headOf_b163_st
        simp only [g1068_1128, h1, h6, an_of h7 (by decide) h8, Option.bind_some]
        rw [if_pos (by rw [iw_le4 (by omega) (by omega)]; omega), if_neg (fun hh => c1 (q2.mp hh)), show (iw ((4 + 2 * j : Nat) : Int) + (1 : Int32)) = iw ((4 + 2 * j + 1 : Nat) : Int) from iw_nad _ 1]
        simp only [by1 (4 + 2 * j) (by omega), by1 (4 + 2 * j + 1) (by omega), Option.bind_some]
        rw [two_or, ← zRd_2, si_of _ h7 h8 (by omega) (by omega), ← hB]
        simp only [g1068_1128, sB, rB.2.2.2.2.2.1, ai_of rB.2.2.2.2.2.2.1 rB.2.2.2.2.2.2.2.1 (show j < ax by omega) (by omega), cB, if_true, Option.bind_some]
        have q : (4096 : Int32) < iw (zRd g j : Nat) ↔ 4096 < zRd g j := by rw [show (4096 : Int32) = iw ((4096 : Nat) : Int) from rfl, iw_le4 (by omega) (by omega)]
        by_cases c : 4096 < zRd g j
        · rw [if_pos (q.mpr c), if_pos c]
          simp only [v1068, sB, Option.bind_some]
          exact M_bad sB
        · rw [if_neg (fun hh => c (q.mp hh)), if_neg c, show iw ((4 + 2 * j : Nat) : Int) + (2 : Int32) = iw ((4 + 2 * (j + 1) : Nat) : Int) from iw_nad _ 2, show iw (j : Int) + 1 = iw ((j + 1 : Nat) : Int) from iw_nad j 1]
      by_cases c2 : 4096 < zRd g j
      · rw [if_pos c2] at e0 hd
        exact ⟨fun p hp => ⟨_, _, hd, by rw [e0] at hp; cases hp; exact rB.fail _⟩, fun hn => by rw [e0] at hn; cases hn⟩
      · rw [if_neg c2] at e0 hd
        have ih' := ih N (j + 1) B (by omega) (by omega) rB (by omega) (fun i hi => by
          rw [cB]
          by_cases ci : i = j
          · rw [if_pos ci, ci]
            exact ⟨rfl, by omega⟩
          · rw [if_neg ci]
            exact hz i (by omega))
        rw [e0, hd]
        exact ih'
