/-! ===== READING, 2: the engine reads sizes and cells ===== -/
theorem tb_l {α β : Type} {z : α} {k : α → Option (β ⊕ (Nat × Mem))} : tb (some (Sum.inl z)) k = k z := rfl
theorem tb_r {α β : Type} {z : Nat × Mem} {k : α → Option (β ⊕ (Nat × Mem))} : tb (some (Sum.inr z)) k = some (Sum.inr z) := rfl
theorem Rdr.go {M0 M : Mem} {r fr e a : Nat} (h : Rdr M0 M r fr e a) (a' : Nat) : Rdr M0 (wI M 1048 899 (iw ((fr + a' : Nat) : Int))) r fr e a' :=
  ⟨h.1, h.2.1.trans (Df.wI _ (Or.inl rfl)), h.2.2.1, h.2.2.2.1, h.2.2.2.2.1, by rw [cI_wI, if_neg (by decide)]; exact h.2.2.2.2.2.1, by rw [cI_wI, if_pos ⟨rfl, rfl⟩]⟩
theorem Rdr.w48 {M0 M : Mem} {r fr e a : Nat} (h : Rdr M0 M r fr e a) {i : Nat} (v : Int32) (hi : i ≠ 898) (hj : i ≠ 899) : Rdr M0 (wI M 1048 i v) r fr e a :=
  ⟨h.1, h.2.1.trans (Df.wI _ (Or.inl rfl)), h.2.2.1, h.2.2.2.1, h.2.2.2.2.1, by rw [cI_wI, if_neg (by omega)]; exact h.2.2.2.2.2.1, by rw [cI_wI, if_neg (by omega)]; exact h.2.2.2.2.2.2⟩
theorem Rdr.w49 {M0 M : Mem} {r fr e a : Nat} (h : Rdr M0 M r fr e a) (i : Nat) (v : Int32) : Rdr M0 (wI M 1049 i v) r fr e a :=
  ⟨h.1, h.2.1.trans (Df.wI _ (Or.inr (Or.inl rfl))), h.2.2.1, h.2.2.2.1, h.2.2.2.2.1, by rw [cI_wI, if_neg (by omega)]; exact h.2.2.2.2.2.1, by rw [cI_wI, if_neg (by omega)]; exact h.2.2.2.2.2.2⟩
theorem Rdr.w50 {M0 M : Mem} {r fr e a : Nat} (h : Rdr M0 M r fr e a) (i : Nat) (v : Int64) : Rdr M0 (wJ M 1050 i v) r fr e a :=
  ⟨h.1, h.2.1.trans (Df.wJ _ rfl), h.2.2.1, h.2.2.2.1, h.2.2.2.2.1, h.2.2.2.2.2.1, h.2.2.2.2.2.2⟩
theorem E_must1 {M : Mem} {w f : Int32} : F_X13_must M 1048 1 w f = some (.inl M) := by
  unfold F_X13_must
  rw [if_neg (by decide)]
theorem E_must0 {M0 M : Mem} {r fr e a w : Nat} (h : Rdr M0 M r fr e (a + w)) : F_X13_must M 1048 0 (iw (w : Int)) (iw (fr : Int)) = some (.inr (1003, eT M 20 (iw (a : Int)))) := by
  obtain ⟨h1, h2, h3, h4, h5, h6, h7⟩ := id h
  unfold F_X13_must
  rw [if_pos rfl]
  simp only [g1048_899, v1048, h1, h7, Option.bind_some]
  exact E_wrong h1 (by rw [iw_nsub (by omega), show fr + (a + w) - w = fr + a by omega])
theorem E_sz {M0 : Mem} {r cap fr e ax : Nat} {k : Int32} (b : Brow M0 r cap) (hc : fr + e ≤ cap) (hax : ax ≤ 4) (hk : Lk k) : ∀ (m N j : Nat) (M : Mem), j + m = ax → m + 1 ≤ N → Rdr M0 M r fr e (4 + 2 * j) → 4 + 2 * j ≤ e → cI M 1048 901 = iw (ax : Int) → cI M 1048 902 = k → (∀ i, i < j → cI M 1049 i = iw (zRd (fun p => cI M0 r (fr + p)) i : Nat) ∧ zRd (fun p => cI M0 r (fr + p)) i ≤ 4096) →
    (∀ p, szE (fun p => cI M0 r (fr + p)) e m j = some p → ∃ M', F_X13_read_b237 N M 1048 (iw (fr : Int)) (iw (j : Int)) = some (.inr (1003, M')) ∧ RdF M0 M' p) ∧
    (szE (fun p => cI M0 r (fr + p)) e m j = none → ∃ M', F_X13_read_b237 N M 1048 (iw (fr : Int)) (iw (j : Int)) = F_X13_read_b315 xN M' 1048 (iw (fr : Int)) (cnt (zRd (fun p => cI M0 r (fr + p))) ax) (iw (wdt k : Nat)) 0 ∧ Rdr M0 M' r fr e (4 + 2 * ax) ∧ 4 + 2 * ax ≤ e ∧ cI M' 1048 901 = iw (ax : Int) ∧ cI M' 1048 902 = k ∧ ∀ i, i < ax → cI M' 1049 i = iw (zRd (fun p => cI M0 r (fr + p)) i : Nat) ∧ zRd (fun p => cI M0 r (fr + p)) i ≤ 4096) := by
  obtain ⟨g, hg⟩ : ∃ g : Nat → Int32, g = fun p => cI M0 r (fr + p) := ⟨_, rfl⟩
  rw [← hg]
  have hcap := b.2.2.2.2
  intro m
  induction m with
  | zero =>
    intro N j M hj hN hr he h1 h2 hz
    obtain ⟨N, rfl⟩ : ∃ y, N = y + 1 := ⟨N - 1, by omega⟩
    have : j = ax := by omega
    subst this
    refine ⟨fun p hp => by exact absurd hp (by show ¬ (none : Option Nat) = some p; exact fun q => by cases q), fun _ => ⟨M, ?_, hr, he, h1, h2, hz⟩⟩
    show F_X13_read_b237_st (F_X13_read_b237 N) M 1048 _ _ = _
    unfold F_X13_read_b237_st
    simp only [g1048_901, hr.1, h1, Option.bind_some]
    rw [if_neg (by rw [iw_le4 (by omega) (by omega)]; omega)]
    simp only [g1048_900, g1048_902, h2, hr.1, E_cnt (t1049 hr.1) (l1049 hr.1) (by decide) hax hz, (wdt_eq hk).1, Option.bind_some]
  | succ m ih =>
    intro N j M hj hN hr he h1 h2 hz
    obtain ⟨N, rfl⟩ : ∃ y, N = y + 1 := ⟨N - 1, by omega⟩
    have e0 : szE g e (m + 1) j = if e < 4 + 2 * j + 2 then some (4 + 2 * j) else if 4096 < zRd g j then some (4 + 2 * j) else szE g e m (j + 1) := rfl
    have en := E_numR (w := 2) hr b hc he (by decide)
    rw [← hg] at en
    have st0 : ∀ x, F_X13_read_b237 (N + 1) M 1048 (iw (fr : Int)) (iw (j : Int)) = x ↔ F_X13_read_b237_st (F_X13_read_b237 N) M 1048 (iw (fr : Int)) (iw (j : Int)) = x := fun x => Iff.rfl
    by_cases c1 : e < 4 + 2 * j + 2
    · rw [if_pos c1] at e0
      refine ⟨fun p hp => ⟨eT M 20 (iw ((4 + 2 * j : Nat) : Int)), ?_, ?_⟩, fun hn => by rw [e0] at hn; cases hn⟩
      · rw [st0]
        unfold F_X13_read_b237_st
        simp only [g1048_901, hr.1, h1, Option.bind_some]
        rw [if_pos (by rw [iw_le4 (by omega) (by omega)]; omega)]
        simp only [g1048_900, v1048, hr.1, Option.bind_some]
        rw [show (2 : Int32) = iw ((2 : Nat) : Int) from rfl, en.2 c1, tb_r]
      · rw [e0] at hp
        cases hp
        exact hr.fail _
    · rw [if_neg c1] at e0
      obtain ⟨A, hA⟩ : ∃ A, A = wI M 1048 899 (iw ((fr + (4 + 2 * j + 2) : Nat) : Int)) := ⟨_, rfl⟩
      have rA : Rdr M0 A r fr e (4 + 2 * j + 2) := hA ▸ hr.go _
      obtain ⟨B, hB⟩ : ∃ B, B = wI A 1049 j (iw (zRd g j : Nat)) := ⟨_, rfl⟩
      have rB : Rdr M0 B r fr e (4 + 2 * j + 2) := hB ▸ rA.w49 _ _
      have bz : zRd g j < 65536 := by
        have := bev_lt g 2 (4 + 2 * j)
        exact this
      have cB : cI B 1049 j = iw (zRd g j : Nat) := by rw [hB, cI_wI, if_pos ⟨rfl, rfl⟩]
      have hd : F_X13_read_b237 (N + 1) M 1048 (iw (fr : Int)) (iw (j : Int)) = if 4096 < zRd g j then F_X13_read_b279 (F_X13_read_b237 N) B 1048 0 1048 (iw (fr : Int)) (iw (j : Int)) else F_X13_read_b279 (F_X13_read_b237 N) B 1048 1 1048 (iw (fr : Int)) (iw (j : Int)) := by
        rw [st0]
        unfold F_X13_read_b237_st
        simp only [g1048_901, hr.1, h1, Option.bind_some]
        rw [if_pos (by rw [iw_le4 (by omega) (by omega)]; omega)]
        simp only [g1048_900, v1048, hr.1, Option.bind_some]
        rw [show (2 : Int32) = iw ((2 : Nat) : Int) from rfl, en.1 (by omega), ← hA, tb_l]
        show (si A 1049 (iw (j : Int)) (nl (zRd g j)).toInt32).bind _ = _
        rw [nl_i32', si_of _ (t1049 rA.1) (l1049 rA.1) (by omega) (by decide), ← hB]
        simp only [g1048_900, rB.1, ai_of (t1049 rB.1) (l1049 rB.1) (show j < 4 by omega) (by decide), cB, Option.bind_some]
        have q : (4096 : Int32) < iw (zRd g j : Nat) ↔ 4096 < zRd g j := by rw [show (4096 : Int32) = iw ((4096 : Nat) : Int) from rfl, iw_le4 (by omega) (by omega)]
        by_cases c : 4096 < zRd g j
        · rw [if_pos (q.mpr c), if_pos c]
        · rw [if_neg (fun hh => c (q.mp hh)), if_neg c]
      by_cases c2 : 4096 < zRd g j
      · rw [if_pos c2] at e0 hd
        refine ⟨fun p hp => ⟨eT B 20 (iw ((4 + 2 * j : Nat) : Int)), ?_, ?_⟩, fun hn => by rw [e0] at hn; cases hn⟩
        · rw [hd]
          unfold F_X13_read_b279
          simp only [v1048, rB.1, Option.bind_some]
          rw [show (2 : Int32) = iw ((2 : Nat) : Int) from rfl, E_must0 rB, tb_r]
        · rw [e0] at hp
          cases hp
          exact rB.fail _
      · rw [if_neg c2] at e0 hd
        have hd2 : F_X13_read_b237 (N + 1) M 1048 (iw (fr : Int)) (iw (j : Int)) = F_X13_read_b237 N B 1048 (iw (fr : Int)) (iw ((j + 1 : Nat) : Int)) := by
          rw [hd]
          unfold F_X13_read_b279
          simp only [v1048, rB.1, Option.bind_some]
          rw [E_must1, tb_l, ← show iw (j : Int) + 1 = iw ((j + 1 : Nat) : Int) from iw_nad j 1]
        have ih' := ih N (j + 1) B (by omega) (by omega) (by rw [show 4 + 2 * (j + 1) = 4 + 2 * j + 2 by omega]; exact rB) (by omega) (by rw [hB, cI_wI, if_neg (by omega), hA, cI_wI, if_neg (by decide)]; exact h1) (by rw [hB, cI_wI, if_neg (by omega), hA, cI_wI, if_neg (by decide)]; exact h2) (fun i hi => by
          by_cases ci : i = j
          · subst ci
            exact ⟨cB, by omega⟩
          · rw [hB, cI_wI, if_neg (by omega), hA, cI_wI, if_neg (by omega)]
            exact hz i (by omega))
        rw [e0, hd2]
        exact ih'
theorem E_chain {M : Mem} {k : Int32} {v1 v2 v3 : Int32} {v : Int64} (h : ST M) (hk : cI M 1048 902 = k) : (if k = 1 then F_X13_cell_b23 M 1048 v1 v2 v3 (j_i2b v.toInt32).toInt64 else F_X13_cell_b23 M 1048 v1 v2 v3 v) = F_X13_cell_b52 M 1048 v1 v2 v3 (cvk k v) := by
  have a : ∀ v, F_X13_cell_b38 M 1048 v1 v2 v3 v = if k = 4 then F_X13_cell_b52 M 1048 v1 v2 v3 v.toInt32.toInt64 else F_X13_cell_b52 M 1048 v1 v2 v3 v := fun v => by
    unfold F_X13_cell_b38
    simp only [g1048_902, h, hk, Option.bind_some]
  have b : ∀ v, F_X13_cell_b23 M 1048 v1 v2 v3 v = if k = 2 then F_X13_cell_b38 M 1048 v1 v2 v3 (j_i2s v.toInt32).toInt64 else F_X13_cell_b38 M 1048 v1 v2 v3 v := fun v => by
    unfold F_X13_cell_b23
    simp only [g1048_902, h, hk, Option.bind_some]
  unfold cvk
  by_cases c1 : k = 1
  · rw [if_pos c1, if_pos c1, b, if_neg (by rw [c1]; decide), a, if_neg (by rw [c1]; decide)]
  · rw [if_neg c1, if_neg c1]
    by_cases c2 : k = 2
    · rw [if_pos c2, b, if_pos c2, a, if_neg (by rw [c2]; decide)]
    · rw [if_neg c2, b, if_neg c2, a]
      by_cases c4 : k = 4
      · rw [if_pos c4, if_pos c4]
      · rw [if_neg c4, if_neg c4]
theorem E_cellR {M0 M : Mem} {r cap fr e a i : Nat} {k : Int32} (h : Rdr M0 M r fr e a) (b : Brow M0 r cap) (hc : fr + e ≤ cap) (ha : a ≤ e) (hk : Lk k) (h2 : cI M 1048 902 = k) (hi : i < 30000) :
    (e < a + wdt k → F_X13_cell M 1048 (iw (i : Int)) (iw (wdt k : Nat)) (iw (fr : Int)) = some (.inr (1003, eT M 20 (iw (a : Int))))) ∧
    (a + wdt k ≤ e → F_X23_isBits k (cRd (fun p => cI M0 r (fr + p)) k a) = some 0 → ∃ M', F_X13_cell M 1048 (iw (i : Int)) (iw (wdt k : Nat)) (iw (fr : Int)) = some (.inr (1003, M')) ∧ RdF M0 M' a) ∧
    (a + wdt k ≤ e → ¬ F_X23_isBits k (cRd (fun p => cI M0 r (fr + p)) k a) = some 0 → F_X13_cell M 1048 (iw (i : Int)) (iw (wdt k : Nat)) (iw (fr : Int)) = some (.inl (wJ (wI M 1048 899 (iw ((fr + (a + wdt k) : Nat) : Int))) 1050 i (cRd (fun p => cI M0 r (fr + p)) k a)))) := by
  obtain ⟨w1, w2, w3, w4⟩ := wdt_eq hk
  have en := E_numR (w := wdt k) h b hc ha w4
  have key : a + wdt k ≤ e → F_X13_cell M 1048 (iw (i : Int)) (iw (wdt k : Nat)) (iw (fr : Int)) = F_X13_cell_b52 (wI M 1048 899 (iw ((fr + (a + wdt k) : Nat) : Int))) 1048 (iw (i : Int)) (iw (wdt k : Nat)) (iw (fr : Int)) (cRd (fun p => cI M0 r (fr + p)) k a) := fun q => by
    unfold F_X13_cell
    simp only [v1048, h.1, Option.bind_some]
    rw [en.1 q, tb_l]
    have c : cI (wI M 1048 899 (iw ((fr + (a + wdt k) : Nat) : Int))) 1048 902 = k := by rw [cI_wI, if_neg (by decide)]; exact h2
    simp only [g1048_902, h.1, ST_wI, c, Option.bind_some]
    exact E_chain (k := k) h.1 c
  obtain ⟨z, z1, -, z3, -⟩ := bits_eq hk (cRd (fun p => cI M0 r (fr + p)) k a)
  obtain ⟨A, hA⟩ : ∃ A, A = wI M 1048 899 (iw ((fr + (a + wdt k) : Nat) : Int)) := ⟨_, rfl⟩
  have rA : Rdr M0 A r fr e (a + wdt k) := hA ▸ h.go _
  have cA : cI A 1048 902 = k := by rw [hA, cI_wI, if_neg (by decide)]; exact h2
  rw [← hA] at key
  refine ⟨fun q => ?_, fun q hz => ⟨eT A 20 (iw (a : Int)), ?_, rA.fail _⟩, fun q hz => ?_⟩
  · unfold F_X13_cell
    simp only [v1048, h.1, Option.bind_some]
    rw [en.2 q, tb_r]
  · rw [key q]
    unfold F_X13_cell_b52
    simp only [g1048_902, v1048, rA.1, cA, hz, Option.bind_some]
    rw [E_must0 rA, tb_r]
  · rw [key q, ← hA]
    have z1' : z = 1 := by
      rcases z3 with e | e
      · rw [z1, e] at hz
        exact absurd rfl hz
      · exact e
    rw [z1'] at z1
    unfold F_X13_cell_b52
    simp only [g1048_902, v1048, rA.1, cA, z1, Option.bind_some]
    rw [E_must1, tb_l]
    simp only [g1048_903, rA.1, sj_of _ (t1050 rA.1) (l1050 rA.1) hi (show (30000 : Nat) < 2147483648 by decide), Option.bind_some]
