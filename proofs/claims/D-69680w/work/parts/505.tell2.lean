/-! ===== EXACT SOLUTIONS, 16: the engine tells the fractions ===== -/
theorem E_common {M : Mem} (h : ST M) {px pd d : Nat} {x : Int} (ex : EB M px x) (ed : EB M pd (d : Int)) (hx : x.natAbs < 2 ^ 336) (l1 : px < 110) (l2 : pd < 110) : ∃ M', F_X8_common M 1025 (iw (px : Int)) (iw (pd : Int)) = some M' ∧ EB M' 124 ((Nat.gcd d x.natAbs : Nat) : Int) ∧ Dw (pT sCm) M M' := by
  have hxN : xN = 1099511627776 := rfl
  obtain ⟨A, a1, a2, a3⟩ := E_put (q := 124) h ed (by decide) (by omega)
  have sA := a3.st h
  obtain ⟨B, b1, b2, b3⟩ := E_put (q := 120) sA (ex.dw h a3 (fun a c z w => by unfold pB at *; omega)) (by decide) (by omega)
  have sB := b3.st sA
  have bl := E_isBelow sB b2
  have e4 := a2.dw sA b3 (fun a c z w => by unfold pB at *; omega)
  have a1' : F_X9_put M 1026 (iw (pd : Int)) 124 = some A := a1
  have b1' : F_X9_put A 1026 (iw (px : Int)) 120 = some B := b1
  have bl' : F_X9_isBelow B 1026 120 = some (if x < 0 then 1 else 0) := bl
  have dB : Dw (pT sCm) M B := (a3.mono (pB_T (by unfold sCm; omega))).trans (b3.mono (pB_T (by unfold sCm; omega)))
  obtain ⟨L, hL⟩ : ∃ L, L = 336 := ⟨_, rfl⟩
  rw [← hL] at hx
  obtain ⟨N, hN⟩ : ∃ N, N + 1 + 2 * L = xN := ⟨xN - 1 - 2 * L, by omega⟩
  by_cases c : x < 0
  · obtain ⟨C, c1, c2, c3⟩ := E_trn sB b2
    have sC := c3.st sB
    have c1' : F_X9_turn B 1026 120 = some C := c1
    rw [show -x = ((x.natAbs : Nat) : Int) by omega] at c2
    obtain ⟨E, f1, f2, f3⟩ := E_gcd L N d x.natAbs C hx sC (e4.dw sB c3 (fun a c z w => by unfold pB at *; omega)) c2
    rw [hN] at f1
    refine ⟨E, ?_, f2, (dB.trans (c3.mono (pB_T (by unfold sCm; omega)))).trans f3⟩
    rw [if_pos c] at bl'
    simp only [F_X8_common, g1025_576, v1026, h, a1', sA, b1', sB, bl', c1', Option.bind_some]
    rw [if_neg (by decide)]
    exact f1
  · rw [show x = ((x.natAbs : Nat) : Int) by omega] at b2
    obtain ⟨E, f1, f2, f3⟩ := E_gcd L N d x.natAbs B hx sB e4 b2
    rw [hN] at f1
    refine ⟨E, ?_, f2, dB.trans f3⟩
    rw [if_neg c] at bl'
    simp only [F_X8_common, g1025_576, v1026, h, a1', sA, b1', sB, bl', Option.bind_some, if_true]
    exact f1
def gdf (x d : Int) : Prop := isL (nmr x d) ∧ isL (dnm x d)
def Dq (M M' : Mem) : Prop := Df pW (fun a _ => a = 1033 ∨ a = 1034) n2 M M' ∧ m_nx M' = m_nx M ∧ m_sl M' = m_sl M
theorem Dq.trans {M A B : Mem} (h : Dq M A) (k : Dq A B) : Dq M B := ⟨h.1.trans k.1, k.2.1.trans h.2.1, k.2.2.trans h.2.2⟩
theorem Dw.q {M A : Mem} (d : Dw pW M A) : Dq M A := ⟨d.1.mono (fun _ _ q => q) (fun _ _ q => q.elim) (fun _ _ q => q), d.2.1, d.2.2⟩
/-- one row -/
theorem E_frac {M : Mem} (h : ST M) {n k : Nat} {ρ : Nat → Nat} {x d : Int} (er : ERr M n ρ) (hk : k < n) (ex : EB M (11 * ρ k + n) x) (ed : EB M (11 * ρ k + k) d) (d0 : d ≠ 0) (hx : x.natAbs < 2 ^ 336) {k2 : Mem → Nat → Int32 → Option (Int32 × Mem)} :
    ∃ M', Dw (pT (fun s => s = 11 * ρ k + n ∨ s = 11 * ρ k + k ∨ sCm s)) M M' ∧ EB M' 120 (nmr x d) ∧ EB M' 121 (dnm x d) ∧ F_X8_tell_b2_st k2 M 1025 (iw (k : Int)) = ((F_X9_isLong M' 1026 120).bind fun z11 => if z11 = 0 then some (iw (k : Int), M') else (F_X9_isLong M' 1026 121).bind fun z14 => if z14 = 0 then some (iw (k : Int), M') else (F_X9_worth M' 1026 120).bind fun z18 => (sj M' 1033 (iw (k : Int)) z18).bind fun M19 => (F_X9_worth M19 1026 121).bind fun z23 => (sj M19 1034 (iw (k : Int)) z23).bind fun M24 => k2 M24 1025 (iw ((k + 1 : Nat) : Int))) := by
  obtain ⟨n10, c577, rows, inj⟩ := er
  have rk := rows k hk
  have lk := rk.2
  obtain ⟨px, hpx⟩ : ∃ px, px = 11 * ρ k + n := ⟨_, rfl⟩
  obtain ⟨pd, hpd⟩ : ∃ pd, pd = 11 * ρ k + k := ⟨_, rfl⟩
  have plx := E_plc (n := n) h n (show k < 10 by omega) rk.1
  have pld := E_plc (n := n) h k (show k < 10 by omega) rk.1
  rw [← hpx] at ex plx ⊢
  rw [← hpd] at ed pld ⊢
  have dne : px ≠ pd := by omega
  have lx : px < 110 + 11 := by omega
  -- what is done when both are turned
  have mid : ∀ (A : Mem) (x' : Int), Dw (pT (fun s => s = px ∨ s = pd ∨ sCm s)) M A → EB A px x' → EB A pd ((d.natAbs : Nat) : Int) → x'.natAbs = x.natAbs → x' = (if d < 0 then -x else x) → ∃ M', Dw (pT (fun s => s = px ∨ s = pd ∨ sCm s)) M M' ∧ EB M' 120 (nmr x d) ∧ EB M' 121 (dnm x d) ∧ F_X8_tell_b54 k2 A 1025 (iw (k : Int)) (iw (px : Int)) (iw (pd : Int)) = ((F_X9_isLong M' 1026 120).bind fun z11 => if z11 = 0 then some (iw (k : Int), M') else (F_X9_isLong M' 1026 121).bind fun z14 => if z14 = 0 then some (iw (k : Int), M') else (F_X9_worth M' 1026 120).bind fun z18 => (sj M' 1033 (iw (k : Int)) z18).bind fun M19 => (F_X9_worth M19 1026 121).bind fun z23 => (sj M19 1034 (iw (k : Int)) z23).bind fun M24 => k2 M24 1025 (iw ((k + 1 : Nat) : Int))) := by
    intro A x' dA eA fA hab hx'
    have sA := dA.st h
    obtain ⟨B, b1, b2, b3⟩ := E_common sA eA fA (by omega) (by omega) (by omega)
    have sB := b3.st sA
    rw [hab, Nat.gcd_comm] at b2
    obtain ⟨g, hg⟩ : ∃ g, g = Nat.gcd x.natAbs d.natAbs := ⟨_, rfl⟩
    rw [← hg] at b2
    have g0 : g ≠ 0 := fun z => by
      have : 0 < Nat.gcd x.natAbs d.natAbs := Nat.gcd_pos_of_pos_right _ (by omega)
      omega
    obtain ⟨C, c1, c2, -, c4⟩ := E_div (p := px) (q := 124) (to := 120) (lf := 123) sB (eA.dt sA b3 (by unfold sCm; omega)) b2 (by omega) (by decide) (by decide) (by omega) (by decide) (by omega) (by decide) (by decide)
    have sC := c4.st sB
    have dn : ∀ {t : Nat}, t ≠ 120 → t ≠ 123 → ∀ a c, pB t a c → ¬ pD 120 123 a c := fun {t} n1 n2 a c z w => by
      unfold pD pB at *; omega
    obtain ⟨E, f1, f2, -, f4⟩ := E_div (p := pd) (q := 124) (to := 121) (lf := 123) sC ((fA.dt sA b3 (by unfold sCm; omega)).dw sB c4 (dn (by omega) (by omega))) (b2.dw sB c4 (dn (by decide) (by decide))) (by omega) (by decide) (by decide) (by omega) (by decide) (by omega) (by decide) (by decide)
    have sE := f4.st sC
    have b1' := b1
    have c1' : F_X9_divide B 1026 (iw (px : Int)) 124 120 123 = some C := c1
    have f1' : F_X9_divide C 1026 (iw (pd : Int)) 124 121 123 = some E := f1
    refine ⟨E, ((dA.trans (b3.mono (pT_mono (fun t z => Or.inr (Or.inr z))))).trans (c4.mono (pD_T (Or.inr (Or.inr (by unfold sCm; omega))) (Or.inr (Or.inr (by unfold sCm; omega)))))).trans (f4.mono (pD_T (Or.inr (Or.inr (by unfold sCm; omega))) (Or.inr (Or.inr (by unfold sCm; omega))))), ?_, ?_, ?_⟩
    · have : nmr x d = x'.tdiv (g : Int) := by unfold nmr; rw [← hg, hx']
      rw [this]
      exact c2.dw sC f4 (fun a c z w => by unfold pD pB at *; omega)
    · have : dnm x d = ((d.natAbs : Nat) : Int).tdiv (g : Int) := by unfold dnm; rw [← hg]; rfl
      rw [this]
      exact f2
    · unfold F_X8_tell_b54
      simp only [v1025, v1026, g1025_576, sA, b1', sB, c1', sC, f1', sE, Option.bind_some, F_X8_tell_b112]
      have gg : ∀ (w : Mem) (v : Int64) (i : Int32), sj E 1033 i v = some w → ST w := fun w v i hw => by
        unfold sj at hw
        split at hw
        · injection hw with hw
          rw [← hw]
          exact sE
        · exact absurd hw (by simp)
      cases F_X9_isLong E 1026 120 with
      | none => rfl
      | some z11 =>
        simp only [Option.bind_some]
        split
        · rfl
        · cases F_X9_isLong E 1026 121 with
          | none => rfl
          | some z14 =>
            simp only [Option.bind_some]
            split
            · rfl
            · rw [g1025_579 sE]
              simp only [Option.bind_some]
              cases F_X9_worth E 1026 120 with
              | none => rfl
              | some z18 =>
                simp only [Option.bind_some]
                cases hs : sj E 1033 (iw (k : Int)) z18 with
                | none => rfl
                | some M19 =>
                  have s19 := gg _ _ _ hs
                  simp only [g1025_580, g1025_576, v1026, s19, Option.bind_some, iw_succ]
  have bl := E_isBelow h ed
  have hst : F_X8_tell_b2_st k2 M 1025 (iw (k : Int)) = if (if d < 0 then (1 : Int32) else 0) = 0 then F_X8_tell_b54 k2 M 1025 (iw (k : Int)) (iw (px : Int)) (iw (pd : Int)) else (F_X9_turn M 1026 (iw (pd : Int))).bind fun z37 => (gr z37 1025 576).bind fun t38 => (vg z37 t38 10).bind fun _ => (F_X9_turn z37 t38 (iw (px : Int))).bind fun z40 => F_X8_tell_b54 k2 z40 1025 (iw (k : Int)) (iw (px : Int)) (iw (pd : Int)) := by
    unfold F_X8_tell_b2_st
    rw [gi577 h, Option.bind_some, c577, if_pos (by rw [iw_le4 (by omega) (by omega)]; exact hk)]
    simp only [gi577 h, c577, v1025, h, plx, pld, g1025_576, v1026, bl, Option.bind_some]
  by_cases c : d < 0
  · obtain ⟨A, a1, a2, a3⟩ := E_trn h ed
    have sA := a3.st h
    obtain ⟨B, b1, b2, b3⟩ := E_trn sA (ex.dw h a3 (fun a c z w => by unfold pB at *; omega))
    have sB := b3.st sA
    obtain ⟨M', m1, m2, m3, m4⟩ := mid B (-x) ((a3.mono (pB_T (Or.inr (Or.inl rfl)))).trans (b3.mono (pB_T (Or.inl rfl)))) b2 (by rw [show ((d.natAbs : Nat) : Int) = -d by omega]; exact a2.dw sA b3 (fun a c z w => by unfold pB at *; omega)) (by omega) (by rw [if_pos c])
    refine ⟨M', m1, m2, m3, ?_⟩
    rw [hst, if_pos c, if_neg (by decide), a1]
    simp only [g1025_576, v1026, sA, b1, Option.bind_some]
    exact m4
  · obtain ⟨M', m1, m2, m3, m4⟩ := mid M x (Dw.refl _ _) ex (by rw [show ((d.natAbs : Nat) : Int) = d by omega]; exact ed) rfl (by rw [if_neg c])
    refine ⟨M', m1, m2, m3, ?_⟩
    rw [hst, if_neg c, if_pos rfl]
    exact m4
theorem E_tell_l {n : Nat} {ρ : Nat → Nat} {A : Nat → Vc} (hA : ∀ i, i < n → A i i ≠ 0 ∧ (A i n).natAbs < 2 ^ 336) : ∀ (e N k : Nat) (M : Mem), k + e = n → ST M → ERr M n ρ → (∀ i, k ≤ i → i < n → EB M (11 * ρ i + n) (A i n) ∧ EB M (11 * ρ i + i) (A i i)) →
    (∃ r, k ≤ r ∧ r < n ∧ (∀ i, k ≤ i → i < r → gdf (A i n) (A i i)) ∧ ¬ gdf (A r n) (A r r) ∧ ∃ M', F_X8_tell_b2 (N + 1 + e) M 1025 (iw (k : Int)) = some (iw (r : Nat), M') ∧ Dq M M') ∨
    ((∀ i, k ≤ i → i < n → gdf (A i n) (A i i)) ∧ ∃ M', F_X8_tell_b2 (N + 1 + e) M 1025 (iw (k : Int)) = some (-1, M') ∧ Dq M M' ∧ (∀ i, k ≤ i → i < n → cJ M' 1033 i = Int64.ofInt (nmr (A i n) (A i i)) ∧ cJ M' 1034 i = Int64.ofInt (dnm (A i n) (A i i))) ∧ ∀ i, i < k → cJ M' 1033 i = cJ M 1033 i ∧ cJ M' 1034 i = cJ M 1034 i) := by
  intro e
  induction e with
  | zero =>
    intro N k M hk h er _
    have : k = n := by omega
    subst this
    right
    refine ⟨fun i h1 h2 => by omega, M, ?_, ⟨Df.refl _ _ _ _, rfl, rfl⟩, fun i h1 h2 => by omega, fun i _ => ⟨rfl, rfl⟩⟩
    show F_X8_tell_b2_st (F_X8_tell_b2 N) M 1025 _ = _
    unfold F_X8_tell_b2_st
    rw [gi577 h, Option.bind_some, er.2.1, if_neg (by rw [iw_le4 (by have := er.1; omega) (by have := er.1; omega)]; omega)]
  | succ e ih =>
    intro N k M hk h er mat
    have er' := er
    obtain ⟨n10, c577, rows, inj⟩ := er'
    obtain ⟨ex, ed⟩ := mat k (Nat.le_refl _) (by omega)
    obtain ⟨B, dB, b1, b2, b3⟩ := E_frac h er (show k < n by omega) ex ed (hA k (by omega)).1 (hA k (by omega)).2 (k2 := F_X8_tell_b2 (N + 1 + e))
    have sB := dB.st h
    have hd : F_X8_tell_b2 (N + 1 + (e + 1)) M 1025 (iw (k : Int)) = _ := b3
    have dBq : Dq M B := (dB.mono pT_W).q
    have i1 := E_isLong sB b1
    have i2 := E_isLong sB b2
    have i1' : F_X9_isLong B 1026 120 = some (if (-9223372036854775808 ≤ nmr (A k n) (A k k) ∧ nmr (A k n) (A k k) ≤ 9223372036854775807) then 1 else 0) := i1
    have i2' : F_X9_isLong B 1026 121 = some (if (-9223372036854775808 ≤ dnm (A k n) (A k k) ∧ dnm (A k n) (A k k) ≤ 9223372036854775807) then 1 else 0) := i2
    rw [i1', i2'] at hd
    by_cases c1 : (-9223372036854775808 ≤ nmr (A k n) (A k k) ∧ nmr (A k n) (A k k) ≤ 9223372036854775807)
    · by_cases c2 : (-9223372036854775808 ≤ dnm (A k n) (A k k) ∧ dnm (A k n) (A k k) ≤ 9223372036854775807)
      · rw [if_pos c1, if_pos c2] at hd
        have w1 := E_worth sB b1 (by omega)
        obtain ⟨M1, hM1⟩ : ∃ M1, M1 = wJ B 1033 k (Int64.ofInt (nmr (A k n) (A k k))) := ⟨_, rfl⟩
        have s1 : ST M1 := hM1 ▸ sB
        have w2 := E_worth (M := M1) s1 (x := dnm (A k n) (A k k)) (p := 121) (hM1 ▸ b2) (by omega)
        obtain ⟨M2, hM2⟩ : ∃ M2, M2 = wJ M1 1034 k (Int64.ofInt (dnm (A k n) (A k k))) := ⟨_, rfl⟩
        have s2 : ST M2 := hM2 ▸ s1
        have w1' : F_X9_worth B 1026 120 = some (Int64.ofInt (nmr (A k n) (A k k))) := w1
        have w2' : F_X9_worth M1 1026 121 = some (Int64.ofInt (dnm (A k n) (A k k))) := w2
        simp only [Option.bind_some, w1', sj_of (Int64.ofInt (nmr (A k n) (A k k))) (t1033 sB) (l1033 sB) (show k < 10 by omega) (by decide), ← hM1, w2', sj_of (Int64.ofInt (dnm (A k n) (A k k))) (t1034 s1) (l1034 s1) (show k < 10 by omega) (by decide), ← hM2] at hd
        rw [if_neg (by decide), if_neg (by decide)] at hd
        have d2 : Dq B M2 := by
          rw [hM2, hM1]
          exact ⟨(Df.wJ _ (Or.inl rfl)).trans (Df.wJ _ (Or.inr rfl)), rfl, rfl⟩
        have er2 : ERr M2 n ρ := by
          have q1 : cI M2 1025 577 = cI M 1025 577 := by rw [hM2, hM1]; exact dB.ci h (by decide) (by unfold pT; omega)
          have q2 : ∀ i, cI M2 1032 i = cI M 1032 i := fun i => by rw [hM2, hM1]; exact dB.ci h (by decide) (by unfold pT; omega)
          exact ⟨n10, by rw [q1]; exact c577, fun i hi => by rw [q2]; exact rows i hi, inj⟩
        have mat2 : ∀ i, k + 1 ≤ i → i < n → EB M2 (11 * ρ i + n) (A i n) ∧ EB M2 (11 * ρ i + i) (A i i) := fun i h1 h2 => by
          have ne : ρ i ≠ ρ k := fun z => by have := inj i k h2 (by omega) z; omega
          have l1 := (rows i h2).2
          have l2 := (rows k (by omega)).2
          obtain ⟨m1, m2⟩ := mat i (by omega) h2
          have m1' : EB B (11 * ρ i + n) (A i n) := m1.dt h dB (by unfold sCm; omega)
          have m2' : EB B (11 * ρ i + i) (A i i) := m2.dt h dB (by unfold sCm; omega)
          rw [hM2, hM1]
          exact ⟨m1', m2'⟩
        have cj : ∀ i, cJ M2 1033 i = (if i = k then Int64.ofInt (nmr (A k n) (A k k)) else cJ B 1033 i) ∧ cJ M2 1034 i = (if i = k then Int64.ofInt (dnm (A k n) (A k k)) else cJ B 1034 i) := fun i => by
          rw [hM2, hM1, cJ_wJ, cJ_wJ, cJ_wJ, cJ_wJ]
          constructor
          · rw [if_neg (by omega)]
            by_cases c : i = k
            · rw [if_pos ⟨rfl, c⟩, if_pos c]
            · rw [if_neg (fun z => c z.2), if_neg c]
          · by_cases c : i = k
            · rw [if_pos ⟨rfl, c⟩, if_pos c]
            · rw [if_neg (fun z => c z.2), if_neg (by omega), if_neg c]
        have h0 := h.1
        rcases ih N (k + 1) M2 (by omega) s2 er2 mat2 with ⟨r, r1, r2, r3, r4, M', r5, r6⟩ | ⟨r3, M', r5, r6, r7, r8⟩
        · refine Or.inl ⟨r, by omega, r2, fun i g1 g2 => ?_, r4, M', hd.trans r5, (dBq.trans d2).trans r6⟩
          by_cases c : i = k
          · subst c; exact ⟨c1, c2⟩
          · exact r3 i (by omega) g2
        · refine Or.inr ⟨fun i g1 g2 => ?_, M', hd.trans r5, (dBq.trans d2).trans r6, fun i g1 g2 => ?_, fun i g => ?_⟩
          · by_cases c : i = k
            · subst c; exact ⟨c1, c2⟩
            · exact r3 i (by omega) g2
          · by_cases c : i = k
            · subst c
              obtain ⟨e1, e2⟩ := r8 i (by omega)
              rw [e1, e2, (cj i).1, (cj i).2, if_pos rfl, if_pos rfl]
              exact ⟨rfl, rfl⟩
            · exact r7 i (by omega) g2
          · obtain ⟨e1, e2⟩ := r8 i (by omega)
            rw [e1, e2, (cj i).1, (cj i).2, if_neg (by omega), if_neg (by omega), dB.1.cJ (by omega) (fun q => q), dB.1.cJ (by omega) (fun q => q)]
            exact ⟨rfl, rfl⟩
      · rw [if_pos c1, if_neg c2] at hd
        refine Or.inl ⟨k, Nat.le_refl _, by omega, fun i g1 g2 => by omega, fun q => c2 q.2, B, ?_, dBq⟩
        rw [hd]
        rfl
    · rw [if_neg c1] at hd
      refine Or.inl ⟨k, Nat.le_refl _, by omega, fun i g1 g2 => by omega, fun q => c1 q.1, B, ?_, dBq⟩
      rw [hd]
      rfl
