/-! ===== EXACT SOLUTIONS, 14: the engine clears all rows ===== -/
def pW : Nat → Nat → Prop := fun a _ => 1027 ≤ a ∧ a ≤ 1032
theorem pT_W {S : Nat → Prop} : ∀ a c, pT S a c → pW a c := fun a c q => by
  unfold pW
  rcases q with ⟨q1, -⟩ | ⟨q1, -⟩ | q | q <;> omega
theorem pB_W {t : Nat} : ∀ a c, pB t a c → pW a c := fun a c q => by unfold pB at q; unfold pW; omega
theorem gi577 {M : Mem} (h : ST M) : gi M 1025 577 = some (cI M 1025 577) := gi_of (t1025 h) (by decide)
theorem E_pvt {M : Mem} (h : ST M) {n k : Nat} {ρ : Nat → Nat} {A : Nat → Vc} (er : ERr M n ρ) (mat : ∀ i, i < n → ∀ j, j ≤ n → EB M (11 * ρ i + j) (A i j)) (hk : k < n) {k12 : Mem → Nat → Int32 → Option (Int32 × Mem)} : ∀ (e N : Nat), e ≤ n → F_X8_clear_b22 k12 (N + 1 + e) M 1025 (iw (k : Int)) (iw ((n - e : Nat) : Int)) = F_X8_clear_b52 k12 M 1025 (iw (k : Int)) (iw (pvt A n k e : Nat)) := by
  obtain ⟨n10, c577, rows, inj⟩ := er
  intro e
  induction e with
  | zero =>
    intro N _
    show F_X8_clear_b22_st k12 (F_X8_clear_b22 k12 N) M 1025 _ _ = _
    unfold F_X8_clear_b22_st
    rw [gi577 h, Option.bind_some, c577, if_neg (by rw [iw_le4 (by omega) (by omega)]; omega)]
    rfl
  | succ e ih =>
    intro N he
    show F_X8_clear_b22_st k12 (F_X8_clear_b22 k12 (N + 1 + e)) M 1025 _ _ = _
    unfold F_X8_clear_b22_st
    have ri := rows (n - (e + 1)) (by omega)
    have pl := E_plc (n := n) h k (show n - (e + 1) < 10 by omega) ri.1
    have iz := E_isZero h (mat (n - (e + 1)) (by omega) k (by omega)).1
    rw [gi577 h, Option.bind_some, c577, if_pos (by rw [iw_le4 (by omega) (by omega)]; omega)]
    simp only [g1025_576, v1025, v1026, h, pl, iz, Option.bind_some]
    unfold pvt
    by_cases c : A (n - (e + 1)) k = 0
    · rw [if_pos (show (A (n - (e + 1)) k).natAbs = 0 by omega), if_neg (by decide), if_pos c, iw_succ, show n - (e + 1) + 1 = n - e by omega]
      exact ih N (by omega)
    · rw [if_neg (show ¬ (A (n - (e + 1)) k).natAbs = 0 by omega), if_pos rfl, if_neg c]
theorem E_clear_l {n : Nat} : ∀ (e N k : Nat) (M : Mem) (ρ : Nat → Nat) (A A0 : Nat → Vc) (q : Int), k + e = n → ST M → ERr M n ρ → (∀ i, i < n → ∀ j, j ≤ n → EB M (11 * ρ i + j) (A i j)) → EB M 125 q → Ba n 2147483648 k q A A0 →
    (red n e k q A = none ∧ ∃ M', F_X8_clear_b12 (N + 1 + e) M 1025 (iw (k : Int)) = some (0, M') ∧ Dw pW M M') ∨ (∃ q' A' A0' ρ' M', red n e k q A = some (q', A') ∧ F_X8_clear_b12 (N + 1 + e) M 1025 (iw (k : Int)) = some (1, M') ∧ Dw pW M M' ∧ ERr M' n ρ' ∧ (∀ i, i < n → ∀ j, j ≤ n → EB M' (11 * ρ' i + j) (A' i j)) ∧ Ba n 2147483648 n q' A' A0') := by
  have hxN : xN = 1099511627776 := rfl
  intro e
  induction e with
  | zero =>
    intro N k M ρ A A0 q hk h er mat e5 ba
    have : k = n := by omega
    subst this
    right
    refine ⟨q, A, A0, ρ, M, rfl, ?_, Dw.refl _ _, er, mat, ba⟩
    show F_X8_clear_b12_st (F_X8_clear_b12 N) M 1025 _ = _
    unfold F_X8_clear_b12_st
    rw [gi577 h, Option.bind_some, er.2.1, if_neg (by rw [iw_le4 (by have := er.1; omega) (by have := er.1; omega)]; omega)]
  | succ e ih =>
    intro N k M ρ A A0 q hk h er mat e5 ba
    have er' := er
    obtain ⟨n10, c577, rows, inj⟩ := er'
    obtain ⟨p1, p2, p3⟩ := pvt_ge (A := A) (k := k) (n := n) (n - k) (by omega)
    obtain ⟨r, hr⟩ : ∃ r, r = pvt A n k (n - k) := ⟨_, rfl⟩
    have hd : F_X8_clear_b12 (N + 1 + (e + 1)) M 1025 (iw (k : Int)) = F_X8_clear_b52 (F_X8_clear_b12 (N + 1 + e)) M 1025 (iw (k : Int)) (iw (r : Nat)) := by
      show F_X8_clear_b12_st (F_X8_clear_b12 (N + 1 + e)) M 1025 _ = _
      unfold F_X8_clear_b12_st
      rw [gi577 h, Option.bind_some, c577, if_pos (by rw [iw_le4 (by omega) (by omega)]; omega)]
      obtain ⟨K, hK⟩ : ∃ K, K + 1 + (n - k) = xN := ⟨xN - 1 - (n - k), by omega⟩
      have := E_pvt h er mat (show k < n by omega) (k12 := F_X8_clear_b12 (N + 1 + e)) (n - k) K (by omega)
      rw [hK, show n - (n - k) = k by omega, ← hr] at this
      exact this
    rw [← hr] at p1 p2 p3
    by_cases cr : r = n
    · left
      refine ⟨?_, M, ?_, Dw.refl _ _⟩
      · unfold red
        rw [if_pos (by rw [← hr]; exact cr)]
      · rw [hd]
        unfold F_X8_clear_b52
        rw [gi577 h, Option.bind_some, c577, if_pos (by rw [cr])]
    · have hrn : r < n := by omega
      obtain ⟨A0', ba', bs⟩ := ba.stp (by decide) (show k < n by omega) (by rw [← hr]; exact cr)
      rw [← hr] at ba' bs
      have hred : red n (e + 1) k q A = red n e (k + 1) (A r k) (stp A k r q) := by
        conv => lhs; unfold red
        rw [if_neg (by rw [← hr]; exact cr), ← hr]
      -- rows are exchanged
      obtain ⟨M1, hM1⟩ : ∃ M1, M1 = wI (wI M 1032 r (iw (ρ k : Nat))) 1032 k (iw (ρ r : Nat)) := ⟨_, rfl⟩
      have d1 : Dw (at1 1032) M M1 := by
        rw [hM1]
        exact (Dw.w (P := at1 1032) (a := 1032) _ rfl).trans (Dw.w (P := at1 1032) (a := 1032) _ rfl)
      have s1 := d1.st h
      obtain ⟨σ, hσ⟩ : ∃ σ : Nat → Nat, σ = fun i => ρ (swr k r i) := ⟨_, rfl⟩
      obtain ⟨S, hS⟩ : ∃ S : Nat → Vc, S = fun i => A (swr k r i) := ⟨_, rfl⟩
      rw [← hS] at bs
      have er1 : ERr M1 n σ := by
        refine ⟨n10, by rw [d1.ci h (by decide) (by unfold at1; omega)]; exact c577, fun i hi => ⟨?_, by rw [hσ]; exact (rows _ (swr_lt (by omega) hrn hi)).2⟩, fun i j hi hj z => ?_⟩
        · rw [hM1, cI_wI, cI_wI, hσ]
          show _ = iw ((ρ (swr k r i) : Nat) : Int)
          unfold swr
          by_cases c1 : i = k
          · rw [if_pos ⟨rfl, c1⟩, if_pos c1]
          · rw [if_neg (fun z => c1 z.2), if_neg c1]
            by_cases c2 : i = r
            · rw [if_pos ⟨rfl, c2⟩, if_pos c2]
            · rw [if_neg (fun z => c2 z.2), if_neg c2]
              exact (rows i hi).1
        · rw [hσ] at z
          have := inj _ _ (swr_lt (by omega) hrn hi) (swr_lt (by omega) hrn hj) z
          rw [← swr_swr k r i, this, swr_swr]
      have mat1 : ∀ i, i < n → ∀ j, j ≤ n → EB M1 (11 * σ i + j) (S i j) := fun i hi j hj => by
        rw [hσ, hS]
        exact (mat _ (swr_lt (by omega) hrn hi) j hj).dw h d1 (fun a c z => by unfold pB at z; unfold at1; omega)
      have e51 : EB M1 125 q := e5.dw h d1 (fun a c z => by unfold pB at z; unfold at1; omega)
      have skk : S k = A r := by rw [hS]; show A (swr k r k) = A r; unfold swr; rw [if_pos rfl]
      have pk : S k k ≠ 0 := by rw [skk]; exact p3 hrn
      have hst : ∀ i, i ≠ k → stp A k r q i = fun j => (S k k * S i j - S i k * S k j).tdiv q := fun i hi => by
        funext j
        unfold stp
        rw [if_neg hi, hS]
      have hstk : stp A k r q k = S k := by
        funext j
        unfold stp
        rw [if_pos rfl, hS]
      obtain ⟨K, B, -, f1, dB, erB, e5B, matB⟩ := upl0 (σ := Unit) (fun N' M _ i => F_X8_clear_b91 (F_X8_clear_b12 (N + 1 + e)) N' M 1025 (iw (k : Int)) i) (n := n) (by omega) (fun i B _ => Dw pW M1 B ∧ ERr B n σ ∧ EB B 125 q ∧ ∀ x, x < n → ∀ j, j ≤ n → EB B (11 * σ x + j) (if x < i then stp A k r q x j else S x j))
        (fun N' B _ i hi hJ => by
          obtain ⟨dB, erB, e5B, mB⟩ := hJ
          have sB := dB.st s1
          have hgo : ∀ k12 N', i ≠ k → F_X8_clear_b91 k12 (N' + 1) B 1025 (iw (k : Int)) (iw (i : Int)) = (F_X8_clearRow B 1025 (iw (i : Int)) (iw (k : Int))).bind fun z4 => F_X8_clear_b91 k12 N' z4 1025 (iw (k : Int)) (iw ((i + 1 : Nat) : Int)) := fun k12 N' hik => by
            show F_X8_clear_b91_st k12 (F_X8_clear_b91 k12 N') B 1025 _ _ = _
            unfold F_X8_clear_b91_st F_X8_clear_b113
            rw [gi577 sB, Option.bind_some, erB.2.1, if_pos (by rw [iw_le4 (by omega) (by omega)]; exact hi), if_neg (fun z => hik (by have := (iw_eq (by omega) (by omega) (by omega) (by omega)).mp z; omega)), v1025 sB, Option.bind_some, iw_succ]
          by_cases c : i = k
          · refine ⟨B, (), ?_, dB, erB, e5B, fun x hx j hj => ?_⟩
            · show F_X8_clear_b91_st (F_X8_clear_b12 (N + 1 + e)) (F_X8_clear_b91 (F_X8_clear_b12 (N + 1 + e)) N') B 1025 _ _ = _
              unfold F_X8_clear_b91_st F_X8_clear_b113
              rw [gi577 sB, Option.bind_some, erB.2.1, if_pos (by rw [iw_le4 (by omega) (by omega)]; exact hi), if_pos (by rw [c]), iw_succ]
            · have := mB x hx j hj
              by_cases c2 : x < i + 1
              · rw [if_pos c2]
                by_cases c3 : x < i
                · rw [if_pos c3] at this; exact this
                · rw [if_neg c3] at this
                  have : x = k := by omega
                  subst this
                  rw [hstk]; exact ‹EB B _ _›
              · rw [if_neg c2]
                rw [if_neg (by omega)] at this; exact this
          · have mi := fun j hj => mB i hi j hj
            simp only [if_neg (Nat.lt_irrefl i)] at mi
            have mk := fun j hj => mB k (by omega) j hj
            have mk' : ∀ j, j ≤ n → EB B (11 * σ k + j) (S k j) := fun j hj => by
              have := mB k (by omega) j hj
              split at this
              · rw [hstk] at this; exact this
              · exact this
            obtain ⟨C, g1, g2, g3⟩ := E_clearRow sB erB mi mk' e5B bs (by omega) pk hi c
            have inj1 := er1.2.2.2
            refine ⟨C, (), ?_, dB.trans (g3.mono pT_W), ?_, e5B.dt sB g3 (by unfold sRow; have := (er1.2.2.1 i hi).2; omega), fun x hx j hj => ?_⟩
            · show F_X8_clear_b91 (F_X8_clear_b12 (N + 1 + e)) (N' + 1) B 1025 (iw (k : Int)) (iw (i : Int)) = _
              rw [hgo _ _ c, g1, Option.bind_some]
            · exact ⟨n10, by rw [g3.ci sB (by decide) (by unfold pT; omega)]; exact erB.2.1, fun x hx => ⟨by rw [g3.ci sB (by decide) (by unfold pT; omega)]; exact (erB.2.2.1 x hx).1, (erB.2.2.1 x hx).2⟩, inj1⟩
            · by_cases c2 : x = i
              · subst c2
                rw [if_pos (by omega), hst x c]
                exact g2 j hj
              · have l1 := (er1.2.2.1 x hx).2
                have ne : σ x ≠ σ i := fun z => c2 (inj1 x i hx hi z)
                have := (mB x hx j hj).dt sB g3 (by unfold sRow; omega)
                by_cases c3 : x < i
                · rw [if_pos c3] at this
                  rw [if_pos (by omega)]; exact this
                · rw [if_neg c3] at this
                  rw [if_neg (by omega)]; exact this) (M := M1) (s := ()) ⟨Dw.refl _ _, er1, e51, fun x hx j hj => by rw [if_neg (by omega)]; exact mat1 x hx j hj⟩
      have sB := dB.st s1
      have matB' : ∀ x, x < n → ∀ j, j ≤ n → EB B (11 * σ x + j) (stp A k r q x j) := fun x hx j hj => by
        have := matB x hx j hj
        rw [if_pos hx] at this
        exact this
      have lk := (erB.2.2.1 k (by omega)).2
      have ekk := matB' k (by omega) k (by omega)
      rw [hstk, skk] at ekk
      obtain ⟨C, g1, g2, g3⟩ := E_put (q := 125) sB ekk (by decide) (by omega)
      have sC := g3.st sB
      have erC : ERr C n σ := ⟨n10, by rw [g3.ci sB (by decide) (by unfold pB; omega)]; exact erB.2.1, fun x hx => ⟨by rw [g3.ci sB (by decide) (by unfold pB; omega)]; exact (erB.2.2.1 x hx).1, (erB.2.2.1 x hx).2⟩, erB.2.2.2⟩
      have hd2 : F_X8_clear_b12 (N + 1 + (e + 1)) M 1025 (iw (k : Int)) = F_X8_clear_b12 (N + 1 + e) C 1025 (iw ((k + 1 : Nat) : Int)) := by
        rw [hd]
        unfold F_X8_clear_b52
        have a1 : ai M 1032 (iw (r : Nat)) = some (iw (ρ r : Nat)) := by rw [ai_of (t1032 h) (l1032 h) (show r < 10 by omega) (by decide), (rows r hrn).1]
        have a2 : ai M 1032 (iw (k : Int)) = some (iw (ρ k : Nat)) := by rw [ai_of (t1032 h) (l1032 h) (show k < 10 by omega) (by decide), (rows k (by omega)).1]
        have sW : ST (wI M 1032 r (iw (ρ k : Nat))) := h
        have w1 := si_of (M := M) (a := 1032) (j := r) (iw (ρ k : Nat)) (t1032 h) (l1032 h) (show r < 10 by omega) (by decide)
        have w2 := si_of (M := wI M 1032 r (iw (ρ k : Nat))) (a := 1032) (j := k) (iw (ρ r : Nat)) (t1032 sW) (l1032 sW) (show k < 10 by omega) (by decide)
        rw [gi577 h, Option.bind_some, c577, if_neg (fun z => cr (by have := (iw_eq (by omega) (by omega) (by omega) (by omega)).mp z; omega))]
        simp only [g1025_578, h, a1, a2, w1, sW, w2, ← hM1, Option.bind_some]
        refine Eq.trans f1 ?_
        show F_X8_clear_b91_st (F_X8_clear_b12 (N + 1 + e)) (F_X8_clear_b91 (F_X8_clear_b12 (N + 1 + e)) K) B 1025 _ _ = _
        unfold F_X8_clear_b91_st
        have pl := E_plc (n := n) sB k (show k < 10 by omega) (erB.2.2.1 k (by omega)).1
        have g1' : F_X9_put B 1026 (iw ((11 * σ k + k : Nat) : Int)) 125 = some C := g1
        rw [gi577 sB, Option.bind_some, erB.2.1, if_neg (by rw [iw_le4 (by omega) (by omega)]; omega)]
        simp only [g1025_576, v1025, v1026, sB, pl, g1', Option.bind_some, iw_succ]
      have dC : Dw pW M C := ((d1.mono (fun a i z => by unfold at1 at z; unfold pW; omega)).trans dB).trans (g3.mono pB_W)
      rw [hred, hd2]
      rcases ih N (k + 1) C σ (stp A k r q) A0' (A r k) (by omega) sC erC (fun x hx j hj => (matB' x hx j hj).dw sB g3 (fun a c z => by have := (erB.2.2.1 x hx).2; unfold pB at *; omega)) g2 ba' with ⟨r1, M', r2, r3⟩ | ⟨q', A', A0'', ρ', M', r1, r2, r3, r4, r5, r6⟩
      · exact Or.inl ⟨r1, M', r2, dC.trans r3⟩
      · exact Or.inr ⟨q', A', A0'', ρ', M', r1, r2, dC.trans r3, r4, r5, r6⟩
