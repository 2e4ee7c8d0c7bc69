/-! ===== CALLS: pick ===== -/
theorem M_pickT {M : Mem} {Z : Nat → Prop} {T g n m W : Nat} {d : TD} {ρ : Nat → Nat} {val : Nat → Int64} (h : ST M) (k0 : K0 M) (k4 : m_tg M 4 = 1091 ∧ m_ln M 4 = 0) (gd : GT d) (tm : TMt M Z T d) (hZ : ∀ x, Z x → 1334 ≤ x ∧ x < m_nx M) (hm : cI M 1068 1123 = iw (m : Int)) (hm2 : m ≤ 40) (hW : cI M 1068 1124 = iw (W : Int)) (hW2 : W ≤ 65536) (hn : n ≤ 4096) (hcell : ∀ N, Df n2 n2 n2 M N → (∀ r, r < n → F_X22_cell N g (iw (r : Int)) = some (val r)) ∧ vg N g 23 = some ()) (hρ : ∀ k, k < n → ¬ bdr val d.2.1 k → val k = nl (ρ k) ∧ ρ k < d.2.1) :
    ((∃ r, r < n ∧ bdr val d.2.1 r) → F_X16_pick_b73 xN M 1068 g T (iw (n : Int)) 0 0 = some (-2, M)) ∧
    (¬ (∃ r, r < n ∧ bdr val d.2.1 r) → (m = 40 ∨ 500 ≤ n ∨ 65536 < W + pkx d ρ n) → F_X16_pick_b73 xN M 1068 g T (iw (n : Int)) 0 0 = some (-12, M)) ∧
    (¬ (∃ r, r < n ∧ bdr val d.2.1 r) → ¬ (m = 40 ∨ 500 ≤ n ∨ 65536 < W + pkx d ρ n) → ∃ M', F_X16_pick_b73 xN M 1068 g T (iw (n : Int)) 0 0 = some (iw ((m + 1 : Nat) : Int), M') ∧ TMt M' (fun x => Z x ∨ (m_nx M ≤ x ∧ x < m_nx M')) (cR M' 1324 (m + 1)) (pkd d ρ n) ∧ cI M' 1068 1123 = iw ((m + 1 : Nat) : Int) ∧ cI M' 1068 1124 = iw ((W + pkx d ρ n : Nat) : Int) ∧ Df pTa n2 (rMt m) M M' ∧ m_nx M' ≤ m_nx M + 8100 ∧ m_sl M' ≤ m_sl M + 50000) := by
  have h0 := h.1
  have g1 := gd.1
  have g2 := gd.2.1
  have g3 := gd.2.2.1
  obtain ⟨K1, hK1⟩ : ∃ K, K + 1 + d.1 = xN := ⟨xN - 1 - d.1, by have : xN = 1099511627776 := rfl; omega⟩
  have n1 := M_need1 (g := g) (v5 := iw (n : Int)) gd k0 tm hZ d.1 K1 0 (by omega)
  rw [hK1] at n1
  obtain ⟨K3, hK3⟩ : ∃ K, K + 1 + n = xN := ⟨xN - 1 - n, by have : xN = 1099511627776 := rfl; omega⟩
  obtain ⟨hc0, hv0⟩ := hcell M (Df.refl _ _ _ _)
  have n3 := M_need3 (g := g) (n := n) (val := val) gd k0 tm hZ hn hv0 hc0 hρ n K3 0 (by omega) (fun r hr => by omega)
  rw [hK3] at n3
  have head : F_X16_pick_b73 xN M 1068 g T (iw (n : Int)) 0 0 = pif (∃ r, r < n ∧ bdr val d.2.1 r) (some (-2, M)) (F_X16_pick_b116_st (F_X16_pick_b116 K3) M 1068 g T (iw (n : Int)) (iw (pkx d ρ n : Nat)) (iw (n : Int))) := Eq.trans n1 n3
  rw [head]
  by_cases cb : ∃ r, r < n ∧ bdr val d.2.1 r
  · rw [tpif cb]
    exact ⟨fun _ => rfl, fun q => absurd cb q, fun q => absurd cb q⟩
  · rw [fpif cb]
    have gr' : ∀ k, k < n → val k = nl (ρ k) ∧ ρ k < d.2.1 := fun k hk => hρ k hk (fun q => cb ⟨k, hk, q⟩)
    have hρ' : ∀ k, k < n → ρ k < d.2.1 := fun k hk => (gr' k hk).2
    have hx3 := pkx_b gd hn hρ'
    refine ⟨fun q => absurd q cb, fun _ => ?_, fun _ => ?_⟩ <;> unfold F_X16_pick_b116_st F_X16_pick_b231 <;> rw [if_neg (show ¬ iw (n : Int) < iw (n : Int) by rw [iw_le4 (by omega) (by omega)]; omega)]
    · intro full
      by_cases c5 : 499 < n
      · rw [if_pos (show (499 : Int32) < iw (n : Int) by rw [show (499 : Int32) = iw ((499 : Nat) : Int) from rfl, iw_le4 (by omega) (by omega)]; exact c5)]
      · rw [if_neg (show ¬ (499 : Int32) < iw (n : Int) by rw [show (499 : Int32) = iw ((499 : Nat) : Int) from rfl, iw_le4 (by omega) (by omega)]; exact c5), g1068_1123 h, Option.bind_some, hm]
        by_cases c40 : m = 40
        · rw [if_pos (show iw (m : Int) = 40 by rw [c40]; rfl)]
        · rw [if_neg (show ¬ iw (m : Int) = 40 by rw [show (40 : Int32) = iw ((40 : Nat) : Int) from rfl, iw_eq (by omega) (by omega) (by omega) (by omega)]; omega), g1068_1124 h, Option.bind_some, hW, iw_nad, if_pos (show (65536 : Int32) < iw ((W + pkx d ρ n : Nat) : Int) by rw [show (65536 : Int32) = iw ((65536 : Nat) : Int) from rfl, iw_le4 (by omega) (by omega)]; omega)]
    · intro nf
      have c5 : n < 500 := by omega
      have hCn : d.1 * n ≤ 16 * 499 := Nat.mul_le_mul g2 (by omega)
      rw [if_neg (show ¬ (499 : Int32) < iw (n : Int) by rw [show (499 : Int32) = iw ((499 : Nat) : Int) from rfl, iw_le4 (by omega) (by omega)]; omega), g1068_1123 h, Option.bind_some, hm, if_neg (show ¬ iw (m : Int) = 40 by rw [show (40 : Int32) = iw ((40 : Nat) : Int) from rfl, iw_eq (by omega) (by omega) (by omega) (by omega)]; omega), g1068_1124 h, Option.bind_some, hW, iw_nad, if_neg (show ¬ (65536 : Int32) < iw ((W + pkx d ρ n : Nat) : Int) by rw [show (65536 : Int32) = iw ((65536 : Nat) : Int) from rfl, iw_le4 (by omega) (by omega)]; omega)]
      obtain ⟨⟨ln, dn, en, lc, dc, ec, q⟩, -⟩ := tm
      obtain ⟨A, a1, a2, a3, a4, a5, a6, a7, a8, a9, a10⟩ := M_mktab (M := M) h0
      obtain ⟨T', hT'⟩ : ∃ T', T' = m_nx M := ⟨_, rfl⟩
      rw [← hT'] at a1 a2 a4 a6 a7 a8 a9 a10 ⊢
      simp only [a2, a1, Option.bind_some]
      obtain ⟨B, dn', b1, b2, b3, b4, b5, b6⟩ := M_pk1 (g := g) (v5 := iw (n : Int)) (v6 := iw (pkx d ρ n : Nat)) gd k0 h k4 q hZ hT' a3 a4 a6 a7 a9
      have dB : Df n2 n2 n2 M B := a3.then b2 (fun x i hx k => by unfold at1 at k; omega) (fun _ _ _ k => k) (fun x i hx k => by unfold at1 at k; omega)
      have nB := b2.1
      have tB : m_tg B T' = 55 := (b2.2.2 _ (by omega)).1.trans a6
      have rB1 : cR B T' 3520 = T' + 1 := by rw [b2.cR (by omega) (fun k => by unfold at1 at k; omega)]; exact a7
      have rB2 : cR B T' 3521 = T' + 2 := by rw [b2.cR (by omega) (fun k => by unfold at1 at k; omega)]; exact a8
      have alB : AL B (T' + 2) 4 [] := a10.df b2 (fun k => by unfold at1 at k; omega) (fun k => by unfold at1 at k; omega) (fun i k => by omega)
      have j0 : JM B ec d.1 ρ (T' + 2) (m_sl B) (d.1 * 0) B := ⟨Df.refl _ _ _ _, ⟨4, by rw [Nat.mul_zero]; exact ⟨alB, Or.inl ⟨rfl, rfl, Nat.le_refl _⟩⟩, Or.inl rfl⟩, by omega⟩
      obtain ⟨N, c1, c2⟩ := M_pk2 (g := g) (v6 := iw (pkx d ρ n : Nat)) (B := m_sl B) gd k0 h k4 q hZ hT' dB (by omega) tB rB2 c5 hρ' (fun r hr => (gr' r hr).1) hcell n K3 0 B (by omega) j0
      rw [hK3] at c1
      obtain ⟨j1, ⟨dc', j2, j3⟩, j4⟩ := c2
      have dN : Df n2 n2 n2 M N := dB.then j1 (fun x i hx k => by unfold at1 at k; omega) (fun _ _ _ k => k) (fun x i hx k => by unfold at1 at k; omega)
      have nn := dN.1
      have nn2 := j1.1
      have sN : ST N := h.df dN n2_st
      have kN : K0 N := k0.df h dN (fun _ _ _ k => k) (fun _ _ _ k => k)
      have qN := q.df dN (fun x hx => (hZ x hx).2) (fun _ _ _ k => k) (fun _ _ _ k => k)
      have slN := j2.sl
      rw [pke_len] at slN
      have hdn' : dn' < m_nx B := by
        rcases b3.2.2.2.2 with e | e
        · omega
        · exact e.2.1
      have alN : AL N (T' + 1) dn' en := b3.df j1 (fun k => by unfold at1 at k; omega) (fun k => by unfold at1 at k; omega) (fun i k1 k2 => by
        unfold at1 at k2
        have e := b3.row k1
        rw [k2] at e
        have e2 := (b2.2.2 (T' + 2) (by omega)).1.trans a10.2.1
        rw [e2] at e
        cases e)
      obtain ⟨g4, g5, g6, g7⟩ : d.2.2.1.length = d.1 ∧ d.2.2.2.length = d.1 * d.2.1 ∧ True ∧ True := ⟨gd.2.2.2.1, gd.2.2.2.2.1, trivial, trivial⟩
      have dcl : 1334 ≤ dc' → dc' < m_nx N := fun k => by
        rcases j2.1.2.2.2.2 with e | e
        · have := e.2; omega
        · exact e.2.1
      have tm0 : TM0 N (fun x => Z x ∨ (T' ≤ x ∧ x < m_nx N)) T' (pkd d ρ n) (T' + 1) dn' en (T' + 2) dc' (pke ec d.1 ρ (d.1 * n)) := by
        refine ⟨⟨Or.inr ⟨by omega, by omega⟩, (j1.2.2 _ (by omega)).1.trans tB⟩, by rw [j1.cR (by omega) (fun k => by unfold at1 at k; omega)]; exact rB1, by rw [j1.cR (by omega) (fun k => by unfold at1 at k; omega)]; exact rB2, ⟨Or.inr ⟨by omega, by omega⟩, fun k => Or.inr ⟨by omega, by omega⟩, alN⟩, ⟨Or.inr ⟨by omega, by omega⟩, fun k => Or.inr ⟨by omega, dcl k⟩, j2.1⟩, qN.2.2.2.2.2.1, pke_len _ _ _ _, fun k hk => (qN.2.2.2.2.2.2.2.1 k hk).w (fun x hx => Or.inl hx), fun k hk => ?_⟩
        have hk' : k < d.1 * n := hk
        have h1 : k / d.1 < n := Nat.div_lt_of_lt_mul hk'
        have h2 : k % d.1 < d.1 := Nat.mod_lt _ (by omega)
        have e : k = d.1 * (k / d.1) + k % d.1 := (Nat.div_add_mod k d.1).symm
        have ec' : cl (pkc d ρ n) k = cl d.2.2.2 (d.1 * ρ (k / d.1) + k % d.1) := by
          have := pkc_at (d := d) (ρ := ρ) h1 h2
          rw [← e] at this
          exact this
        rw [pke_at hk']
        show CMt N _ _ (cl (pkc d ρ n) k)
        rw [ec']
        exact (qN.2.2.2.2.2.2.2.2 _ (cr_lt h2 (hρ' _ h1))).w (fun x hx => Or.inl hx)
      have tbd := M_tabled (M := N) (Z := fun x => Z x ∨ (T' ≤ x ∧ x < m_nx N)) (m := m) (W := W) (X := pkx d ρ n) sN kN (pkd_gt gd c5 hρ') (fun x hx => by rcases hx with hx | hx; have := hZ x hx; omega; omega) tm0 (by rw [dN.cI (by omega) (fun k => k)]; exact hm) hm2 (by rw [dN.cI (by omega) (fun k => k)]; exact hW) hW2 (by omega)
      obtain ⟨M2, u1, u2, u3, u4, u5, u6, u7, u8, u9, u10⟩ := tbd.2 (by omega)
      have nn3 := u8.1
      refine ⟨M2, ?_, ?_, u5, u6, ?_, by omega, by omega⟩
      · rw [b1, show F_X16_pick_b290 xN B 1068 g T (iw (n : Int)) (iw (pkx d ρ n : Nat)) T' 0 = _ from c1, u1]
        rfl
      · rw [u7]
        exact u4.w (fun x hx => by
          have hx2 : (Z x ∨ (T' ≤ x ∧ x < m_nx N)) ∨ x = m_nx N := hx
          rcases hx2 with (hx2 | hx2) | hx2
          · exact Or.inl hx2
          · exact Or.inr ⟨by omega, by omega⟩
          · exact Or.inr ⟨by omega, by omega⟩)
      · exact Df.then (dN.mono (fun _ _ k => k.elim) (fun _ _ k => k) (fun _ _ k => k.elim)) u8 (fun x i hx k => k) (fun _ _ _ k => k) (fun x i hx k => by
          rcases k with k | k
          · omega
          · exact k)
