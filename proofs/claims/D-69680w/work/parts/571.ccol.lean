/-! ===== CALLS: column ===== -/
def mkl (l : Int32) : Int32 := if l = 8 then 4 else l
theorem colv_vb {d : TD} (g : GT d) {c r : Nat} (hc : c < d.1) (hr : r < d.2.1) : vb (mkl (lan d.1 d.2.1 d.2.2.2 c)) (colv d c r) ∧ Lk (mkl (lan d.1 d.2.1 d.2.2.2 c)) := by
  unfold colv mkl
  by_cases hl : lan d.1 d.2.1 d.2.2.2 c = 8
  · rw [if_pos hl, if_pos hl]
    exact ⟨cwv_vb d c r g.2.2.1, by unfold Lk; simp⟩
  · rw [if_neg hl, if_neg hl]
    obtain ⟨lq, lo⟩ := lan_l hl
    refine ⟨cvl_vb (g.2.2.2.2.2.2 _ (cr_lt hc hr)).1 lq (lo r hr), ?_⟩
    rcases lq with e | e | e | e <;> rw [e] <;> unfold Lk <;> simp
section
variable {M : Mem} {Z : Nat → Prop} {t c : Nat} {d : TD}
theorem TMt.col (tm : TMt M Z t d) (g : GT d) (hc : c < d.1) : gr M t 3522 = some (cR M t 3522) ∧ ai M (cR M t 3522) (iw (c : Int)) = some (lan d.1 d.2.1 d.2.2.2 c) := by
  obtain ⟨⟨ln, dn, en, lc, dc, ec, q⟩, ⟨a2, a3, a4⟩, a5⟩ := tm
  have g2 := g.2.1
  refine ⟨?_, ?_⟩
  · unfold gr
    rw [q.1.2]
    rfl
  · rw [ai_of a3 a4 hc (by omega), a5 c hc]
theorem len61 : (cty 61).1.length = 4 ∧ (cty 56).1.length = 5 := by decide +kernel
theorem M_column (h : ST M) (k0 : K0 M) (g : GT d) (tm : TMt M Z t d) (hZ : ∀ x, Z x → 1334 ≤ x ∧ x < m_nx M) (hc : c < d.1) : ∃ B, F_X16_column_b55 xN M 1068 (iw (c : Int)) t (iw (d.2.1 : Int)) (lan d.1 d.2.1 d.2.2.2 c) 0 = rowM B d.2.1 (mkl (lan d.1 d.2.1 d.2.2.2 c)) ∧ Df n2 (fun a _ => a = 1073) n2 M B ∧ (∀ r, r < d.2.1 → cJ B 1073 r = colv d c r) ∧ m_nx B = m_nx M ∧ m_sl B = m_sl M := by
  have h0 := h.1
  have hR := g.2.2.1
  have n1 : ¬ (1 : Int32) = 0 := by decide
  have lo := upl0 (β := Option (Int32 × Mem)) (σ := Unit) (fun N M _ i => F_X16_column_b55 N M 1068 (iw (c : Int)) t (iw (d.2.1 : Int)) (lan d.1 d.2.1 d.2.2.2 c) i) (n := d.2.1) (by omega) (fun j N _ => ST N ∧ K0 N ∧ Df n2 (fun a _ => a = 1073) n2 M N ∧ (∀ r, r < j → cJ N 1073 r = colv d c r) ∧ m_nx N = m_nx M ∧ m_sl N = m_sl M) (fun K N _ i hi hJ => by
    obtain ⟨sN, kN, j1, j2, j3, j4⟩ := hJ
    obtain ⟨⟨ln, dn, en, lc, dc, ec, q⟩, -⟩ := tm.j j1 (fun x hx => (hZ x hx).2)
    have tn := q.c g kN (fun x hx => by have := hZ x hx; omega)
    obtain ⟨a1, a2⟩ := M_atT tn hi hc
    obtain ⟨e, he⟩ : ∃ e, e = ec.getD (d.1 * i + c) 0 := ⟨_, rfl⟩
    rw [← he] at a1 a2
    have a2' := a2
    obtain ⟨m1, m2, m3, m4, m5, m6⟩ := a2'
    obtain ⟨N1, hN1⟩ : ∃ N1, N1 = wJ N 1073 i (colv d c i) := ⟨_, rfl⟩
    have s1 : sj N 1073 (iw (i : Int)) (colv d c i) = some N1 := by rw [sj_of _ (t1073 sN) (l1073 sN) (show i < 100000 by omega) (by decide), ← hN1]
    have dN1 : Df n2 (fun a _ => a = 1073) n2 N N1 := by rw [hN1]; exact Df.wJ _ rfl
    refine ⟨N1, (), ?_, sN.df dN1 n2_st, kN.df sN dN1 (fun _ _ _ q => q) (fun _ _ _ q => q), j1.trans dN1, fun r hr => ?_, by rw [hN1]; exact j3, by rw [hN1]; exact j4⟩
    · show F_X16_column_b55_st (F_X16_column_b55 K) N 1068 (iw (c : Int)) t (iw (d.2.1 : Int)) (lan d.1 d.2.1 d.2.2.2 c) (iw (i : Int)) = _
      unfold F_X16_column_b55_st F_X16_column_b137 F_X16_column_b192 F_X16_column_b106 F_X16_column_b193
      rw [if_pos (show iw (i : Int) < iw (d.2.1 : Int) by rw [iw_le4 (by omega) (by omega)]; exact hi)]
      simp only [g1068_1100, sN, tn.g.2.2.2.2.2.2, a1, a2.g.2.1, a2.g.2.2.1, M_cmiss a2, iw_succ, Option.bind_some]
      by_cases cm : msg (cl d.2.2.2 (d.1 * i + c))
      · rw [tpif cm, if_neg n1]
        by_cases l8 : lan d.1 d.2.1 d.2.2.2 c = 8
        · have e1 : colv d c i = -1 := by unfold colv cwv; rw [if_pos l8, tpif (show msg (ccl d c i) from cm)]
          rw [e1] at s1
          rw [if_pos l8, s1, Option.bind_some]
        · have e1 : colv d c i = 0 := by unfold colv cvl; rw [if_neg l8, tpif (show msg (ccl d c i) from cm)]
          rw [e1] at s1
          rw [if_neg l8, s1, Option.bind_some]
      · rw [fpif cm, if_pos rfl]
        by_cases l8 : lan d.1 d.2.1 d.2.2.2 c = 8
        · have b := M_bef ⟨rfl, rfl⟩ g tn hc m3 m5 m6
          have := ct_le (befM d c (kyc d c i)) d.2.1
          have e1 : colv d c i = (iw (ct (befM d c (kyc d c i)) d.2.1 : Nat)).toInt64 := by unfold colv cwv; rw [if_pos l8, fpif (show ¬ msg (ccl d c i) from cm), iw_64 (by omega), nl_ofInt]
          have b' : F_X16_before N t (iw (c : Int)) (cR N e 3584) = some (iw (ct (befM d c (kyc d c i)) d.2.1 : Nat)) := b
          rw [if_neg (show ¬ lan d.1 d.2.1 d.2.2.2 c = 0 by rw [l8]; decide), if_neg (show ¬ lan d.1 d.2.1 d.2.2.2 c = 7 by rw [l8]; decide), if_pos l8, b', Option.bind_some, ← e1, s1, Option.bind_some]
        · obtain ⟨lq, lo⟩ := lan_l l8
          have ok : okl (lan d.1 d.2.1 d.2.2.2 c) (cl d.2.2.2 (d.1 * i + c)) := lo i hi cm
          have e1 : colv d c i = cvl (lan d.1 d.2.1 d.2.2.2 c) (cl d.2.2.2 (d.1 * i + c)) := by unfold colv; rw [if_neg l8]; rfl
          unfold cvl at e1
          rw [fpif cm] at e1
          generalize lan d.1 d.2.1 d.2.2.2 c = l at l8 lq ok e1 ⊢
          by_cases l0 : l = 0
          · rw [if_pos l0] at e1 ⊢
            rw [l0] at ok
            rw [m3.vg, Option.bind_some, J_eqs m3 (kN.sb (show 20 ≤ 61 by decide) (by decide)) (ac_txt m4 (by decide) (by decide)) (by decide), Option.bind_some]
            rcases lane_0 ok with w | w
            · rw [if_pos (by rw [w]; exact len61.1)] at e1
              rw [e1] at s1
              rw [tpif w, if_neg n1, s1, Option.bind_some]
            · rw [if_neg (by rw [w, len61.2]; decide)] at e1
              rw [e1] at s1
              rw [fpif (fun q => by rw [q] at w; have := congrArg List.length w; rw [len61.1, len61.2] at this; omega), if_pos rfl, s1, Option.bind_some]
          · rw [if_neg l0] at e1 ⊢
            by_cases l7 : l = 7
            · rw [if_pos l7] at e1 ⊢
              rw [l7] at ok
              rw [e1] at s1
              rw [M_realW m3 m5 m6 (lane_7 ok), Option.bind_some, s1, Option.bind_some]
            · rw [if_neg l7] at e1 ⊢
              have l45 : l = 4 ∨ l = 5 := by
                rcases lq with q | q | q | q
                · exact absurd q l0
                · exact Or.inl q
                · exact Or.inr q
                · exact absurd q l7
              rw [if_neg l8, M_wholeW m3 m5 m6 (lane_w l45 ok).1, Option.bind_some, ← e1, s1, Option.bind_some]
    · rw [hN1, cJ_wJ]
      by_cases e : r = i
      · rw [if_pos ⟨rfl, e⟩, e]
      · rw [if_neg (by omega)]; exact j2 r (by omega)) (M := M) (s := ()) ⟨h, k0, Df.refl _ _ _ _, fun i hi => by omega, rfl, rfl⟩
  obtain ⟨K, N, -, e1, sN, kN, j1, j2, j3, j4⟩ := lo
  refine ⟨N, ?_, j1, j2, j3, j4⟩
  refine Eq.trans e1 ?_
  show F_X16_column_b55_st (F_X16_column_b55 K) N 1068 (iw (c : Int)) t (iw (d.2.1 : Int)) (lan d.1 d.2.1 d.2.2.2 c) (iw (d.2.1 : Int)) = _
  unfold F_X16_column_b55_st F_X16_column_b213 rowM mkl
  rw [if_neg (show ¬ iw (d.2.1 : Int) < iw (d.2.1 : Int) by rw [iw_le4 (by omega) (by omega)]; omega)]
  by_cases l8 : lan d.1 d.2.1 d.2.2.2 c = 8
  · rw [if_pos l8, if_pos l8]
  · rw [if_neg l8, if_neg l8]
end
theorem c_column {M : Mem} {Z : Nat → Prop} (h : ST M) (k0 : K0 M) (h4 : I4 M) (h5 : I5 M) (h6 : I6 M Z) (v c : Int32) : CR (pg n2) (rG M) (fun _ => True) M (fun M => F_X0_column M 1000 v c) (fun M => F_X16_column M 1068 v c) := by
  have h0 := h.1
  have p0 : ¬ (0 : Int32) < 0 := by decide
  rcases colT h k0 h4 h6 v c with ⟨q, e, z, -, q1, q2, q3, q4, -⟩ | ⟨a1, a2, d, W, k, j, ec, j1, w65, g, te, tm, fT, z1, z2, cr, cc', ar2, m, ev, k1, k2, m40, e23⟩
  · refine CR.no h h5 (-q) M M ?_ ?_ trivial (Df.refl _ _ _ _) (fun _ _ q => q.elim) qt_n2 noGr_n2 (by omega) (by omega)
    · simp only [F_X0_column, v1000, h, q2, q3, q1, if_true, Option.bind_some]
    · simp only [F_X16_column, v1068, h, q4, q1, if_true, Option.bind_some]
  · obtain ⟨A, e1, e2, e3, e4, e5, tA, kA⟩ := E_column h k0 w65 g te h6.1 j1
    have hR := g.2.2.1
    have sA : ST A := h.df e2 (fun p hp q => q.2 p hp ⟨rfl, rfl⟩)
    have hk : Lk (mkl (lan d.1 d.2.1 d.2.2.2 j)) := by
      unfold mkl
      by_cases hl : lan d.1 d.2.1 d.2.2.2 j = 8
      · rw [if_pos hl]; unfold Lk; simp
      · rw [if_neg hl]
        rcases (lan_l hl).1 with e | e | e | e <;> rw [e] <;> unfold Lk <;> simp
    obtain ⟨ρ, M1, b, r1, r2, r3, r4, r5, r6⟩ := mkCol (k := mkl (lan d.1 d.2.1 d.2.2.2 j)) (val := colv d j) h h5 hk (show d.2.1 ≤ 4096 by omega) e2 e4 e5 (fun i hi => ⟨e3 i hi, (colv_vb g j1 hi).1⟩)
    have eE : F_X0_column M 1000 v c = some (ρ, M1) := by
      simp only [F_X0_column, v1000, v1037, g1000_77, g1000_81, h, fT, cr, p0, if_false, Option.bind_some]
      rw [ec, e1, Option.bind_some]
      obtain ⟨A2, b1, b2, b3, b4, -⟩ := E_rowShape (n := d.2.1) sA
      have tA2 : TE A2 Z W (cR M 1040 k) d := tA.df b4 (fun x hx => by have := h6.1 x hx; omega) (fun x i q kk => by have := h6.1 x q; omega) (fun _ _ _ q => q) sA.1 (fun i _ kk => by omega)
      obtain ⟨x1, x2⟩ := tA2.col g.2.1 j1
      have r1' := r1
      unfold rowE at r1'
      rw [b1, Option.bind_some] at r1'
      have tc := tA.c g sA kA w65
      simp only [tc.g.1, v1000, sA, b1, x1, x2, Option.bind_some]
      rw [← r1']
      unfold F_X0_column_b66 mkl
      by_cases hl : lan d.1 d.2.1 d.2.2.2 j = 8
      · rw [if_pos hl, if_pos hl]
      · rw [if_neg hl, if_neg hl]
    obtain ⟨y1, y2, y3, y4, y5, y6⟩ := colAfter h k0 h6 r2 r3 a2 e23 ev k1 k2 m40 z2 g tm ec j1
    obtain ⟨s1, s2, -⟩ := y2.rows g y1 y3
    cases hb : b with
    | false =>
      rw [hb] at r4
      obtain ⟨x1, x2, x3, x4, x5⟩ := r5 hb
      refine ⟨ρ, M1, M1, eE, ?_, trivial, x2, x3, by omega, by omega⟩
      show F_X16_column M1 1068 v c = _
      simp only [F_X16_column, v1068, r2, y5, p0, g1068_1122, y6, s2, s1, r4, show mr false = 0 by decide, if_true, if_false, Option.bind_some]
      rw [x1]
    | true =>
      rw [hb] at r4
      obtain ⟨B, f1, f2, f3, f4, f5⟩ := M_column r2 y1 g y2 y3 j1
      obtain ⟨M2, o1, o2, o3, o4, o5⟩ := r6 hb B f2 f4 f5 f3
      obtain ⟨t1, t2⟩ := y2.col g j1
      refine ⟨ρ, M1, M2, eE, ?_, trivial, o2, o3, by omega, by omega⟩
      show F_X16_column M1 1068 v c = _
      simp only [F_X16_column, v1068, r2, y5, p0, g1068_1122, y6, s2, s1, r4, show ¬ mr true = 0 by decide, if_false, Option.bind_some]
      rw [t1, Option.bind_some, ec, t2, Option.bind_some, f1]
      exact o1
