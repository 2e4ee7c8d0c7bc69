/-! ===== TABLES, 51: the engine picks rows ===== -/
section
variable {M : Mem} {Z : Nat → Prop} {W T : Nat} {d : TD} {ρ : Nat → Nat} {n : Nat}
/-- the table stays while words are kept and the new table is filled -/
theorem TE.pk {N : Mem} {T' : Nat} (te : TE M Z W T d) (h : ST M) (hZ : ∀ x, Z x → 1334 ≤ x ∧ x < T') (hT : T' ≤ m_nx M) (hT2 : 1334 ≤ T') (e : Df (pPk W T') n2 n2 M N) : TE N Z W T d := te.df e (fun x hx => by have := hZ x hx; omega) (fun x i q k => by have := hZ x q; unfold pPk pWd at k; omega) (fun _ _ _ k => k) h.1 (fun i hi k => by unfold pPk pWd at k; have := h.1; omega)
theorem E_need1 {v3 : Int32} (h : ST M) (gd : GT d) (hW : W ≤ 65536) (te : TE M Z W T d) : ∀ (m N c : Nat), c + m = d.1 → F_X11_pick_b6 (N + 1 + m) M 1037 T 1057 v3 (iw (sat d.2.2.1 c : Nat)) (iw (c : Int)) = F_X11_pick_b39 xN M 1037 T 1057 v3 (iw (sat d.2.2.1 d.1 : Nat)) 0
  | 0, N, c, hc => by
    have g2 := gd.2.1
    show F_X11_pick_b6_st (F_X11_pick_b6 N) M 1037 T 1057 v3 (iw (sat d.2.2.1 c : Nat)) (iw (c : Int)) = _
    unfold F_X11_pick_b6_st
    rw [gi_of te.1.2 (show x_fi 53 3392 = true by decide), te.2.1, Option.bind_some, if_neg (show ¬ iw (c : Int) < iw (d.1 : Int) by rw [iw_le4 (by omega) (by omega)]; omega), show c = d.1 by omega]
  | m + 1, N, c, hc => by
    have g2 := gd.2.1
    have g6 := gd.2.2.2.2.2.1 c (by omega)
    obtain ⟨s, r1, r2, r3⟩ := te.2.2.2.1.at (show c < d.1 by omega) (by omega) hW
    show F_X11_pick_b6_st (F_X11_pick_b6 (N + 1 + m)) M 1037 T 1057 v3 (iw (sat d.2.2.1 c : Nat)) (iw (c : Int)) = _
    unfold F_X11_pick_b6_st
    rw [gi_of te.1.2 (show x_fi 53 3392 = true by decide), te.2.1, Option.bind_some, if_pos (show iw (c : Int) < iw (d.1 : Int) by rw [iw_le4 (by omega) (by omega)]; omega), gr_of te.1.2 (show x_fr 53 3395 = true by decide), Option.bind_some, r2, Option.bind_some]
    simp only [enc63 g6.2.1 (show (cl d.2.2.1 c).1.length ≤ 40 by omega), iw_nad, iw_succ]
    have hlen : c < d.2.2.1.length := by have := gd.2.2.2.1; omega
    rw [← sat_s hlen]
    exact E_need1 h gd hW te m N (c + 1) (by omega)
theorem E_need2 {v3 : Int32} {k39 : Mem → Nat → Nat → Nat → Int32 → Int32 → Int32 → Option ((Int32 × Mem) ⊕ (Nat × Mem))} {r X0 : Nat} (h : ST M) (k0 : K0 M) (gd : GT d) (hW : W ≤ 65536) (te : TE M Z W T d) (hr : r < n) (hn : n ≤ 4096) (hρ : ∀ r, r < n → ρ r < d.2.1) (hJ : cJ M 1057 r = nl (ρ r)) : ∀ (m N c : Nat), c + m = d.1 → F_X11_pick_b48 k39 (N + 1 + m) M 1037 T 1057 v3 (iw ((X0 + sat (pkc d ρ n) (d.1 * r + c) : Nat) : Int)) (iw (r : Int)) (iw (c : Int)) = k39 M 1037 T 1057 v3 (iw ((X0 + sat (pkc d ρ n) (d.1 * (r + 1)) : Nat) : Int)) (iw ((r + 1 : Nat) : Int))
  | 0, N, c, hc => by
    have g2 := gd.2.1
    show F_X11_pick_b48_st k39 (F_X11_pick_b48 k39 N) M 1037 T 1057 v3 (iw ((X0 + sat (pkc d ρ n) (d.1 * r + c) : Nat) : Int)) (iw (r : Int)) (iw (c : Int)) = _
    unfold F_X11_pick_b48_st
    rw [gi_of te.1.2 (show x_fi 53 3392 = true by decide), te.2.1, Option.bind_some, if_neg (show ¬ iw (c : Int) < iw (d.1 : Int) by rw [iw_le4 (by omega) (by omega)]; omega)]
    simp only [iw_succ]
    rw [show d.1 * r + c = d.1 * (r + 1) by rw [Nat.mul_add, Nat.mul_one]; omega]
  | m + 1, N, c, hc => by
    have g2 := gd.2.1
    have g3 := gd.2.2.1
    have tc := te.c gd h k0 hW
    have hρr := hρ r hr
    have hk : d.1 * ρ r + c < d.1 * d.2.1 := cr_lt (by omega) hρr
    show F_X11_pick_b48_st k39 (F_X11_pick_b48 k39 (N + 1 + m)) M 1037 T 1057 v3 (iw ((X0 + sat (pkc d ρ n) (d.1 * r + c) : Nat) : Int)) (iw (r : Int)) (iw (c : Int)) = _
    unfold F_X11_pick_b48_st
    have aj : al M 1057 (iw (r : Int)) = some (nl (ρ r)) := by rw [al_of (t1057 h) (l1057 h) (show r < 100000 by omega) (by decide), hJ]
    rw [gi_of te.1.2 (show x_fi 53 3392 = true by decide), te.2.1, Option.bind_some, if_pos (show iw (c : Int) < iw (d.1 : Int) by rw [iw_le4 (by omega) (by omega)]; omega), Option.bind_some, aj, Option.bind_some, tc.g.2.2, Option.bind_some, nl32 (by omega), iw_nml, iw_nad, E_clen tc hk, Option.bind_some]
    simp only [iw_nad, iw_succ]
    have hk2 := cr_lt (R := n) (show c < d.1 by omega) hr
    have e := sat_s (cs := pkc d ρ n) (k := d.1 * r + c) (by rw [pkc_len]; exact hk2)
    rw [pkc_at hr (show c < d.1 by omega)] at e
    have e2 : X0 + sat (pkc d ρ n) (d.1 * r + c) + (cl d.2.2.2 (d.1 * ρ r + c)).1.length = X0 + sat (pkc d ρ n) (d.1 * r + (c + 1)) := by rw [show d.1 * r + (c + 1) = d.1 * r + c + 1 by omega, e]; omega
    rw [e2]
    exact E_need2 h k0 gd hW te hr hn hρ hJ m N (c + 1) (by omega)
/-- names are kept anew -/
theorem E_pk1 {T' : Nat} {v3 : Int32} {M0 : Mem} (h : ST M0) (gd : GT d) (hW : W ≤ 65536) (te : TE M0 Z W T d) (hZ : ∀ x, Z x → 1334 ≤ x ∧ x < T') (hT : T' + 6 ≤ m_nx M0) (hT2 : 1334 ≤ T') (hv : cI M0 1038 833 = iw (W : Int)) (hX : W + sat d.2.2.1 d.1 ≤ 65536) (tT : m_tg M0 T' = 53) (r1 : cR M0 T' 3394 = T' + 1) (r2 : cR M0 T' 3395 = T' + 2) (t1 : m_tg M0 (T' + 1) = 1005 ∧ m_ln M0 (T' + 1) = d.1) (t2 : m_tg M0 (T' + 2) = 1002 ∧ m_ln M0 (T' + 2) = d.1) : ∃ N, F_X11_pick_b146 xN M0 1037 T 1057 v3 T' 0 = F_X11_pick_b218 xN N 1037 T 1057 v3 T' 0 ∧ ST N ∧ Df (pPk W T') n2 n2 M0 N ∧ RWp N (W + sat d.2.2.1 d.1) (T' + 1) (T' + 2) d.1 d.2.2.1 ∧ cI N 1038 833 = iw ((W + sat d.2.2.1 d.1 : Nat) : Int) ∧ m_nx N = m_nx M0 ∧ m_sl N = m_sl M0 := by
  have g2 := gd.2.1
  have g4 := gd.2.2.2.1
  have lo := upl0 (β := Option ((Int32 × Mem) ⊕ (Nat × Mem))) (σ := Unit) (fun N M _ i => F_X11_pick_b146 N M 1037 T 1057 v3 T' i) (n := d.1) (by omega) (fun c N _ => ST N ∧ Df (pPk W T') n2 n2 M0 N ∧ RWp N (W + sat d.2.2.1 c) (T' + 1) (T' + 2) c d.2.2.1 ∧ cI N 1038 833 = iw ((W + sat d.2.2.1 c : Nat) : Int) ∧ m_nx N = m_nx M0 ∧ m_sl N = m_sl M0) (fun K N _ c hc hJ => by
    obtain ⟨sN, j1, j2, j3, j4, j5⟩ := hJ
    have teN := te.pk h hZ (by omega) hT2 j1
    have g6 := gd.2.2.2.2.2.1 c hc
    obtain ⟨⟨a1, a2, a3⟩, ⟨b1, b2, b3⟩, rk⟩ := teN.2.2.2.1
    obtain ⟨q1, s, q2, q3, q4⟩ := rk c hc
    have hsat := sat_s (cs := d.2.2.1) (k := c) (by omega)
    have hmono : sat d.2.2.1 (c + 1) ≤ sat d.2.2.1 d.1 := by
      have : ∀ k j : Nat, j + k ≤ d.1 → sat d.2.2.1 j ≤ sat d.2.2.1 (j + k) := by
        intro k
        induction k with
        | zero => intro j _; exact Nat.le_refl _
        | succ k ih =>
          intro j hj
          have i1 := ih j (by omega)
          have i2 := sat_s (cs := d.2.2.1) (k := j + k) (by omega)
          rw [show j + (k + 1) = j + k + 1 by omega]
          omega
      have := this (d.1 - (c + 1)) (c + 1) (by omega)
      rw [show c + 1 + (d.1 - (c + 1)) = d.1 by omega] at this
      exact this
    have zb := hZ _ b1
    obtain ⟨N1, N2, N3, k1, k2, k3, s1, s2, s3, k4, k5, k6, k7, k8, k9⟩ := E_keepw (W := W) (s := s) (a := T' + 1) (b := T' + 2) (n := d.1) sN j3 (by omega) g6.1 (show (cl d.2.2.1 c).1.length ≤ 40 by omega) ⟨by omega, q4⟩ q3 (by omega) j2 (by omega) (by omega) (by omega) ⟨(j1.2.2 _ (by omega)).1.trans t1.1, (j1.2.2 _ (by omega)).2.1.trans t1.2⟩ ⟨(j1.2.2 _ (by omega)).1.trans t2.1, (j1.2.2 _ (by omega)).2.1.trans t2.2⟩ hc (by omega)
    have dP : ∀ x i, (pWd (W + sat d.2.2.1 c) x i ∨ x = T' + 1 ∨ x = T' + 2) → pPk W T' x i := fun x i q => by unfold pPk pWd at *; omega
    have tN : m_tg N T' = 53 := (j1.2.2 _ (by omega)).1.trans tT
    have x1 : gr N T' 3394 = some (T' + 1) := by rw [gr_of tN (show x_fr 53 3394 = true by decide), j1.cR (by omega) (fun q => q), r1]
    have x2 : gr N2 T' 3395 = some (T' + 2) := by rw [gr_of ((k6.2.2 _ (by omega)).1.trans tN) (show x_fr 53 3395 = true by decide), k6.cR (by omega) (fun q => q), j1.cR (by omega) (fun q => q), r2]
    have zt := hZ _ teN.1.1
    have y1 : gr N T 3394 = some (cR N T 3394) := gr_of teN.1.2 (by decide)
    have y2 : gr N T 3395 = some (cR N T 3395) := gr_of teN.1.2 (by decide)
    have y3 : ai N (cR N T 3394) (iw (c : Int)) = some (iw (s : Int)) := by rw [ai_of a2 a3 hc (by omega), q2]
    have y4 : ab N (cR N T 3395) (iw (c : Int)) = some (enc (cl d.2.2.1 c)) := by rw [ab_of (Or.inr (Or.inl b2)) b3 hc (by omega), q1]
    have y5 : gr N2 T 3395 = some (cR N T 3395) := by rw [gr_of ((k6.2.2 _ (by omega)).1.trans teN.1.2) (show x_fr 53 3395 = true by decide), k6.cR (by omega) (fun q => q)]
    have y6 : ab N2 (cR N T 3395) (iw (c : Int)) = some (enc (cl d.2.2.1 c)) := by rw [ab_of (Or.inr (Or.inl ((k6.2.2 _ (by omega)).1.trans b2))) ((k6.2.2 _ (by omega)).2.1.trans b3) hc (by omega), k6.cI (by omega) (fun q => by unfold pWd at q; omega), q1]
    rw [hsat, ← Nat.add_assoc]
    refine ⟨N3, (), ?_, s3, j1.trans (k7.mono dP (fun _ _ q => q) (fun _ _ q => q)), k4, k5, by omega, by omega⟩
    show F_X11_pick_b146_st (F_X11_pick_b146 K) N 1037 T 1057 v3 T' (iw (c : Int)) = _
    unfold F_X11_pick_b146_st
    rw [gi_of teN.1.2 (show x_fi 53 3392 = true by decide), teN.2.1, Option.bind_some, if_pos (show iw (c : Int) < iw (d.1 : Int) by rw [iw_le4 (by omega) (by omega)]; exact hc)]
    simp only [x1, g1037_769, g1038_832, sN, y1, y3, y2, y4, enc63 g6.2.1 (show (cl d.2.2.1 c).1.length ≤ 40 by omega), v1038, k1, k2, x2, y5, y6, k3, iw_succ, Option.bind_some]) (M := M0) (s := ()) ⟨h, Df.refl _ _ _ _, fun k hk => by omega, by rw [show sat d.2.2.1 0 = 0 from rfl]; exact hv, rfl, rfl⟩
  obtain ⟨K, N, -, e1, sN, j1, j2, j3, j4, j5⟩ := lo
  have teN := te.pk h hZ (by omega) hT2 j1
  refine ⟨N, ?_, sN, j1, j2, j3, j4, j5⟩
  refine Eq.trans e1 ?_
  show F_X11_pick_b146_st (F_X11_pick_b146 K) N 1037 T 1057 v3 T' (iw (d.1 : Int)) = _
  unfold F_X11_pick_b146_st
  rw [gi_of teN.1.2 (show x_fi 53 3392 = true by decide), teN.2.1, Option.bind_some, if_neg (show ¬ iw (d.1 : Int) < iw (d.1 : Int) by rw [iw_le4 (by omega) (by omega)]; omega)]
end
