/-! ===== TABLES, 52: the engine picks rows, whole ===== -/
def pP2 (V T : Nat) : Nat → Nat → Prop := fun x i => pWd V x i ∨ x = T + 3 ∨ x = T + 4
theorem sat_m {cs : List (List Int32 × Bool)} : ∀ (k j : Nat), j + k ≤ cs.length → sat cs j ≤ sat cs (j + k)
  | 0, j, _ => Nat.le_refl _
  | k + 1, j, hj => by
    have i1 := sat_m (cs := cs) k j (by omega)
    have i2 := sat_s (cs := cs) (k := j + k) (by omega)
    rw [show j + (k + 1) = j + k + 1 by omega]
    omega
section
variable {Z : Nat → Prop} {W T : Nat} {d : TD} {ρ : Nat → Nat} {n T' V : Nat} {M0 : Mem}
/-- what holds while cells are kept -/
def JP (M0 : Mem) (d : TD) (ρ : Nat → Nat) (n T' V q : Nat) (N : Mem) : Prop := ST N ∧ Df (pP2 V T') n2 n2 M0 N ∧ RWp N (V + sat (pkc d ρ n) q) (T' + 3) (T' + 4) q (pkc d ρ n) ∧ cI N 1038 833 = iw ((V + sat (pkc d ρ n) q : Nat) : Int) ∧ m_nx N = m_nx M0 ∧ m_sl N = m_sl M0
theorem JP.te {N : Mem} {q : Nat} (j : JP M0 d ρ n T' V q N) (te : TE M0 Z W T d) (h : ST M0) (hWV : W ≤ V) (hZ : ∀ x, Z x → 1334 ≤ x ∧ x < T') (hT : T' + 6 ≤ m_nx M0) (hT2 : 1334 ≤ T') : TE N Z W T d := te.df j.2.1 (fun x hx => by have := hZ x hx; omega) (fun x i q k => by have := hZ x q; unfold pP2 pWd at k; omega) (fun _ _ _ k => k) h.1 (fun i hi k => by unfold pP2 pWd at k; omega)
theorem E_pk2in {v3 : Int32} {k218 : Mem → Nat → Nat → Nat → Int32 → Nat → Int32 → Option ((Int32 × Mem) ⊕ (Nat × Mem))} {r : Nat} (h : ST M0) (k0 : K0 M0) (gd : GT d) (hW : W ≤ 65536) (hWV : W ≤ V) (te : TE M0 Z W T d) (hZ : ∀ x, Z x → 1334 ≤ x ∧ x < T') (hT : T' + 6 ≤ m_nx M0) (hT2 : 1334 ≤ T') (hX : V + sat (pkc d ρ n) (d.1 * n) ≤ 65536) (tT : m_tg M0 T' = 53) (r1 : cR M0 T' 3396 = T' + 3) (r2 : cR M0 T' 3397 = T' + 4) (t1 : m_tg M0 (T' + 3) = 1005 ∧ m_ln M0 (T' + 3) = d.1 * n) (t2 : m_tg M0 (T' + 4) = 1002 ∧ m_ln M0 (T' + 4) = d.1 * n) (hr : r < n) (hn : n < 500) (hρ : ∀ r, r < n → ρ r < d.2.1) (hJ : ∀ r, r < n → cJ M0 1057 r = nl (ρ r)) : ∀ (m K c : Nat) (N : Mem), c + m = d.1 → JP M0 d ρ n T' V (d.1 * r + c) N → ∃ N', F_X11_pick_b227 k218 (K + 1 + m) N 1037 T 1057 v3 T' (iw (r : Int)) (iw (c : Int)) = k218 N' 1037 T 1057 v3 T' (iw ((r + 1 : Nat) : Int)) ∧ JP M0 d ρ n T' V (d.1 * (r + 1)) N'
  | 0, K, c, N, hc, j => by
    have g2 := gd.2.1
    have teN := j.te te h hWV hZ hT hT2
    have st : F_X11_pick_b227 k218 (K + 1 + 0) N 1037 T 1057 v3 T' (iw (r : Int)) (iw (c : Int)) = F_X11_pick_b227_st k218 (F_X11_pick_b227 k218 K) N 1037 T 1057 v3 T' (iw (r : Int)) (iw (c : Int)) := rfl
    rw [st]
    unfold F_X11_pick_b227_st
    rw [gi_of teN.1.2 (show x_fi 53 3392 = true by decide), teN.2.1, Option.bind_some, if_neg (show ¬ iw (c : Int) < iw (d.1 : Int) by rw [iw_le4 (by omega) (by omega)]; omega)]
    simp only [iw_succ]
    rw [show d.1 * r + c = d.1 * (r + 1) by rw [Nat.mul_add, Nat.mul_one]; omega] at j
    exact ⟨N, rfl, j⟩
  | m + 1, K, c, N, hc, j => by
    have g2 := gd.2.1
    have g3 := gd.2.2.1
    have h0 := h.1
    have hρr := hρ r hr
    have hcC : c < d.1 := by omega
    have hk : d.1 * ρ r + c < d.1 * d.2.1 := cr_lt hcC hρr
    have hk2 := cr_lt (R := n) hcC hr
    have hCn : d.1 * n ≤ 16 * 499 := Nat.mul_le_mul g2 (by omega)
    have hCR : d.1 * d.2.1 ≤ 16 * 499 := Nat.mul_le_mul g2 (by omega)
    have teN := j.te te h hWV hZ hT hT2
    obtain ⟨sN, j1, j2, j3, j4, j5⟩ := j
    have kN : K0 N := k0.df h j1 (fun a i q k => by unfold pP2 pWd at k; omega) (fun _ _ _ k => k)
    have tc := teN.c gd sN kN hW
    obtain ⟨g71, g72, g73⟩ := gd.2.2.2.2.2.2 _ hk
    obtain ⟨⟨a1, a2, a3⟩, ⟨b1, b2, b3⟩, rk⟩ := teN.2.2.2.2.1
    obtain ⟨q1, s, q2, q3, q4⟩ := rk _ hk
    have ec := pkc_at (d := d) (ρ := ρ) hr hcC
    have hsat := sat_s (cs := pkc d ρ n) (k := d.1 * r + c) (by rw [pkc_len]; exact hk2)
    have hmono : sat (pkc d ρ n) (d.1 * r + c + 1) ≤ sat (pkc d ρ n) (d.1 * n) := by
      have := sat_m (cs := pkc d ρ n) (d.1 * n - (d.1 * r + c + 1)) (d.1 * r + c + 1) (by rw [pkc_len]; omega)
      rw [show d.1 * r + c + 1 + (d.1 * n - (d.1 * r + c + 1)) = d.1 * n by omega] at this
      exact this
    have za := hZ _ a1
    have zb := hZ _ b1
    have zt := hZ _ teN.1.1
    rw [← ec] at q1 q3 q4 g71 g72
    obtain ⟨N1, N2, N3, k1, k2, k3, s1, s2, s3, k4, k5, k6, k7, k8, k9⟩ := E_keepw (W := W) (V := V + sat (pkc d ρ n) (d.1 * r + c)) (s := s) (a := T' + 3) (b := T' + 4) (c := d.1 * r + c) (n := d.1 * n) (ws := pkc d ρ n) sN j3 (by omega) g71 g72 ⟨by omega, q4⟩ q3 (by omega) j2 (by omega) (by omega) (by omega) ⟨(j1.2.2 _ (by omega)).1.trans t1.1, (j1.2.2 _ (by omega)).2.1.trans t1.2⟩ ⟨(j1.2.2 _ (by omega)).1.trans t2.1, (j1.2.2 _ (by omega)).2.1.trans t2.2⟩ hk2 (by omega)
    have tN : m_tg N T' = 53 := (j1.2.2 _ (by omega)).1.trans tT
    have x1 : gr N T' 3396 = some (T' + 3) := by rw [gr_of tN (show x_fr 53 3396 = true by decide), j1.cR (by omega) (fun q => q), r1]
    have x2 : gr N2 T' 3397 = some (T' + 4) := by rw [gr_of ((k6.2.2 _ (by omega)).1.trans tN) (show x_fr 53 3397 = true by decide), k6.cR (by omega) (fun q => q), j1.cR (by omega) (fun q => q), r2]
    have y1 : gr N T 3396 = some (cR N T 3396) := gr_of teN.1.2 (by decide)
    have y3 : ai N (cR N T 3396) (iw ((d.1 * ρ r + c : Nat) : Int)) = some (iw (s : Int)) := by rw [ai_of a2 a3 hk (by omega), q2]
    have y5 : gr N2 T 3397 = some (cR N T 3397) := by rw [gr_of ((k6.2.2 _ (by omega)).1.trans teN.1.2) (show x_fr 53 3397 = true by decide), k6.cR (by omega) (fun q => q)]
    have y6 : ab N2 (cR N T 3397) (iw ((d.1 * ρ r + c : Nat) : Int)) = some (enc (cl (pkc d ρ n) (d.1 * r + c))) := by rw [ab_of (Or.inr (Or.inl ((k6.2.2 _ (by omega)).1.trans b2))) ((k6.2.2 _ (by omega)).2.1.trans b3) hk (by omega), k6.cI (by omega) (fun q => by unfold pWd at q; omega), q1]
    have y7 : gi N2 T 3392 = some (iw (d.1 : Int)) := by rw [gi_of ((k6.2.2 _ (by omega)).1.trans teN.1.2) (show x_fi 53 3392 = true by decide), k6.cI (by omega) (fun q => by unfold pWd at q; omega), teN.2.1]
    have aj : al N 1057 (iw (r : Int)) = some (nl (ρ r)) := by rw [al_of (t1057 sN) (l1057 sN) (show r < 100000 by omega) (by decide), j1.cJ (by omega) (fun q => q), hJ r hr]
    have el : F_X52_length N T (iw ((d.1 * ρ r + c : Nat) : Int)) = some (iw ((cl (pkc d ρ n) (d.1 * r + c)).1.length : Nat)) := by rw [ec]; exact E_clen tc hk
    have jn : JP M0 d ρ n T' V (d.1 * r + (c + 1)) N3 := by
      rw [show d.1 * r + (c + 1) = d.1 * r + c + 1 by omega]
      refine ⟨s3, j1.trans (k7.mono (fun x i q => ?_) (fun _ _ q => q) (fun _ _ q => q)), ?_, ?_, by omega, by omega⟩
      · unfold pP2 pWd at *; omega
      · rw [hsat, ← Nat.add_assoc]; exact k4
      · rw [hsat, ← Nat.add_assoc]; exact k5
    obtain ⟨N', w1, w2⟩ := E_pk2in (v3 := v3) (k218 := k218) h k0 gd hW hWV te hZ hT hT2 hX tT r1 r2 t1 t2 hr hn hρ hJ m K (c + 1) N3 (by omega) jn
    refine ⟨N', ?_, w2⟩
    have st : F_X11_pick_b227 k218 (K + 1 + (m + 1)) N 1037 T 1057 v3 T' (iw (r : Int)) (iw (c : Int)) = F_X11_pick_b227_st k218 (F_X11_pick_b227 k218 (K + 1 + m)) N 1037 T 1057 v3 T' (iw (r : Int)) (iw (c : Int)) := rfl
    rw [st]
    unfold F_X11_pick_b227_st
    rw [gi_of teN.1.2 (show x_fi 53 3392 = true by decide), teN.2.1, Option.bind_some, if_pos (show iw (c : Int) < iw (d.1 : Int) by rw [iw_le4 (by omega) (by omega)]; exact hcC)]
    simp only [aj, x1, g1037_769, g1038_832, sN, y1, nl32 (show ρ r < 2147483648 by omega), iw_nml, iw_nad, y3, tc.g.2.2, el, v1038, k1, k2, x2, y7, y5, y6, k3, iw_succ, Option.bind_some]
    exact w1
theorem E_pk2 {v3 : Int32} (hv3 : v3 = iw (n : Int)) (h : ST M0) (k0 : K0 M0) (gd : GT d) (hW : W ≤ 65536) (hWV : W ≤ V) (te : TE M0 Z W T d) (hZ : ∀ x, Z x → 1334 ≤ x ∧ x < T') (hT : T' + 6 ≤ m_nx M0) (hT2 : 1334 ≤ T') (hX : V + sat (pkc d ρ n) (d.1 * n) ≤ 65536) (tT : m_tg M0 T' = 53) (r1 : cR M0 T' 3396 = T' + 3) (r2 : cR M0 T' 3397 = T' + 4) (t1 : m_tg M0 (T' + 3) = 1005 ∧ m_ln M0 (T' + 3) = d.1 * n) (t2 : m_tg M0 (T' + 4) = 1002 ∧ m_ln M0 (T' + 4) = d.1 * n) (hn : n < 500) (hρ : ∀ r, r < n → ρ r < d.2.1) (hJ : ∀ r, r < n → cJ M0 1057 r = nl (ρ r)) : ∀ (m K r : Nat) (N : Mem), r + m = n → JP M0 d ρ n T' V (d.1 * r) N → ∃ N', F_X11_pick_b218 (K + 1 + m) N 1037 T 1057 v3 T' (iw (r : Int)) = ((F_X11_finish N' 1037 T').bind fun z28 => some (.inl (z28.1, z28.2))) ∧ JP M0 d ρ n T' V (d.1 * n) N'
  | 0, K, r, N, hc, j => by
    have st : F_X11_pick_b218 (K + 1 + 0) N 1037 T 1057 v3 T' (iw (r : Int)) = F_X11_pick_b218_st (F_X11_pick_b218 K) N 1037 T 1057 v3 T' (iw (r : Int)) := rfl
    rw [st]
    unfold F_X11_pick_b218_st
    rw [hv3, if_neg (show ¬ iw (r : Int) < iw (n : Int) by rw [iw_le4 (by omega) (by omega)]; omega), v1037 j.1, Option.bind_some]
    rw [show r = n by omega] at j
    exact ⟨N, rfl, j⟩
  | m + 1, K, r, N, hc, j => by
    have g2 := gd.2.1
    obtain ⟨K2, hK2⟩ : ∃ K, K + 1 + d.1 = xN := ⟨xN - 1 - d.1, by have : xN = 1099511627776 := rfl; omega⟩
    obtain ⟨A, w1, w2⟩ := E_pk2in (v3 := v3) (k218 := F_X11_pick_b218 (K + 1 + m)) h k0 gd hW hWV te hZ hT hT2 hX tT r1 r2 t1 t2 (show r < n by omega) hn hρ hJ d.1 K2 0 N (by omega) j
    rw [hK2] at w1
    obtain ⟨N', x1, x2⟩ := E_pk2 hv3 h k0 gd hW hWV te hZ hT hT2 hX tT r1 r2 t1 t2 hn hρ hJ m K (r + 1) A (by omega) w2
    refine ⟨N', ?_, x2⟩
    have st : F_X11_pick_b218 (K + 1 + (m + 1)) N 1037 T 1057 v3 T' (iw (r : Int)) = F_X11_pick_b218_st (F_X11_pick_b218 (K + 1 + m)) N 1037 T 1057 v3 T' (iw (r : Int)) := rfl
    rw [st]
    unfold F_X11_pick_b218_st
    rw [hv3, if_pos (show iw (r : Int) < iw (n : Int) by rw [iw_le4 (by omega) (by omega)]; omega), ← hv3]
    exact Eq.trans w1 x1
end
theorem E_pfull {M : Mem} (h : ST M) : F_X11_pick_b119 M 1037 = some (.inr (1003, eT M 12 (-1))) := by
  unfold F_X11_pick_b119
  rw [g1037_768 h, Option.bind_some]
  exact eTh_of h 12
/-- the bytes that a picked table needs -/
def pkx (d : TD) (ρ : Nat → Nat) (n : Nat) : Nat := sat d.2.2.1 d.1 + sat (pkc d ρ n) (d.1 * n)
theorem pkx_b {d : TD} {ρ : Nat → Nat} {n : Nat} (gd : GT d) (hn : n ≤ 4096) (hρ : ∀ r, r < n → ρ r < d.2.1) : pkx d ρ n ≤ 3000000 := by
  obtain ⟨g1, g2, g3, g4, g5, g6, g7⟩ := gd
  have a1 := sat_b (cs := d.2.2.1) (fun k hk => by have := (g6 k (by omega)).2.2; omega) d.1 (by omega)
  have a2 := sat_b (cs := pkc d ρ n) (fun k hk => by
    rw [pkc_len] at hk
    have e : k = d.1 * (k / d.1) + k % d.1 := (Nat.div_add_mod k d.1).symm
    have h1 : k / d.1 < n := Nat.div_lt_of_lt_mul hk
    have h2 : k % d.1 < d.1 := Nat.mod_lt _ (by omega)
    have := pkc_at (d := d) (ρ := ρ) h1 h2
    rw [← e] at this
    rw [this]
    exact (g7 _ (cr_lt h2 (hρ _ h1))).2.1) (d.1 * n) (by rw [pkc_len]; omega)
  have a3 : d.1 * n ≤ 16 * 4096 := Nat.mul_le_mul g2 hn
  unfold pkx
  omega
theorem E_pickT {M : Mem} {Z : Nat → Prop} {W T m n : Nat} {d : TD} {ρ : Nat → Nat} (h : ST M) (k0 : K0 M) (gd : GT d) (hW : W ≤ 65536) (te : TE M Z W T d) (hZ : ∀ x, Z x → 1334 ≤ x ∧ x < m_nx M) (hm : cI M 1037 771 = iw (m : Int)) (hm2 : m ≤ 40) (hv : cI M 1038 833 = iw (W : Int)) (hn : n ≤ 4096) (hρ : ∀ r, r < n → ρ r < d.2.1) (hJ : ∀ r, r < n → cJ M 1057 r = nl (ρ r)) :
    ((m = 40 ∨ 500 ≤ n ∨ 65536 < W + pkx d ρ n) → F_X11_pick M 1037 T 1057 (iw (n : Int)) = some (.inr (1003, eT M 12 (-1)))) ∧ (¬ (m = 40 ∨ 500 ≤ n ∨ 65536 < W + pkx d ρ n) → ∃ M', F_X11_pick M 1037 T 1057 (iw (n : Int)) = some (.inl (iw ((m + 1 : Nat) : Int), M')) ∧ ST M' ∧ K0 M' ∧ TE M' (fun x => m_nx M ≤ x ∧ x < m_nx M + 6) (W + pkx d ρ n) (m_nx M) (pkd d ρ n) ∧ cI M' 1037 771 = iw ((m + 1 : Nat) : Int) ∧ cR M' 1040 (m + 1) = m_nx M ∧ cI M' 1038 833 = iw ((W + pkx d ρ n : Nat) : Int) ∧ Df (pMk W) n2 (rMk m) M M' ∧ m_nx M' = m_nx M + 6 ∧ m_sl M' ≤ m_sl M + 20 + 3 * d.1 + 2 * (d.1 * n)) := by
  have h0 := h.1
  have g1 := gd.1
  have g2 := gd.2.1
  have g3 := gd.2.2.1
  have hx3 := pkx_b gd hn hρ
  obtain ⟨K1, hK1⟩ : ∃ K, K + 1 + d.1 = xN := ⟨xN - 1 - d.1, by have : xN = 1099511627776 := rfl; omega⟩
  have n1 := E_need1 (v3 := iw (n : Int)) h gd hW te d.1 K1 0 (by omega)
  rw [hK1] at n1
  have n2' : ∀ (q K r : Nat), r + q = n → F_X11_pick_b39 (K + 1 + q) M 1037 T 1057 (iw (n : Int)) (iw ((sat d.2.2.1 d.1 + sat (pkc d ρ n) (d.1 * r) : Nat) : Int)) (iw (r : Int)) = F_X11_pick_b39_st (F_X11_pick_b39 K) M 1037 T 1057 (iw (n : Int)) (iw (pkx d ρ n : Nat)) (iw (n : Int)) := by
    intro q
    induction q with
    | zero =>
      intro K r hr
      rw [show r = n by omega]
      rfl
    | succ q ih =>
      intro K r hr
      have st : F_X11_pick_b39 (K + 1 + (q + 1)) M 1037 T 1057 (iw (n : Int)) (iw ((sat d.2.2.1 d.1 + sat (pkc d ρ n) (d.1 * r) : Nat) : Int)) (iw (r : Int)) = F_X11_pick_b48 (F_X11_pick_b39 (K + 1 + q)) xN M 1037 T 1057 (iw (n : Int)) (iw ((sat d.2.2.1 d.1 + sat (pkc d ρ n) (d.1 * r) : Nat) : Int)) (iw (r : Int)) 0 := by
        show F_X11_pick_b39_st (F_X11_pick_b39 (K + 1 + q)) M 1037 T 1057 (iw (n : Int)) (iw ((sat d.2.2.1 d.1 + sat (pkc d ρ n) (d.1 * r) : Nat) : Int)) (iw (r : Int)) = _
        unfold F_X11_pick_b39_st
        rw [if_pos (show iw (r : Int) < iw (n : Int) by rw [iw_le4 (by omega) (by omega)]; omega)]
      have nn := E_need2 (v3 := iw (n : Int)) (k39 := F_X11_pick_b39 (K + 1 + q)) (X0 := sat d.2.2.1 d.1) (r := r) h k0 gd hW te (by omega) hn hρ (hJ r (by omega)) d.1 K1 0 (by omega)
      rw [hK1] at nn
      rw [st]
      exact Eq.trans nn (ih K (r + 1) (by omega))
  obtain ⟨K3, hK3⟩ : ∃ K, K + 1 + n = xN := ⟨xN - 1 - n, by have : xN = 1099511627776 := rfl; omega⟩
  have n3 := n2' n K3 0 (by omega)
  rw [hK3] at n3
  have head : F_X11_pick M 1037 T 1057 (iw (n : Int)) = F_X11_pick_b39_st (F_X11_pick_b39 K3) M 1037 T 1057 (iw (n : Int)) (iw (pkx d ρ n : Nat)) (iw (n : Int)) := Eq.trans n1 n3
  rw [head]
  unfold F_X11_pick_b39_st
  rw [if_neg (show ¬ iw (n : Int) < iw (n : Int) by rw [iw_le4 (by omega) (by omega)]; omega), g1037_771 h, Option.bind_some, hm]
  have q40 : iw (m : Int) = 40 ↔ m = 40 := by rw [show (40 : Int32) = iw ((40 : Nat) : Int) from rfl, iw_eq (by omega) (by omega) (by omega) (by omega)]; omega
  have q5 : iw (n : Int) < 500 ↔ n < 500 := by rw [show (500 : Int32) = iw ((500 : Nat) : Int) from rfl, iw_le4 (by omega) (by omega)]
  obtain ⟨X, hX⟩ : ∃ X, X = pkx d ρ n := ⟨_, rfl⟩
  have hpx : X = sat d.2.2.1 d.1 + sat (pkc d ρ n) (d.1 * n) := hX
  rw [← hX] at hx3 ⊢
  have qW : (65536 : Int32) < iw ((W + X : Nat) : Int) ↔ 65536 < W + X := by rw [show (65536 : Int32) = iw ((65536 : Nat) : Int) from rfl, iw_le4 (by omega) (by omega)]
  have room : F_X12_hasRoom M 1038 (iw (X : Int)) = some (if 65536 < W + X then 0 else 1) := by
    unfold F_X12_hasRoom F_X12_hasRoom_b16
    rw [g1038_833 h, Option.bind_some, hv, iw_nad]
    by_cases c : 65536 < W + X
    · rw [if_pos (qW.mpr c), if_pos c]; rfl
    · rw [if_neg (fun q => c (qW.mp q)), if_neg c]; rfl
  have n10 : ¬ (1 : Int32) = 0 := by decide
  by_cases c40 : m = 40
  · rw [if_pos (q40.mpr c40)]
    exact ⟨fun _ => E_pfull h, fun q => absurd (Or.inl c40) q⟩
  · rw [if_neg (fun q => c40 (q40.mp q))]
    by_cases c5 : n < 500
    · rw [if_pos (q5.mpr c5)]
      simp only [g1037_769, v1038, h, room, Option.bind_some]
      by_cases cW : 65536 < W + X
      · rw [if_pos cW, if_pos rfl]
        exact ⟨fun _ => E_pfull h, fun q => absurd (Or.inr (Or.inr cW)) q⟩
      · rw [if_neg cW, if_neg n10]
        refine ⟨fun q => absurd q (by omega), fun _ => ?_⟩
        obtain ⟨A, a1, a2, a3, a4, a5, a6, a7, a8, ⟨b1, b2, b3, b4, b5⟩, c1, c2, c3, c4, c5'⟩ := E_mkT (M := M) (C := d.1) (R := n) g2 c5
        obtain ⟨T', hT'⟩ : ∃ T', T' = m_nx M := ⟨_, rfl⟩
        rw [← hT'] at a1 a2 a4 a6 a7 a8 b1 b2 b3 b4 b5 c1 c2 c3 c4 c5' ⊢
        have SA : ST A := h.df a3 n2_st
        have kA : K0 A := k0.df h a3 (fun _ _ _ q => q) (fun _ _ _ q => q)
        have hZ' : ∀ x, Z x → 1334 ≤ x ∧ x < T' := fun x hx => by have := hZ x hx; omega
        have teA : TE A Z W T d := te.df a3 (fun x hx => (hZ x hx).2) (fun _ _ _ q => q) (fun _ _ _ q => q) h0 (fun _ _ q => q)
        have hCn : d.1 * n ≤ 16 * 499 := Nat.mul_le_mul g2 (by omega)
        have ztT := hZ _ te.1.1
        have M92 : gi (mo M 53) T 3392 = some (iw (d.1 : Int)) := by
          have d0 : Df n2 n2 n2 M (mo M 53) := Df.new _ _
          rw [gi_of ((d0.2.2 T (by omega)).1.trans te.1.2) (show x_fi 53 3392 = true by decide), d0.cI (by omega) (fun q => q), te.2.1]
        obtain ⟨B, e1, SB', dB, rB, vB, nB, lB⟩ := E_pk1 (v3 := iw (n : Int)) (T' := T') SA gd hW teA hZ' (by omega) (by omega) (by rw [a3.cI (by omega) (fun q => q)]; exact hv) (by omega) a6 b1 b2 c1 c2
        have hB0 := SB'.1
        have teB := teA.pk SA hZ' (by omega) (by omega) dB
        have kB : K0 B := kA.df SA dB (fun a i q k => by unfold pPk pWd at k; omega) (fun _ _ _ k => k)
        have gB : ∀ x, T' ≤ x → x < T' + 6 → m_tg B x = m_tg A x ∧ m_ln B x = m_ln A x := fun x h1 h2 => ⟨(dB.2.2 x (by omega)).1, (dB.2.2 x (by omega)).2.1⟩
        have rBT : ∀ g, cR B T' g = cR A T' g := fun g => dB.cR (by omega) (fun q => q)
        obtain ⟨Q, hQ⟩ : ∃ Q, Q = W + sat d.2.2.1 d.1 := ⟨_, rfl⟩
        rw [← hQ] at rB vB
        obtain ⟨N, f1, jN⟩ := E_pk2 (v3 := iw (n : Int)) (V := Q) (T' := T') (ρ := ρ) rfl SB' kB gd hW (by omega) teB hZ' (by omega) (by omega) (by omega) ((gB _ (by omega) (by omega)).1.trans a6) ((rBT _).trans b3) ((rBT _).trans b4) ⟨(gB _ (by omega) (by omega)).1.trans c3.1, (gB _ (by omega) (by omega)).2.trans c3.2⟩ ⟨(gB _ (by omega) (by omega)).1.trans c4.1, (gB _ (by omega) (by omega)).2.trans c4.2⟩ c5 hρ (fun r hr => by rw [dB.cJ (by omega) (fun q => q), a3.cJ (by omega) (fun q => q)]; exact hJ r hr) n K3 0 B (by omega) ⟨SB', Df.refl _ _ _ _, fun k hk => by omega, by rw [Nat.mul_zero, show sat (pkc d ρ n) 0 = 0 from rfl, Nat.add_zero]; exact vB, rfl, rfl⟩
        rw [hK3] at f1
        obtain ⟨sN, j1, j2, j3, j4, j5⟩ := jN
        have eV : Q + sat (pkc d ρ n) (d.1 * n) = W + X := by omega
        rw [eV] at j2 j3
        have kN : K0 N := kB.df SB' j1 (fun a i q k => by unfold pP2 pWd at k; omega) (fun _ _ _ k => k)
        have gN : ∀ x, T' ≤ x → x < T' + 6 → m_tg N x = m_tg A x ∧ m_ln N x = m_ln A x := fun x h1 h2 => ⟨(j1.2.2 x (by omega)).1.trans (gB x h1 h2).1, (j1.2.2 x (by omega)).2.1.trans (gB x h1 h2).2⟩
        have rNT : ∀ g, cR N T' g = cR A T' g := fun g => (j1.cR (by omega) (fun q => q)).trans (rBT g)
        have cNT : ∀ i, cI N T' i = cI A T' i := fun i => by rw [j1.cI (by omega) (fun q => by unfold pP2 pWd at q; omega), dB.cI (by omega) (fun q => by unfold pPk pWd at q; omega)]
        have te0 : TE0 N (fun x => (T' ≤ x ∧ x < T' + 6) ∧ x ≠ T' + 5) (W + X) T' (pkd d ρ n) := by
          refine ⟨⟨⟨⟨by omega, by omega⟩, by omega⟩, (gN T' (by omega) (by omega)).1.trans a6⟩, (cNT _).trans a7, (cNT _).trans a8, ?_, ?_⟩
          · rw [rNT, rNT, b1, b2]
            refine ⟨⟨⟨⟨by omega, by omega⟩, by omega⟩, (gN _ (by omega) (by omega)).1.trans c1.1, (gN _ (by omega) (by omega)).2.trans c1.2⟩, ⟨⟨⟨by omega, by omega⟩, by omega⟩, (gN _ (by omega) (by omega)).1.trans c2.1, (gN _ (by omega) (by omega)).2.trans c2.2⟩, fun k hk => ?_⟩
            obtain ⟨q1, s, q2, q3, q4⟩ := rB k hk
            exact ⟨by rw [j1.cI (by omega) (fun q => by unfold pP2 pWd at q; omega)]; exact q1, s, by rw [j1.cI (by omega) (fun q => by unfold pP2 pWd at q; omega)]; exact q2, Nat.le_trans q3 (by omega), fun i hi => by rw [j1.cI (by omega) (fun q => by have : i < (cl d.2.2.1 k).1.length := hi; unfold pP2 pWd at q; omega)]; exact q4 i hi⟩
          · rw [rNT, rNT, b3, b4]
            exact ⟨⟨⟨⟨by omega, by omega⟩, by omega⟩, (gN _ (by omega) (by omega)).1.trans c3.1, (gN _ (by omega) (by omega)).2.trans c3.2⟩, ⟨⟨⟨by omega, by omega⟩, by omega⟩, (gN _ (by omega) (by omega)).1.trans c4.1, (gN _ (by omega) (by omega)).2.trans c4.2⟩, j2⟩
        have N71 : cI N 1037 771 = iw (m : Int) := by rw [j1.cI (by omega) (fun q => by unfold pP2 pWd at q; omega), dB.cI (by omega) (fun q => by unfold pPk pWd at q; omega), a3.cI (by omega) (fun q => q)]; exact hm
        obtain ⟨F, f2, SF', kF, tF, F71, F40, dF, nF, lF⟩ := E_finish (M := N) (Z := fun x => T' ≤ x ∧ x < T' + 6) (W := W + X) (T := T') (L := T' + 5) (m := m) (d := pkd d ρ n) sN kN (pkd_gt gd c5 hρ) (by omega) te0 (fun x hx => by omega) ((rNT _).trans b5) (by omega) ((gN _ (by omega) (by omega)).1.trans c5'.1) ((gN _ (by omega) (by omega)).2.trans c5'.2) N71 (by omega)
        refine ⟨F, ?_, SF', kF, tF, F71, F40, ?_, ?_, by omega, by omega⟩
        · simp only [M92, a2, a1, Option.bind_some]
          rw [e1]
          rw [show F_X11_pick_b218 xN B 1037 T 1057 (iw (n : Int)) T' 0 = _ from f1, f2]
          rfl
        · rw [dF.cI (by omega) (fun q => by omega)]
          exact j3
        · have q1 : Df (pMk W) n2 (rMk m) M A := a3.mono (fun _ _ q => q.elim) (fun _ _ q => q) (fun _ _ q => q.elim)
          have q2 : Df (pMk W) n2 (rMk m) M B := Df.then q1 dB (fun x i hx q => by unfold pPk at q; rcases q with q | q | q | q | q; exact Or.inr q; omega; omega; omega; omega) (fun _ _ _ q => q) (fun _ _ _ q => q.elim)
          have q3 : Df (pMk W) n2 (rMk m) M N := Df.then q2 j1 (fun x i hx q => by unfold pP2 at q; rcases q with q | q | q; exact Or.inr (by unfold pWd at *; omega); omega; omega) (fun _ _ _ q => q) (fun _ _ _ q => q.elim)
          exact Df.then q3 dF (fun x i hx q => by rcases q with q | q; omega; exact Or.inl q) (fun _ _ _ q => q) (fun x i hx q => q)
    · rw [if_neg (fun q => c5 (q5.mp q))]
      exact ⟨fun _ => E_pfull h, fun q => absurd (Or.inr (Or.inl (by omega))) q⟩
