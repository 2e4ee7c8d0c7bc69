/-! ===== TABLES, 53: the model picks rows ===== -/
def bdr (val : Nat → Int64) (R k : Nat) : Prop := val k < 0 ∨ ¬ val k < nl R
theorem good_r {val : Nat → Int64} {R k : Nat} (hR : R < 500) (h : ¬ bdr val R k) : val k = nl (val k).toInt.toNat ∧ (val k).toInt.toNat < R := by
  unfold bdr at h
  have h1 : ¬ val k < 0 := fun q => h (Or.inl q)
  have h2 : val k < nl R := Classical.byContradiction (fun q => h (Or.inr q))
  rw [Int64.lt_iff_toInt_lt] at h1 h2
  rw [nl_int (by omega)] at h2
  have z : (0 : Int64).toInt = 0 := rfl
  refine ⟨?_, by omega⟩
  refine Int64.toInt_inj.mp ?_
  rw [nl_int (by omega)]
  omega
section
variable {M : Mem} {Z : Nat → Prop} {T g n : Nat} {d : TD} {ρ : Nat → Nat} {val : Nat → Int64}
theorem M_need1 {v5 : Int32} (gd : GT d) (k0 : K0 M) (tm : TMt M Z T d) (hZ : ∀ x, Z x → 1334 ≤ x ∧ x < m_nx M) : ∀ (m N c : Nat), c + m = d.1 → F_X16_pick_b73 (N + 1 + m) M 1068 g T v5 (iw (sat d.2.2.1 c : Nat)) (iw (c : Int)) = F_X16_pick_b116 xN M 1068 g T v5 (iw (sat d.2.2.1 d.1 : Nat)) 0
  | 0, N, c, hc => by
    have g2 := gd.2.1
    obtain ⟨r1, r2, ln, r3, r4, r5⟩ := tm.rows gd k0 hZ
    show F_X16_pick_b73_st (F_X16_pick_b73 N) M 1068 g T v5 (iw (sat d.2.2.1 c : Nat)) (iw (c : Int)) = _
    unfold F_X16_pick_b73_st
    simp only [r3, r4, r5, Option.bind_some]
    rw [if_neg (show ¬ iw (c : Int) < iw (d.1 : Int) by rw [iw_le4 (by omega) (by omega)]; omega), show c = d.1 by omega]
  | m + 1, N, c, hc => by
    have ih := M_need1 (v5 := v5) gd k0 tm hZ m N (c + 1) (by omega)
    have g2 := gd.2.1
    obtain ⟨⟨ln, dn, en, lc, dc, ec, q⟩, -⟩ := tm
    obtain ⟨q1, q2, q3, q4, q5, q6, q7⟩ := (q.c gd k0 hZ).g
    have nm := q.2.2.2.2.2.2.2.1 c (by omega)
    have gt' := (q.2.2.2.1.2.2).get (show c < en.length by have := q.2.2.2.2.2.1; omega)
    have hcc : cc M (en.getD c 0) 76 = some () := by unfold cc; rw [if_pos (Or.inr (by rw [nm.2.1]; decide))]
    show F_X16_pick_b73_st (F_X16_pick_b73 (N + 1 + m)) M 1068 g T v5 (iw (sat d.2.2.1 c : Nat)) (iw (c : Int)) = _
    unfold F_X16_pick_b73_st
    simp only [q1, q3, q5, Option.bind_some]
    rw [if_pos (show iw (c : Int) < iw (d.1 : Int) by rw [iw_le4 (by omega) (by omega)]; omega)]
    simp only [gt', hcc, nm.2.2.2.vg, J_len nm.2.2.2, iw_nad, iw_succ, Option.bind_some]
    rw [← sat_s (show c < d.2.2.1.length by have := gd.2.2.2.1; omega)]
    exact ih
theorem M_need2 {v5 : Int32} {k116 : Mem → Nat → Nat → Nat → Int32 → Int32 → Int32 → Option (Int32 × Mem)} {r X0 : Nat} (gd : GT d) (k0 : K0 M) (tm : TMt M Z T d) (hZ : ∀ x, Z x → 1334 ≤ x ∧ x < m_nx M) (hr : r < n) (hρ : ρ r < d.2.1) : ∀ (m N c : Nat), c + m = d.1 → F_X16_pick_b156 k116 (N + 1 + m) M 1068 g T v5 (iw ((X0 + sat (pkc d ρ n) (d.1 * r + c) : Nat) : Int)) (iw (r : Int)) (nl (ρ r)) (iw (c : Int)) = k116 M 1068 g T v5 (iw ((X0 + sat (pkc d ρ n) (d.1 * (r + 1)) : Nat) : Int)) (iw ((r + 1 : Nat) : Int))
  | 0, N, c, hc => by
    have g2 := gd.2.1
    obtain ⟨r1, r2, ln, r3, r4, r5⟩ := tm.rows gd k0 hZ
    show F_X16_pick_b156_st k116 (F_X16_pick_b156 k116 N) M 1068 g T v5 (iw ((X0 + sat (pkc d ρ n) (d.1 * r + c) : Nat) : Int)) (iw (r : Int)) (nl (ρ r)) (iw (c : Int)) = _
    unfold F_X16_pick_b156_st
    simp only [r3, r4, r5, Option.bind_some]
    rw [if_neg (show ¬ iw (c : Int) < iw (d.1 : Int) by rw [iw_le4 (by omega) (by omega)]; omega), iw_succ, show d.1 * r + c = d.1 * (r + 1) by rw [Nat.mul_add, Nat.mul_one]; omega]
  | m + 1, N, c, hc => by
    have ih := M_need2 (v5 := v5) (k116 := k116) (X0 := X0) gd k0 tm hZ hr hρ m N (c + 1) (by omega)
    have g2 := gd.2.1
    have g3 := gd.2.2.1
    have hcC : c < d.1 := by omega
    obtain ⟨⟨ln, dn, en, lc, dc, ec, q⟩, -⟩ := tm
    have tc := q.c gd k0 hZ
    obtain ⟨q1, q2, q3, q4, q5, q6, q7⟩ := tc.g
    obtain ⟨a1, a2⟩ := M_atT tc hρ hcC
    have cm := q.2.2.2.2.2.2.2.2 _ (cr_lt hcC hρ)
    have sb := cm.2.2.2.2.2.2
    show F_X16_pick_b156_st k116 (F_X16_pick_b156 k116 (N + 1 + m)) M 1068 g T v5 (iw ((X0 + sat (pkc d ρ n) (d.1 * r + c) : Nat) : Int)) (iw (r : Int)) (nl (ρ r)) (iw (c : Int)) = _
    unfold F_X16_pick_b156_st
    simp only [q1, q3, q5, Option.bind_some]
    rw [if_pos (show iw (c : Int) < iw (d.1 : Int) by rw [iw_le4 (by omega) (by omega)]; omega)]
    simp only [q7, nl32 (show ρ r < 2147483648 by omega), a1, a2.g.2.1, sb.vg, J_len sb, iw_nad, iw_succ, Option.bind_some]
    have e := sat_s (cs := pkc d ρ n) (k := d.1 * r + c) (by rw [pkc_len]; exact cr_lt hcC hr)
    rw [pkc_at hr hcC] at e
    have e2 : X0 + sat (pkc d ρ n) (d.1 * r + c) + (cl d.2.2.2 (d.1 * ρ r + c)).1.length = X0 + sat (pkc d ρ n) (d.1 * r + (c + 1)) := by rw [show d.1 * r + (c + 1) = d.1 * r + c + 1 by omega, e]; omega
    rw [e2]
    exact ih
theorem M_need3 (gd : GT d) (k0 : K0 M) (tm : TMt M Z T d) (hZ : ∀ x, Z x → 1334 ≤ x ∧ x < m_nx M) (hn : n ≤ 4096) (hvg : vg M g 23 = some ()) (hcell : ∀ k, k < n → F_X22_cell M g (iw (k : Int)) = some (val k)) (hρ : ∀ k, k < n → ¬ bdr val d.2.1 k → val k = nl (ρ k) ∧ ρ k < d.2.1) : ∀ (m K k : Nat), k + m = n → (∀ r, r < k → ¬ bdr val d.2.1 r) → F_X16_pick_b116 (K + 1 + m) M 1068 g T (iw (n : Int)) (iw ((sat d.2.2.1 d.1 + sat (pkc d ρ n) (d.1 * k) : Nat) : Int)) (iw (k : Int)) = pif (∃ r, r < n ∧ bdr val d.2.1 r) (some (-2, M)) (F_X16_pick_b116_st (F_X16_pick_b116 K) M 1068 g T (iw (n : Int)) (iw (pkx d ρ n : Nat)) (iw (n : Int)))
  | 0, K, k, hk, hb => by
    rw [fpif (fun ⟨r, h1, h2⟩ => hb r (by omega) h2), show k = n by omega]
    rfl
  | m + 1, K, k, hk, hb => by
    have g2 := gd.2.1
    have g3 := gd.2.2.1
    obtain ⟨r1, r2, -⟩ := tm.rows gd k0 hZ
    have st : F_X16_pick_b116 (K + 1 + (m + 1)) M 1068 g T (iw (n : Int)) (iw ((sat d.2.2.1 d.1 + sat (pkc d ρ n) (d.1 * k) : Nat) : Int)) (iw (k : Int)) = F_X16_pick_b116_st (F_X16_pick_b116 (K + 1 + m)) M 1068 g T (iw (n : Int)) (iw ((sat d.2.2.1 d.1 + sat (pkc d ρ n) (d.1 * k) : Nat) : Int)) (iw (k : Int)) := rfl
    obtain ⟨R0, hR0⟩ : ∃ R0, R0 = F_X16_pick_b116_st (F_X16_pick_b116 K) M 1068 g T (iw (n : Int)) (iw (pkx d ρ n : Nat)) (iw (n : Int)) := ⟨_, rfl⟩
    rw [st, ← hR0]
    unfold F_X16_pick_b116_st F_X16_pick_b150
    rw [if_pos (show iw (k : Int) < iw (n : Int) by rw [iw_le4 (by omega) (by omega)]; omega), hvg, Option.bind_some, hcell k (by omega), Option.bind_some]
    by_cases c0 : val k < 0
    · rw [if_pos c0, tpif ⟨k, by omega, Or.inl c0⟩]
    · rw [if_neg c0, r2, Option.bind_some, r1, Option.bind_some, i64_iw (by omega)]
      by_cases c1 : val k < nl d.2.1
      · rw [if_pos c1]
        have ng : ¬ bdr val d.2.1 k := fun q => q.elim c0 (fun q => q c1)
        obtain ⟨v1, v2⟩ := hρ k (by omega) ng
        obtain ⟨K1, hK1⟩ : ∃ K, K + 1 + d.1 = xN := ⟨xN - 1 - d.1, by have : xN = 1099511627776 := rfl; omega⟩
        have nn := M_need2 (g := g) (v5 := iw (n : Int)) (k116 := F_X16_pick_b116 (K + 1 + m)) (r := k) (n := n) (ρ := ρ) (X0 := sat d.2.2.1 d.1) gd k0 tm hZ (by omega) v2 d.1 K1 0 (by omega)
        rw [hK1, ← v1] at nn
        refine Eq.trans nn ?_
        rw [hR0]
        exact M_need3 gd k0 tm hZ hn hvg hcell hρ m K (k + 1) (by omega) (fun r hr => by
          by_cases q : r = k
          · rw [q]; exact ng
          · exact hb r (by omega))
      · rw [if_neg c1, tpif ⟨k, by omega, Or.inr c1⟩]
end
/-- the cells picked -/
def pke (ec : List Nat) (C : Nat) (ρ : Nat → Nat) (q : Nat) : List Nat := (List.range q).map (fun i => ec.getD (C * ρ (i / C) + i % C) 0)
theorem pke_len (ec : List Nat) (C : Nat) (ρ : Nat → Nat) (q : Nat) : (pke ec C ρ q).length = q := by unfold pke; rw [List.length_map, List.length_range]
theorem pke_s {ec : List Nat} {C : Nat} {ρ : Nat → Nat} {r c : Nat} (hc : c < C) : pke ec C ρ (C * r + c + 1) = pke ec C ρ (C * r + c) ++ [ec.getD (C * ρ r + c) 0] := by
  unfold pke
  rw [List.range_succ, List.map_append]
  show _ ++ [ec.getD (C * ρ ((C * r + c) / C) + (C * r + c) % C) 0] = _
  rw [Nat.mul_add_div (by omega), Nat.div_eq_of_lt hc, Nat.add_zero, Nat.mul_add_mod, Nat.mod_eq_of_lt hc]
theorem pke_at {ec : List Nat} {C : Nat} {ρ : Nat → Nat} {q k : Nat} (hk : k < q) : (pke ec C ρ q).getD k 0 = ec.getD (C * ρ (k / C) + k % C) 0 := by
  unfold pke
  rw [List.getD_eq_getElem?_getD, List.getElem?_map, List.getElem?_range hk]
  rfl
section
variable {M M2 : Mem} {Z : Nat → Prop} {T g n T' : Nat} {d : TD} {ρ : Nat → Nat} {val : Nat → Int64} {ln dn lc dc : Nat} {en ec : List Nat}
/-- names are put into the new table -/
theorem M_pk1 {v5 v6 : Int32} {A : Mem} (gd : GT d) (k0 : K0 M) (h : ST M) (k4 : m_tg M 4 = 1091 ∧ m_ln M 4 = 0) (q : TM0 M Z T d ln dn en lc dc ec) (hZ : ∀ x, Z x → 1334 ≤ x ∧ x < m_nx M) (hT' : T' = m_nx M) (dA : Df n2 n2 n2 M A) (nA : m_nx A = T' + 3) (tT : m_tg A T' = 55) (r1 : cR A T' 3520 = T' + 1) (al0 : AL A (T' + 1) 4 []) : ∃ N dn', F_X16_pick_b246 xN A 1068 g T v5 v6 T' 0 = F_X16_pick_b290 xN N 1068 g T v5 v6 T' 0 ∧ Df (at1 (T' + 1)) n2 (at1 (T' + 1)) A N ∧ AL N (T' + 1) dn' en ∧ (dn' = 4 ∨ m_nx A ≤ dn') ∧ m_nx N ≤ m_nx A + 16 ∧ m_sl N ≤ m_sl A + 700 := by
  have h0 := h.1
  have g2 := gd.2.1
  have hlen := q.2.2.2.2.2.1
  have sA : ST A := h.df dA n2_st
  have lo := upl0 (β := Option (Int32 × Mem)) (σ := Unit) (fun N M _ i => F_X16_pick_b246 N M 1068 g T v5 v6 T' i) (n := d.1) (by omega) (fun c N _ => Df (at1 (T' + 1)) n2 (at1 (T' + 1)) A N ∧ (∃ dn', AL N (T' + 1) dn' (en.take c) ∧ (dn' = 4 ∨ m_nx A ≤ dn')) ∧ m_nx N ≤ m_nx A + c ∧ m_sl N ≤ m_sl A + 42 * c) (fun K N _ c hc hJ => by
    obtain ⟨j1, ⟨dn', j2, j3⟩, j4, j5⟩ := hJ
    have dN : Df n2 n2 n2 M N := dA.then j1 (fun x i hx k => by unfold at1 at k; omega) (fun _ _ _ k => k) (fun x i hx k => by unfold at1 at k; omega)
    have nn := dN.1
    have nn2 := j1.1
    have qN := q.df dN (fun x hx => (hZ x hx).2) (fun _ _ _ k => k) (fun _ _ _ k => k)
    have kN : K0 N := k0.df h dN (fun _ _ _ k => k) (fun _ _ _ k => k)
    have tc := qN.c gd kN (fun x hx => by have := hZ x hx; omega)
    obtain ⟨q1, q2, q3, q4, q5, q6, q7⟩ := tc.g
    have nm := qN.2.2.2.2.2.2.2.1 c hc
    have zn := hZ _ nm.1
    have gt' := (qN.2.2.2.1.2.2).get (show c < en.length by omega)
    have hcc : cc N (en.getD c 0) 76 = some () := by unfold cc; rw [if_pos (Or.inr (by rw [nm.2.1]; decide))]
    have hlt : (en.take c).length = c := by rw [List.length_take]; omega
    obtain ⟨N', ds', f1, f2, f3, f4, f5, f6⟩ := j2.add (v := en.getD c 0) (by omega) ⟨(dN.2.2 4 (by omega)).1.trans k4.1, (dN.2.2 4 (by omega)).2.1.trans k4.2⟩ (by omega) (Or.inr ⟨by omega, by rw [nm.2.1]; decide⟩)
    have etk : en.take c ++ [en.getD c 0] = en.take (c + 1) := by
      rw [List.take_add_one, List.getElem?_eq_getElem (show c < en.length by omega), List.getD_eq_getElem?_getD, List.getElem?_eq_getElem (show c < en.length by omega)]
      rfl
    rw [etk] at f2
    have tN : m_tg N T' = 55 := (j1.2.2 _ (by omega)).1.trans tT
    have x1 : gr N T' 3520 = some (T' + 1) := by rw [gr_of tN (show x_fr 55 3520 = true by decide), j1.cR (by omega) (fun k => by unfold at1 at k; omega), r1]
    refine ⟨N', (), ?_, Df.then j1 f4 (fun x i hx k => k) (fun _ _ _ k => k) (fun x i hx k => by unfold at1; omega), ⟨ds', f2, by omega⟩, by omega, by omega⟩
    show F_X16_pick_b246_st (F_X16_pick_b246 K) N 1068 g T v5 v6 T' (iw (c : Int)) = _
    unfold F_X16_pick_b246_st
    simp only [q1, q3, q5, Option.bind_some]
    rw [if_pos (show iw (c : Int) < iw (d.1 : Int) by rw [iw_le4 (by omega) (by omega)]; exact hc)]
    simp only [x1, gt', hcc, vg_of j2.2.1 (show x_isa 67 67 = true by decide), f1, iw_succ, Option.bind_some]) (M := A) (s := ()) ⟨Df.refl _ _ _ _, ⟨4, al0, Or.inl rfl⟩, by omega, by omega⟩
  obtain ⟨K, N, -, e1, j1, ⟨dn', j2, j3⟩, j4, j5⟩ := lo
  have dN : Df n2 n2 n2 M N := dA.then j1 (fun x i hx k => by unfold at1 at k; omega) (fun _ _ _ k => k) (fun x i hx k => by unfold at1 at k; omega)
  have nn := dN.1
  have qN := q.df dN (fun x hx => (hZ x hx).2) (fun _ _ _ k => k) (fun _ _ _ k => k)
  have kN : K0 N := k0.df h dN (fun _ _ _ k => k) (fun _ _ _ k => k)
  obtain ⟨q1, q2, q3, q4, q5, q6, q7⟩ := (qN.c gd kN (fun x hx => by have := hZ x hx; omega)).g
  rw [show en.take d.1 = en by rw [← hlen]; exact List.take_length] at j2
  refine ⟨N, dn', ?_, j1, j2, j3, by omega, by omega⟩
  refine Eq.trans e1 ?_
  show F_X16_pick_b246_st (F_X16_pick_b246 K) N 1068 g T v5 v6 T' (iw (d.1 : Int)) = _
  unfold F_X16_pick_b246_st
  simp only [q1, q3, q5, Option.bind_some]
  rw [if_neg (show ¬ iw (d.1 : Int) < iw (d.1 : Int) by rw [iw_le4 (by omega) (by omega)]; omega)]
/-- what holds while cells are put into the new table -/
def JM (M2 : Mem) (ec : List Nat) (C : Nat) (ρ : Nat → Nat) (lc' B q : Nat) (N : Mem) : Prop := Df (at1 lc') n2 (at1 lc') M2 N ∧ (∃ dc', ALs N lc' dc' (pke ec C ρ q) B ∧ (dc' = 4 ∨ m_nx M2 ≤ dc')) ∧ m_nx N ≤ m_nx M2 + q
theorem M_pk2in {v5 v6 : Int32} {k290 : Mem → Nat → Nat → Nat → Int32 → Int32 → Nat → Int32 → Option (Int32 × Mem)} {r B : Nat} (gd : GT d) (k0 : K0 M) (h : ST M) (k4 : m_tg M 4 = 1091 ∧ m_ln M 4 = 0) (q : TM0 M Z T d ln dn en lc dc ec) (hZ : ∀ x, Z x → 1334 ≤ x ∧ x < m_nx M) (hT' : T' = m_nx M) (d2 : Df n2 n2 n2 M M2) (n2' : T' + 3 ≤ m_nx M2) (tT : m_tg M2 T' = 55) (r2 : cR M2 T' 3521 = T' + 2) (hr : r < n) (hn : n < 500) (hρ : ρ r < d.2.1) (hv : val r = nl (ρ r)) (hcell : ∀ N, Df n2 n2 n2 M N → F_X22_cell N g (iw (r : Int)) = some (val r) ∧ vg N g 23 = some ()) : ∀ (m K c : Nat) (N : Mem), c + m = d.1 → JM M2 ec d.1 ρ (T' + 2) B (d.1 * r + c) N → ∃ N', F_X16_pick_b300 k290 (K + 1 + m) N 1068 g T v5 v6 T' (iw (r : Int)) (iw (c : Int)) = k290 N' 1068 g T v5 v6 T' (iw ((r + 1 : Nat) : Int)) ∧ JM M2 ec d.1 ρ (T' + 2) B (d.1 * (r + 1)) N'
  | 0, K, c, N, hc, j => by
    have h0 := h.1
    have g2 := gd.2.1
    have dN : Df n2 n2 n2 M N := d2.then j.1 (fun x i hx k => by unfold at1 at k; omega) (fun _ _ _ k => k) (fun x i hx k => by unfold at1 at k; omega)
    have nn := dN.1
    have qN := q.df dN (fun x hx => (hZ x hx).2) (fun _ _ _ k => k) (fun _ _ _ k => k)
    have kN : K0 N := k0.df h dN (fun _ _ _ k => k) (fun _ _ _ k => k)
    obtain ⟨q1, q2, q3, q4, q5, q6, q7⟩ := (qN.c gd kN (fun x hx => by have := hZ x hx; omega)).g
    have st : F_X16_pick_b300 k290 (K + 1 + 0) N 1068 g T v5 v6 T' (iw (r : Int)) (iw (c : Int)) = F_X16_pick_b300_st k290 (F_X16_pick_b300 k290 K) N 1068 g T v5 v6 T' (iw (r : Int)) (iw (c : Int)) := rfl
    rw [st]
    unfold F_X16_pick_b300_st
    simp only [q1, q3, q5, Option.bind_some]
    rw [if_neg (show ¬ iw (c : Int) < iw (d.1 : Int) by rw [iw_le4 (by omega) (by omega)]; omega), iw_succ]
    rw [show d.1 * r + c = d.1 * (r + 1) by rw [Nat.mul_add, Nat.mul_one]; omega] at j
    exact ⟨N, rfl, j⟩
  | m + 1, K, c, N, hc, j => by
    have h0 := h.1
    have g2 := gd.2.1
    have g3 := gd.2.2.1
    have hcC : c < d.1 := by omega
    obtain ⟨j1, ⟨dc', j2, j3⟩, j4⟩ := j
    have dN : Df n2 n2 n2 M N := d2.then j1 (fun x i hx k => by unfold at1 at k; omega) (fun _ _ _ k => k) (fun x i hx k => by unfold at1 at k; omega)
    have nn := dN.1
    have nn2 := j1.1
    have qN := q.df dN (fun x hx => (hZ x hx).2) (fun _ _ _ k => k) (fun _ _ _ k => k)
    have kN : K0 N := k0.df h dN (fun _ _ _ k => k) (fun _ _ _ k => k)
    have tc := qN.c gd kN (fun x hx => by have := hZ x hx; omega)
    obtain ⟨q1, q2, q3, q4, q5, q6, q7⟩ := tc.g
    obtain ⟨a1, a2⟩ := M_atT tc hρ hcC
    have hk := cr_lt (R := d.2.1) hcC hρ
    have cm := qN.2.2.2.2.2.2.2.2 _ hk
    have zc := hZ _ cm.1
    have hk2 := cr_lt (R := n) hcC hr
    have hCn : d.1 * n ≤ 16 * 499 := Nat.mul_le_mul g2 (by omega)
    obtain ⟨N', ds', f1, f2, f3, f4, f5⟩ := j2.add (v := ec.getD (d.1 * ρ r + c) 0) (by omega) ⟨(dN.2.2 4 (by omega)).1.trans k4.1, (dN.2.2 4 (by omega)).2.1.trans k4.2⟩ (by rw [pke_len]; omega) (Or.inr ⟨by omega, by rw [cm.2.1]; decide⟩)
    rw [← pke_s hcC] at f2
    have tN : m_tg N T' = 55 := (j1.2.2 _ (by omega)).1.trans tT
    have x1 : gr N T' 3521 = some (T' + 2) := by rw [gr_of tN (show x_fr 55 3521 = true by decide), j1.cR (by omega) (fun k => by unfold at1 at k; omega), r2]
    have jn : JM M2 ec d.1 ρ (T' + 2) B (d.1 * r + (c + 1)) N' := by
      rw [show d.1 * r + (c + 1) = d.1 * r + c + 1 by omega]
      exact ⟨Df.then j1 f4 (fun x i hx k => k) (fun _ _ _ k => k) (fun x i hx k => by unfold at1; omega), ⟨ds', f2, by omega⟩, by omega⟩
    obtain ⟨N2, w1, w2⟩ := M_pk2in (v5 := v5) (v6 := v6) (k290 := k290) gd k0 h k4 q hZ hT' d2 n2' tT r2 hr hn hρ hv hcell m K (c + 1) N' (by omega) jn
    refine ⟨N2, ?_, w2⟩
    obtain ⟨hc1, hc2⟩ := hcell N dN
    have st : F_X16_pick_b300 k290 (K + 1 + (m + 1)) N 1068 g T v5 v6 T' (iw (r : Int)) (iw (c : Int)) = F_X16_pick_b300_st k290 (F_X16_pick_b300 k290 (K + 1 + m)) N 1068 g T v5 v6 T' (iw (r : Int)) (iw (c : Int)) := rfl
    rw [st]
    unfold F_X16_pick_b300_st
    simp only [q1, q3, q5, Option.bind_some]
    rw [if_pos (show iw (c : Int) < iw (d.1 : Int) by rw [iw_le4 (by omega) (by omega)]; exact hcC)]
    simp only [x1, hc2, hc1, hv, q7, nl32 (show ρ r < 2147483648 by omega), a1, vg_of j2.1.2.1 (show x_isa 67 67 = true by decide), f1, iw_succ, Option.bind_some]
    exact w1
theorem M_pk2 {v6 : Int32} {B : Nat} (gd : GT d) (k0 : K0 M) (h : ST M) (k4 : m_tg M 4 = 1091 ∧ m_ln M 4 = 0) (q : TM0 M Z T d ln dn en lc dc ec) (hZ : ∀ x, Z x → 1334 ≤ x ∧ x < m_nx M) (hT' : T' = m_nx M) (d2 : Df n2 n2 n2 M M2) (n2' : T' + 3 ≤ m_nx M2) (tT : m_tg M2 T' = 55) (r2 : cR M2 T' 3521 = T' + 2) (hn : n < 500) (hρ : ∀ r, r < n → ρ r < d.2.1) (hv : ∀ r, r < n → val r = nl (ρ r)) (hcell : ∀ N, Df n2 n2 n2 M N → (∀ r, r < n → F_X22_cell N g (iw (r : Int)) = some (val r)) ∧ vg N g 23 = some ()) : ∀ (m K r : Nat) (N : Mem), r + m = n → JM M2 ec d.1 ρ (T' + 2) B (d.1 * r) N → ∃ N', F_X16_pick_b290 (K + 1 + m) N 1068 g T (iw (n : Int)) v6 T' (iw (r : Int)) = ((F_X16_tabled N' 1068 T' v6).bind fun z14 => some (z14.1, z14.2)) ∧ JM M2 ec d.1 ρ (T' + 2) B (d.1 * n) N'
  | 0, K, r, N, hc, j => by
    have dN : Df n2 n2 n2 M N := d2.then j.1 (fun x i hx k => by unfold at1 at k; omega) (fun _ _ _ k => k) (fun x i hx k => by unfold at1 at k; omega)
    have sN : ST N := h.df dN n2_st
    have st : F_X16_pick_b290 (K + 1 + 0) N 1068 g T (iw (n : Int)) v6 T' (iw (r : Int)) = F_X16_pick_b290_st (F_X16_pick_b290 K) N 1068 g T (iw (n : Int)) v6 T' (iw (r : Int)) := rfl
    rw [st]
    unfold F_X16_pick_b290_st
    rw [if_neg (show ¬ iw (r : Int) < iw (n : Int) by rw [iw_le4 (by omega) (by omega)]; omega), v1068 sN, Option.bind_some]
    rw [show r = n by omega] at j
    exact ⟨N, rfl, j⟩
  | m + 1, K, r, N, hc, j => by
    have g2 := gd.2.1
    obtain ⟨K2, hK2⟩ : ∃ K, K + 1 + d.1 = xN := ⟨xN - 1 - d.1, by have : xN = 1099511627776 := rfl; omega⟩
    obtain ⟨A, w1, w2⟩ := M_pk2in (v5 := iw (n : Int)) (v6 := v6) (k290 := F_X16_pick_b290 (K + 1 + m)) (r := r) gd k0 h k4 q hZ hT' d2 n2' tT r2 (show r < n by omega) hn (hρ r (by omega)) (hv r (by omega)) (fun N dN => ⟨(hcell N dN).1 r (by omega), (hcell N dN).2⟩) d.1 K2 0 N (by omega) j
    rw [hK2] at w1
    obtain ⟨N', x1, x2⟩ := M_pk2 (v6 := v6) gd k0 h k4 q hZ hT' d2 n2' tT r2 hn hρ hv hcell m K (r + 1) A (by omega) w2
    refine ⟨N', ?_, x2⟩
    have st : F_X16_pick_b290 (K + 1 + (m + 1)) N 1068 g T (iw (n : Int)) v6 T' (iw (r : Int)) = F_X16_pick_b290_st (F_X16_pick_b290 (K + 1 + m)) N 1068 g T (iw (n : Int)) v6 T' (iw (r : Int)) := rfl
    rw [st]
    unfold F_X16_pick_b290_st
    rw [if_pos (show iw (r : Int) < iw (n : Int) by rw [iw_le4 (by omega) (by omega)]; omega)]
    exact Eq.trans w1 x1
end
