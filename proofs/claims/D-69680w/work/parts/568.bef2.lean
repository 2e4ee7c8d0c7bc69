/-! ===== TABLES, 64: the engine counts words ===== -/
theorem E_bef_l {M : Mem} {T C R c sr lr r : Nat} {cs : List (List Int32 × Bool)} {P : Nat → Prop} (h : ST M) (tc : TEc M T C R cs) (hc : c < C) (hr : r < R) (r1 : ai M (cR M T 3396) (iw ((C * r + c : Nat) : Int)) = some (iw (sr : Int))) (hlr : F_X52_length M T (iw ((C * r + c : Nat) : Int)) = some (iw (lr : Int)))
    (hk : ∀ k, k < R → ¬ msg (cl cs (C * k + c)) → ∃ (s l : Nat) (z : Int32), ai M (cR M T 3396) (iw ((C * k + c : Nat) : Int)) = some (iw (s : Int)) ∧ F_X52_length M T (iw ((C * k + c : Nat) : Int)) = some (iw (l : Int)) ∧ F_X12_compare M 1038 (iw (s : Int)) (iw (l : Int)) (iw (sr : Int)) (iw (lr : Int)) = some z ∧ (z < 0 ↔ P k)) (hm : ∀ k, k < R → msg (cl cs (C * k + c)) → ¬ P k) : ∀ (m N k : Nat), k + m = R → F_X11_before_b29 (N + 1 + m) M 1037 T (iw (c : Int)) (iw ((C * r + c : Nat) : Int)) (nl (ct P k)) (iw (k : Int)) = some (nl (ct P R))
  | 0, N, k, hkm => by
    have hR := tc.2.2.2.2.2.2.1
    show F_X11_before_b29_st (F_X11_before_b29 N) M 1037 T (iw (c : Int)) (iw ((C * r + c : Nat) : Int)) (nl (ct P k)) (iw (k : Int)) = _
    unfold F_X11_before_b29_st
    rw [tc.g.1, Option.bind_some, if_neg (show ¬ iw (k : Int) < iw (R : Int) by rw [iw_le4 (by omega) (by omega)]; omega), show k = R by omega]
  | m + 1, N, k, hkm => by
    have hR := tc.2.2.2.2.2.2.1
    have n1 : ¬ (1 : Int32) = 0 := by decide
    have hkk := cr_lt (R := R) hc (show k < R by omega)
    have hkr := cr_lt (R := R) hc hr
    obtain ⟨x1, x2, x3, x4, x5⟩ := tc.x hkr
    have i1 := E_bef_l h tc hc hr r1 hlr hk hm m N (k + 1) (by omega)
    have es : ct P (k + 1) = ct P k + pif (P k) 1 0 := rfl
    show F_X11_before_b29_st (F_X11_before_b29 (N + 1 + m)) M 1037 T (iw (c : Int)) (iw ((C * r + c : Nat) : Int)) (nl (ct P k)) (iw (k : Int)) = _
    unfold F_X11_before_b29_st F_X11_before_b100
    rw [tc.g.1, Option.bind_some, if_pos (show iw (k : Int) < iw (R : Int) by rw [iw_le4 (by omega) (by omega)]; omega)]
    simp only [tc.g.2.1, tc.g.2.2, iw_nml, iw_nad, E_miss tc hkk, iw_succ, Option.bind_some]
    by_cases cm : msg (cl cs (C * k + c))
    · rw [tpif cm, if_neg n1]
      rw [es, fpif (hm k (by omega) cm), Nat.add_zero] at i1
      exact i1
    · rw [fpif cm, if_pos rfl]
      obtain ⟨s, l, z, k1, k2, k3, k4⟩ := hk k (by omega) cm
      simp only [g1037_769, h, x3, k1, r1, x5, k2, hlr, v1038, k3, Option.bind_some]
      by_cases cz : z < 0
      · rw [if_pos cz]
        rw [es, tpif (k4.mp cz), ← nl_add] at i1
        exact i1
      · rw [if_neg cz]
        rw [es, fpif (fun q => cz (k4.mpr q)), Nat.add_zero] at i1
        exact i1
theorem E_bef {M : Mem} {Z : Nat → Prop} {W T c r : Nat} {d : TD} (h : ST M) (k0 : K0 M) (gd : GT d) (hW : W ≤ 65536) (te : TE M Z W T d) (hc : c < d.1) (hr : r < d.2.1) : F_X11_before M 1037 T (iw (c : Int)) (iw (r : Int)) = some (rkv d c r) := by
  have g3 := gd.2.2.1
  have tc := te.c gd h k0 hW
  have tb := tc.b
  have hkr := cr_lt (R := d.2.1) hc hr
  obtain ⟨gr1, gr2, -⟩ := gd.2.2.2.2.2.2 _ hkr
  obtain ⟨sr, r1, r2, r3⟩ := te.2.2.2.2.1.at hkr (by omega) hW
  have n1 : ¬ (1 : Int32) = 0 := by decide
  unfold F_X11_before
  simp only [tc.g.2.1, tc.g.2.2, iw_nml, iw_nad, E_miss tc hkr, Option.bind_some]
  unfold rkv
  by_cases cm : msg (cl d.2.2.2 (d.1 * r + c))
  · rw [tpif cm, if_neg n1, tpif (show msg (ccl d c r) from cm)]
  · rw [fpif cm, if_pos rfl, fpif (show ¬ msg (ccl d c r) from cm)]
    obtain ⟨K, hK⟩ : ∃ K, K + 1 + d.2.1 = xN := ⟨xN - 1 - d.2.1, by have : xN = 1099511627776 := rfl; omega⟩
    have lp := E_bef_l (P := befE d c (kyc d c r)) h tc hc hr r1 (E_clen tc hkr) (fun k hk nm => by
      have hkk := cr_lt (R := d.2.1) hc hk
      obtain ⟨gk1, gk2, -⟩ := gd.2.2.2.2.2.2 _ hkk
      obtain ⟨sk, k1, k2, k3⟩ := te.2.2.2.2.1.at hkk (by omega) hW
      exact ⟨sk, _, _, k1, E_clen tc hkk, E_cmpW h gk1 gr1 k3 r3 gk2 gr2, sgc_n.1.trans ⟨fun q => ⟨nm, q⟩, fun q => q.2⟩⟩) (fun k hk q p => p.1 q) d.2.1 K 0 (by omega)
    have e0 : ct (befE d c (kyc d c r)) 0 = 0 := rfl
    rw [hK, e0] at lp
    exact lp
