/-! ===== CALLS, 30: groups ===== -/
def at2' : Nat → Nat → Prop := fun a _ => a = 1073 ∨ a = 1074
theorem qt_at2' : qt at2' := fun a i q1 q2 => by unfold at2' at q2; omega
section GRP2
variable {ok bk ov bv : Nat} {kd k : Int32} {nk nv : Nat} {zk zv : Nat → Nat} {sk' tk sv tv : Nat → Int32} {xk yk xv yv : Int32} {ck dk Lk' cv dv' Lv : Nat} {pk pv w : Int32} {keys vals : Nat → Int64} {n : Nat}
theorem M_gout {P : Nat → Nat} (hw : Wy w) (hk : Lk k) (ht : foT w k = true) (h8 : w ≠ 8) (hn : n ≤ 4096) (hP : ∀ q, q < n → P q < n) (hkv : ∀ q, q < n → vb kd (keys q)) (hvv : ∀ q, q < n → vb k (vals q)) (hpk : prd zk nk = n) (hpv : prd zv nv = n) : ∀ (e N q g : Nat) (ka fa : Nat → Int64) (v9 : Int64) (M : Mem), q + e = n → ST M → K0 M → GP M ok bk kd nk zk sk' tk xk yk ck dk Lk' pk → GP M ov bv k nv zv sv tv xv yv cv dv' Lv pv → (∀ x, x < n → cJ M ck (gpos nk zk sk' xk x) = keys x) → (∀ x, x < n → cJ M cv (gpos nv zv sv xv x) = vals x) → (∀ x, x < n → cI M 1084 x = iw (P x : Nat)) →
    gst w k (fun q => keys (P q)) (fun q => vals (P q)) q = some (g, ka, fa) → (0 < q → v9 = ka (g - 1)) → (∀ x, x < g → cJ M 1073 x = ka x ∧ cJ M 1074 x = fa x) →
    (∃ M' g' ka' fa' v9', gst w k (fun q => keys (P q)) (fun q => vals (P q)) n = some (g', ka', fa') ∧ F_X16_groups_b146 (N + e) M 1068 w bk bv (foL w k) (iw (n : Int)) (iw (g : Int)) v9 (iw (q : Int)) = F_X16_groups_b146 N M' 1068 w bk bv (foL w k) (iw (n : Int)) (iw (g' : Nat)) v9' (iw (n : Int)) ∧ Df n2 at2' n2 M M' ∧ m_nx M' = m_nx M ∧ m_sl M' = m_sl M ∧ ∀ x, x < g' → cJ M' 1073 x = ka' x ∧ cJ M' 1074 x = fa' x) ∨
    (gst w k (fun q => keys (P q)) (fun q => vals (P q)) n = none ∧ ∃ M', F_X16_groups_b146 (N + e) M 1068 w bk bv (foL w k) (iw (n : Int)) (iw (g : Int)) v9 (iw (q : Int)) = some (-8, M') ∧ Df psc at2' n2 M M' ∧ m_nx M' ≤ m_nx M + 1 ∧ m_sl M' ≤ m_sl M + 20) := by
  have n10 : ¬ (1 : Int32) = 0 := by decide
  have x64 : x_cn 64 ≤ 20 := by decide
  intro e
  induction e with
  | zero =>
    intro N q g ka fa v9 M h1 sM kM gk gv hck hcv hpl hg hv9 hrow
    have : q = n := by omega
    subst this
    left
    exact ⟨M, g, ka, fa, v9, hg, rfl, Df.refl _ _ _ _, rfl, rfl, hrow⟩
  | succ e ih =>
    intro N q g ka fa v9 M h1 sM kM gk gv hck hcv hpl hg hv9 hrow
    have h0 := sM.1
    have hq : q < n := by omega
    have hPq := hP q hq
    obtain ⟨i1, i2, i3⟩ := gst_inv hw hk ht h8 (fun q hq => hkv _ (hP q hq)) (fun q hq => hvv _ (hP q hq)) q (by omega) g ka fa hg
    have cpk := gk.2.2.2.2.2.2.2.1
    have cpv := gv.2.2.2.2.2.2.2.1
    have aiq : ∀ U, Df n2 at2' n2 M U → ai U 1084 (iw (q : Int)) = some (iw (P q : Nat)) := fun U d => by
      have sU : ST U := sM.n d
      rw [ai_of (t1084 sU) (l1084 sU) (show q < 100000 by omega) (by decide), d.cI (by omega) (fun q => q), hpl q hq]
    have ck : F_X22_cell M bk (iw (P q : Nat)) = some (keys (P q)) := by rw [(gk.get (show P q < prd zk nk by omega)).2.2, hck _ hPq]
    have cvU : ∀ U, Df n2 at2' n2 M U → F_X22_cell U bv (iw (P q : Nat)) = some (vals (P q)) := fun U d => by
      rw [((gv.df d qt_n2 qt_at2' qt_n2).get (show P q < prd zv nv by omega)).2.2, d.cJ cpv.2.1 (qt_at2' _ _ cpv.1), hcv _ hPq]
    -- the second half of a step
    have half : ∀ (U : Mem) (g1 : Nat) (v : Int64) (fi : Int32) (so : Int64), Df n2 at2' n2 M U → 0 < g1 → g1 ≤ 4096 → cJ U 1074 (g1 - 1) = so → F_X16_groups_b221 (F_X16_groups_b146 (N + e)) U 1068 w bk bv (foL w k) (iw (n : Int)) (iw (g1 : Int)) v (iw (q : Int)) fi = tc (F_X16_folded U 1068 w k (foL w k) so (vals (P q)) fi) (fun z12 => (sj z12.2 1074 (iw ((g1 - 1 : Nat) : Int)) z12.1).bind fun M14 => F_X16_groups_b146 (N + e) M14 1068 w bk bv (foL w k) (iw (n : Int)) (iw (g1 : Int)) v (iw ((q + 1 : Nat) : Int))) (fun z13 => F_X16_groups_b268 z13.2 z13.1 1068) := by
      intro U g1 v fi so d hg1 hg2 hso
      have sU : ST U := sM.n d
      have gU := gv.df d qt_n2 qt_at2' qt_n2
      have e1 : iw (g1 : Int) - 1 = iw ((g1 - 1 : Nat) : Int) := by rw [show (1 : Int32) = iw ((1 : Nat) : Int) from rfl, iw_nsub (by omega)]
      have e2 : al U 1074 (iw ((g1 - 1 : Nat) : Int)) = some so := by rw [al_of (t1074 sU) (l1074 sU) (by omega) (by decide), hso]
      unfold F_X16_groups_b221
      rw [e1]
      simp only [g1068_1101, g1068_1118, v1068, sU, gi_of gU.2.1.2.2.1 (show x_fi 23 1472 = true by decide), gU.2.1.2.2.2.1, e2, aiq U d, vg_of gU.2.1.2.2.1 (show x_isa 23 23 = true by decide), cvU U d, iw_succ, Option.bind_some]
    -- how a step ends
    have fin : ∀ (U : Mem) (g1 : Nat) (v : Int64) (r0 : Option Int64) (ka1 fa1 : Nat → Int64), Df n2 at2' n2 M U → m_nx U = m_nx M → m_sl U = m_sl M → 0 < g1 → g1 ≤ 4096 → v = ka1 (g1 - 1) → (∀ x, x < g1 → cJ U 1073 x = ka1 x) → (∀ x, x < g1 - 1 → cJ U 1074 x = fa1 x) → (∀ r, r0 = some r → gst w k (fun q => keys (P q)) (fun q => vals (P q)) (q + 1) = some (g1, ka1, upj fa1 (g1 - 1) r)) → (r0 = none → gst w k (fun q => keys (P q)) (fun q => vals (P q)) (q + 1) = none) →
        F_X16_groups_b146 (N + (e + 1)) M 1068 w bk bv (foL w k) (iw (n : Int)) (iw (g : Int)) v9 (iw (q : Int)) = tc (mRes r0 U 1068) (fun z12 => (sj z12.2 1074 (iw ((g1 - 1 : Nat) : Int)) z12.1).bind fun M14 => F_X16_groups_b146 (N + e) M14 1068 w bk bv (foL w k) (iw (n : Int)) (iw (g1 : Int)) v (iw ((q + 1 : Nat) : Int))) (fun z13 => F_X16_groups_b268 z13.2 z13.1 1068) →
        (∃ M' g' ka' fa' v9', gst w k (fun q => keys (P q)) (fun q => vals (P q)) n = some (g', ka', fa') ∧ F_X16_groups_b146 (N + (e + 1)) M 1068 w bk bv (foL w k) (iw (n : Int)) (iw (g : Int)) v9 (iw (q : Int)) = F_X16_groups_b146 N M' 1068 w bk bv (foL w k) (iw (n : Int)) (iw (g' : Nat)) v9' (iw (n : Int)) ∧ Df n2 at2' n2 M M' ∧ m_nx M' = m_nx M ∧ m_sl M' = m_sl M ∧ ∀ x, x < g' → cJ M' 1073 x = ka' x ∧ cJ M' 1074 x = fa' x) ∨
        (gst w k (fun q => keys (P q)) (fun q => vals (P q)) n = none ∧ ∃ M', F_X16_groups_b146 (N + (e + 1)) M 1068 w bk bv (foL w k) (iw (n : Int)) (iw (g : Int)) v9 (iw (q : Int)) = some (-8, M') ∧ Df psc at2' n2 M M' ∧ m_nx M' ≤ m_nx M + 1 ∧ m_sl M' ≤ m_sl M + 20) := by
      intro U g1 v r0 ka1 fa1 d nU lU hg1 hg2 hv hka hfa hs hno hrun
      have sU : ST U := sM.n d
      cases hr : r0 with
      | none =>
        right
        rw [hr] at hrun
        have hn' := gst_no (hno hr) (n - (q + 1))
        rw [show q + 1 + (n - (q + 1)) = n by omega] at hn'
        have s2 : ST (mT U 8 (-1)) := sU.n (mT_df U 8 (-1))
        refine ⟨hn', mT U 8 (-1), ?_, (d.mono (fun _ _ q => q.elim) (fun _ _ q => q) (fun _ _ q => q)).trans ((mT_df U 8 (-1)).mono (fun _ _ q => q) (fun _ _ q => q.elim) (fun _ _ q => q)), by show m_nx U + 1 ≤ _; omega, by show m_sl U + x_cn 64 ≤ _; omega⟩
        rw [hrun]
        show tc (mTh U 1068 8) _ _ = _
        rw [mTh_of sU, tc_inr]
        simp only [F_X16_groups_b268, g1068_1103, g1075_1152, s2, (mT_c (M := U) 8 (-1) (by omega)).1, Option.bind_some]
      | some r =>
        rw [hr] at hrun
        obtain ⟨V, hV⟩ : ∃ V, V = wJ U 1074 (g1 - 1) r := ⟨_, rfl⟩
        have dV : Df n2 at2' n2 M V := d.trans (by rw [hV]; exact Df.wJ _ (Or.inr rfl))
        have run2 : F_X16_groups_b146 (N + (e + 1)) M 1068 w bk bv (foL w k) (iw (n : Int)) (iw (g : Int)) v9 (iw (q : Int)) = F_X16_groups_b146 (N + e) V 1068 w bk bv (foL w k) (iw (n : Int)) (iw (g1 : Int)) v (iw ((q + 1 : Nat) : Int)) := by
          rw [hrun]
          show tc (some (Sum.inl (r, U))) _ _ = _
          rw [tc_inl, sj_of r (t1074 sU) (l1074 sU) (show g1 - 1 < 100000 by omega) (by decide), hV]
          rfl
        have nV : m_nx V = m_nx M := by rw [hV]; exact nU
        have lV : m_sl V = m_sl M := by rw [hV]; exact lU
        have hrow2 : ∀ x, x < g1 → cJ V 1073 x = ka1 x ∧ cJ V 1074 x = upj fa1 (g1 - 1) r x := fun x hx => by
          rw [hV, cJ_wJ, if_neg (fun q => absurd q.1 (by decide)), cJ_wJ]
          unfold upj
          by_cases c : x = g1 - 1
          · rw [if_pos ⟨rfl, c⟩, if_pos c]
            exact ⟨hka x hx, rfl⟩
          · rw [if_neg (fun q => c q.2), if_neg c]
            exact ⟨hka x hx, hfa x (by omega)⟩
        rw [run2]
        rcases ih N (q + 1) g1 ka1 _ v V (by omega) (sM.n dV) (kM.df sM dV (fun _ _ _ q => q) (fun _ _ _ q => q)) (gk.df dV qt_n2 qt_at2' qt_n2) (gv.df dV qt_n2 qt_at2' qt_n2) (fun x hx => by rw [dV.cJ cpk.2.1 (qt_at2' _ _ cpk.1)]; exact hck x hx) (fun x hx => by rw [dV.cJ cpv.2.1 (qt_at2' _ _ cpv.1)]; exact hcv x hx) (fun x hx => by rw [dV.cI (by omega) (fun q => q)]; exact hpl x hx) (hs r hr) (fun _ => hv) hrow2 with ⟨M', g', ka', fa', v9', r1, r2, r3, r4, r5, r6⟩ | ⟨r1, M', r2, r3, r4, r5⟩
        · left
          exact ⟨M', g', ka', fa', v9', r1, r2, dV.trans r3, by omega, by omega, r6⟩
        · right
          exact ⟨r1, M', r2, (dV.mono (fun _ _ q => q.elim) (fun _ _ q => q) (fun _ _ q => q)).trans r3, by omega, by omega⟩
    have head : F_X16_groups_b146 (N + (e + 1)) M 1068 w bk bv (foL w k) (iw (n : Int)) (iw (g : Int)) v9 (iw (q : Int)) = if q = 0 ∨ keys (P q) ≠ v9 then F_X16_groups_b180 (F_X16_groups_b146 (N + e)) M 1068 w bk bv (foL w k) (iw (n : Int)) (iw (g : Int)) v9 (iw (q : Int)) (keys (P q)) else F_X16_groups_b185 (F_X16_groups_b146 (N + e)) M 0 1068 w bk bv (foL w k) (iw (n : Int)) (iw (g : Int)) v9 (iw (q : Int)) (keys (P q)) := by
      show F_X16_groups_b146_st (F_X16_groups_b146 (N + e)) M _ _ _ _ _ _ _ _ _ = _
      unfold F_X16_groups_b146_st
      rw [if_pos (by rw [iw_le4 (by omega) (by omega)]; exact hq)]
      simp only [g1068_1118, sM, aiq M (Df.refl _ _ _ _), vg_of gk.2.1.2.2.1 (show x_isa 23 23 = true by decide), ck, Option.bind_some]
      by_cases c0 : q = 0
      · rw [if_pos (by rw [c0]; rfl), if_pos (Or.inl c0)]
      · rw [if_neg (by rw [iw_eq0 (by omega) (by omega)]; omega)]
        by_cases ck9 : keys (P q) = v9
        · rw [if_pos ck9, if_neg (fun q => q.elim c0 (fun q => q ck9))]
        · rw [if_neg ck9, if_pos (Or.inr ck9)]
    by_cases cn : q = 0 ∨ keys (P q) ≠ v9
    · rw [if_pos cn] at head
      have cn' : q = 0 ∨ (fun q => keys (P q)) q ≠ ka (g - 1) := by
        rcases cn with c | c
        · exact Or.inl c
        · by_cases c0 : q = 0
          · exact Or.inl c0
          · right; rw [← hv9 (by omega)]; exact c
      obtain ⟨n1, n2'⟩ := gst_new hg cn'
      obtain ⟨U1, hU1⟩ : ∃ U1, U1 = wJ M 1073 g (keys (P q)) := ⟨_, rfl⟩
      obtain ⟨U, hU⟩ : ∃ U, U = wJ U1 1074 g (foM w k) := ⟨_, rfl⟩
      have d1 : Df n2 at2' n2 M U1 := by rw [hU1]; exact Df.wJ _ (Or.inl rfl)
      have d2 : Df n2 at2' n2 M U := d1.trans (by rw [hU]; exact Df.wJ _ (Or.inr rfl))
      have s1 : ST U1 := sM.n d1
      have sU : ST U := sM.n d2
      have kU : K0 U := kM.df sM d2 (fun _ _ _ q => q) (fun _ _ _ q => q)
      have q1 : sj M 1073 (iw (g : Int)) (keys (P q)) = some U1 := by rw [hU1]; exact sj_of _ (t1073 sM) (l1073 sM) (by omega) (by decide)
      have q2 : sj U1 1074 (iw (g : Int)) (foM w k) = some U := by rw [hU]; exact sj_of _ (t1074 s1) (l1074 s1) (by omega) (by decide)
      have h80 : F_X16_groups_b180 (F_X16_groups_b146 (N + e)) M 1068 w bk bv (foL w k) (iw (n : Int)) (iw (g : Int)) v9 (iw (q : Int)) (keys (P q)) = F_X16_groups_b221 (F_X16_groups_b146 (N + e)) U 1068 w bk bv (foL w k) (iw (n : Int)) (iw ((g + 1 : Nat) : Int)) (keys (P q)) (iw (q : Int)) 1 := by
        unfold F_X16_groups_b180 F_X16_groups_b185
        rw [if_neg n10]
        simp only [g1068_1100, sM, q1, g1068_1101, s1, M_begin hw hk ht h8, q2, iw_succ, Option.bind_some]
      have hso : cJ U 1074 (g + 1 - 1) = foM w k := by rw [hU, cJ_wJ, if_pos ⟨rfl, by omega⟩]
      have fa' := M_fadd (fi := 1) (so := foM w k) kU sU hw hk ht h8 (fun q5 q2 => by
        rcases q2 with q2 | q2
        · exact absurd q2 n10
        · rw [← foB_M (v := vals (P q)) q2]
          exact (foB_V hw hk ht h8 (hvv _ hPq)).1 q5) (hvv _ hPq) (Or.inr rfl)
      have eso : (if (1 : Int32) = 1 ∧ (w = 3 ∨ w = 4) then vals (P q) else foM w k) = foB w k (vals (P q)) := by
        by_cases c34 : w = 3 ∨ w = 4
        · rw [if_pos ⟨rfl, c34⟩]
          rcases c34 with rfl | rfl <;> rfl
        · rw [if_neg (fun q => c34 q.2), foB_M ⟨fun e => c34 (Or.inl e), fun e => c34 (Or.inr e)⟩]
      rw [eso] at fa'
      have hrun := head.trans (h80.trans (half U (g + 1) (keys (P q)) 1 _ d2 (by omega) (by omega) hso))
      rw [fa'] at hrun
      refine fin U (g + 1) (keys (P q)) _ (upj ka g (keys (P q))) fa d2 (by rw [hU, hU1]; rfl) (by rw [hU, hU1]; rfl) (by omega) (by omega) ?_ (fun x hx => ?_) (fun x hx => ?_) (fun r hr => ?_) n2' hrun
      · unfold upj
        rw [if_pos (by omega)]
      · rw [hU, cJ_wJ, if_neg (fun q => absurd q.1 (by decide)), hU1, cJ_wJ]
        unfold upj
        by_cases c : x = g
        · rw [if_pos ⟨rfl, c⟩, if_pos c]
        · rw [if_neg (fun q => c q.2), if_neg c]
          exact (hrow x (by omega)).1
      · rw [hU, cJ_wJ, if_neg (fun q => by omega), hU1, cJ_wJ, if_neg (fun q => absurd q.1 (by decide))]
        exact (hrow x (by omega)).2
      · exact n1 r hr
    · rw [if_neg cn] at head
      have hq0 : 0 < q := by
        rcases Nat.eq_zero_or_pos q with c | c
        · exact absurd (Or.inl c) cn
        · exact c
      have hg0 := i2 hq0
      have hv := hv9 hq0
      have cn' : ¬ (q = 0 ∨ (fun q => keys (P q)) q ≠ ka (g - 1)) := by
        rw [← hv]
        exact cn
      obtain ⟨n1, n2'⟩ := gst_old hg cn'
      have h85 : F_X16_groups_b185 (F_X16_groups_b146 (N + e)) M 0 1068 w bk bv (foL w k) (iw (n : Int)) (iw (g : Int)) v9 (iw (q : Int)) (keys (P q)) = F_X16_groups_b221 (F_X16_groups_b146 (N + e)) M 1068 w bk bv (foL w k) (iw (n : Int)) (iw (g : Int)) v9 (iw (q : Int)) 0 := by
        unfold F_X16_groups_b185
        rw [if_pos rfl]
      have hso : cJ M 1074 (g - 1) = fa (g - 1) := (hrow (g - 1) (by omega)).2
      have fa' := M_fadd (fi := 0) (so := fa (g - 1)) kM sM hw hk ht h8 (fun q5 _ => (i3 (g - 1) (by omega)).2.1 q5) (hvv _ hPq) (Or.inl rfl)
      rw [if_neg (show ¬ ((0 : Int32) = 1 ∧ (w = 3 ∨ w = 4)) from fun q => absurd q.1 (by decide))] at fa'
      have hrun := head.trans (h85.trans (half M g v9 0 _ (Df.refl _ _ _ _) hg0 (by omega) hso))
      rw [fa'] at hrun
      exact fin M g v9 _ ka fa (Df.refl _ _ _ _) rfl rfl hg0 (by omega) hv (fun x hx => (hrow x hx).1) (fun x hx => (hrow x (by omega)).2) (fun r hr => n1 r hr) n2' hrun
end GRP2
theorem Wy8 {w : Int32} (h : Wy w) : (7 : Int32) < w ↔ w = 8 := by
  rcases h with rfl | rfl | rfl | rfl | rfl | rfl | rfl | rfl | rfl <;> decide
theorem c_groups {M : Mem} {g g' w : Int32} (h : ST M) (k0 : K0 M) (h4 : I4 M) (h5 : I5 M) : CR (pg n2) (rG M) (fun _ => True) M (fun M => F_X0_groups M 1000 g g' w) (fun M => F_X16_groups M 1068 g g' w) := by
  have h0 := h.1
  have h5x := h5
  obtain ⟨m, ww, K, n, Z, S, T, X, Y, C, D, L, P, h5⟩ := h5
  have n10 : ¬ (1 : Int32) = 0 := by decide
  have hxN : xN = 1099511627776 := rfl
  have z6 : ¬ (0 : Nat) = 6 := by decide
  have no : ∀ r : Int32, F_X0_groups M 1000 g g' w = some (r, M) → F_X16_groups M 1068 g g' w = some (r, M) → CR (pg n2) (rG M) (fun _ => True) M (fun M => F_X0_groups M 1000 g g' w) (fun M => F_X16_groups M 1068 g g' w) := fun r e1 e2 =>
    CR.no h h5x r M M e1 e2 trivial (Df.refl n2 _ _ _) (fun _ _ q => q.elim) qt_n2 noGr_n2 (by omega) (by omega)
  rcases look2 h h4 h5 g g' with ⟨b1, b2, e1, e1', e2⟩ | ⟨b1, b2, e2, e1, ⟨x, e1'⟩, e8⟩ | ⟨b1, b2, e2, ⟨o, e1, o0, o6⟩, e1', e7, e8⟩ | ⟨b1, b2, i, j, i1, i2, j1, j2, hg, hg', e1, e1', i0, i6, j0, j6, e7, e7', e6, e6', gp, gp'⟩
  · exact no (-13) (by simp only [F_X0_groups, F_X0_groups_b24, v1000, h, e1, e1', e2, z6, Option.bind_some, if_false, if_true]) (by simp only [F_X16_groups, g1068_1095, h, b2, n10, Option.bind_some, if_false])
  · exact no (-14) (by simp only [F_X0_groups, F_X0_groups_b24, v1000, h, e1, e1', e2, z6, Option.bind_some, if_false, if_true]) (by simp only [F_X16_groups, F_X16_groups_b36, g1068_1095, v1068, h, b2, e8, Option.bind_some, if_true])
  · exact no (-14) (by simp only [F_X0_groups, F_X0_groups_b24, v1000, h, e1, e1', e2, z6, o0, o6, Option.bind_some, if_false, if_true]) (by simp only [F_X16_groups, F_X16_groups_b36, g1068_1095, v1068, h, b2, e7, e8, n10, Option.bind_some, if_true, if_false])
  have hkd := gp.2.2.1
  have hk := gp'.2.2.1
  have c70 : ∀ {x : Int32}, (8 : Int32) < x → (7 : Int32) < x := fun {x} q => by
    rw [Int32.lt_iff_toInt_lt] at q ⊢
    have z7 : (7 : Int32).toInt = 7 := rfl
    have z8 : (8 : Int32).toInt = 8 := rfl
    omega
  by_cases cw : ¬ Wy w
  · have iw0 : F_X51_isWay w = some 0 := by
      rcases Wy_not cw with c | c
      · simp only [F_X51_isWay, F_X51_isWay_b14, F_X51_isWay_b15, c, if_true]; rfl
      · by_cases c1 : w < 0
        · simp only [F_X51_isWay, F_X51_isWay_b14, F_X51_isWay_b15, c1, if_true]; rfl
        · simp only [F_X51_isWay, F_X51_isWay_b14, F_X51_isWay_b15, c1, c, if_true, if_false]; rfl
    refine no (-14) (by simp only [F_X0_groups, F_X0_groups_b43, v1000, h, e1, e1', i0, i6, j0, j6, iw0, Option.bind_some, if_false, if_true]) ?_
    rcases Wy_not cw with c | c
    · simp only [F_X16_groups, F_X16_groups_b36, g1068_1095, v1068, h, b2, e7, e7', n10, c, Option.bind_some, if_true, if_false]
    · by_cases c1 : w < 0
      · simp only [F_X16_groups, F_X16_groups_b36, g1068_1095, v1068, h, b2, e7, e7', n10, c1, Option.bind_some, if_true, if_false]
      · simp only [F_X16_groups, F_X16_groups_b36, g1068_1095, v1068, h, b2, e7, e7', n10, c1, c70 c, Option.bind_some, if_true, if_false]
  have hw : Wy w := Classical.byContradiction cw
  have w0 : ¬ w < 0 := by rcases hw with rfl | rfl | rfl | rfl | rfl | rfl | rfl | rfl | rfl <;> decide
  have isW := (E_takes hw hk).2.2
  by_cases c8 : w = 8
  · have c7 : (7 : Int32) < w := (Wy8 hw).mpr c8
    exact no (-14) (by simp only [F_X0_groups, F_X0_groups_b43, v1000, h, e1, e1', i0, i6, j0, j6, isW, n10, c8, Option.bind_some, if_false, if_true]; rw [c8] at isW; simp only [isW, n10, Option.bind_some, if_false]) (by simp only [F_X16_groups, F_X16_groups_b36, g1068_1095, v1068, h, b2, e7, e7', n10, w0, c7, Option.bind_some, if_true, if_false])
  have c7 : ¬ (7 : Int32) < w := fun q => c8 ((Wy8 hw).mp q)
  obtain ⟨rwE, rwM⟩ := E_row gp
  obtain ⟨rwE', rwM'⟩ := E_row gp'
  have vE := vg_of gp.1.2.2.1 (show x_isa 22 22 = true by decide)
  have vE' := vg_of gp'.1.2.2.1 (show x_isa 22 22 = true by decide)
  have kE' := gi_of gp'.1.2.2.1 (show x_fi 22 1408 = true by decide)
  have kM' := gi_of gp'.2.1.2.2.1 (show x_fi 23 1472 = true by decide)
  have fL := M_foldLane hw hk
  by_cases c1 : ¬ n i = 1
  · rw [if_neg c1] at rwE rwM
    exact no (-1) (by simp only [F_X0_groups, F_X0_groups_b74, v1000, h, e1, e1', i0, i6, j0, j6, isW, n10, c8, vE, rwE, Option.bind_some, if_false, if_true]) (by simp only [F_X16_groups, F_X16_groups_b87, g1068_1095, g1068_1092, v1068, h, b2, e7, e7', e6, e6', n10, w0, c7, kM', gp'.2.1.2.2.2.1, fL, rwM, Option.bind_some, if_true, if_false])
  have c1 : n i = 1 := Decidable.of_not_not c1
  rw [if_pos c1] at rwE rwM
  by_cases c2 : ¬ n j = 1
  · rw [if_neg c2] at rwE' rwM'
    exact no (-1) (by simp only [F_X0_groups, F_X0_groups_b74, v1000, h, e1, e1', i0, i6, j0, j6, isW, n10, c8, vE, rwE, vE', rwE', Option.bind_some, if_false, if_true]) (by simp only [F_X16_groups, F_X16_groups_b87, g1068_1095, g1068_1092, v1068, h, b2, e7, e7', e6, e6', n10, w0, c7, kM', gp'.2.1.2.2.2.1, fL, rwM, rwM', Option.bind_some, if_true, if_false])
  have c2 : n j = 1 := Decidable.of_not_not c2
  rw [if_pos c2] at rwE' rwM'
  have tk := (E_takes hw hk).1
  by_cases ct : foT w (K j) = false
  · rw [ct] at tk fL
    have fL' : F_X16_foldLane (K j) w = some (-1) := fL
    have m1 : ((-1 : Int32) < 0) := by decide
    have m0 : mr false = 0 := by decide
    exact no (-1) (by simp only [F_X0_groups, F_X0_groups_b74, v1000, h, e1, e1', i0, i6, j0, j6, isW, n10, c8, vE, rwE, vE', rwE', kE', gp'.1.2.2.2.1, tk, m0, Option.bind_some, if_false, if_true]) (by simp only [F_X16_groups, F_X16_groups_b87, g1068_1095, g1068_1092, v1068, h, b2, e7, e7', e6, e6', n10, w0, c7, kM', gp'.2.1.2.2.2.1, fL', rwM, rwM', m1, Option.bind_some, if_true, if_false])
  have ht : foT w (K j) = true := by cases hh : foT w (K j); exact absurd hh ct; rfl
  rw [ht] at tk fL
  have fL' : F_X16_foldLane (K j) w = some (foL w (K j)) := fL
  have m1 : ¬ mr true = 0 := by decide
  have fLp := foL_pos hw hk
  -- sizes
  obtain ⟨nn, hnn⟩ : ∃ nn, nn = prd (Z i) (n i) := ⟨_, rfl⟩
  obtain ⟨mm, hmm⟩ : ∃ mm, mm = prd (Z j) (n j) := ⟨_, rfl⟩
  have hz0 : nn = Z i 0 := by rw [hnn, c1]; show 1 * Z i 0 = _; omega
  have hz0' : mm = Z j 0 := by rw [hmm, c2]; show 1 * Z j 0 = _; omega
  have hnn4 : nn ≤ 4096 := by have := gp.2.2.2.2.1 0 (by omega); omega
  have hmm4 : mm ≤ 4096 := by have := gp'.2.2.2.2.1 0 (by omega); omega
  have cM := M_count gp.2.1 gp.2.2.2.1 gp.2.2.2.2.1
  have cM' := M_count gp'.2.1 gp'.2.2.2.1 gp'.2.2.2.2.1
  rw [← hnn] at cM
  rw [← hmm] at cM'
  have vM := vg_of gp.2.1.2.2.1 (show x_isa 23 23 = true by decide)
  have vM' := vg_of gp'.2.1.2.2.1 (show x_isa 23 23 = true by decide)
  have sE := gr_of gp.1.2.2.1 (show x_fr 22 1410 = true by decide)
  have sE' := gr_of gp'.1.2.2.1 (show x_fr 22 1410 = true by decide)
  have i00 : iw ((0 : Nat) : Int) = 0 := rfl
  have aE : ai M (cR M (cR M 1005 i) 1410) 0 = some (iw (nn : Int)) := by
    have := gp.1.2.2.2.2.2.1.ai gp.2.2.2.1 (show 0 < n i by omega)
    rw [i00] at this
    rw [this, hz0]
  have aE' : ai M (cR M (cR M 1005 j) 1410) 0 = some (iw (mm : Int)) := by
    have := gp'.1.2.2.2.2.2.1.ai gp'.2.2.2.1 (show 0 < n j by omega)
    rw [i00] at this
    rw [this, hz0']
  by_cases c3 : ¬ nn = mm
  · have q3 : ¬ iw (nn : Int) = iw (mm : Int) := by rw [iw_eq (by omega) (by omega) (by omega) (by omega)]; omega
    exact no (-3) (by simp only [F_X0_groups, v1000, h, e1, e1', i0, i6, j0, j6, isW, n10, c8, vE, rwE, vE', rwE', kE', gp'.1.2.2.2.1, tk, m1, sE, sE', aE, aE', q3, Option.bind_some, if_false]) (by simp only [F_X16_groups, g1068_1095, g1068_1092, v1068, h, b2, e7, e7', e6, e6', n10, w0, c7, kM', gp'.2.1.2.2.2.1, fL', rwM, rwM', fLp, vM, vM', cM, cM', q3, Option.bind_some, if_true, if_false])
  have c3 : mm = nn := (Decidable.of_not_not c3).symm
  subst c3
  obtain ⟨keys, hkeys⟩ : ∃ u : Nat → Int64, u = fun x => cJ M (C i) (gpos (n i) (Z i) (S i) (X i) x) := ⟨_, rfl⟩
  obtain ⟨vals, hvals⟩ : ∃ v : Nat → Int64, v = fun x => cJ M (C j) (gpos (n j) (Z j) (S j) (X j) x) := ⟨_, rfl⟩
  have hkv : ∀ x, x < mm → vb (K i) (keys x) := fun x hx => by rw [hkeys]; exact (gp.get (by omega)).1
  have hvv : ∀ x, x < mm → vb (K j) (vals x) := fun x hx => by rw [hvals]; exact (gp'.get (by omega)).1
  have cp := gp.2.2.2.2.2.2.2.1
  have cp' := gp'.2.2.2.2.2.2.2.1
  have hL : Lk (foL w (K j)) := foL_Lk hw hk
  -- the engine sorts
  obtain ⟨A1, a1, a2, a3, a4, a5⟩ := E_gather (arr := 1058) (W := 100000) gp (by decide) gp.2.2.2.2.2.1 (by decide) (t1058 h) (l1058 h)
  rw [← hnn] at a1 a5
  have a4' : Df n2 (at1 1058) n2 M A1 := a4
  have sA1 : ST A1 := h.n a4
  have gA1 := gp.df a4' qt_n2 (qt_at1 (by decide)) qt_n2
  have gA1' := gp'.df a4' qt_n2 (qt_at1 (by decide)) qt_n2
  have ob : OB 1022 1023 1024 := Or.inl ⟨rfl, rfl, rfl⟩
  obtain ⟨A2, s1, s2, s3, s4, s5, s6⟩ := E_sort (v := keys) (row := 1058) (n := mm) (fl := 0) sA1 ob hkd (Or.inl rfl) hmm4 ⟨t1058 sA1, by rw [l1058 sA1]; omega, by rw [l1058 sA1]; decide⟩ (fun x hx => ⟨by rw [a5 x hx, hkeys], hkv x hx⟩)
  have sA2 : ST A2 := s5.1
  have qOr : qt (pOr 1022 1023 1024) := fun a i q1 q2 => by unfold pOr at q2; omega
  have rOrq : qt (rOr 1022) := fun a i q1 q2 => by unfold rOr at q2; omega
  have gA2 := gA1.df s4 qOr qt_n2 rOrq
  have gA2' := gA1'.df s4 qOr qt_n2 rOrq
  have ev2 : ∀ x, x < mm → cJ A2 (C j) (gpos (n j) (Z j) (S j) (X j) x) = vals x := fun x hx => by
    have := cp'.2.1
    rw [s4.cJ (by omega) (fun q => q), a4'.cJ cp'.2.1 (qt_at1 (by decide) _ _ cp'.1), hvals]
  obtain ⟨N0, hN0⟩ : ∃ N0, N0 + 1 + mm = xN := ⟨xN - 1 - mm, by omega⟩
  have runE : F_X0_groups M 1000 g g' w = F_X0_groups_b144 xN A2 1000 w (cR M 1005 i) (cR M 1005 j) (iw (mm : Int)) (foL w (K j)) (iw ((0 : Nat) : Int)) (iw ((0 : Nat) : Int)) := by
    simp only [F_X0_groups, v1000, h, e1, e1', i0, i6, j0, j6, isW, n10, c8, vE, rwE, vE', rwE', kE', gp'.1.2.2.2.1, tk, m1, sE, sE', aE, aE', g1000_82, a1, g1000_74, sA1, gi_of gA1.1.2.2.1 (show x_fi 22 1408 = true by decide), gA1.1.2.2.2.1, v1022, s1, gi_of gA2'.1.2.2.1 (show x_fi 22 1408 = true by decide), gA2'.1.2.2.2.1, (E_takes hw hk).2.1, Option.bind_some, if_false, if_true]
    rfl
  have hE := E_gout (ok := cR M 1005 i) hw hk ht c8 hmm4 hkv hvv hmm.symm mm N0 0 0 (fun _ => 0) (fun _ => 0) A2 (by omega) (Nat.zero_le _) s5 gA2' ev2 rfl (Or.inl rfl) (fun x hx => by omega)
  rw [hN0, ← runE] at hE
  obtain ⟨srP, -⟩ := srt_ok (kd := K i) (v := keys) hmm4
  have d2 : Df (pp n2) qsc rsc M A2 := (a4'.mono (fun _ _ q => q.elim) (fun a i q => by unfold at1 at q; unfold qsc; omega) (fun _ _ q => q.elim)).trans (s4.mono (fun a i q => Or.inl (pOr_sc ob a i q)) (fun _ _ q => q.elim) (fun a i q => rOr_st ob a i q))
  have d3 : ∀ A3, Df (at1 1002) (at1 1057) n2 A2 A3 → Df (pp n2) qsc rsc M A3 := fun A3 d => d2.trans (d.mono (fun a i q => Or.inl (by unfold at1 at q; unfold psc; omega)) (fun a i q => by unfold at1 at q; unfold qsc; omega) (fun _ _ q => q.elim))
  -- the model
  have headM : ∀ M1, ST M1 → Df (fun a i => pp n2 a i ∨ pNE a i) qsc rWk M M1 → ∃ B2, Df (pp n2) qsc n2 M1 B2 ∧ m_nx B2 = m_nx M1 ∧ m_sl B2 = m_sl M1 ∧ ST B2 ∧ GP B2 (cR M 1005 i) (cR M 1070 i) (K i) (n i) (Z i) (S i) (T i) (X i) (Y i) (C i) (D i) (L i) (P i) ∧
      ((∃ M' g1 ka fa v9, gst w (K j) (fun q => keys (srt 0 (K i) keys mm q)) (fun q => vals (srt 0 (K i) keys mm q)) mm = some (g1, ka, fa) ∧ F_X16_groups M1 1068 g g' w = F_X16_groups_b146 (N0 + 1) M' 1068 w (cR M 1070 i) (cR M 1070 j) (foL w (K j)) (iw (mm : Int)) (iw (g1 : Nat)) v9 (iw (mm : Int)) ∧ Df n2 at2' n2 B2 M' ∧ m_nx M' = m_nx B2 ∧ m_sl M' = m_sl B2 ∧ ∀ x, x < g1 → cJ M' 1073 x = ka x ∧ cJ M' 1074 x = fa x) ∨
       (gst w (K j) (fun q => keys (srt 0 (K i) keys mm q)) (fun q => vals (srt 0 (K i) keys mm q)) mm = none ∧ ∃ M', F_X16_groups M1 1068 g g' w = some (-8, M') ∧ Df psc at2' n2 B2 M' ∧ m_nx M' ≤ m_nx B2 + 1 ∧ m_sl M' ≤ m_sl B2 + 20)) := by
    intro M1 g2 d1
    have npm : ∀ i, ¬ (pp n2 1068 i ∨ pNE 1068 i) := fun i q => q.elim (fun q => q.elim (nsc i) (fun q => q)) (fun q => by unfold pNE at q; omega)
    have qx : qt (fun a i => pp n2 a i ∨ pNE a i) := fun a i a1 a2 => a2.elim (qt_pp qt_n2 a i a1) (qt_pNE a i a1)
    have hr70 : ∀ i, ¬ rWk 1070 i := fun i q => q.elim (rsc_5 i).2 (fun q => by unfold rE at q; omega)
    obtain ⟨-, y2, y3⟩ := M_see h d1 g2 (npm _) (npm _) hr70 g
    obtain ⟨-, y2', y3'⟩ := M_see h d1 g2 (npm _) (npm _) hr70 g'
    have G := gp.df d1 qx qt_qsc qt_rWk
    have G' := gp'.df d1 qx qt_qsc qt_rWk
    obtain ⟨-, w1⟩ := E_row G
    obtain ⟨-, w1'⟩ := E_row G'
    rw [if_pos c1] at w1
    rw [if_pos c2] at w1'
    have cc : cI M1 1068 1095 = 0 := by rw [d1.cI (by omega) (npm _)]; exact b2
    have k1' : K0 M1 := k0.df h d1 (fun a i q1 q2 => q2.elim (fun q => q.elim (fun q => by unfold psc at q; omega) (fun q => q)) (fun q => by unfold pNE at q; omega)) (fun a i q1 q2 => q2.elim (fun q => by have := q.1; omega) (fun q => by unfold rE at q; omega))
    have nM := d1.1
    obtain ⟨B1, l1, l2, l3, l4, l5⟩ := M_listed (arr := 1074) (W := 100000) G (by decide) gp.2.2.2.2.2.1 (by decide) (t1074 g2) (l1074 g2)
    rw [← hnn] at l5
    have l4' : Df n2 (at1 1074) n2 M1 B1 := l4
    have sB1 : ST B1 := g2.n l4
    have hvB : ∀ x, x < mm → cJ B1 1074 x = keys x := fun x hx => by rw [l5 x hx, hkeys, d1.cJ cp.2.1 (qt_qsc _ _ cp.1)]
    obtain ⟨B2, p1, p2, p3, p4, p5⟩ := M_sort (row := 1074) (n := mm) (kd := K i) (fl := 0) (v := keys) sB1 hmm4 ⟨t1074 sB1, by rw [l1074 sB1]; omega, by rw [l1074 sB1]; decide⟩ (fun x hx => ⟨hvB x hx, hkv x hx⟩)
    have sB2 : ST B2 := p5.1
    have qo : qt (fun a (_ : Nat) => a = 1084 ∨ a = 1085) := fun a i q1 q2 => by rcases q2 with q | q <;> omega
    have GB1 := G.df l4' qt_n2 (qt_at1 (by decide)) qt_n2
    have GB := (GB1).df p4 qo qt_n2 qt_n2
    have GB' := (G'.df l4' qt_n2 (qt_at1 (by decide)) qt_n2).df p4 qo qt_n2 qt_n2
    have dB2 : Df (pp n2) qsc n2 M1 B2 := (l4'.mono (fun _ _ q => q.elim) (fun a i q => by unfold at1 at q; unfold qsc; omega) (fun _ _ q => q)).trans (p4.mono (fun a i q => Or.inl (by unfold psc; rcases q with q | q <;> omega)) (fun _ _ q => q.elim) (fun _ _ q => q))
    have kB2 : K0 B2 := k1'.ppd g2 dB2 (fun _ _ _ q => q)
    have ec : ∀ c, 1334 ≤ c → c < m_nx M → ∀ q, cJ B2 c q = cJ M c q := fun c hc1 hc2 q => by rw [dB2.cJ (by omega) (qt_qsc _ _ hc1), d1.cJ hc2 (qt_qsc _ _ hc1)]
    have cMM := M_count G.2.1 gp.2.2.2.1 gp.2.2.2.2.1
    have cMM' := M_count G'.2.1 gp'.2.2.2.1 gp'.2.2.2.2.1
    rw [← hnn] at cMM
    rw [← hmm] at cMM'
    have run : F_X16_groups M1 1068 g g' w = F_X16_groups_b146 xN B2 1068 w (cR M 1070 i) (cR M 1070 j) (foL w (K j)) (iw (mm : Int)) (iw ((0 : Nat) : Int)) 0 (iw ((0 : Nat) : Int)) := by
      simp only [F_X16_groups, g1068_1095, g1068_1092, v1068, g2, cc, y2, y2', y3, y3', e7, e7', e6, e6', n10, w0, c7, gi_of G'.2.1.2.2.1 (show x_fi 23 1472 = true by decide), G'.2.1.2.2.2.1, fL', w1, w1', fLp, vg_of G.2.1.2.2.1 (show x_isa 23 23 = true by decide), vg_of G'.2.1.2.2.1 (show x_isa 23 23 = true by decide), cMM, cMM', g1068_1101, l1, sB1, gi_of GB1.2.1.2.2.1 (show x_fi 23 1472 = true by decide), GB1.2.1.2.2.2.1, p1, Option.bind_some, if_true, if_false]
      rfl
    have hM := M_gout (keys := keys) (vals := vals) (P := srt 0 (K i) keys mm) hw hk ht c8 hmm4 srP hkv hvv hnn.symm hmm.symm mm (N0 + 1) 0 0 (fun _ => 0) (fun _ => 0) 0 B2 (by omega) sB2 kB2 GB GB' (fun x hx => by rw [ec _ cp.1 cp.2.1, hkeys]) (fun x hx => by rw [ec _ cp'.1 cp'.2.1, hvals]) (fun x hx => p5.2.2.2.2.2 x hx) rfl (fun q => by omega) (fun x hx => by omega)
    rw [hN0, ← run] at hM
    exact ⟨B2, dB2, by omega, by omega, sB2, GB, hM⟩
  rcases hE with ⟨A3, g1, ka, fa, N', u1, u2, u3, u4, u5, u6⟩ | ⟨u1, A3, u2, u3, u4, u5⟩
  · -- all went well
    obtain ⟨v1, v2, v3⟩ := gst_inv hw hk ht c8 (fun q hq => hkv _ (srP q hq)) (fun q hq => hvv _ (srP q hq)) mm (Nat.le_refl _) g1 ka fa u1
    have dA3 := d3 A3 u3
    have sA3 : ST A3 := h.sc dA3
    have gA3 := gA2.df u3 (qt_at1 (by decide)) (qt_at1 (by decide)) qt_n2
    obtain ⟨ρ, M1, f1, f2, f3, f4, f5⟩ := mkTwo (p := n2) (ka := K i) (kb := foL w (K j)) (g := g1) h h5 dA3 qt_n2 noGr_n2 (by omega) ka fa hkd hL (fun x hx => ⟨(u6 x hx).1, (v3 x hx).1⟩) (fun x hx => ⟨(u6 x hx).2, foV_vb (v3 x hx).2 (by omega)⟩)
    have nA3 := dA3.1
    have eE : F_X0_groups M 1000 g g' w = some (ρ, M1) := by
      rw [u2]
      show F_X0_groups_b144_st (F_X0_groups_b144 N') A3 _ _ _ _ _ _ _ _ = _
      unfold F_X0_groups_b144_st
      rw [if_neg (by rw [iw_le4 (by omega) (by omega)]; omega)]
      simp only [gi_of gA3.1.2.2.1 (show x_fi 22 1408 = true by decide), gA3.1.2.2.2.1, v1000, sA3, f1, Option.bind_some]
    have nM1 := f3.1
    have dM1 : Df (fun a i => pp n2 a i ∨ pNE a i) qsc rWk M M1 := (dA3.mono (fun _ _ q => Or.inl q) (fun _ _ q => q) (fun _ _ q => Or.inl q)).trans (f3.mono (fun a i q => q.elim (fun q => Or.inl (Or.inl q)) Or.inr) (fun _ _ q => q) (fun _ _ q => Or.inr q))
    obtain ⟨B2, h1', h2', h3', h4', GB, h6'⟩ := headM M1 f2 dM1
    rcases h6' with ⟨B3, g1', ka', fa', v9, r1, r2, r3, r4, r5, r6⟩ | ⟨r1, -⟩
    · rw [u1] at r1
      have e0 := Option.some.inj r1
      have eg : g1 = g1' := congrArg Prod.fst e0
      have e0' : (ka, fa) = (ka', fa') := congrArg Prod.snd e0
      have ea : ka = ka' := congrArg Prod.fst e0'
      have eb : fa = fa' := congrArg Prod.snd e0'
      subst eg ea eb
      have dB3 : Df (pp n2) qsc rsc M1 B3 := (h1'.trans (r3.mono (fun _ _ q => q.elim) (fun a i q => by unfold at2' at q; unfold qsc; omega) (fun _ _ q => q))).sc
      have sB3 : ST B3 := f2.sc dB3
      have GB3 := GB.df r3 qt_n2 qt_at2' qt_n2
      obtain ⟨M2, t1, t2, t3, t4, t5⟩ := f5 B3 dB3 (fun x hx => (r6 x hx).1) (fun x hx => (r6 x hx).2)
      refine ⟨ρ, M1, M2, eE, ?_, trivial, t2, t3, by omega, by omega⟩
      show F_X16_groups M1 1068 g g' w = _
      rw [r2]
      show F_X16_groups_b146_st (F_X16_groups_b146 N0) B3 _ _ _ _ _ _ _ _ _ = _
      unfold F_X16_groups_b146_st
      rw [if_neg (by rw [iw_le4 (by omega) (by omega)]; omega)]
      simp only [v1068, sB3, gi_of GB3.2.1.2.2.1 (show x_fi 23 1472 = true by decide), GB3.2.1.2.2.2.1, Option.bind_some]
      exact t1
    · rw [u1] at r1
      cases r1
  · -- a fold failed
    have dA3 := d3 A3 u3
    have sA3 : ST A3 := h.sc dA3
    obtain ⟨B2, h1', h2', h3', h4', GB, h6'⟩ := headM A3 sA3 (dA3.mono (fun _ _ q => Or.inl q) (fun _ _ q => q) (fun _ _ q => Or.inl q))
    rcases h6' with ⟨B3, g1', ka', fa', v9, r1, -⟩ | ⟨r1, B3, r2, r3, r4, r5⟩
    · rw [u1] at r1
      cases r1
    · have dB3 : Df (pp n2) qsc rsc A3 B3 := (h1'.trans (r3.mono (fun _ _ q => Or.inl q) (fun a i q => by unfold at2' at q; unfold qsc; omega) (fun _ _ q => q))).sc
      exact CR.nos h h5x (-8) A3 B3 u2 r2 trivial (dA3.trans dB3) pp_pg (qt_pp qt_n2) (noGr_pp noGr_n2) (by omega) (by omega)
