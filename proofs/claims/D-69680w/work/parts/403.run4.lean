/-! ===== RUNNING FOLDS, 4: the engine's end, the model cell by cell ===== -/
theorem rnv_first {w k : Int32} {val : Nat → Int64} {B len c : Nat} (hB : 0 < B) (hi : ico B len c = 0) : rnv w k val B len c = foS w k (foB w k (val c)) (val c) := by
  have hb := clo_back (B := B) (len := len) (c := c) hB
  rw [hi] at hb
  unfold rnv
  rw [hi, hb, fogo_snoc]
  show foS w k (foB w k (val c)) (val (clo B len (lco B len c) (0 + 0))) = _
  rw [Nat.add_zero, hb]
theorem rnv_step {w k : Int32} {val : Nat → Int64} {B len c : Nat} (hB : 0 < B) (hlen : 0 < len) (hi : ico B len c ≠ 0) : B ≤ c ∧ rnv w k val B len c = (rnv w k val B len (c - B)).bind (fun u => foS w k u (val c)) := by
  have hb := clo_back (B := B) (len := len) (c := c) hB
  obtain ⟨i, hi'⟩ : ∃ i, ico B len c = i + 1 := ⟨ico B len c - 1, by omega⟩
  have hilt : ico B len c < len := Nat.mod_lt _ hlen
  have e1 : clo B len (lco B len c) (i + 1) = clo B len (lco B len c) i + B := by
    unfold clo
    rw [← Nat.add_assoc, Nat.add_mul (lco B len c / B * len + i) 1 B, Nat.one_mul]
    omega
  rw [hi', e1] at hb
  have hc : c - B = clo B len (lco B len c) i := by omega
  refine ⟨by omega, ?_⟩
  rw [hc, rnv_clo hB (show i < len by omega)]
  have ec : c = clo B len (lco B len c) (i + 1) := by rw [e1]; exact hb.symm
  rw [show rnv w k val B len c = rnv w k val B len (clo B len (lco B len c) (i + 1)) by rw [← ec], rnv_clo hB (show i + 1 < len by omega), fogo_snoc]
  refine congrArg _ ?_
  funext u
  rw [Nat.zero_add, ← ec]
section RUN2
variable {o b : Nat} {k : Int32} {n : Nat} {z : Nat → Nat} {s t : Nat → Int32} {x y : Int32} {c d L : Nat} {p w av : Int32} {B len H : Nat}
theorem E_run {A : Mem} {val : Nat → Int64} (hw : Wy w) (hk : Lk k) (ht : foT w k = true) (h8 : w ≠ 8) (sA : ST A) (gA : GP A o b k n z s t x y c d L p) (hB : 0 < B) (hl : 0 < len) (hcap : H * len * B ≤ 100000)
    (hval : ∀ q, q < H * len * B → val q = cJ A c (gpos n z s x q) ∧ vb k (val q))
    (cell : ∀ N, GP N o b k n z s t x y c d L p → ∀ lk i, lk < H * B → i < len → F_X0_cellOf N o av (iw (lk : Int)) (iw (i : Int)) = some (iw (clo B len lk i : Nat)))
    (line : ∀ N lk, ST N → GP N o b k n z s t x y c d L p → lk < H * B → ∃ N', F_X0_lineOf N 1000 o av (iw (lk : Int)) = some (iw (len : Int), N') ∧ m_nx N' = m_nx N ∧ m_sl N' = m_sl N ∧ Df n2 (at1 1058) n2 N N' ∧ ∀ i, i < len → cJ N' 1058 i = cJ N c (gpos n z s x (clo B len lk i))) :
    ∃ A', Df (at1 1002) qsc n2 A A' ∧ m_nx A' = m_nx A ∧ m_sl A' = m_sl A ∧
      ((ff (rnv w k val B len) 0 (H * len * B) = none ∧ F_X0_running_b106 xN A 1000 w av o (iw ((H * B : Nat) : Int)) (iw (len : Int)) (foL w k) (-1) 0 0 = F_X0_made A' 1000 (foL w k) 1057 ∧ ∀ q, q < H * len * B → cJ A' 1057 q = (rnv w k val B len q).getD 0) ∨
       (∃ q, ff (rnv w k val B len) 0 (H * len * B) = some q ∧ q < H * len * B ∧ F_X0_running_b106 xN A 1000 w av o (iw ((H * B : Nat) : Int)) (iw (len : Int)) (foL w k) (-1) 0 0 = F_X0_failedAt A' 1000 (iw (q : Int)) ∧ cI A' 1002 129 = 8)) := by
  have hxN : xN = 1099511627776 := rfl
  have hHB : H * B ≤ H * len * B := by
    rw [Nat.mul_assoc, Nat.mul_comm len B, ← Nat.mul_assoc]
    exact Nat.le_mul_of_pos_right _ hl
  obtain ⟨M', v9, v10, m1, m2, m3, m4, m5⟩ := E_run_loop (av := av) hw hk ht h8 sA gA hB hl hcap hval cell line (H * B) xN 0 (-1) 0 A (by omega) (by omega) (Df.refl _ _ _ _) rfl rfl (Or.inl ⟨rfl, fun l i h1 h2 => by omega⟩)
  have m1 : F_X0_running_b106 xN A 1000 w av o (iw ((H * B : Nat) : Int)) (iw (len : Int)) (foL w k) (-1) 0 0 = _ := m1
  have s1 : ST M' := sA.n m2
  have all : ∀ q, q < H * len * B → lco B len q < H * B ∧ ico B len q < len ∧ clo B len (lco B len q) (ico B len q) = q := fun q hq => ⟨lco_lt hB hq, Nat.mod_lt _ hl, clo_back hB⟩
  rcases m5 with ⟨r1, r2⟩ | ⟨q, r1, r2, r3, r4, r5⟩
  · refine ⟨M', m2, m3, m4, Or.inl ⟨ff_no _ _ (fun q _ hq => ?_), ?_, fun q hq => ?_⟩⟩
    · obtain ⟨a1, a2, a3⟩ := all q (by omega)
      have := (r2 _ _ a1 a2).1
      rw [a3] at this
      exact this
    · rw [m1, r1]
      unfold F_X0_running_b273
      rw [if_pos (by decide)]
      simp only [g1000_81, v1000, s1, Option.bind_some, bse]
    · obtain ⟨a1, a2, a3⟩ := all q hq
      have := (r2 _ _ a1 a2).2
      rw [a3] at this
      exact this
  · refine ⟨wI M' 1002 129 8, m2.trans (Df.wI _ rfl), m3, m4, Or.inr ⟨q, ff_least r4 (fun q' hq' hr => ?_) _ _ (Nat.zero_le _) (by omega), r3, ?_, by rw [cI_wI, if_pos ⟨rfl, rfl⟩]⟩⟩
    · obtain ⟨a1, a2, a3⟩ := all q' (by omega)
      have := r5 _ _ a1 a2 (by rw [a3]; exact hr)
      rw [a3] at this
      omega
    · have s2 : ST (wI M' 1002 129 8) := s1
      rw [m1, r1, r2]
      unfold F_X0_running_b273
      rw [if_neg (by rw [iw_lt0 (by omega) (by omega)]; omega)]
      simp only [g1000_67, p1002_129, v1000, s1, s2, Option.bind_some, bse]
/-- the model cell by cell -/
theorem M_run {U : Mem} {val : Nat → Int64} (hw : Wy w) (hk : Lk k) (ht : foT w k = true) (h5 : w ≠ 5) (h8 : w ≠ 8) (sU : ST U) (kU : K0 U) (gU : GP U o b k n z s t x y c d L p) (hB : 0 < B) (hl : 0 < len) (hp : prd z n = H * len * B)
    (hval : ∀ q, q < H * len * B → val q = cJ U c (gpos n z s x q) ∧ vb k (val q)) (c17 : cI U 1068 1117 = -1) :
    ∃ V, Df (pp pF5) qsc n2 U V ∧ m_nx V ≤ m_nx U + 1 ∧ m_sl V ≤ m_sl U + 20 ∧
      ((∃ sa, ff (rnv w k val B len) 0 (H * len * B) = none ∧ IRw V sa n (fun i => iw (z i)) ∧ F_X16_running_b112 xN U 1068 w b (foL w k) (iw ((H * len * B : Nat) : Int)) (iw (B : Int)) (iw (len : Int)) 0 = F_X16_madeIfRoom V 1068 (foL w k) sa 1073 ∧ cI V 1068 1117 = -1 ∧ ∀ q, q < H * len * B → cJ V 1073 q = (rnv w k val B len q).getD 0) ∨
       (∃ q, ff (rnv w k val B len) 0 (H * len * B) = some q ∧ F_X16_running_b112 xN U 1068 w b (foL w k) (iw ((H * len * B : Nat) : Int)) (iw (B : Int)) (iw (len : Int)) 0 = F_X16_failsAt V 1068 8 ∧ cI V 1068 1115 = iw (n : Int) ∧ ∀ j, j < n → cI V 1082 j = iw (dg z n q j : Nat))) := by
  have hxN : xN = 1099511627776 := rfl
  have hn := gU.2.2.2.1
  have hz2 := gU.2.2.2.2.1
  have hcap := gU.2.2.2.2.2.1
  rw [hp] at hcap
  have cp := gU.2.2.2.2.2.2.2.1
  have h0 := sU.1
  have x64 : x_cn 64 ≤ 20 := by decide
  have n10 : ¬ (1 : Int32) = 0 := by decide
  obtain ⟨Q, hQ⟩ : ∃ Q, Q = H * len * B := ⟨_, rfl⟩
  rw [← hQ] at hcap hval hp ⊢
  obtain ⟨r, hr⟩ : ∃ r, r = rnv w k val B len := ⟨_, rfl⟩
  rw [← hr]
  have hBle : ∀ q, q < Q → B ≤ 100000 ∧ len ≤ 100000 := fun q hq => by
    have hH : 0 < H := by
      rcases Nat.eq_zero_or_pos H with c | c
      · rw [hQ, c, Nat.zero_mul, Nat.zero_mul] at hq; omega
      · exact c
    have a1 := Nat.le_mul_of_pos_left B (Nat.mul_pos hH hl)
    have a2 := Nat.le_mul_of_pos_left len hH
    have a3 := Nat.le_mul_of_pos_right (H * len) hB
    exact ⟨by omega, by omega⟩
  -- one cell
  have one : ∀ N N' q, (Df (pp pF5) qsc n2 U N' ∧ m_nx N' = m_nx U ∧ m_sl N' = m_sl U) → q < Q → (∀ y, y < q → ∃ u, r y = some u ∧ cJ N' 1073 y = u) →
      F_X16_running_b112 (N + 1) N' 1068 w b (foL w k) (iw (Q : Int)) (iw (B : Int)) (iw (len : Int)) (iw (q : Int)) = tc (mRes (r q) N' 1068) (fun z11 => (sj z11.2 1073 (iw (q : Int)) z11.1).bind fun M13 => F_X16_running_b112 N M13 1068 w b (foL w k) (iw (Q : Int)) (iw (B : Int)) (iw (len : Int)) (iw (q : Int) + 1)) (fun z12 => F_X16_running_b192 z12.2 z12.1 1068 b (iw (q : Int))) := by
    intro N N' q hJ hq hx
    obtain ⟨dd, e1', e2'⟩ := hJ
    have sN : ST N' := sU.n dd
    have gN := gU.df dd (qt_pp qt_pF5) qt_qsc qt_n2
    have kN : K0 N' := kU.ppd sU dd (fun a i q1 q2 => by unfold pF5 at q2; omega)
    obtain ⟨b1, b2⟩ := hBle q hq
    have hce : F_X22_cell N' b (iw (q : Int)) = some (val q) := by
      rw [(gN.get (show q < prd z n by omega)).2.2, dd.cJ cp.2.1 (qt_qsc _ _ cp.1), (hval q hq).1]
    have hb0 : ¬ iw (B : Int) = 0 := by rw [iw_eq0 (by omega) (by omega)]; omega
    have hl0 : ¬ iw (len : Int) = 0 := by rw [iw_eq0 (by omega) (by omega)]; omega
    have hdm : j_irem (iw (q : Int) / iw (B : Int)) (iw (len : Int)) = iw ((ico B len q : Nat) : Int) := by
      have hm2 := Nat.div_le_self q B
      rw [iw_div (by omega) (by omega) (by omega) (by omega), show (q : Int).tdiv (B : Int) = ((q / B : Nat) : Int) from rfl]
      unfold ico
      generalize q / B = m at hm2
      rw [iw_rem (by omega) (by omega) (by omega) (by omega)]
      rfl
    have hio : ico B len q < len := Nat.mod_lt _ hl
    show F_X16_running_b112_st (F_X16_running_b112 N) N' _ _ _ _ _ _ _ _ = _
    unfold F_X16_running_b112_st F_X16_running_b135 F_X16_running_b176
    rw [if_pos (by rw [iw_le4 (by omega) (by omega)]; exact hq), if_neg hb0, if_neg hl0, hdm]
    by_cases cf : ico B len q = 0
    · rw [if_pos (by rw [cf]; rfl)]
      have fa := M_fadd (fi := 1) (so := foM w k) kN sN hw hk ht h8 (fun _ q2 => by
        rcases q2 with q2 | q2
        · exact absurd q2 n10
        · rw [← foB_M (v := val q) q2]
          exact (foB_V hw hk ht h8 (hval q hq).2).1 h5) (hval q hq).2 (Or.inr rfl)
      have eso : (if (1 : Int32) = 1 ∧ (w = 3 ∨ w = 4) then val q else foM w k) = foB w k (val q) := by
        by_cases c34 : w = 3 ∨ w = 4
        · rw [if_pos ⟨rfl, c34⟩]
          rcases c34 with rfl | rfl <;> rfl
        · rw [if_neg (fun q => c34 q.2), foB_M ⟨fun e => c34 (Or.inl e), fun e => c34 (Or.inr e)⟩]
      rw [eso, ← rnv_first (len := len) hB cf, ← hr] at fa
      simp only [g1068_1100, v1068, sN, gi_of gN.2.1.2.2.1 (show x_fi 23 1472 = true by decide), gN.2.1.2.2.2.1, M_begin hw hk ht h8, vg_of gN.2.1.2.2.1 (show x_isa 23 23 = true by decide), hce, fa, n10, Option.bind_some, if_false]
    · rw [if_neg (by rw [iw_eq0 (by omega) (by omega)]; omega)]
      obtain ⟨hBq, hst⟩ := rnv_step (w := w) (k := k) (val := val) hB hl cf
      obtain ⟨u, u1, u2⟩ := hx (q - B) (by omega)
      rw [← hr, u1] at hst
      have hst : r q = foS w k u (val q) := hst
      have hfu : vb (foL w k) u := by
        have hq' : q - B < H * len * B := by omega
        have hlc := lco_lt hB hq'
        have hic : ico B len (q - B) < len := Nat.mod_lt _ hl
        have e2 : fogo w k (fun i => val (clo B len (lco B len (q - B)) i)) 0 (ico B len (q - B) + 1) (foB w k (val (clo B len (lco B len (q - B)) 0))) = some u := by rw [← u1, hr]; rfl
        exact (fogo_vb hw hk ht h8 _ _ _ _ (fun y _ hy => (hval _ (by rw [hQ]; exact clo_lt hB (show y < len by omega) hlc)).2) (foB_V hw hk ht h8 (hval _ (by rw [hQ]; exact clo_lt hB hl hlc)).2) e2).1 h5
      have fa := M_fadd (fi := 0) (so := u) kN sN hw hk ht h8 (fun _ _ => hfu) (hval q hq).2 (Or.inl rfl)
      rw [if_neg (show ¬ ((0 : Int32) = 1 ∧ (w = 3 ∨ w = 4)) from fun q => absurd q.1 (by decide)), ← hst] at fa
      have eal : al N' 1073 (iw (q : Int) - iw (B : Int)) = some u := by
        rw [iw_nsub hBq, al_of (t1073 sN) (l1073 sN) (show q - B < 100000 by omega) (by decide), u2]
      simp only [g1068_1100, v1068, sN, gi_of gN.2.1.2.2.1 (show x_fi 23 1472 = true by decide), gN.2.1.2.2.2.1, eal, vg_of gN.2.1.2.2.1 (show x_isa 23 23 = true by decide), hce, fa, Option.bind_some, if_true]
  obtain ⟨N0, hN0⟩ : ∃ N0, N0 + 1 + Q = xN := ⟨xN - 1 - Q, by omega⟩
  have lM := wloop3 (fun N V q => F_X16_running_b112 N V 1068 w b (foL w k) (iw (Q : Int)) (iw (B : Int)) (iw (len : Int)) q) (fun V q => F_X16_failsAt V 1068 8) 1073 Q r (fun N => Df (pp pF5) qsc n2 U N ∧ m_nx N = m_nx U ∧ m_sl N = m_sl U) (fun q N => (Df (pp pF5) qsc n2 U N ∧ m_nx N ≤ m_nx U + 1 ∧ m_sl N ≤ m_sl U + 20) ∧ cI N 1068 1115 = iw (n : Int) ∧ ∀ j, j < n → cI N 1082 j = iw (dg z n q j : Nat))
    (fun N N' q v hJ hq hx hv => by
      have f1 := one N N' q hJ hq hx
      rw [hv] at f1
      have sN : ST N' := sU.n hJ.1
      refine ⟨wJ N' 1073 q v, ?_, ⟨hJ.1.trans (Df.wJ _ (by unfold qsc; omega)), hJ.2.1, hJ.2.2⟩, by rw [cJ_wJ, if_pos ⟨rfl, rfl⟩], fun x hx => by rw [cJ_wJ, if_neg (fun q => by omega)]⟩
      refine f1.trans ?_
      show tc (some (Sum.inl (v, N'))) _ _ = _
      rw [tc_inl, sj_of v (t1073 sN) (l1073 sN) (show q < 100000 by omega) (by decide)]
      simp only [Option.bind_some, iw_succ])
    (fun N N' q hJ hq hx hv => by
      have f1 := one N N' q hJ hq hx
      rw [hv] at f1
      obtain ⟨dd, e1', e2'⟩ := hJ
      have sN : ST N' := sU.n dd
      have dT : Df (pp pF5) qsc n2 N' (mT N' 8 (-1)) := (mT_df N' 8 (-1)).mono (fun _ _ q => Or.inl q) (fun _ _ q => q.elim) (fun _ _ q => q)
      have sT : ST (mT N' 8 (-1)) := sN.n dT
      have gT := gU.df (dd.trans dT) (qt_pp qt_pF5) qt_qsc qt_n2
      have hz0 := (prd_pos n).mp (show prd z n ≠ 0 by omega)
      obtain ⟨V, v1, v2, v3, v4, v5, v6⟩ := M_goTo (x := q) sT hn (fun i hi => ⟨hz0 i hi, hz2 i hi⟩) gT.2.1.2.2.2.2.1 (by omega)
      have dV : Df (pp pF5) qsc n2 (mT N' 8 (-1)) V := v4.mono (fun a i q => q.elim (fun q => Or.inl (by unfold psc; omega)) (fun q => Or.inr q)) (fun _ _ q => q.elim) (fun _ _ q => q)
      have sV : ST V := sT.n dV
      have nT : m_nx (mT N' 8 (-1)) = m_nx N' + 1 := rfl
      have lT : m_sl (mT N' 8 (-1)) = m_sl N' + x_cn 64 := rfl
      refine ⟨V, ?_, ⟨(dd.trans dT).trans dV, by omega, by omega⟩, v5, v6⟩
      refine f1.trans ?_
      show tc (mTh N' 1068 8) _ _ = _
      rw [mTh_of sN, tc_inr]
      have c8 : cI V 1075 1152 = 8 := by rw [v4.cI (by omega) (by omega)]; exact (mT_c 8 (-1) (by omega)).1
      simp only [F_X16_running_b192, gr_of gT.2.1.2.2.1 (show x_fr 23 1473 = true by decide), v1068, sT, v1, g1068_1103, g1075_1152, sV, c8, Option.bind_some, bse])
    Q (N0 + 1) 0 U (by omega) ⟨Df.refl _ _ _ _, rfl, rfl⟩ (fun x hx => by omega)
  rw [hN0] at lM
  rcases lM with ⟨fn, V, ⟨d1, e1', e2'⟩, run, row⟩ | ⟨q, V, fq, hq, -, ⟨⟨d1, e1', e2'⟩, f5, f6⟩, run⟩
  · have sV : ST V := sU.n d1
    have gV := gU.df d1 (qt_pp qt_pF5) qt_qsc qt_n2
    have irV := gV.2.1.2.2.2.2.1
    have nV := d1.1
    obtain ⟨W, w1, w2, w3, w4, w5⟩ := M_first (M := V) (src := cR V b 1473) (L := n) (n := n) (by omega) hn (Nat.le_refl _) (by omega) irV.2.1 irV.2.2.1 irV.2.2.2.1
    have sW : ST W := sV.n w4
    have dW : Df (pp pF5) qsc n2 U W := d1.trans (w4.mono (fun _ _ q => q.elim) (fun _ _ q => q.elim) (fun _ _ q => q))
    refine ⟨W, dW, by omega, by omega, Or.inl ⟨m_nx V, fn, ⟨w5.1, w5.2.1, w5.2.2.1, w5.2.2.2.1, fun i hi => (w5.2.2.2.2 i hi).trans (irV.2.2.2.2 i hi)⟩, ?_, ?_, fun q hq => ?_⟩⟩
    · rw [show (0 : Int32) = iw ((0 : Nat) : Int) from rfl, run]
      show F_X16_running_b112_st (F_X16_running_b112 N0) V _ _ _ _ _ _ _ _ = _
      unfold F_X16_running_b112_st
      rw [if_neg (by rw [iw_le4 (by omega) (by omega)]; omega)]
      simp only [gr_of gV.2.1.2.2.1 (show x_fr 23 1473 = true by decide), vg_of gV.2.1.2.2.1 (show x_isa 23 23 = true by decide), M_axes gV.2.1, w1, g1068_1100, v1068, sW, Option.bind_some, bse]
    · rw [dW.cI (by omega) (fun q => q.elim (nsc _) (fun q => by unfold pF5 at q; omega))]
      exact c17
    · rw [w4.cJ (by omega) (fun q => q)]
      exact row q hq
  · exact ⟨V, d1, e1', e2', Or.inr ⟨q, fq, run, f5, f6⟩⟩
end RUN2
