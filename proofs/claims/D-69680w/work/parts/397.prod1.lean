/-! ===== CALLS, 25: products of matrices, cells ===== -/
def mxk (a b : Int32) : Int32 := if (if a < b then b else a) < 4 then 4 else (if a < b then b else a)
theorem wider_eq {a b : Int32} (ha : Lk a) (hb : Lk b) : F_X23_wider a b = some (mxk a b) ∧ F_X16_wider a b = some (mxk a b) := by
  rcases ha with rfl | rfl | rfl | rfl | rfl | rfl | rfl | rfl <;> rcases hb with rfl | rfl | rfl | rfl | rfl | rfl | rfl | rfl <;> exact ⟨rfl, rfl⟩
theorem mxk_ok {a b : Int32} (ha : Lk a) (hb : Lk b) (h1 : a ≠ 0) (h2 : b ≠ 0) : Ak (mxk a b) ∧ fit a (mxk a b) ∧ fit b (mxk a b) := by
  unfold Ak fit
  rcases ha with rfl | rfl | rfl | rfl | rfl | rfl | rfl | rfl <;> rcases hb with rfl | rfl | rfl | rfl | rfl | rfl | rfl | rfl <;> first | exact absurd rfl h1 | exact absurd rfl h2 | decide
theorem isNum {k : Int32} (hk : Lk k) : F_X20_isNumber k = some (if k = 0 then 0 else 1) := by
  rcases hk with rfl | rfl | rfl | rfl | rfl | rfl | rfl | rfl <;> rfl
/-- the sum of products -/
noncomputable def spg (l ka kb : Int32) (u v : Nat → Int64) : Nat → Nat → Int64 → Option Int64
  | _, 0, so => some so
  | i, e + 1, so => match ari 3 l (cvt ka l (u i)) (cvt kb l (v i)) with
    | none => none
    | some p => match ari 1 l so p with
      | none => none
      | some r => spg l ka kb u v (i + 1) e r
theorem spg_s {l ka kb : Int32} {u v : Nat → Int64} {i e : Nat} {so : Int64} : spg l ka kb u v i (e + 1) so = match ari 3 l (cvt ka l (u i)) (cvt kb l (v i)) with
    | none => none
    | some p => match ari 1 l so p with
      | none => none
      | some r => spg l ka kb u v (i + 1) e r := rfl
theorem cvt_w {k l : Int32} {v : Int64} (hk : Lk k) (hl : Ak l) (h0 : k ≠ 0) (hv : vb k v) : vb l (cvt k l v) :=
  cvt_vb hk (Ak_Lk hl) (Or.inr ⟨h0, by rcases hl with q | q | q | q <;> rw [q] <;> decide⟩) hv
theorem spg_vb {l ka kb : Int32} {u v : Nat → Int64} (hl : Ak l) (ha : Lk ka) (hb : Lk kb) (a0 : ka ≠ 0) (b0 : kb ≠ 0) : ∀ (e i : Nat) (so r : Int64), (∀ x, i ≤ x → x < i + e → vb ka (u x) ∧ vb kb (v x)) → vb l so → spg l ka kb u v i e so = some r → vb l r
  | 0, i, so, r, _, h2, h3 => by
    have := Option.some.inj h3
    rw [← this]
    exact h2
  | e + 1, i, so, r, h1, h2, h3 => by
    have hv := h1 i (Nat.le_refl _) (by omega)
    rw [spg_s] at h3
    cases hp : ari 3 l (cvt ka l (u i)) (cvt kb l (v i)) with
    | none => rw [hp] at h3; cases h3
    | some p =>
      have vp := ari_vb (by unfold Wk; decide) hl (cvt_w ha hl a0 hv.1) (cvt_w hb hl b0 hv.2) hp
      cases hq : ari 1 l so p with
      | none => rw [hp] at h3; simp only [hq] at h3; cases h3
      | some q =>
        rw [hp] at h3
        simp only [hq] at h3
        exact spg_vb hl ha hb a0 b0 e (i + 1) q r (fun x q1 q2 => h1 x (by omega) (by omega)) (ari_vb (by unfold Wk; decide) hl h2 vp hq) h3
/-- a cell of a grid with two axes -/
theorem GP.at2 {M : Mem} {a b : Nat} {k : Int32} {z : Nat → Nat} {s t : Nat → Int32} {x y : Int32} {c d L : Nat} {p : Int32} (g : GP M a b k 2 z s t x y c d L p) {i j : Nat} (hi : i < z 0) (hj : j < z 1) :
    i * z 1 + j < prd z 2 ∧ x + iw (i : Int) * s 0 + iw (j : Int) * s 1 = iw (gpos 2 z s x (i * z 1 + j) : Nat) ∧ y + iw (i : Int) * t 0 + iw (j : Int) * t 1 = iw (gpos 2 z s x (i * z 1 + j) : Nat) ∧ gpos 2 z s x (i * z 1 + j) < L ∧
      cJ M c (gpos 2 z s x (i * z 1 + j)) = cJ M d (gpos 2 z s x (i * z 1 + j)) ∧ vb k (cJ M c (gpos 2 z s x (i * z 1 + j))) := by
  have hp : prd z 2 = z 0 * z 1 := by show 1 * z 0 * z 1 = _; rw [Nat.one_mul]
  have hlt : i * z 1 + j < prd z 2 := by
    rw [hp]
    have e := Nat.mul_le_mul_right (z 1) (show i + 1 ≤ z 0 by omega)
    rw [Nat.add_mul] at e
    omega
  obtain ⟨q1, q2, q3⟩ := g.at hlt
  have cp := g.2.2.2.2.2.2.2.1
  have pl : ∀ s' : Nat → Int32, plc z s' 2 (i * z 1 + j) = (j : Int) * (s' 1).toInt + ((i : Int) * (s' 0).toInt + 0) := fun s' => by
    show (((i * z 1 + j) % z 1 : Nat) : Int) * (s' 1).toInt + ((((i * z 1 + j) / z 1 % z 0 : Nat) : Int) * (s' 0).toInt + 0) = _
    rw [(md_add hj).1, (md_add hj).2, Nat.mod_eq_of_lt hi]
  have key : ∀ (x' : Int32) (s' : Nat → Int32) (G : Nat), x'.toInt + plc z s' 2 (i * z 1 + j) = (G : Int) → x' + iw (i : Int) * s' 0 + iw (j : Int) * s' 1 = iw (G : Int) := fun x' s' G hG => by
    rw [show iw (i : Int) * s' 0 = iw (i : Int) * iw (s' 0).toInt by rw [iw_of], show iw (j : Int) * s' 1 = iw (j : Int) * iw (s' 1).toInt by rw [iw_of], iw_mul, iw_mul]
    rw [show x' + iw ((i : Int) * (s' 0).toInt) = iw x'.toInt + iw ((i : Int) * (s' 0).toInt) by rw [iw_of], iw_add, iw_add, ← hG, pl]
    congr 1
    omega
  exact ⟨hlt, key x s _ q1, key y t _ q2, q3, (cp.2.2.2.2.2.2.2.2.2 _ q3).1, (cp.2.2.2.2.2.2.2.2.2 _ q3).2⟩
theorem ai0 {M : Mem} {a n : Nat} {f : Nat → Int32} (h : IRw M a n f) (hn : n = 2) : ai M a 0 = some (f 0) ∧ ai M a 1 = some (f 1) := ⟨h.ai (by omega) (show 0 < n by omega), h.ai (by omega) (show 1 < n by omega)⟩
section PROD
variable {oa ba ob bb : Nat} {ka kb : Int32} {za zb : Nat → Nat} {sa ta sb tb' : Nat → Int32} {xa ya xb yb : Int32} {ca da La cb db Lb : Nat} {pa pb l : Int32}
theorem E_cellp {M : Mem} (h : ST M) (ga : GP M oa ba ka 2 za sa ta xa ya ca da La pa) (gb : GP M ob bb kb 2 zb sb tb' xb yb cb db Lb pb) (hm : za 1 = zb 0) (hl : Ak l) (a0 : ka ≠ 0) (b0 : kb ≠ 0) {i j : Nat} (hi : i < za 0) (hj : j < zb 1) : ∀ (e N q : Nat) (so : Int64), q + e = za 1 → e + 1 ≤ N → vb l so →
    F_X0_cellOfProduct_b6 N M 1000 oa ob l (iw (i : Int)) (iw (j : Int)) so (iw (q : Int)) = eRes (spg l ka kb (fun q => cJ M ca (gpos 2 za sa xa (i * za 1 + q))) (fun q => cJ M cb (gpos 2 zb sb xb (q * zb 1 + j))) q e so) M 1002 := by
  have hza := ga.2.2.2.2.1 1 (by omega)
  have cpa := ga.2.2.2.2.2.2.2.1
  have cpb := gb.2.2.2.2.2.2.2.1
  obtain ⟨i0, i1⟩ := ai0 ga.1.2.2.2.2.2.1 rfl
  obtain ⟨s0, s1⟩ := ai0 ga.1.2.2.2.2.2.2.1 rfl
  obtain ⟨u0, u1⟩ := ai0 gb.1.2.2.2.2.2.2.1 rfl
  intro e
  induction e with
  | zero =>
    intro N q so hq hN hso
    obtain ⟨N, rfl⟩ : ∃ y, N = y + 1 := ⟨N - 1, by omega⟩
    show F_X0_cellOfProduct_b6_st (F_X0_cellOfProduct_b6 N) M _ _ _ _ _ _ _ _ = _
    unfold F_X0_cellOfProduct_b6_st
    simp only [gr_of ga.1.2.2.1 (show x_fr 22 1410 = true by decide), i1, Option.bind_some]
    rw [if_neg (by rw [iw_le4 (by omega) (by omega)]; omega)]
    rfl
  | succ e ih =>
    intro N q so hq hN hso
    obtain ⟨N, rfl⟩ : ∃ y, N = y + 1 := ⟨N - 1, by omega⟩
    obtain ⟨A1, A2, -, A4, -, A6⟩ := ga.at2 hi (show q < za 1 by omega)
    obtain ⟨B1, B2, -, B4, -, B6⟩ := gb.at2 (show q < zb 0 by omega) hj
    show F_X0_cellOfProduct_b6_st (F_X0_cellOfProduct_b6 N) M _ _ _ _ _ _ _ _ = _
    unfold F_X0_cellOfProduct_b6_st
    simp only [gr_of ga.1.2.2.1 (show x_fr 22 1410 = true by decide), i1, Option.bind_some]
    rw [if_pos (by rw [iw_le4 (by omega) (by omega)]; omega)]
    simp only [gi_of ga.1.2.2.1 (show x_fi 22 1408 = true by decide), gi_of ga.1.2.2.1 (show x_fi 22 1412 = true by decide), gr_of ga.1.2.2.1 (show x_fr 22 1413 = true by decide), gr_of ga.1.2.2.1 (show x_fr 22 1411 = true by decide), gi_of gb.1.2.2.1 (show x_fi 22 1408 = true by decide), gi_of gb.1.2.2.1 (show x_fi 22 1412 = true by decide), gr_of gb.1.2.2.1 (show x_fr 22 1413 = true by decide), gr_of gb.1.2.2.1 (show x_fr 22 1411 = true by decide), s0, s1, u0, u1, ga.1.2.2.2.1, gb.1.2.2.2.1, ga.1.2.2.2.2.2.2.2.1, gb.1.2.2.2.2.2.2.2.1, ga.1.2.2.2.2.2.2.2.2.1, gb.1.2.2.2.2.2.2.2.2.1, A2, B2, al_of cpa.2.2.2.2.1 cpa.2.2.2.2.2.2.1 A4 (by have := cpa.2.2.2.2.2.2.2.2.1; omega), al_of cpb.2.2.2.2.1 cpb.2.2.2.2.2.2.1 B4 (by have := cpb.2.2.2.2.2.2.2.2.1; omega), E_convert A6, E_convert B6, g1000_67, h, Option.bind_some]
    rw [E_ari (by unfold Wk; decide) hl (cvt_w ga.2.2.1 hl a0 A6) (cvt_w gb.2.2.1 hl b0 B6), spg_s]
    cases hp : ari 3 l (cvt ka l (cJ M ca (gpos 2 za sa xa (i * za 1 + q)))) (cvt kb l (cJ M cb (gpos 2 zb sb xb (q * zb 1 + j)))) with
    | none => exact tb_ei
    | some p =>
      have vp := ari_vb (by unfold Wk; decide) hl (cvt_w ga.2.2.1 hl a0 A6) (cvt_w gb.2.2.1 hl b0 B6) hp
      show ((gr M 1000 67).bind fun t23 => tb (F_X23_arithmetic M 1 l so p t23) fun z24 => F_X0_cellOfProduct_b6 N z24.2 1000 oa ob l (iw (i : Int)) (iw (j : Int)) z24.1 (iw (q : Int) + 1)) = _
      rw [g1000_67 h]
      simp only [Option.bind_some]
      rw [E_ari (by unfold Wk; decide) hl hso vp]
      cases hr : ari 1 l so p with
      | none => exact tb_ei
      | some r =>
        show F_X0_cellOfProduct_b6 N M 1000 oa ob l (iw (i : Int)) (iw (j : Int)) r (iw (q : Int) + 1) = _
        rw [iw_succ]
        exact ih N (q + 1) r (by omega) (by omega) (ari_vb (by unfold Wk; decide) hl hso vp hr)
theorem M_cellp {M : Mem} (h : ST M) (k0 : K0 M) (ga : GP M oa ba ka 2 za sa ta xa ya ca da La pa) (gb : GP M ob bb kb 2 zb sb tb' xb yb cb db Lb pb) (hm : za 1 = zb 0) (hl : Ak l) (fa : fit ka l) (fb : fit kb l) (a0 : ka ≠ 0) (b0 : kb ≠ 0) {i j : Nat} (hi : i < za 0) (hj : j < zb 1) (p0 : cI M 1082 0 = iw (i : Int)) (p1 : cI M 1082 1 = iw (j : Int)) {k188 : Mem → Nat → Nat → Nat → Int32 → Int32 → Int32 → Int32 → Nat → Int32 → Option (Int32 × Mem)} {v5 v7 v10 : Int32} {v9 : Nat} : ∀ (e N q : Nat) (so : Int64), q + e = za 1 → e + 1 ≤ N → vb l so →
    F_X16_product_b212 k188 N M 1068 ba bb v5 (iw (za 1 : Nat)) v7 l v9 v10 so (iw (q : Int)) = tc (mRes (spg l ka kb (fun q => cJ M ca (gpos 2 za sa xa (i * za 1 + q))) (fun q => cJ M cb (gpos 2 zb sb xb (q * zb 1 + j))) q e so) M 1068) (fun z => (sj z.2 1073 v10 z.1).bind fun M35 => k188 M35 1068 ba bb v5 (iw (za 1 : Nat)) v7 l v9 (v10 + 1)) (fun z => F_X16_product_b347 z.2 z.1 1068) := by
  have hza := ga.2.2.2.2.1 1 (by omega)
  have cpa := ga.2.2.2.2.2.2.2.1
  have cpb := gb.2.2.2.2.2.2.2.1
  obtain ⟨s0, s1⟩ := ai0 ga.2.1.2.2.2.2.2.1 rfl
  obtain ⟨u0, u1⟩ := ai0 gb.2.1.2.2.2.2.2.1 rfl
  have q0 : ai M 1082 0 = some (iw (i : Int)) := by
    have := ai_of (j := 0) (t1082 h) (l1082 h) (by decide) (by decide)
    rw [p0] at this
    exact this
  have q1 : ai M 1082 1 = some (iw (j : Int)) := by
    have := ai_of (j := 1) (t1082 h) (l1082 h) (by decide) (by decide)
    rw [p1] at this
    exact this
  intro e
  induction e with
  | zero =>
    intro N q so hq hN hso
    obtain ⟨N, rfl⟩ : ∃ y, N = y + 1 := ⟨N - 1, by omega⟩
    show F_X16_product_b212_st k188 (F_X16_product_b212 k188 N) M _ _ _ _ _ _ _ _ _ _ _ = _
    unfold F_X16_product_b212_st
    rw [if_neg (by rw [iw_le4 (by omega) (by omega)]; omega), g1068_1100 h]
    rfl
  | succ e ih =>
    intro N q so hq hN hso
    obtain ⟨N, rfl⟩ : ∃ y, N = y + 1 := ⟨N - 1, by omega⟩
    obtain ⟨A1, -, A3, A4, A5, A6⟩ := ga.at2 hi (show q < za 1 by omega)
    obtain ⟨B1, -, B3, B4, B5, B6⟩ := gb.at2 (show q < zb 0 by omega) hj
    show F_X16_product_b212_st k188 (F_X16_product_b212 k188 N) M _ _ _ _ _ _ _ _ _ _ _ = _
    unfold F_X16_product_b212_st
    rw [if_pos (by rw [iw_le4 (by omega) (by omega)]; omega)]
    simp only [gi_of ga.2.1.2.2.1 (show x_fi 23 1472 = true by decide), gi_of ga.2.1.2.2.1 (show x_fi 23 1475 = true by decide), gr_of ga.2.1.2.2.1 (show x_fr 23 1476 = true by decide), gr_of ga.2.1.2.2.1 (show x_fr 23 1474 = true by decide), gi_of gb.2.1.2.2.1 (show x_fi 23 1472 = true by decide), gi_of gb.2.1.2.2.1 (show x_fi 23 1475 = true by decide), gr_of gb.2.1.2.2.1 (show x_fr 23 1476 = true by decide), gr_of gb.2.1.2.2.1 (show x_fr 23 1474 = true by decide), g1068_1114, h, q0, q1, s0, s1, u0, u1, ga.2.1.2.2.2.1, gb.2.1.2.2.2.1, ga.2.1.2.2.2.2.2.2.1, gb.2.1.2.2.2.2.2.2.1, ga.2.1.2.2.2.2.2.2.2.1, gb.2.1.2.2.2.2.2.2.2.1, A3, B3, al_of cpa.2.2.2.2.2.1 cpa.2.2.2.2.2.2.2.1 A4 (by have := cpa.2.2.2.2.2.2.2.2.1; omega), al_of cpb.2.2.2.2.2.1 cpb.2.2.2.2.2.2.2.1 B4 (by have := cpb.2.2.2.2.2.2.2.2.1; omega), ← A5, ← B5, M_widened ga.2.2.1 (Ak_Lk hl) fa A6, M_widened gb.2.2.1 (Ak_Lk hl) fb B6, v1068, Option.bind_some]
    rw [show (31 : Nat) = sgn 3 from rfl, M_ari k0 h (by unfold Wk; decide) hl (cvt_w ga.2.2.1 hl a0 A6) (cvt_w gb.2.2.1 hl b0 B6), spg_s]
    cases hp : ari 3 l (cvt ka l (cJ M ca (gpos 2 za sa xa (i * za 1 + q)))) (cvt kb l (cJ M cb (gpos 2 zb sb xb (q * zb 1 + j)))) with
    | none =>
      show tc (mTh M 1068 8) _ _ = tc (mTh M 1068 8) _ _
      rw [mTh_of h, tc_inr, tc_inr]
    | some p =>
      have vp := ari_vb (by unfold Wk; decide) hl (cvt_w ga.2.2.1 hl a0 A6) (cvt_w gb.2.2.1 hl b0 B6) hp
      show tc (some (Sum.inl (p, M))) _ _ = _
      rw [tc_inl]
      show ((vg M 1068 17).bind fun _ => tc (F_X16_arithmetic M 1068 32 l so p) (fun z31 => F_X16_product_b212 k188 N z31.2 1068 ba bb v5 (iw (za 1 : Nat)) v7 l v9 v10 z31.1 (iw (q : Int) + 1)) (fun z32 => F_X16_product_b347 z32.2 z32.1 1068)) = _
      rw [v1068 h]
      simp only [Option.bind_some]
      rw [show (32 : Nat) = sgn 1 from rfl, M_ari k0 h (by unfold Wk; decide) hl hso vp]
      cases hr : ari 1 l so p with
      | none =>
        show tc (mTh M 1068 8) _ _ = tc (mTh M 1068 8) _ _
        rw [mTh_of h, tc_inr, tc_inr]
      | some r =>
        show tc (some (Sum.inl (r, M))) _ _ = _
        rw [tc_inl]
        show F_X16_product_b212 k188 N M 1068 ba bb v5 (iw (za 1 : Nat)) v7 l v9 v10 r (iw (q : Int) + 1) = _
        rw [iw_succ]
        exact ih N (q + 1) r (by omega) (by omega) (ari_vb (by unfold Wk; decide) hl hso vp hr)
end PROD
