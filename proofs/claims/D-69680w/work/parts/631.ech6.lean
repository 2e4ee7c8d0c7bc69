/-! ===== FORMULAS, 56: the engine checks calls ===== -/
theorem wdk1 {x : Int32} (hx : Lk x) : wdk 4 x = wdk x x := by
  rcases hx with rfl | rfl | rfl | rfl | rfl | rfl | rfl | rfl <;> decide
theorem wdk2 {x y : Int32} (hx : Lk x) (hy : Lk y) : wdk (wdk 4 x) y = wdk x y := by
  rcases hx with rfl | rfl | rfl | rfl | rfl | rfl | rfl | rfl <;> rcases hy with rfl | rfl | rfl | rfl | rfl | rfl | rfl | rfl <;> decide
theorem prmL_eq : (List.range 15).all (fun f => decide (F_X37_parameters (iw (f : Int)) = some (iw ((if 2 ≤ f ∧ f ≤ 8 then 2 else 1 : Nat) : Int))) && decide ((iw (f : Int) < (4 : Int32)) ↔ f < 4) && decide (((10 : Int32) < iw (f : Int)) ↔ 10 < f) && decide ((iw (f : Int) < (11 : Int32)) ↔ f < 11)) = true := by decide +kernel
theorem prmL_of {f : Nat} (h : f < 15) : F_X37_parameters (iw (f : Int)) = some (iw ((if 2 ≤ f ∧ f ≤ 8 then 2 else 1 : Nat) : Int)) ∧ ((iw (f : Int) < (4 : Int32)) ↔ f < 4) ∧ (((10 : Int32) < iw (f : Int)) ↔ 10 < f) ∧ ((iw (f : Int) < (11 : Int32)) ↔ f < 11) := by
  have := List.all_eq_true.mp prmL_eq f (List.mem_range.mpr h)
  simp only [Bool.and_eq_true, decide_eq_true_eq] at this
  exact ⟨this.1.1.1, this.1.1.2, this.1.2, this.2⟩
def inK (wh : Bool) (k : Int32) : Prop := if wh = true then isWk k else isNk k
instance (wh : Bool) (k : Int32) : Decidable (inK wh k) := by unfold inK; exact inferInstance
theorem inK_f {k : Int32} : inK false k ↔ isNk k := by unfold inK; rw [if_neg (by decide)]
theorem inK_t {k : Int32} : inK true k ↔ isWk k := by unfold inK; rw [if_pos rfl]
section
variable {M : Mem} {lr f : Nat} {ls : List Int32}
/-- one lane of a built-in function's arguments -/
theorem E_b33s {n : Nat} {wh : Bool} {v3 : Int32} {i : Nat} (hr : RIl M lr ls) (hl : ls.length ≤ 1000000) (hi : i < ls.length) (hk : Lk (ls.getD i 0)) (h3 : Lk v3) : F_X37_lane_b33 (n + 1) M (iw (f : Int)) lr (mr wh) v3 (iw (i : Int)) = if inK wh (ls.getD i 0) then F_X37_lane_b33 n M (iw (f : Int)) lr (mr wh) (wdk v3 (ls.getD i 0)) (iw ((i + 1 : Nat) : Int)) else some (-1) := by
  show F_X37_lane_b33_st (F_X37_lane_b33 n) M _ lr _ v3 _ = _
  unfold F_X37_lane_b33_st F_X37_lane_b69 F_X37_lane_b67
  have g := ai_of hr.1 hr.2.1 hi (by omega)
  rw [hr.2.2 i hi] at g
  rw [an_of hr.1 (by decide) hr.2.1, Option.bind_some, if_pos (by rw [iw_le4 (by omega) (by omega)]; exact hi)]
  simp only [g, x_isNum hk, x_isWh hk, x_wider h3 hk, iw_succ, Option.bind_some]
  cases wh with
  | false =>
    rw [if_pos (show mr false = 0 by decide)]
    by_cases q : isNk (ls.getD i 0)
    · rw [decide_eq_true q, if_neg (show ¬ mr true = 0 by decide), if_pos (inK_f.mpr q)]
    · rw [decide_eq_false q, if_pos (show mr false = 0 by decide), if_neg (fun w => q (inK_f.mp w))]
  | true =>
    rw [if_neg (show ¬ mr true = 0 by decide)]
    by_cases q : isWk (ls.getD i 0)
    · rw [decide_eq_true q, if_neg (show ¬ mr true = 0 by decide), if_pos (inK_t.mpr q)]
    · rw [decide_eq_false q, if_pos (show mr false = 0 by decide), if_neg (fun w => q (inK_t.mp w))]
theorem E_b33e {n : Nat} {wh : Bool} {v3 : Int32} (hr : RIl M lr ls) (hl : ls.length ≤ 1000000) (hf : f < 15) : F_X37_lane_b33 (n + 1) M (iw (f : Int)) lr (mr wh) v3 (iw (ls.length : Int)) = some (if 11 ≤ f then 7 else v3) := by
  show F_X37_lane_b33_st _ M _ lr _ v3 _ = _
  unfold F_X37_lane_b33_st F_X37_lane_b96
  rw [an_of hr.1 (by decide) hr.2.1, Option.bind_some, if_neg (by rw [iw_le4 (by omega) (by omega)]; omega)]
  by_cases q : f < 11
  · rw [if_pos ((prmL_of hf).2.2.2.mpr q), if_neg (by omega)]
  · rw [if_neg (fun w => q ((prmL_of hf).2.2.2.mp w)), if_pos (by omega)]
theorem E_blkL (hr : RIl M lr ls) (hk : ∀ l ∈ ls, Lk l) (hl : ls.length ≤ 1000000) (hf : f < 15) : F_X37_lane M (iw (f : Int)) lr = some (match blkL f ls with
    | some i => i
    | none => -1) := by
  obtain ⟨p1, p2, p3, p4⟩ := prmL_of hf
  unfold F_X37_lane F_X37_lane_b26 F_X37_lane_b27 blkL
  rw [an_of hr.1 (by decide) hr.2.1, Option.bind_some, p1, Option.bind_some]
  have L4 : Lk 4 := by unfold Lk; decide
  by_cases hn : ls.length = (if 2 ≤ f ∧ f ≤ 8 then 2 else 1)
  · rw [if_pos (by rw [hn])]
    have e0 : (if iw (f : Int) < 4 then F_X37_lane_b33 xN M (iw (f : Int)) lr 0 4 0 else if 10 < iw (f : Int) then F_X37_lane_b33 xN M (iw (f : Int)) lr 0 4 0 else F_X37_lane_b33 xN M (iw (f : Int)) lr 1 4 0) = F_X37_lane_b33 (1099511627772 + 1 + 1 + 1 + 1) M (iw (f : Int)) lr (mr (decide (4 ≤ f ∧ f ≤ 10))) 4 (iw ((0 : Nat) : Int)) := by
      by_cases q1 : f < 4
      · rw [if_pos (p2.mpr q1), decide_eq_false (by omega)]; rfl
      · rw [if_neg (fun w => q1 (p2.mp w))]
        by_cases q2 : 10 < f
        · rw [if_pos (p3.mpr q2), decide_eq_false (by omega)]; rfl
        · rw [if_neg (fun w => q2 (p3.mp w)), decide_eq_true (by omega)]; rfl
    rw [e0]
    have ik : ∀ l, inK (decide (4 ≤ f ∧ f ≤ 10)) l ↔ (if 4 ≤ f ∧ f ≤ 10 then isWk l else isNk l) := fun l => by
      unfold inK
      by_cases q : 4 ≤ f ∧ f ≤ 10
      · rw [decide_eq_true q, if_pos rfl, if_pos q]
      · rw [decide_eq_false q, if_neg (by decide), if_neg q]
    obtain ⟨wh, hwh⟩ : ∃ wh, wh = decide (4 ≤ f ∧ f ≤ 10) := ⟨_, rfl⟩
    rw [← hwh] at ik ⊢
    match ls, hr, hk, hl, hn with
    | [], hr, hk, hl, hn => exfalso; revert hn; show ¬ (0 = _); split <;> omega
    | [x], hr, hk, hl, hn =>
      have kx := hk x (by simp)
      rw [E_b33s (i := 0) hr hl (Nat.succ_pos _) kx L4]
      show (if inK wh x then F_X37_lane_b33 (1099511627772 + 1 + 1 + 1) M (iw (f : Int)) lr (mr wh) (wdk 4 x) (iw (([x] : List Int32).length : Int)) else some (-1)) = _
      by_cases q : inK wh x
      · rw [if_pos q, E_b33e hr hl hf, if_pos (show ([x] : List Int32).length = _ ∧ ∀ l ∈ [x], _ from ⟨hn, fun l hl => by rw [List.mem_singleton.mp hl]; exact (ik x).mp q⟩)]
        show _ = some (if 11 ≤ f then 7 else wdk x x)
        rw [wdk1 kx]
      · rw [if_neg q, if_neg (fun w => q ((ik x).mpr (w.2 x (by simp))))]
    | [x, y], hr, hk, hl, hn =>
      have kx := hk x (by simp)
      have ky := hk y (by simp)
      rw [E_b33s (i := 0) hr hl (Nat.succ_pos _) kx L4]
      show (if inK wh x then F_X37_lane_b33 (1099511627772 + 1 + 1 + 1) M (iw (f : Int)) lr (mr wh) (wdk 4 x) (iw ((0 + 1 : Nat) : Int)) else some (-1)) = _
      by_cases q : inK wh x
      · rw [if_pos q, E_b33s (i := 0 + 1) hr hl (Nat.lt_succ_self _) ky (wdk_Lk L4 kx)]
        show (if inK wh y then F_X37_lane_b33 (1099511627772 + 1 + 1) M (iw (f : Int)) lr (mr wh) (wdk (wdk 4 x) y) (iw (([x, y] : List Int32).length : Int)) else some (-1)) = _
        by_cases q2 : inK wh y
        · rw [if_pos q2, E_b33e hr hl hf, if_pos (show ([x, y] : List Int32).length = _ ∧ ∀ l ∈ [x, y], _ from ⟨hn, fun l hl => by
            rcases List.mem_cons.mp hl with rfl | hl
            · exact (ik _).mp q
            · rw [List.mem_singleton.mp hl]; exact (ik y).mp q2⟩)]
          show _ = some (if 11 ≤ f then 7 else wdk x y)
          rw [wdk2 kx ky]
        · rw [if_neg q2, if_neg (fun w => q2 ((ik y).mpr (w.2 y (by simp))))]
      · rw [if_neg q, if_neg (fun w => q ((ik x).mpr (w.2 x (by simp))))]
    | x :: y :: z :: zs, hr, hk, hl, hn => exfalso; revert hn; show ¬ (zs.length + 1 + 1 + 1 = _); split <;> omega
  · rw [if_neg (by rw [iw_eq (by omega) (by omega) (by split <;> omega) (by split <;> omega)]; omega), if_neg (fun w => hn w.1)]
theorem blkL_Lk {i : Int32} (hk : ∀ l ∈ ls, Lk l) (h : blkL f ls = some i) : Lk i := by
  obtain ⟨q, rfl⟩ := blkL_some h
  split
  · unfold Lk; decide
  · have l1 : 1 ≤ ls.length := by rw [q.1]; split <;> omega
    exact wdk_Lk (hk _ (getD_in (by omega))) (hk _ (getD_in (by omega)))
end
section
variable {B v1 us lo hi de a p hh : Nat} {S : Sc} {Z : Nat → Prop} {ea : List Nat} {w : List Int32} {r : Mem → Nat → Nat → Option (Mem ⊕ (Nat × Mem))}
theorem Ex.nn_pos : ∀ e : Ex, e.isx → 1 ≤ e.nn
  | .lit _ _ _, _ => Nat.le_refl _
  | .nam _ _, _ => Nat.le_refl _
  | .pre _ _ _, _ => Nat.succ_pos _
  | .cst _ _ _, _ => Nat.succ_pos _
  | .bin _ _ _ _, _ => Nat.succ_pos _
  | .cnd _ _ _ _, _ => Nat.succ_pos _
  | .cal _ _ _, _ => Nat.succ_pos _
  | .anl, h => h.elim
  | .acn _ _, h => h.elim
theorem Ex.cnt_nn : ∀ e : Ex, e.isr → e.gd → e.cnt ≤ e.nn
  | .anl, _, _ => Nat.le_refl _
  | .acn e r, h, g => by
    have := Ex.cnt_nn r h g.2.1
    have := Ex.nn_pos e g.1.2
    show r.cnt + 1 ≤ e.nn + r.nn
    omega
/-- what checking arguments comes to -/
def RA (M0 M : Mem) (ea : List Nat) (lo hi us lo1 m la da lr n i cn nn : Nat) (es es' : List Nat) (x : Option (Mem ⊕ (Nat × Mem))) (y : Mem → Option (Mem ⊕ (Nat × Mem))) : CkR → Prop
  | .inl q => ∃ N, x = some (.inr (1003, eT N 2 (iw (q : Int)))) ∧ CF M0 N lo hi us ∧ m_nx N ≤ m_nx M + nn ∧ m_sl N + cn ≤ m_sl M + 10 * nn
  | .inr t => ∃ N, x = y N ∧ CF M0 N lo hi us ∧ Df (fun x j => pCk M lo1 m us x j ∨ (x = lr ∧ i ≤ j)) n2 (rCk M lo1 m) M N ∧ m_nx N ≤ m_nx M + nn ∧ m_sl N + cn ≤ m_sl M + 10 * nn ∧ NTx N ea t lo1 m es' ∧ AL N la da es ∧ (lr < m_nx N ∧ m_tg N lr = 1005 ∧ m_ln N lr = n) ∧ (∀ j, j < t.lns.length → cI N lr (i + j) = t.lns.getD j 0) ∧ ∀ k, k < 8 → cI N us k = if t.us k = true then 1 else cI M us k
/-- the arguments, one after the other -/
theorem E_ckArg {M0 : Mem} {m la da lr n : Nat} {es : List Nat} (hr : InC r B v1 us S Z ea de hh) (hS : S.ok) (h : CX M0 B v1 us S Z ea de) (hB : B ≤ lo) (hu : ¬ (lo ≤ us ∧ us < hi)) (ha0 : a < m_nx M0) (hat : m_tg M0 a = 33) (hma : m ≤ a) (hah : a < hi) (hla : cR M0 a 2113 = la) (hln : n = es.length) (hlr : m_nx M0 ≤ lr) (hlt : m_tg M0 la = 67 ∧ la < m_nx M0 ∧ (1334 ≤ da → da < m_nx M0 ∧ m_tg M0 da = 1010)) :
    ∀ (e : Ex) (M : Mem) (i lo1 fu : Nat) (es' : List Nat), e.isr → e.gd → e.ht ≤ hh → lo ≤ lo1 → CF M0 M lo hi us → AL M la da es → es.drop i = es' → (lr < m_nx M ∧ m_tg M lr = 1005 ∧ m_ln M lr = n) → NEx M B e lo1 m es' → i + e.cnt = n → e.cnt + 1 ≤ fu → RA M0 M ea lo hi us lo1 m la da lr n i e.cnt e.nn es es' (F_X32_check_b15 r fu M a v1 (iw (n : Int)) lr (iw (i : Int))) (fun N => F_X32_check_b15 r 1 N a v1 (iw (n : Int)) lr (iw (n : Int))) (ck S e)
  | .anl, M, i, lo1, fu, es', _, _, _, hlo, c, hA, hd, hl, hn, hc, hf => by
    obtain rfl : es' = [] := hn
    obtain ⟨fu, rfl⟩ : ∃ k, fu = k + 1 := ⟨fu - 1, by omega⟩
    have L := hA.len
    have hi' : i = n := hc
    have hx : F_X32_check_b15 r (fu + 1) M a v1 (iw (n : Int)) lr (iw (i : Int)) = F_X32_check_b15 r 1 M a v1 (iw (n : Int)) lr (iw (n : Int)) := by
      rw [hi']
      show F_X32_check_b15_st r (F_X32_check_b15 r fu) M a v1 _ lr _ = F_X32_check_b15_st r (F_X32_check_b15 r 0) M a v1 _ lr _
      unfold F_X32_check_b15_st
      rw [if_neg (by rw [iw_le4 (by omega) (by omega)]; omega), if_neg (by rw [iw_le4 (by omega) (by omega)]; omega)]
    have z1 : m_sl M + 0 ≤ m_sl M + 10 * 0 := Nat.le_refl _
    have z2 : m_nx M ≤ m_nx M + 0 := Nat.le_refl _
    exact ⟨M, hx, c, Df.refl _ _ _ M, z2, z1, (rfl : ([] : List Nat) = []), hA, hl, fun j hj => absurd hj (Nat.not_lt_zero _), fun k hk => rfl⟩
  | .acn e r', M, i, lo1, fu, es', ir, g, hh', hlo, c, hA, hd, hl, hn, hc, hf => by
    obtain ⟨b, as', l, m', q1, l1, ne, l2, l3, nr⟩ := hn
    subst q1
    have hc' : i + (r'.cnt + 1) = n := hc
    have hf' : r'.cnt + 1 + 1 ≤ fu := hf
    have hm1 : e.ht ≤ hh ∧ r'.ht ≤ hh := by
      have : max e.ht r'.ht ≤ hh := hh'
      omega
    obtain ⟨fu, rfl⟩ : ∃ k, fu = k + 1 := ⟨fu - 1, by omega⟩
    have L := hA.len
    have cn := Ex.cnt_nn r' ir g.2.1
    have cB0 := h.2.2.1.2.2.1
    have us0 := h.2.2.1.2.1
    have hM := h.cf c hB
    have cB := hM.2.2.1.2.2.1
    have lru : lr ≠ us := fun q => by have := hl.2.1; rw [q, cB] at this; omega
    have nn0 := c.1
    have gb : es.getD i 0 = b := by
      have e1 : (es.drop i).getD 0 0 = b := by rw [hd]; rfl
      rw [List.getD_eq_getElem?_getD, List.getElem?_drop, Nat.add_zero] at e1
      rw [List.getD_eq_getElem?_getD]; exact e1
    have hd' : es.drop (i + 1) = as' := by
      have := congrArg List.tail hd
      rw [List.tail_drop] at this
      exact this
    obtain ⟨b', tb0, pb, q2, tb1, ⟨tb2, tb3, -⟩, lb1, lb2⟩ := NEx.one e g.1.2 ne
    cases q2
    have aM : m_tg M a = 33 := (c.2.2 a ha0).1.trans hat
    have a13 : cR M a 2113 = la := by rw [c.cR ha0 (fun q => by unfold rCk at q; omega)]; exact hla
    have fn : F_X32_check_b15 r (fu + 1) M a v1 (iw (n : Int)) lr (iw (i : Int)) = tb (r M b v1) (fun z5 => (gr z5 a 2113).bind fun t6 => (vg z5 t6 67).bind fun _ => (F_J6_get z5 t6 (iw (i : Int))).bind fun z8 => (cc z5 z8 29).bind fun _ => (gi z5 z8 1857).bind fun t9 => (si z5 lr (iw (i : Int)) t9).bind fun M10 => F_X32_check_b15 r fu M10 a v1 (iw (n : Int)) lr (iw ((i + 1 : Nat) : Int))) := by
      show F_X32_check_b15_st _ _ M a v1 _ lr _ = _
      unfold F_X32_check_b15_st
      rw [if_pos (by rw [iw_le4 (by omega) (by omega)]; omega)]
      simp only [gr_of aM (show x_fr 33 2113 = true by decide), a13, vg_of hA.2.1 (show x_isa 67 67 = true by decide), hA.get (show i < es.length by omega), gb, cc_of tb3 (nd_fi tb1).2.2.2.2, vg_of tb3 (nd_fi tb1).2.2.2.1, iw_succ, Option.bind_some]
      rfl
    rw [fn]
    have hu1 : ¬ (l ≤ us ∧ us < m') := by omega
    have R := hr e M l m' b g.1.1 g.1.2 hm1.1 hM (by omega) hu1 ne
    show RA M0 M ea lo hi us lo1 m la da lr n i (r'.cnt + 1) (e.nn + r'.nn) es (b :: as') _ _ (cthen (ck S e) fun x => cthen (ck S r') fun y => (.inr (.acn 0 x y) : CkR))
    cases he : ck S e with
    | inl q =>
      rw [he] at R
      obtain ⟨N, y1, y2, y3, y4⟩ := R
      exact ⟨N, by rw [y1]; rfl, c.trans y2 (by omega) (by omega), by show _ ≤ _ + (e.nn + r'.nn); omega, by show _ + (r'.cnt + 1) ≤ _ + 10 * (e.nn + r'.nn); omega⟩
    | inr t =>
      rw [he] at R
      obtain ⟨N, y1, y2, y3, y4, y5, y6⟩ := R
      obtain ⟨hk, tx⟩ := ck_Lk hS g.1.1 g.1.2 he
      rw [y1, tb_l]
      have nn1 := y2.1
      have lrN : lr < m_nx N ∧ m_tg N lr = 1005 ∧ m_ln N lr = n := ⟨by omega, (y2.2.2 lr hl.1).1.trans hl.2.1, (y2.2.2 lr hl.1).2.1.trans hl.2.2⟩
      have aN : m_tg N a = 33 := (y2.2.2 a (by omega)).1.trans aM
      have aN13 : cR N a 2113 = la := by rw [y2.cR (by omega) (fun q => by unfold rCk at q; omega)]; exact a13
      have tla : m_tg M la = 67 := hA.2.1
      have AN : AL N la da es := hA.df y2 (fun q => by unfold pCk at q; rcases q with rfl | q <;> omega) (fun q => by unfold rCk at q; omega) (fun j hj q => by
        unfold rCk at q
        have := (hlt.2.2 hj).2
        have := (c.2.2 da (hlt.2.2 hj).1).1
        omega)
      obtain ⟨b', tt, q3, t1, ⟨t2, t3⟩, t4, -⟩ := NTx.one t tx y5
      cases q3
      have sv := si_of (a := lr) (n := n) (j := i) t.ln lrN.2.1 lrN.2.2 (by omega) (by omega)
      simp only [gr_of aN (show x_fr 33 2113 = true by decide), aN13, vg_of AN.2.1 (show x_isa 67 67 = true by decide), AN.get (show i < es.length by omega), gb, cc_of t3 (nd_fi t1).2.2.2.2, gi_of t3 (nd_fi t1).1, t4, sv, Option.bind_some]
      obtain ⟨W, eW⟩ : ∃ W, W = wI N lr i t.ln := ⟨_, rfl⟩
      rw [← eW]
      have dW : Df (fun x j => x = lr ∧ j = i) n2 n2 N W := by rw [eW]; exact Df.wI _ ⟨rfl, rfl⟩
      have sW : m_nx W = m_nx N ∧ m_sl W = m_sl N := by rw [eW]; exact ⟨rfl, rfl⟩
      have cN : CF M0 N lo hi us := c.trans y2 (by omega) (by omega)
      have cW : CF M0 W lo hi us := cN.then dW (fun x j hx q => by omega) (fun _ _ _ q => q.elim) (fun _ _ _ q => q.elim)
      have AW : AL W la da es := AN.df dW (fun q => by have z1 := AN.2.1; have z2 := lrN.2.1; rw [q.1] at z1; omega) (fun q => q) (fun _ _ q => q)
      have nrN : NEx N B r' m' m as' := nr.cf y2 cB (Or.inl (Nat.le_refl _)) (by omega)
      have nxW : nTx (fun x j => x = lr ∧ j = i) n2 N B := fun x j h1 h2 h3 => ⟨fun q => by rw [q.1, lrN.2.1] at h3; omega, fun q => q⟩
      have nrW : NEx W B r' m' m as' := NEx.df dW nxW r' m' m as' (fun x j x1 x2 => ⟨fun q => by omega, fun q => q, fun q => q⟩) nrN
      have ntW : NTx W ea t l m' [b] := NTx.df dW t l m' [b] (fun x j x1 x2 => ⟨fun q => by omega, fun q => q, fun q => q⟩) y5
      have I := E_ckArg hr hS h hB hu ha0 hat hma hah hla hln hlr hlt r' W (i + 1) m' fu as' ir g.2.1 hm1.2 (by omega) cW AW hd' ⟨by omega, by rw [eW]; exact lrN.2.1, by rw [eW]; exact lrN.2.2⟩ nrW (by omega) (by omega)
      show RA M0 M ea lo hi us lo1 m la da lr n i (r'.cnt + 1) (e.nn + r'.nn) es (b :: as') _ _ (cthen (ck S r') fun y => (.inr (.acn 0 t y) : CkR))
      cases hr' : ck S r' with
      | inl q =>
        rw [hr'] at I
        obtain ⟨O, o1, o2, o3, o4⟩ := I
        exact ⟨O, o1, o2, by show _ ≤ _ + (e.nn + r'.nn); omega, by show _ + (r'.cnt + 1) ≤ _ + 10 * (e.nn + r'.nn); omega⟩
      | inr u =>
        rw [hr'] at I
        obtain ⟨O, o1, o2, o3, o4, o5, o6, o7, o8, o9, o10⟩ := I
        have tgs : ∀ x, x < m_nx M → m_tg W x = m_tg M x := fun x hx => by rw [eW]; exact (y2.2.2 x hx).1
        refine ⟨O, o1, o2, ?_, by show _ ≤ _ + (e.nn + r'.nn); omega, by show _ + (r'.cnt + 1) ≤ _ + 10 * (e.nn + r'.nn); omega, ⟨b, as', l, m', rfl, l1, ?_, l2, l3, o6⟩, o7, o8, fun j hj => ?_, fun k hk => ?_⟩
        · have d1 : Df (fun x j => pCk M lo1 m us x j ∨ (x = lr ∧ i ≤ j)) n2 (rCk M lo1 m) M N := (Df.refl _ _ _ M).then y2 (fun x j hx q => Or.inl (by unfold pCk at *; omega)) (fun _ _ _ q => q) (fun x j hx q => by unfold rCk at *; omega)
          have d2 : Df (fun x j => pCk M lo1 m us x j ∨ (x = lr ∧ i ≤ j)) n2 (rCk M lo1 m) M W := d1.then dW (fun x j hx q => Or.inr ⟨q.1, by omega⟩) (fun _ _ _ q => q) (fun _ _ _ q => q.elim)
          refine d2.then o3 (fun x j hx q => ?_) (fun _ _ _ q => q) (fun x j hx q => ?_)
          · rcases q with q | q
            · left
              unfold pCk at *
              rw [tgs x hx] at q
              omega
            · exact Or.inr ⟨q.1, by omega⟩
          · unfold rCk at *
            rw [tgs x hx] at q
            omega
        · refine NTx.df o3 t l m' [b] (fun x j x1 x2 => ⟨fun q => ?_, fun q => q, fun q => ?_⟩) ntW
          · rcases q with q | q
            · unfold pCk at q; omega
            · omega
          · unfold rCk at q; omega
        · cases j with
          | zero =>
            show cI O lr (i + 0) = t.ln
            rw [o3.cI (by omega) (fun q => ?_), eW, cI_wI, if_pos ⟨rfl, by omega⟩]
            rcases q with q | q
            · unfold pCk at q
              have := lrN.2.1
              have : m_tg W lr = 1005 := by rw [eW]; exact lrN.2.1
              omega
            · omega
          | succ j =>
            have := o9 j (by have : j + 1 < u.lns.length + 1 := hj; omega)
            show cI O lr (i + (j + 1)) = u.lns.getD j 0
            rw [show i + (j + 1) = i + 1 + j by omega]
            exact this
        · show _ = if (t.us k || u.us k) = true then 1 else _
          have w1 : cI W us k = if t.us k = true then 1 else cI M us k := by rw [eW, cI_wI, if_neg (fun q => lru q.1.symm), y6 k hk]
          rw [o10 k hk, w1]
          cases t.us k <;> cases u.us k <;> rfl
end
