/-! ===== FORMULAS, 79: the model tells heights ===== -/
theorem J_box1 {M : Mem} (h0 : 1334 ≤ m_nx M) (k0 : K0 M) {k : Nat} (hk : k ≤ 100) : ∃ x, F_J19_valueOf M (iw (k : Int)) = some (x, M) ∧ IB M x (iw (k : Int)) ∧ x < 1000 := by
  have vi : (iw (k : Int)).toInt = (k : Int) := iw_toInt (by omega) (by omega)
  have m1 : (-128 : Int32).toInt = -128 := rfl
  have m2 : (127 : Int32).toInt = 127 := rfl
  have b : ¬ iw (k : Int) < -128 ∧ ¬ 127 < iw (k : Int) := by
    rw [Int32.lt_iff_toInt_lt, Int32.lt_iff_toInt_lt]
    omega
  obtain ⟨-, -, -, -, -, t5, l5, r5⟩ := k0
  have hi2 : k + 128 < 256 := by omega
  obtain ⟨r1, r2, r3⟩ := r5 (k + 128) hi2
  have ev : iw (k : Int) + 128 = iw ((k + 128 : Nat) : Int) := by rw [show (128 : Int32) = iw 128 from rfl, iw_add]; rfl
  have ec : cI M (300 + (k + 128)) 5120 = iw (k : Int) := by
    rw [r3, show Int32.ofNat (k + 128) = iw ((k + 128 : Nat) : Int) from rfl, show (128 : Int32) = iw 128 from rfl, iw_sub, show ((k + 128 : Nat) : Int) - 128 = (k : Int) by omega]
  refine ⟨300 + (k + 128), ?_, ⟨by omega, Or.inr r2, ec⟩, by omega⟩
  unfold F_J19_valueOf
  rw [if_neg b.1, if_neg b.2, ev, ar_of (show 1010 ≤ m_tg M 5 by omega) l5 hi2 (by decide), r1]
  rfl
/-- the pile of heights -/
def HG (M : Mem) (H K lp dp : Nat) (ep : List Nat) (P : List Nat) : Prop := (ST M ∧ K0 M ∧ m_tg M 4 = 1091 ∧ m_ln M 4 = 0) ∧ (1334 ≤ H ∧ K ≤ 50000 ∧ H ≤ lp) ∧ AQ M lp dp ep K ∧ (1334 ≤ dp → H ≤ dp) ∧ ep.length = P.length ∧ ∀ i, i < P.length → IB M (ep.getD i 0) (iw (P.getD i 0 : Int)) ∧ ep.getD i 0 < 1000
def FHt (M N : Mem) (H lp : Nat) : Prop := Df (at1 lp) n2 (fun x _ => x = lp ∨ (H ≤ x ∧ m_tg M x = 1010)) M N
def RHt (M N : Mem) (H lp dp dp' k : Nat) : Prop := FHt M N H lp ∧ m_nx N ≤ m_nx M + k ∧ m_sl N + rcs M dp ≤ m_sl M + rcs N dp'
section
variable {M N O : Mem} {H K lp dp dp' dp'' : Nat} {ep : List Nat} {P : List Nat}
theorem FHt.refl (M : Mem) (H lp : Nat) : FHt M M H lp := Df.refl _ _ _ _
theorem FHt.trans (h : FHt M N H lp) (g : FHt N O H lp) : FHt M O H lp := by
  refine Df.then h g (fun x i hx q => q) (fun x i hx q => q) (fun x i hx q => ?_)
  rw [(h.2.2 x hx).1] at q
  exact q
theorem RHt.refl (M : Mem) (H lp dp : Nat) : RHt M M H lp dp dp 0 := ⟨FHt.refl M H lp, by omega, by omega⟩
theorem RHt.trans {k j : Nat} (h : RHt M N H lp dp dp' k) (g : RHt N O H lp dp' dp'' j) : RHt M O H lp dp dp'' (k + j) := ⟨h.1.trans g.1, by have := h.2.1; have := g.2.1; omega, by have := h.2.2; have := g.2.2; omega⟩
theorem HG.pop {x : Nat} (h : HG M H K lp dp ep (P ++ [x])) : ∃ N ep' y, F_J6_remove M lp (iw (P.length : Int)) = some (y, N) ∧ F_J6_size M lp = some (iw ((P.length + 1 : Nat) : Int)) ∧ IB N y (iw (x : Int)) ∧ HG N H K lp dp ep' P ∧ RHt M N H lp dp dp 0 := by
  obtain ⟨⟨a1, a2, a3, a4⟩, ⟨b1, b2, b3⟩, h3, f1, h4, h5⟩ := h
  have hl : (P ++ [x]).length = P.length + 1 := by rw [List.length_append, List.length_singleton]
  rw [hl] at h4 h5
  obtain ⟨es, y, ex⟩ : ∃ es y, ep = es ++ [y] := ⟨ep.dropLast, ep.getLast (fun q => by rw [q] at h4; cases h4), (List.dropLast_concat_getLast _).symm⟩
  have le : es.length = P.length := by rw [ex, List.length_append, List.length_singleton] at h4; omega
  have bx : IB M y (iw (x : Int)) ∧ y < 1000 := by
    have := h5 P.length (by omega)
    rw [ex, getD_r (by omega), getD_r (Nat.le_refl _), le, Nat.sub_self] at this
    exact this
  have h3' := h3
  rw [ex] at h3'
  obtain ⟨N, n1, n2', n3, n4, n5, n6⟩ := h3'.pop
  obtain ⟨t1, t2, t3⟩ := h3.tg
  have dp4 : 1334 ≤ dp := by
    rcases h3.1.2.2.2.2 with q | q
    · rw [q.1] at h4; cases h4
    · exact q.1
  have fB := f1 dp4
  have st0 := a1.1
  have nn := n3.1
  refine ⟨N, es, y, by rw [← le]; exact n1, by rw [h3.1.size, h4], bx.1.df n3 (fun q => by unfold at1 at q; omega), ⟨⟨a1.df n3 (fun p hp q => by unfold at1 at q; have := stR_lt p hp; omega), a2.df a1 n3 (fun a i q1 q => by unfold at1 at q; omega) (fun a i q1 q => by unfold at1 at q; omega), (n3.2.2 4 (by omega)).1.trans a3, (n3.2.2 4 (by omega)).2.1.trans a4⟩, ⟨b1, b2, b3⟩, n2', f1, le, fun i hi => ?_⟩, ⟨?_, by omega, by omega⟩⟩
  · have := h5 i (by omega)
    rw [ex, getD_l (by omega), getD_l (by omega)] at this
    exact ⟨this.1.df n3 (fun q => by unfold at1 at q; omega), this.2⟩
  · exact (Df.refl _ _ _ M).then n3 (fun x i hx q => q) (fun x i hx q => q) (fun x i hx q => by unfold at1 at q; rw [q]; exact Or.inr ⟨fB, (t3 dp4).1⟩)
theorem HG.push {k : Nat} (hk : k ≤ 100) (h : HG M H K lp dp ep P) (hK : P.length + 1 ≤ K) : ∃ x N dp' ep', F_J19_valueOf M (iw (k : Int)) = some (x, M) ∧ F_J6_add M lp x = some (1, N) ∧ HG N H K lp dp' ep' (P ++ [k]) ∧ RHt M N H lp dp dp' 1 := by
  obtain ⟨⟨a1, a2, a3, a4⟩, ⟨b1, b2, b3⟩, h3, f1, h4, h5⟩ := h
  obtain ⟨t1, t2, t3⟩ := h3.tg
  have st0 := a1.1
  obtain ⟨x, x1, x2, x3⟩ := J_box1 a1.1 a2 hk
  obtain ⟨N, ds, n1, n2', n3, n4, n5, n6, n7⟩ := h3.add a1.1 ⟨a3, a4⟩ (by omega) (by omega) (Or.inr ⟨by omega, x2.asg⟩)
  have hl2 : (P ++ [k]).length = P.length + 1 := by rw [List.length_append, List.length_singleton]
  have rB : ∀ x i, ((x = lp ∧ i = 4288) ∨ (x = dp ∧ 1334 ≤ dp)) → H ≤ x := fun x i q => by
    rcases q with ⟨q, -⟩ | ⟨q, q2⟩
    · omega
    · have := f1 q2; omega
  refine ⟨x, N, ds, ep ++ [x], x1, n1, ⟨⟨a1.df n4 (fun p hp q => by have := rB _ _ q; have := stR_lt p hp; omega), a2.df a1 n4 (fun a i q1 q => by unfold at1 at q; omega) (fun a i q1 q => by have := rB _ _ q; omega), (n4.2.2 4 (by omega)).1.trans a3, (n4.2.2 4 (by omega)).2.1.trans a4⟩, ⟨b1, b2, b3⟩, n2', fun _ => ?_, by rw [List.length_append, List.length_singleton, hl2, h4], fun i hi => ?_⟩, ⟨?_, by omega, by omega⟩⟩
  · rcases n3 with q | q
    · rw [q]; exact f1 (by omega)
    · omega
  · rw [hl2] at hi
    by_cases q : i < P.length
    · rw [getD_l (by omega), getD_l q]
      exact ⟨(h5 i q).1.df n4 (fun q2 => by unfold at1 at q2; have := (h5 i q).2; omega), (h5 i q).2⟩
    · obtain rfl : i = P.length := by omega
      rw [getD_r (by omega), getD_r (Nat.le_refl _), h4, Nat.sub_self]
      exact ⟨x2.df n4 (fun q => by unfold at1 at q; omega), x3⟩
  · exact (Df.refl _ _ _ M).then n4 (fun x i hx q => q) (fun x i hx q => q) (fun x i hx q => by
      rcases q with ⟨q, -⟩ | ⟨q, q2⟩
      · exact Or.inl q
      · rw [q]; exact Or.inr ⟨f1 q2, (t3 q2).1⟩)
end
/-- the greatest -/
def mxl : List Nat → Nat
  | [] => 0
  | x :: xs => max x (mxl xs)
theorem mxl_app : ∀ (a b : List Nat), mxl (a ++ b) = max (mxl a) (mxl b)
  | [], b => by show mxl b = max 0 (mxl b); omega
  | x :: a, b => by show max x (mxl (a ++ b)) = max (max x (mxl a)) (mxl b); rw [mxl_app a b]; omega
section
variable {M N : Mem} {H K lp dp li : Nat} {ep : List Nat} {P : List Nat}
/-- so many are taken, the greatest and one more is put -/
theorem M_b136 {v2 : Int32} {cn : Nat} (hP : P.length + 1 ≤ K) (hcn : cn ≤ 100000) : ∀ (m fu acc : Nat) (qs : List Nat) (M : Mem) (ep : List Nat), qs.length = m → m + 1 ≤ fu → m ≤ cn → (∀ x ∈ qs, x ≤ 31) → acc ≤ 31 → HG M H K lp dp ep (P ++ qs) → ∃ N dp' ep', (∀ k10 : Mem → Nat → Nat → Int32 → Option (Int32 × Mem), F_X16_heightOf_b136 k10 fu M li lp v2 (iw (cn : Int)) (iw (acc : Int)) (iw ((cn - m : Nat) : Int)) = k10 N li lp (v2 + 1)) ∧ HG N H K lp dp' ep' (P ++ [min (max acc (mxl qs) + 1) 31]) ∧ RHt M N H lp dp dp' 1 := by
  intro m
  induction m with
  | zero =>
    intro fu acc qs M ep hq hf hm hx ha h
    obtain ⟨fu, rfl⟩ : ∃ k, fu = k + 1 := ⟨fu - 1, by omega⟩
    obtain rfl : qs = [] := List.length_eq_zero_iff.mp hq
    rw [List.append_nil] at h
    obtain ⟨x, N, dp', ep', p1, p2, p3, p4⟩ := h.push (k := min (acc + 1) 31) (by omega) hP
    have t2 := h.2.2.1.tg.2.1
    refine ⟨N, dp', ep', fun k10 => ?_, by rw [show max acc (mxl []) = acc by show max acc 0 = acc; omega]; exact p3, p4⟩
    show F_X16_heightOf_b136_st k10 (F_X16_heightOf_b136 k10 fu) M li lp v2 _ _ _ = _
    unfold F_X16_heightOf_b136_st F_X16_heightOf_b189
    rw [if_neg (by rw [iw_le4 (by omega) (by omega)]; omega), iw_succ, show (31 : Int32) = iw ((31 : Nat) : Int) from rfl, J_min2 (by omega) (by omega), Option.bind_some, p1, Option.bind_some, vg_of t2 (show x_isa 67 67 = true by decide), Option.bind_some, p2, Option.bind_some]
  | succ m ih =>
    intro fu acc qs M ep hq hf hm hx ha h
    obtain ⟨fu, rfl⟩ : ∃ k, fu = k + 1 := ⟨fu - 1, by omega⟩
    obtain ⟨qs', y, eq⟩ : ∃ qs' y, qs = qs' ++ [y] := ⟨qs.dropLast, qs.getLast (fun q => by rw [q] at hq; cases hq), (List.dropLast_concat_getLast _).symm⟩
    have lq : qs'.length = m := by rw [eq, List.length_append, List.length_singleton] at hq; omega
    have y31 : y ≤ 31 := hx y (by rw [eq]; simp)
    have hx' : ∀ x ∈ qs', x ≤ 31 := fun x hx2 => hx x (by rw [eq]; exact List.mem_append_left _ hx2)
    rw [eq, ← List.append_assoc] at h
    have hl := h.2.2.1.1.len
    obtain ⟨N, ep', z, n1, n2', n3, n4, n5⟩ := h.pop
    have t2 := h.2.2.1.tg.2.1
    have ll : (P ++ qs').length ≤ 200000 := by
      have e1 := h.2.2.2.2.1
      have e2 : (P ++ qs' ++ [y]).length = (P ++ qs').length + 1 := by rw [List.length_append, List.length_singleton]
      omega
    obtain ⟨N2, dp2, ep2, m1, m2, m3⟩ := ih fu (max acc y) qs' N ep' lq (by omega) (by omega) hx' (by omega) n4
    refine ⟨N2, dp2, ep2, fun k10 => ?_, ?_, ⟨n5.1.trans m3.1, by have := n5.2.1; have := m3.2.1; omega, by have := n5.2.2; have := m3.2.2; omega⟩⟩
    · show F_X16_heightOf_b136_st k10 (F_X16_heightOf_b136 k10 fu) M li lp v2 _ _ _ = _
      unfold F_X16_heightOf_b136_st
      rw [if_pos (by rw [iw_le4 (by omega) (by omega)]; omega), vg_of t2 (show x_isa 67 67 = true by decide), Option.bind_some, n2', Option.bind_some, Option.bind_some, show iw (((P ++ qs').length + 1 : Nat) : Int) - 1 = iw ((P ++ qs').length : Int) by show iw (((P ++ qs').length + 1 : Nat) : Int) - iw ((1 : Nat) : Int) = _; rw [iw_sub, show (((P ++ qs').length + 1 : Nat) : Int) - ((1 : Nat) : Int) = ((P ++ qs').length : Int) by omega], n1, Option.bind_some, n3.cc, Option.bind_some, n3.vg, Option.bind_some, n3.val, Option.bind_some, J_max0 (by omega) (by omega), Option.bind_some, iw_succ, show cn - (m + 1) + 1 = cn - m by omega]
      exact m1 k10
    · rw [eq, mxl_app, show mxl [y] = y by show max y 0 = y; omega, show max acc (max (mxl qs') y) = max (max acc y) (mxl qs') by omega]
      exact m2
end
/-- heights, as they are told -/
def Ex.hs : Ex → List Nat
  | .anl => []
  | .acn e r => min e.ht 31 :: r.hs
  | .lit _ _ _ => [1]
  | .nam _ _ => [1]
  | .pre _ _ e => [min (e.ht + 1) 31]
  | .cst _ _ e => [min (e.ht + 1) 31]
  | .bin _ _ a b => [min (max a.ht b.ht + 1) 31]
  | .cnd _ c a b => [min (max c.ht (max a.ht b.ht) + 1) 31]
  | .cal _ _ r => [min (r.ht + 1) 31]
theorem hs_x : ∀ e : Ex, e.isx → e.hs = [min e.ht 31]
  | .lit _ _ _, _ => rfl
  | .nam _ _, _ => rfl
  | .pre _ _ _, _ => rfl
  | .cst _ _ _, _ => rfl
  | .bin _ _ _ _, _ => rfl
  | .cnd _ _ _ _, _ => rfl
  | .cal _ _ _, _ => rfl
  | .anl, h => h.elim
  | .acn _ _, h => h.elim
theorem hs_r : ∀ e : Ex, e.isr → mxl e.hs = min e.ht 31 ∧ e.hs.length = e.cnt ∧ ∀ x ∈ e.hs, x ≤ 31
  | .anl, _ => ⟨rfl, rfl, fun x hx => by cases hx⟩
  | .acn e r, h => by
    obtain ⟨a1, a2, a3⟩ := hs_r r h
    refine ⟨?_, by show r.hs.length + 1 = r.cnt + 1; rw [a2], fun x hx => ?_⟩
    · show max (min e.ht 31) (mxl r.hs) = min (max e.ht r.ht) 31
      rw [a1]
      omega
    · rcases List.mem_cons.mp hx with rfl | hx
      · omega
      · exact a3 x hx
/-- items for heights -/
def IHt (M : Mem) (H B li di : Nat) (ei : List Nat) (I : List Itm) : Prop := (AL M li di ei ∧ li < H ∧ (1334 ≤ di → di < H)) ∧ ei.length = I.length ∧ ∀ j, j < I.length → IMm M B (ei.getD j 0) (I.getD j itm0)
section
variable {M N : Mem} {H K lp dp li di B : Nat} {ep ei : List Nat} {P : List Nat} {I : List Itm}
theorem IHt.fh (h : IHt M H B li di ei I) (f : FHt M N H lp) (hlp : H ≤ lp) (ht : m_tg M lp = 67) : IHt N H B li di ei I := by
  obtain ⟨⟨h1, h2, h3⟩, h4, h5⟩ := h
  refine ⟨⟨h1.df f (fun q => by unfold at1 at q; omega) (fun q => by omega) (fun i hi q => by have := h3 hi; omega), h2, h3⟩, h4, fun j hj => (h5 j hj).df f (fun x i x1 x2 x3 => ⟨fun q => by unfold at1 at q; rw [q] at x3; omega, fun q => q, fun q => ?_⟩)⟩
  rcases q with q | q
  · rw [q] at x3; omega
  · omega
/-- one item -/
theorem M_hOne (h : HG M H K lp dp ep P) (hi : IHt M H B li di ei I) {i : Nat} (hi' : i < I.length) (n : Nat) : F_X16_heightOf_b10 (n + 1) M li lp (iw (i : Int)) = (if (I.getD i itm0).op = 7 ∨ (I.getD i itm0).op = 9 ∨ (I.getD i itm0).op = 10 then F_X16_heightOf_b10 n M li lp (iw ((i + 1 : Nat) : Int)) else F_X16_heightOf_b136 (F_X16_heightOf_b10 n) xN M li lp (iw (i : Int)) (if (I.getD i itm0).op = 4 ∨ (I.getD i itm0).op = 5 then 1 else if (I.getD i itm0).op = 6 ∨ (I.getD i itm0).op = 8 then 2 else if (I.getD i itm0).op = 11 then 3 else if (I.getD i itm0).op = 3 then (I.getD i itm0).n else 0) 0 0) := by
  obtain ⟨⟨h1, h2, h3⟩, h4, h5⟩ := hi
  have L := h1.len
  have im := h5 i hi'
  show F_X16_heightOf_b10_st (F_X16_heightOf_b10 n) M li lp _ = _
  unfold F_X16_heightOf_b10_st F_X16_heightOf_b189 F_X16_heightOf_b73 F_X16_heightOf_b95 F_X16_heightOf_b128
  rw [vg_of h1.2.1 (show x_isa 67 67 = true by decide), Option.bind_some, h1.size, Option.bind_some, if_pos (by rw [iw_le4 (by omega) (by omega)]; omega), Option.bind_some, h1.get (show i < ei.length by omega), Option.bind_some, cc_of im.1.2.2 (show x_cast 45 45 = true by decide), Option.bind_some]
  simp only [gi_of im.1.2.2 (show x_fi 45 2880 = true by decide), gi_of im.1.2.2 (show x_fi 45 2883 = true by decide), im.2.1, im.2.2.2.1, iw_succ, Option.bind_some]
  by_cases q7 : (I.getD i itm0).op = 7
  · rw [if_pos q7, if_pos (Or.inl q7)]
  rw [if_neg q7]
  by_cases q9 : (I.getD i itm0).op = 9
  · rw [if_pos q9, if_pos (Or.inr (Or.inl q9))]
  rw [if_neg q9]
  by_cases q10 : (I.getD i itm0).op = 10
  · rw [if_pos q10, if_pos (Or.inr (Or.inr q10))]
  have z1 : ¬ ((I.getD i itm0).op = 7 ∨ (I.getD i itm0).op = 9 ∨ (I.getD i itm0).op = 10) := fun q => q.elim q7 (fun q => q.elim q9 q10)
  rw [if_neg q10, if_neg z1]
  by_cases q4 : (I.getD i itm0).op = 4
  · rw [if_pos q4, if_pos (Or.inl q4)]
  rw [if_neg q4]
  by_cases q5 : (I.getD i itm0).op = 5
  · rw [if_pos q5, if_pos (Or.inr q5)]
  have z2 : ¬ ((I.getD i itm0).op = 4 ∨ (I.getD i itm0).op = 5) := fun q => q.elim q4 q5
  rw [if_neg q5, if_neg z2]
  by_cases q6 : (I.getD i itm0).op = 6
  · rw [if_pos q6, if_pos (Or.inl q6)]
  rw [if_neg q6]
  by_cases q8 : (I.getD i itm0).op = 8
  · rw [if_pos q8, if_pos (Or.inr q8)]
  have z3 : ¬ ((I.getD i itm0).op = 6 ∨ (I.getD i itm0).op = 8) := fun q => q.elim q6 q8
  rw [if_neg q8, if_neg z3]
  by_cases q11 : (I.getD i itm0).op = 11
  · rw [if_pos q11, if_pos q11]
  rw [if_neg q11, if_neg q11]
  by_cases q3 : (I.getD i itm0).op = 3
  · rw [if_pos q3, if_pos q3]
  · rw [if_neg q3, if_neg q3]
end
