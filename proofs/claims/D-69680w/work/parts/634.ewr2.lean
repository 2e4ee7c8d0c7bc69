/-! ===== FORMULAS, 59: the engine writes expressions ===== -/
theorem cvw_len (f t : Int32) : (cvw f t).length ≤ 3 := by unfold cvw; split; exact Nat.zero_le _; exact Nat.le_refl _
section
variable {fs : List Fn} {ps : List Int32} {op : Nat → Int32 → Prop}
theorem wE_len : ∀ (t : Tx) (p : Nat), wt fs ps op t → (t.isx → (wE t p).length + 3 ≤ 11 * t.nn) ∧ (t.isr → (wE t p).length ≤ 11 * t.nn)
  | .lit _ _, _, _ => ⟨fun _ => by show 3 + 3 ≤ 11 * 1; omega, fun h => h.elim⟩
  | .par _ _, _, _ => ⟨fun _ => by show 2 + 3 ≤ 11 * 1; omega, fun h => h.elim⟩
  | .opd _ _, _, _ => ⟨fun _ => by show 2 + 3 ≤ 11 * 1; omega, fun h => h.elim⟩
  | .spt _, _, _ => ⟨fun _ => by show 2 + 3 ≤ 11 * 1; omega, fun h => h.elim⟩
  | .pre s l e, p, w => ⟨fun _ => by
      have E := (wE_len e p w.1).1 w.2.1
      have C := cvw_len e.ln l
      have T : (if s = 33 then [7] else if s = 126 then [6] else [5, l] : List Int32).length ≤ 2 := by split; decide; split <;> simp
      show (wE e p ++ cvw e.ln l ++ (if s = 33 then [7] else if s = 126 then [6] else [5, l])).length + 3 ≤ 11 * (e.nn + 1)
      rw [List.length_append, List.length_append]
      omega, fun h => h.elim⟩
  | .cst l e, p, w => ⟨fun _ => by
      have E := (wE_len e p w.1).1 w.2.1
      show (wE e p ++ [16, 4, e.ln, l]).length + 3 ≤ 11 * (e.nn + 1)
      rw [List.length_append, show ([16, 4, e.ln, l] : List Int32).length = 4 from rfl]
      omega, fun h => h.elim⟩
  | .bin o i l a b, p, w => ⟨fun _ => by
      have A := (wE_len a p w.1).1 w.2.1
      have B := (wE_len b (p + (wE a p ++ cvw a.ln i).length) w.2.2.1).1 w.2.2.2.1
      have C := cvw_len a.ln i
      have D : (if isSh o then [] else cvw b.ln i).length ≤ 3 := by split; exact Nat.zero_le _; exact cvw_len _ _
      show ((wE a p ++ cvw a.ln i) ++ (wE b (p + (wE a p ++ cvw a.ln i).length) ++ (if isSh o then [] else cvw b.ln i)) ++ [8, o, i]).length + 3 ≤ 11 * (a.nn + b.nn + 1)
      simp only [List.length_append] at *
      rw [show ([8, o, i] : List Int32).length = 3 from rfl]
      omega, fun h => h.elim⟩
  | .sho o a b, p, w => ⟨fun _ => by
      have A := (wE_len a p w.1).1 w.2.1
      have B := (wE_len b (p + (wE a p).length + 2) w.2.2.1).1 w.2.2.2.1
      show (wE a p ++ [if o = 18 then 9 else 10, iw ((p + (wE a p).length + 2 + (wE b (p + (wE a p).length + 2)).length : Nat) : Int)] ++ wE b (p + (wE a p).length + 2)).length + 3 ≤ 11 * (a.nn + b.nn + 1)
      rw [List.length_append, List.length_append, List.length_cons, List.length_singleton]
      omega, fun h => h.elim⟩
  | .cnd l c a b, p, w => ⟨fun _ => by
      have C := (wE_len c p w.1).1 w.2.1
      have A := (wE_len a (p + (wE c p).length + 2) w.2.2.1).1 w.2.2.2.1
      have B := (wE_len b (p + (wE c p).length + 2 + (wE a (p + (wE c p).length + 2) ++ cvw a.ln l).length + 2) w.2.2.2.2.1).1 w.2.2.2.2.2.1
      have D := cvw_len a.ln l
      have E := cvw_len b.ln l
      show (wE c p ++ [11, _] ++ (wE a (p + (wE c p).length + 2) ++ cvw a.ln l) ++ [12, _] ++ (wE b (p + (wE c p).length + 2 + (wE a (p + (wE c p).length + 2) ++ cvw a.ln l).length + 2) ++ cvw b.ln l)).length + 3 ≤ 11 * (c.nn + a.nn + b.nn + 1)
      simp only [List.length_append, List.length_cons, List.length_nil] at *
      omega, fun h => h.elim⟩
  | .bui f i r, p, w => ⟨fun _ => by
      have R := (wE_len r p w.1).2 w.2.1
      show (wE r p ++ [14, iw (f : Int), i]).length + 3 ≤ 11 * (r.nn + 1)
      rw [List.length_append, show ([14, iw (f : Int), i] : List Int32).length = 3 from rfl]
      omega, fun h => h.elim⟩
  | .cal f l r, p, w => ⟨fun _ => by
      have R := (wE_len r p w.1).2 w.2.1
      show (wE r p ++ [13, iw (f : Int)]).length + 3 ≤ 11 * (r.nn + 1)
      rw [List.length_append, show ([13, iw (f : Int)] : List Int32).length = 2 from rfl]
      omega, fun h => h.elim⟩
  | .anl, _, _ => ⟨fun h => h.elim, fun _ => Nat.le_refl _⟩
  | .acn t e r, p, w => ⟨fun h => h.elim, fun h => by
      have E := (wE_len e p w.1).1 w.2.1
      have R := (wE_len r (p + (wE e p ++ cvw e.ln t).length) w.2.2.1).2 w.2.2.2
      have C := cvw_len e.ln t
      show ((wE e p ++ cvw e.ln t) ++ wE r (p + (wE e p ++ cvw e.ln t).length)).length ≤ 11 * (e.nn + r.nn)
      simp only [List.length_append] at *
      omega⟩
end
/-- functions are left alone -/
def WX (M : Mem) (H : Nat) (Z : Nat → Prop) (ea : List Nat) (fs : List Fn) : Prop := (∀ x, Z x → x < H) ∧ ∀ k, k < fs.length → EF M Z (ea.getD k 0) (fs.getD k fn0)
section
variable {M N : Mem} {H c : Nat} {ws : List Int32} {Z : Nat → Prop} {ea : List Nat} {fs : List Fn}
theorem WX.wf (h : WX M H Z ea fs) (hH : H ≤ m_nx M) (w : WF M N H c) : WX N H Z ea fs := ⟨h.1, fun k hk => (h.2 k hk).df w.1 (fun x q => Nat.lt_of_lt_of_le (h.1 x q) hH) (fun x i q r => by have := h.1 x q; unfold pH at r; omega) (fun x i q r => by have := h.1 x q; unfold pH at r; omega)⟩
theorem NTx.wf {t : Tx} {lo hi : Nat} {as : List Nat} (h : NTx M ea t lo hi as) (hH : hi ≤ H) (w : WF M N H c) : NTx N ea t lo hi as := NTx.df w.1 t lo hi as (fun x i h1 h2 => ⟨fun q => by unfold pH at q; omega, fun q => q, fun q => by unfold pH at q; omega⟩) h
theorem WF.at1 {a : Nat} (w : WF M N H c) (ha : a < m_nx M) (hH : a < H) : m_tg N a = m_tg M a ∧ (∀ i, cI N a i = cI M a i) ∧ (∀ i, cR N a i = cR M a i) ∧ ∀ i, cJ N a i = cJ M a i := ⟨(w.1.2.2 a ha).1, fun i => w.1.cI ha (fun q => by unfold pH at q; omega), fun i => w.1.cR ha (fun q => by unfold pH at q; omega), fun i => ((w.1.2.2 a ha).2.2 i).2.1 (fun q => q)⟩
/-- a word is added -/
theorem E_addV {α : Type} (h : EW M H c ws) (hn : ws.length ≤ 100000) (v : Int32) (k : Mem → Option α) : ∃ N, ((vg M c 40).bind fun _ => (F_X39_add M c v).bind fun z => k z) = k N ∧ EW N H c (ws ++ [v]) ∧ WF M N H c := by
  obtain ⟨N, n1, n2, n3⟩ := E_addI h hn v
  exact ⟨N, by rw [h.v, Option.bind_some, n1, Option.bind_some], n2, n3⟩
theorem E_openV {α : Type} (h : EW M H c ws) (hn : ws.length ≤ 100000) (k : Int32 × Mem → Option α) : ∃ N, ((vg M c 40).bind fun _ => (F_X39_open M c).bind fun z => k z) = k (iw (ws.length : Int), N) ∧ EW N H c (ws ++ [-1]) ∧ WF M N H c := by
  obtain ⟨N, n1, n2, n3⟩ := E_addI h hn (-1)
  refine ⟨N, ?_, n2, n3⟩
  unfold F_X39_open
  rw [h.v, Option.bind_some, Option.bind_some, n1, Option.bind_some, n2.sz, Option.bind_some, Option.bind_some, List.length_append, List.length_singleton]
  congr 2
  show iw ((ws.length + 1 : Nat) : Int) - iw ((1 : Nat) : Int) = _
  rw [iw_sub]
  congr 1
  omega
end
def InW1 (r : Mem → Nat → Nat → Option Mem) (H c : Nat) (Z : Nat → Prop) (ea : List Nat) (fs : List Fn) (ps : List Int32) (op : Nat → Int32 → Prop) (h : Nat) : Prop :=
  ∀ (t : Tx) (M : Mem) (lo hi a : Nat) (ws : List Int32), wt fs ps op t → t.isx → t.ht ≤ h → NTx M ea t lo hi [a] → hi ≤ H → WX M H Z ea fs → EW M H c ws → ws.length + 11 * t.nn ≤ 60000 → ∃ N, r M a c = some N ∧ EW N H c (ws ++ wE t ws.length) ∧ WF M N H c
def InW2 (r : Mem → Nat → Nat → Int32 → Option Mem) (H c : Nat) (Z : Nat → Prop) (ea : List Nat) (fs : List Fn) (ps : List Int32) (op : Nat → Int32 → Prop) (h : Nat) : Prop :=
  ∀ (t : Tx) (M : Mem) (lo hi a : Nat) (ws : List Int32) (l : Int32), wt fs ps op t → t.isx → t.ht ≤ h → NTx M ea t lo hi [a] → hi ≤ H → WX M H Z ea fs → EW M H c ws → ws.length + 11 * t.nn ≤ 60000 → ∃ N, r M a c l = some N ∧ EW N H c (ws ++ (wE t ws.length ++ cvw t.ln l)) ∧ WF M N H c
section
variable {M : Mem} {H c lo hi a hh : Nat} {ws : List Int32} {Z : Nat → Prop} {ea : List Nat} {fs : List Fn} {ps : List Int32} {op : Nat → Int32 → Prop} {r1 : Mem → Nat → Nat → Option Mem} {r2 : Mem → Nat → Nat → Int32 → Option Mem}
theorem E_wAs (h1 : InW1 r1 H c Z ea fs ps op hh) : InW2 (fun M a c l => F_X28_writeAs_o r1 r2 M a c l) H c Z ea fs ps op hh := by
  intro t M lo hi a ws l w x hh' nt hH wx ew hn
  obtain ⟨N, n1, n2', n3⟩ := h1 t M lo hi a ws w x hh' nt hH wx ew hn
  have LN := (wE_len t ws.length w).1 x
  obtain ⟨a', tt, q1, t1, ⟨t2, t3⟩, t4, l1, l2⟩ := NTx.one t x nt
  cases q1
  obtain ⟨k1, k2, k3, -⟩ := n3.at1 t2 (by omega)
  have ln : (ws ++ wE t ws.length).length ≤ 60000 := by rw [List.length_append]; omega
  have g57 : ∀ O, m_tg O a = tt → cI O a 1857 = t.ln → gi O a 1857 = some t.ln := fun O q1 q2 => by rw [gi_of q1 (nd_fi t1).1, q2]
  show ∃ N, F_X28_writeAs_o r1 r2 M a c l = some N ∧ _
  unfold F_X28_writeAs_o
  rw [vg_of t3 (nd_fi t1).2.2.2.1, Option.bind_some, n1, Option.bind_some, g57 N (k1.trans t3) (by rw [k2]; exact t4), Option.bind_some]
  by_cases q : l = t.ln
  · rw [if_pos q]
    refine ⟨N, rfl, ?_, n3⟩
    unfold cvw
    rw [if_pos q, List.append_nil]
    exact n2'
  · rw [if_neg q]
    obtain ⟨O, o1, o2, o3⟩ := E_addV n2' (by omega) 4 (fun z5 => (gi z5 a 1857).bind fun t6 => (vg z5 c 40).bind fun _ => (F_X39_add z5 c t6).bind fun z8 => (vg z8 c 40).bind fun _ => (F_X39_add z8 c l).bind fun z10 => some z10)
    have nO := n3.trans o3
    obtain ⟨j1, j2, -, -⟩ := nO.at1 t2 (by omega)
    rw [o1, g57 O (j1.trans t3) (by rw [j2]; exact t4), Option.bind_some]
    have ln1 : (ws ++ wE t ws.length ++ [4]).length ≤ 60001 := by rw [List.length_append, List.length_singleton]; omega
    obtain ⟨P, p1, p2, p3⟩ := E_addV o2 (by omega) t.ln (fun z8 => (vg z8 c 40).bind fun _ => (F_X39_add z8 c l).bind fun z10 => some z10)
    rw [p1]
    obtain ⟨Q, u1, u2, u3⟩ := E_addV p2 (by rw [List.length_append, List.length_singleton]; omega) l (fun z10 => some z10)
    rw [u1]
    refine ⟨Q, rfl, ?_, (nO.trans p3).trans u3⟩
    unfold cvw
    rw [if_neg q]
    simpa only [List.append_assoc, List.cons_append, List.nil_append, List.append_nil] using u2
theorem E_wPre {s l : Int32} {e : Tx} (h2 : InW2 r2 H c Z ea fs ps op hh) (w : wt fs ps op (.pre s l e)) (hh' : e.ht ≤ hh) (nt : NTx M ea (.pre s l e) lo hi [a]) (hH : hi ≤ H) (wx : WX M H Z ea fs) (ew : EW M H c ws) (hn : ws.length + 11 * (e.nn + 1) ≤ 60000) : ∃ N, F_X29_write_o r1 r2 M a c = some N ∧ EW N H c (ws ++ wE (.pre s l e) ws.length) ∧ WF M N H c := by
  obtain ⟨a', ch, m, q1, ne, ⟨l1, l2, l3⟩, ⟨t2, t3⟩, t4, t5, t6⟩ := nt
  cases q1
  obtain ⟨c', tt, q2, c1, ⟨c2, c3⟩, -, -⟩ := NTx.one e w.2.1 ne
  cases q2
  obtain ⟨N, n1, n2', n3⟩ := h2 e M lo m ch ws l w.1 w.2.1 hh' ne (by omega) wx ew (by omega)
  have LN := (wE_len e ws.length w.1).1 w.2.1
  have CL := cvw_len e.ln l
  have ln : (ws ++ (wE e ws.length ++ cvw e.ln l)).length ≤ 60000 := by rw [List.length_append, List.length_append]; omega
  obtain ⟨k1, k2, k3, -⟩ := n3.at1 t2 (by omega)
  have g20 : ∀ O, WF M O H c → gi O a 1920 = some s ∧ gi O a 1857 = some l := fun O wO => by
    obtain ⟨j1, j2, -, -⟩ := wO.at1 t2 (by omega)
    exact ⟨by rw [gi_of (j1.trans t3) (show x_fi 30 1920 = true by decide), j2, t5], by rw [gi_of (j1.trans t3) (show x_fi 30 1857 = true by decide), j2, t4]⟩
  have fin : ∀ v : Int32, ∃ O, F_X29_write_b42 r1 r2 N c v a c = some O ∧ EW O H c (ws ++ (wE e ws.length ++ cvw e.ln l) ++ ([v] ++ if s = 45 then [l] else [])) ∧ WF M O H c := fun v => by
    unfold F_X29_write_b42 F_X29_write_b62
    obtain ⟨O, o1, o2, o3⟩ := E_addV n2' (by omega) v (fun z2 => (gi z2 a 1920).bind fun t3 => if t3 = 45 then (gi z2 a 1857).bind fun t4 => (vg z2 c 40).bind fun _ => (F_X39_add z2 c t4).bind fun z6 => some z6 else some z2)
    rw [o1, (g20 O (n3.trans o3)).1, Option.bind_some]
    by_cases q : s = 45
    · rw [if_pos q, if_pos q, (g20 O (n3.trans o3)).2, Option.bind_some]
      obtain ⟨P, p1, p2, p3⟩ := E_addV o2 (by rw [List.length_append, List.length_singleton]; omega) l (fun z6 => some z6)
      rw [p1]
      exact ⟨P, rfl, by simpa only [List.append_assoc, List.cons_append, List.nil_append, List.append_nil] using p2, (n3.trans o3).trans p3⟩
    · rw [if_neg q, if_neg q]
      exact ⟨O, rfl, by simpa only [List.append_nil] using o2, n3.trans o3⟩
  unfold F_X29_write_o
  rw [gr_of t3 (show x_fr 30 1921 = true by decide), t6, Option.bind_some, gi_of t3 (show x_fi 30 1857 = true by decide), t4, Option.bind_some, vg_of c3 (nd_fi c1).2.2.2.1, Option.bind_some, n1, Option.bind_some, (g20 N n3).1, Option.bind_some]
  show ∃ N, _ = some N ∧ EW N H c (ws ++ (wE e ws.length ++ cvw e.ln l ++ (if s = 33 then [7] else if s = 126 then [6] else [5, l]))) ∧ _
  by_cases s1 : s = 33
  · rw [if_pos s1, if_pos s1]
    obtain ⟨O, o1, o2, o3⟩ := fin 7
    rw [if_neg (by rw [s1]; decide)] at o2
    exact ⟨O, o1, by simpa only [List.append_assoc, List.cons_append, List.nil_append, List.append_nil] using o2, o3⟩
  rw [if_neg s1, if_neg s1, Option.bind_some]
  by_cases s2 : s = 126
  · rw [if_pos s2, if_pos s2]
    obtain ⟨O, o1, o2, o3⟩ := fin 6
    rw [if_neg (by rw [s2]; decide)] at o2
    exact ⟨O, o1, by simpa only [List.append_assoc, List.cons_append, List.nil_append, List.append_nil] using o2, o3⟩
  · have s3 : s = 45 := by
      rcases w.2.2 with q | q | q
      · exact (s1 q.1).elim
      · exact q.1
      · exact (s2 q.1).elim
    rw [if_neg s2, if_neg s2]
    obtain ⟨O, o1, o2, o3⟩ := fin 5
    rw [if_pos s3] at o2
    exact ⟨O, o1, by simpa only [List.append_assoc, List.cons_append, List.nil_append, List.append_nil] using o2, o3⟩
theorem E_wCst {l : Int32} {e : Tx} (h1 : InW1 r1 H c Z ea fs ps op hh) (w : wt fs ps op (.cst l e)) (hh' : e.ht ≤ hh) (nt : NTx M ea (.cst l e) lo hi [a]) (hH : hi ≤ H) (wx : WX M H Z ea fs) (ew : EW M H c ws) (hn : ws.length + 11 * (e.nn + 1) ≤ 60000) : ∃ N, F_X33_write_o r1 r2 M a c = some N ∧ EW N H c (ws ++ wE (.cst l e) ws.length) ∧ WF M N H c := by
  obtain ⟨a', ch, m, q1, ne, ⟨l1, l2, l3⟩, ⟨t2, t3⟩, t4, t6⟩ := nt
  cases q1
  obtain ⟨c', tt, q2, c1, ⟨c2, c3⟩, c4, c5, c6⟩ := NTx.one e w.2.1 ne
  cases q2
  obtain ⟨N, n1, n2', n3⟩ := h1 e M lo m ch ws w.1 w.2.1 hh' ne (by omega) wx ew (by omega)
  have LN := (wE_len e ws.length w.1).1 w.2.1
  have ln : (ws ++ wE e ws.length).length ≤ 60000 := by rw [List.length_append]; omega
  have gA : ∀ O, WF M O H c → gr O a 2176 = some ch ∧ gi O a 1857 = some l ∧ gi O ch 1857 = some e.ln := fun O wO => by
    obtain ⟨j1, j2, j3, -⟩ := wO.at1 t2 (by omega)
    obtain ⟨i1, i2, -, -⟩ := wO.at1 c2 (by omega)
    exact ⟨by rw [gr_of (j1.trans t3) (show x_fr 34 2176 = true by decide), j3, t6], by rw [gi_of (j1.trans t3) (show x_fi 34 1857 = true by decide), j2, t4], by rw [gi_of (i1.trans c3) (nd_fi c1).1, i2, c4]⟩
  unfold F_X33_write_o
  rw [(gA M (WF.refl M H c)).1, Option.bind_some, vg_of c3 (nd_fi c1).2.2.2.1, Option.bind_some, n1, Option.bind_some]
  obtain ⟨O, o1, o2, o3⟩ := E_addV n2' (by omega) 16 (fun z5 => (vg z5 c 40).bind fun _ => (F_X39_add z5 c 4).bind fun z7 => (gr z7 a 2176).bind fun t8 => (gi z7 t8 1857).bind fun t9 => (vg z7 c 40).bind fun _ => (F_X39_add z7 c t9).bind fun z11 => (gi z11 a 1857).bind fun t12 => (vg z11 c 40).bind fun _ => (F_X39_add z11 c t12).bind fun z14 => some z14)
  rw [o1]
  have b1 : (ws ++ wE e ws.length ++ [16]).length ≤ 60001 := by rw [List.length_append, List.length_singleton]; omega
  obtain ⟨P, p1, p2, p3⟩ := E_addV o2 (by omega) 4 (fun z7 => (gr z7 a 2176).bind fun t8 => (gi z7 t8 1857).bind fun t9 => (vg z7 c 40).bind fun _ => (F_X39_add z7 c t9).bind fun z11 => (gi z11 a 1857).bind fun t12 => (vg z11 c 40).bind fun _ => (F_X39_add z11 c t12).bind fun z14 => some z14)
  have wP := (n3.trans o3).trans p3
  obtain ⟨g1, g2, g3⟩ := gA P wP
  rw [p1, g1, Option.bind_some, g3, Option.bind_some]
  have b2 : (ws ++ wE e ws.length ++ [16] ++ [4]).length ≤ 60002 := by rw [List.length_append, List.length_singleton]; omega
  obtain ⟨Q, u1, u2, u3⟩ := E_addV p2 (by omega) e.ln (fun z11 => (gi z11 a 1857).bind fun t12 => (vg z11 c 40).bind fun _ => (F_X39_add z11 c t12).bind fun z14 => some z14)
  rw [u1, (gA Q (wP.trans u3)).2.1, Option.bind_some]
  obtain ⟨R, v1, v2, v3⟩ := E_addV u2 (by rw [List.length_append, List.length_singleton]; omega) l (fun z14 => some z14)
  rw [v1]
  exact ⟨R, rfl, by show EW R H c (ws ++ (wE e ws.length ++ [16, 4, e.ln, l])); simpa only [List.append_assoc, List.cons_append, List.nil_append, List.append_nil] using v2, (wP.trans u3).trans v3⟩
end
