/-! ===== FORMULAS, 61: the engine writes calls, all ===== -/
section
variable {M : Mem} {H c lo hi a hh : Nat} {ws : List Int32} {Z : Nat → Prop} {ea : List Nat} {fs : List Fn} {ps : List Int32} {op : Nat → Int32 → Prop} {r1 : Mem → Nat → Nat → Option Mem} {r2 : Mem → Nat → Nat → Int32 → Option Mem}
/-- arguments are written; ls: the lanes in which they are taken -/
theorem E_wArg {M0 : Mem} {m la da : Nat} {es : List Nat} {ls : List Int32} (h2 : InW2 r2 H c Z ea fs ps op hh) (ha0 : a < m_nx M0) (haH : a < H) (hat : m_tg M0 a = 33) (hla : cR M0 a 2113 = la) (hlH : la < H ∧ (1334 ≤ da → da < H)) (hm : m ≤ H) (hls : ls.length = es.length)
    (hln : ∀ O, WF M0 O H c → WX O H Z ea fs → ∀ i, i < ls.length → ∀ k : Int32 → Option Mem, ((gi O a 2114).bind fun t21 => if t21 < 0 then (gi O a 2116).bind fun t22 => k t22 else (gr O a 2117).bind fun t23 => (gr O t23 2498).bind fun t24 => (ai O t24 (iw (i : Int))).bind fun t25 => k t25) = k (ls.getD i 0)) :
    ∀ (t : Tx) (M : Mem) (i lo1 fu : Nat) (es' : List Nat) (ws : List Int32), wt fs ps op t → t.isr → t.ht ≤ hh → NTx M ea t lo1 m es' → WX M H Z ea fs → WF M0 M H c → EW M H c ws → AL M la da es → es.drop i = es' → (ls.drop i = t.als.map (fun q => q.2)) → ws.length + 11 * t.nn ≤ 60000 → es'.length + 1 ≤ fu → i + es'.length = es.length →
      ∃ N, F_X32_write_b2 r1 r2 fu M a c (iw (i : Int)) = F_X32_write_b2 r1 r2 1 N a c (iw (es.length : Int)) ∧ EW N H c (ws ++ wE t ws.length) ∧ WF M N H c ∧ AL N la da es
  | .anl, M, i, lo1, fu, es', ws, _, _, _, hn, _, wf, ew, hA, hd, hl, _, hf, hi' => by
    obtain rfl : es' = [] := hn
    obtain ⟨fu, rfl⟩ : ∃ k, fu = k + 1 := ⟨fu - 1, by omega⟩
    have e : i = es.length := hi'
    have L := hA.len
    obtain ⟨j1, -, j3, -⟩ := wf.at1 ha0 haH
    have hx : F_X32_write_b2 r1 r2 (fu + 1) M a c (iw (i : Int)) = F_X32_write_b2 r1 r2 1 M a c (iw (es.length : Int)) := by
      rw [e]
      show F_X32_write_b2_st r1 r2 (F_X32_write_b2 r1 r2 fu) M a c _ = F_X32_write_b2_st r1 r2 (F_X32_write_b2 r1 r2 0) M a c _
      unfold F_X32_write_b2_st
      simp only [gr_of (j1.trans hat) (show x_fr 33 2113 = true by decide), j3, hla, vg_of hA.2.1 (show x_isa 67 67 = true by decide), hA.size, Option.bind_some]
      rw [if_neg (by rw [iw_le4 (by omega) (by omega)]; omega), if_neg (by rw [iw_le4 (by omega) (by omega)]; omega)]
    exact ⟨M, hx, by rw [show wE Tx.anl ws.length = [] from rfl, List.append_nil]; exact ew, WF.refl _ _ _, hA⟩
  | .acn t e r, M, i, lo1, fu, es', ws, w, ir, hh', hn, wx, wf, ew, hA, hd, hl, hb, hf, hi' => by
    obtain ⟨b, as', l, m', q1, l1, ne, l2, l3, nr⟩ := hn
    subst q1
    obtain ⟨fu, rfl⟩ : ∃ k, fu = k + 1 := ⟨fu - 1, by omega⟩
    have L := hA.len
    rw [List.length_cons] at hf hi'
    have hm1 : e.ht ≤ hh ∧ r.ht ≤ hh := by
      have : max e.ht r.ht ≤ hh := hh'
      omega
    have hb' : ws.length + 11 * (e.nn + r.nn) ≤ 60000 := hb
    have gb : es.getD i 0 = b := by
      have e1 : (es.drop i).getD 0 0 = b := by rw [hd]; rfl
      rw [List.getD_eq_getElem?_getD, List.getElem?_drop, Nat.add_zero] at e1
      rw [List.getD_eq_getElem?_getD]; exact e1
    have hd' : es.drop (i + 1) = as' := by
      have := congrArg List.tail hd
      rw [List.tail_drop] at this
      exact this
    have hl1 : ls.drop i = t :: r.als.map (fun q => q.2) := hl
    have gt : ls.getD i 0 = t := by
      have e1 : (ls.drop i).getD 0 0 = t := by rw [hl1]; rfl
      rw [List.getD_eq_getElem?_getD, List.getElem?_drop, Nat.add_zero] at e1
      rw [List.getD_eq_getElem?_getD]; exact e1
    have hl' : ls.drop (i + 1) = r.als.map (fun q => q.2) := by
      have := congrArg List.tail hl1
      rw [List.tail_drop] at this
      exact this
    obtain ⟨b', tb0, q2, tb1, ⟨tb2, tb3⟩, -, lb1, lb2⟩ := NTx.one e w.2.1 ne
    cases q2
    obtain ⟨j1, -, j3, -⟩ := wf.at1 ha0 haH
    obtain ⟨N, n1, n2', n3⟩ := h2 e M l m' b ws t w.1 w.2.1 hm1.1 ne (by omega) wx ew (by omega)
    have LE := (wE_len e ws.length w.1).1 w.2.1
    have CV := cvw_len e.ln t
    have AN : AL N la da es := hA.df n3.1 (fun q => by unfold pH at q; omega) (fun q => by unfold pH at q; omega) (fun k hk q => by have := hlH.2 hk; unfold pH at q; omega)
    have ln : (ws ++ (wE e ws.length ++ cvw e.ln t)).length = ws.length + (wE e ws.length ++ cvw e.ln t).length := List.length_append
    have ln2 : (wE e ws.length ++ cvw e.ln t).length ≤ 11 * e.nn := by rw [List.length_append]; omega
    have fn : F_X32_write_b2 r1 r2 (fu + 1) M a c (iw (i : Int)) = F_X32_write_b2 r1 r2 fu N a c (iw ((i + 1 : Nat) : Int)) := by
      show F_X32_write_b2_st r1 r2 (F_X32_write_b2 r1 r2 fu) M a c _ = _
      unfold F_X32_write_b2_st
      simp only [gr_of (j1.trans hat) (show x_fr 33 2113 = true by decide), j3, hla, vg_of hA.2.1 (show x_isa 67 67 = true by decide), hA.size, hA.get (show i < es.length by omega), gb, cc_of tb3 (nd_fi tb1).2.2.2.2, Option.bind_some]
      rw [if_pos (by rw [iw_le4 (by omega) (by omega)]; omega), hln M wf wx i (by omega) (fun t22 => F_X32_write_b48 r1 r2 (F_X32_write_b2 r1 r2 fu) M b c t22 a c (iw (i : Int))), gt]
      unfold F_X32_write_b48
      rw [vg_of tb3 (nd_fi tb1).2.2.2.1, Option.bind_some, n1, Option.bind_some, iw_succ]
    obtain ⟨O, o1, o2, o3, o4⟩ := E_wArg h2 ha0 haH hat hla hlH hm hls hln r N (i + 1) m' fu as' _ w.2.2.1 ir hm1.2 (nr.wf hm n3) (wx.wf ew.le n3) (wf.trans n3) n2' AN hd' hl' (by omega) (by omega) (by omega)
    refine ⟨O, fn.trans o1, ?_, n3.trans o3, o4⟩
    rw [ln] at o2
    show EW O H c (ws ++ ((wE e ws.length ++ cvw e.ln t) ++ wE r (ws.length + (wE e ws.length ++ cvw e.ln t).length)))
    simpa only [List.append_assoc] using o2
theorem als_lns : ∀ t : Tx, t.als.length = t.lns.length ∧ t.als.map (fun q => q.1) = t.lns
  | .acn _ e r => ⟨by show r.als.length + 1 = r.lns.length + 1; rw [(als_lns r).1], by show e.ln :: r.als.map _ = e.ln :: r.lns; rw [(als_lns r).2]⟩
  | .lit _ _ => ⟨rfl, rfl⟩
  | .par _ _ => ⟨rfl, rfl⟩
  | .opd _ _ => ⟨rfl, rfl⟩
  | .spt _ => ⟨rfl, rfl⟩
  | .pre _ _ _ => ⟨rfl, rfl⟩
  | .cst _ _ => ⟨rfl, rfl⟩
  | .bin _ _ _ _ _ => ⟨rfl, rfl⟩
  | .sho _ _ _ => ⟨rfl, rfl⟩
  | .cnd _ _ _ _ => ⟨rfl, rfl⟩
  | .bui _ _ _ => ⟨rfl, rfl⟩
  | .cal _ _ _ => ⟨rfl, rfl⟩
  | .anl => ⟨rfl, rfl⟩
theorem NTx.cnt : ∀ (t : Tx) {lo hi : Nat} {as : List Nat}, t.isr → NTx M ea t lo hi as → as.length = t.als.length
  | .anl, _, _, _, _, q => by rw [show _ = [] from q]; rfl
  | .acn _ e r, _, _, _, ir, ⟨b, as', l, m', q1, _, _, _, _, q2⟩ => by
    rw [q1]
    show as'.length + 1 = r.als.length + 1
    rw [NTx.cnt r ir q2]
theorem E_wBui {f : Nat} {i : Int32} {r : Tx} (h2 : InW2 r2 H c Z ea fs ps op hh) (w : wt fs ps op (.bui f i r)) (hh' : r.ht ≤ hh) (nt : NTx M ea (.bui f i r) lo hi [a]) (hH : hi ≤ H) (wx : WX M H Z ea fs) (ew : EW M H c ws) (hn : ws.length + 11 * (r.nn + 1) ≤ 60000) : ∃ N, F_X32_write_o r1 r2 M a c = some N ∧ EW N H c (ws ++ wE (.bui f i r) ws.length) ∧ WF M N H c := by
  obtain ⟨a', la, da, es, m, q1, nr, ⟨l1, l2, l3⟩, ⟨t2, t3⟩, t4, t5, t6, t7, t8, t9, l4, l5⟩ := nt
  cases q1
  obtain ⟨wr, ir, ty⟩ := w
  have LR := (wE_len r ws.length wr).2 ir
  have cn := NTx.cnt r ir nr
  have L := t9.len
  have gA : ∀ O, WF M O H c → gi O a 2114 = some (-1) ∧ gi O a 2115 = some (iw (f : Int)) ∧ gi O a 2116 = some i ∧ gr O a 2113 = some la := fun O wO => by
    obtain ⟨j1, j2, j3, -⟩ := wO.at1 t2 (by omega)
    exact ⟨by rw [gi_of (j1.trans t3) (show x_fi 33 2114 = true by decide), j2, t5], by rw [gi_of (j1.trans t3) (show x_fi 33 2115 = true by decide), j2, t6], by rw [gi_of (j1.trans t3) (show x_fi 33 2116 = true by decide), j2, t7], by rw [gr_of (j1.trans t3) (show x_fr 33 2113 = true by decide), j3, t8]⟩
  have hls : List.replicate es.length i = r.als.map (fun q => q.2) := by
    refine List.ext_getElem (by rw [List.length_replicate, List.length_map, cn]) (fun k k1 k2 => ?_)
    rw [List.getElem_replicate, List.getElem_map]
    exact ((ty.2.2.1 _ (List.getElem_mem _)).1).symm
  obtain ⟨N, n1, n2', n3, n4⟩ := E_wArg (r1 := r1) (ls := List.replicate es.length i) h2 t2 (show a < H by omega) t3 t8 ⟨by omega, fun _ => by omega⟩ (show m ≤ H by omega) (by rw [List.length_replicate]) (fun O wO _ k hk kk => by
    rw [List.length_replicate] at hk
    rw [(gA O wO).1, Option.bind_some, if_pos (by decide), (gA O wO).2.2.1, Option.bind_some, List.getD_eq_getElem?_getD, List.getElem?_replicate, if_pos hk]
    rfl) r M 0 lo xN es ws wr ir hh' nr wx (WF.refl _ _ _) ew t9 (List.drop_zero) (by rw [List.drop_zero]; exact hls) (by omega) (by have : xN = 1099511627776 := rfl; omega) (by omega)
  unfold F_X32_write_o
  rw [show (0 : Int32) = iw ((0 : Nat) : Int) from rfl, n1]
  obtain ⟨g1, g2, g3, g4⟩ := gA N n3
  have ln : (ws ++ wE r ws.length).length = ws.length + (wE r ws.length).length := List.length_append
  rw [show F_X32_write_b2 r1 r2 1 N a c (iw (es.length : Int)) = F_X32_write_b2_st r1 r2 (F_X32_write_b2 r1 r2 0) N a c (iw (es.length : Int)) from rfl]
  unfold F_X32_write_b2_st
  rw [g4, Option.bind_some, vg_of n4.2.1 (show x_isa 67 67 = true by decide), Option.bind_some, n4.size, Option.bind_some, if_neg (by rw [iw_le4 (by omega) (by omega)]; omega), g1, Option.bind_some, if_pos (by decide)]
  unfold F_X32_write_b72
  obtain ⟨O, o1, o2, o3⟩ := E_addV n2' (by omega) 14 (fun z8 => (gi z8 a 2114).bind fun t9 => if t9 < 0 then (gi z8 a 2115).bind fun t10 => F_X32_write_b94 r1 r2 z8 c t10 a c else (gi z8 a 2114).bind fun t11 => F_X32_write_b94 r1 r2 z8 c t11 a c)
  have wO := n3.trans o3
  rw [o1, (gA O wO).1, Option.bind_some, if_pos (by decide), (gA O wO).2.1, Option.bind_some]
  unfold F_X32_write_b94 F_X32_write_b112
  have b1 : (ws ++ wE r ws.length ++ [14]).length ≤ 60001 := by rw [List.length_append, List.length_singleton]; omega
  obtain ⟨P, p1, p2, p3⟩ := E_addV o2 (by omega) (iw (f : Int)) (fun z2 => (gi z2 a 2114).bind fun t3 => if t3 < 0 then (gi z2 a 2116).bind fun t4 => (vg z2 c 40).bind fun _ => (F_X39_add z2 c t4).bind fun z6 => some z6 else some z2)
  have wP := wO.trans p3
  rw [p1, (gA P wP).1, Option.bind_some, if_pos (by decide), (gA P wP).2.2.1, Option.bind_some]
  obtain ⟨Q, u1, u2, u3⟩ := E_addV p2 (by rw [List.length_append, List.length_singleton]; omega) i (fun z6 => some z6)
  rw [u1]
  exact ⟨Q, rfl, by show EW Q H c (ws ++ (wE r ws.length ++ [14, iw (f : Int), i])); simpa only [List.append_assoc, List.cons_append, List.nil_append] using u2, wP.trans u3⟩
theorem E_wCal {f : Nat} {l : Int32} {r : Tx} (h2 : InW2 r2 H c Z ea fs ps op hh) (hf6 : ∀ k, k < fs.length → (fs.getD k fn0).ps.length ≤ 6) (hfl : fs.length ≤ 40) (w : wt fs ps op (.cal f l r)) (hh' : r.ht ≤ hh) (nt : NTx M ea (.cal f l r) lo hi [a]) (hH : hi ≤ H) (wx : WX M H Z ea fs) (ew : EW M H c ws) (hn : ws.length + 11 * (r.nn + 1) ≤ 60000) : ∃ N, F_X32_write_o r1 r2 M a c = some N ∧ EW N H c (ws ++ wE (.cal f l r) ws.length) ∧ WF M N H c := by
  obtain ⟨a', la, da, es, m, q1, nr, ⟨l1, l2, l3⟩, ⟨t2, t3⟩, t4, t5, t6, t8, t9, l4, l5⟩ := nt
  cases q1
  obtain ⟨wr, ir, fl, -, tps, -⟩ := w
  have LR := (wE_len r ws.length wr).2 ir
  have cn := NTx.cnt r ir nr
  have L := t9.len
  have f6 := hf6 f fl
  have nf : ¬ iw (f : Int) < 0 := iw_nn0 (by omega)
  have gA : ∀ O, WF M O H c → gi O a 2114 = some (iw (f : Int)) ∧ gr O a 2117 = some (ea.getD f 0) ∧ gr O a 2113 = some la := fun O wO => by
    obtain ⟨j1, j2, j3, -⟩ := wO.at1 t2 (by omega)
    exact ⟨by rw [gi_of (j1.trans t3) (show x_fi 33 2114 = true by decide), j2, t5], by rw [gr_of (j1.trans t3) (show x_fr 33 2117 = true by decide), j3, t6], by rw [gr_of (j1.trans t3) (show x_fr 33 2113 = true by decide), j3, t8]⟩
  have hls : (fs.getD f fn0).ps.length = es.length := by rw [← tps, List.length_map, cn]
  obtain ⟨N, n1, n2', n3, n4⟩ := E_wArg (r1 := r1) (ls := (fs.getD f fn0).ps) h2 t2 (show a < H by omega) t3 t8 ⟨by omega, fun _ => by omega⟩ (show m ≤ H by omega) hls (fun O wO wxO k hk kk => by
    have ef := wxO.2 f fl
    rw [(gA O wO).1, Option.bind_some, if_neg nf, (gA O wO).2.1, Option.bind_some, gr_of ef.1.2 (show x_fr 39 2498 = true by decide), Option.bind_some, ai_of ef.2.2.2.1.2.1 ef.2.2.2.1.2.2.1 hk (by omega), ef.2.2.2.1.2.2.2 k hk, Option.bind_some]) r M 0 lo xN es ws wr ir hh' nr wx (WF.refl _ _ _) ew t9 (List.drop_zero) (by rw [List.drop_zero]; exact tps.symm) (by omega) (by have : xN = 1099511627776 := rfl; omega) (by omega)
  unfold F_X32_write_o
  rw [show (0 : Int32) = iw ((0 : Nat) : Int) from rfl, n1]
  obtain ⟨g1, g2, g4⟩ := gA N n3
  have ln : (ws ++ wE r ws.length).length = ws.length + (wE r ws.length).length := List.length_append
  rw [show F_X32_write_b2 r1 r2 1 N a c (iw (es.length : Int)) = F_X32_write_b2_st r1 r2 (F_X32_write_b2 r1 r2 0) N a c (iw (es.length : Int)) from rfl]
  unfold F_X32_write_b2_st
  rw [g4, Option.bind_some, vg_of n4.2.1 (show x_isa 67 67 = true by decide), Option.bind_some, n4.size, Option.bind_some, if_neg (by rw [iw_le4 (by omega) (by omega)]; omega), g1, Option.bind_some, if_neg nf]
  unfold F_X32_write_b72
  obtain ⟨O, o1, o2, o3⟩ := E_addV n2' (by omega) 13 (fun z8 => (gi z8 a 2114).bind fun t9 => if t9 < 0 then (gi z8 a 2115).bind fun t10 => F_X32_write_b94 r1 r2 z8 c t10 a c else (gi z8 a 2114).bind fun t11 => F_X32_write_b94 r1 r2 z8 c t11 a c)
  have wO := n3.trans o3
  rw [o1, (gA O wO).1, Option.bind_some, if_neg nf, Option.bind_some]
  unfold F_X32_write_b94 F_X32_write_b112
  have b1 : (ws ++ wE r ws.length ++ [13]).length ≤ 60001 := by rw [List.length_append, List.length_singleton]; omega
  obtain ⟨P, p1, p2, p3⟩ := E_addV o2 (by omega) (iw (f : Int)) (fun z2 => (gi z2 a 2114).bind fun t3 => if t3 < 0 then (gi z2 a 2116).bind fun t4 => (vg z2 c 40).bind fun _ => (F_X39_add z2 c t4).bind fun z6 => some z6 else some z2)
  have wP := wO.trans p3
  rw [p1, (gA P wP).1, Option.bind_some, if_neg nf]
  exact ⟨P, rfl, by show EW P H c (ws ++ (wE r ws.length ++ [13, iw (f : Int)])); simpa only [List.append_assoc, List.cons_append, List.nil_append] using p2, wP⟩
end
section
variable {H c : Nat} {Z : Nat → Prop} {ea : List Nat} {fs : List Fn} {ps : List Int32} {op : Nat → Int32 → Prop}
/-- all writes -/
theorem E_writeX (hf6 : ∀ k, k < fs.length → (fs.getD k fn0).ps.length ≤ 6) (hfl : fs.length ≤ 40) : ∀ h, (∀ n, 2 * h ≤ n → InW1 (R_2 n).1 H c Z ea fs ps op h) ∧ (∀ n, 2 * h + 1 ≤ n → InW2 (R_2 n).2 H c Z ea fs ps op h) := by
  have two : ∀ h, (∀ n, 2 * h ≤ n → InW1 (R_2 n).1 H c Z ea fs ps op h) → (∀ n, 2 * h + 1 ≤ n → InW2 (R_2 n).2 H c Z ea fs ps op h) := fun h h1 n hn => by
    obtain ⟨n, rfl⟩ : ∃ k, n = k + 1 := ⟨n - 1, by omega⟩
    exact E_wAs (r2 := (R_2 n).2) (h1 n (by omega))
  intro h
  induction h with
  | zero =>
    have h1 : ∀ n, 2 * 0 ≤ n → InW1 (R_2 n).1 H c Z ea fs ps op 0 := fun n hn t M lo hi a ws w x hh => by
      exfalso
      have : 1 ≤ t.ht := by
        cases t with
        | anl => exact x.elim
        | acn _ _ _ => exact x.elim
        | lit _ _ => exact Nat.le_refl _
        | par _ _ => exact Nat.le_refl _
        | opd _ _ => exact Nat.le_refl _
        | spt _ => exact Nat.le_refl _
        | pre _ _ _ => exact Nat.succ_pos _
        | cst _ _ => exact Nat.succ_pos _
        | bin _ _ _ _ _ => exact Nat.succ_pos _
        | sho _ _ _ => exact Nat.succ_pos _
        | cnd _ _ _ _ => exact Nat.succ_pos _
        | bui _ _ _ => exact Nat.succ_pos _
        | cal _ _ _ => exact Nat.succ_pos _
      omega
    exact ⟨h1, two 0 h1⟩
  | succ h ih =>
    obtain ⟨ih1, ih2⟩ := ih
    have h1 : ∀ n, 2 * (h + 1) ≤ n → InW1 (R_2 n).1 H c Z ea fs ps op (h + 1) := fun n hn t M lo hi a ws w x hh nt hH wx ew hb => by
      obtain ⟨n, rfl⟩ : ∃ k, n = k + 1 := ⟨n - 1, by omega⟩
      have I1 := ih1 n (by omega)
      have I2 := ih2 n (by omega)
      have un : ∀ t, m_tg M a = t → (R_2 (n + 1)).1 M a c = (if t = 30 then F_X29_write_o (R_2 n).1 (R_2 n).2 M a c else if t = 31 then F_X30_write M a c else if t = 32 then F_X31_write M a c else if t = 33 then F_X32_write_o (R_2 n).1 (R_2 n).2 M a c else if t = 34 then F_X33_write_o (R_2 n).1 (R_2 n).2 M a c else if t = 35 then F_X34_write_o (R_2 n).1 (R_2 n).2 M a c else if t = 36 then F_X35_write_o (R_2 n).1 (R_2 n).2 M a c else none) := fun t ht => by
        rw [← ht]
        rfl
      have nam : ∀ (w1 : Int32) (k : Nat), (a < m_nx M ∧ m_tg M a = 32) → a < H → cI M a 2049 = w1 → cI M a 2050 = iw (k : Int) → ws.length ≤ 60000 → ∃ N, F_X31_write M a c = some N ∧ EW N H c (ws ++ [w1, iw (k : Int)]) ∧ WF M N H c := fun w1 k k1 k2 k3 k4 k5 => by
        unfold F_X31_write
        rw [gi_of k1.2 (show x_fi 32 2049 = true by decide), k3, Option.bind_some]
        obtain ⟨O, o1, o2, o3⟩ := E_addV ew (by omega) w1 (fun z3 => (gi z3 a 2050).bind fun t4 => (vg z3 c 40).bind fun _ => (F_X39_add z3 c t4).bind fun z6 => some z6)
        obtain ⟨j1, j2, -, -⟩ := o3.at1 k1.1 k2
        rw [o1, gi_of (j1.trans k1.2) (show x_fi 32 2050 = true by decide), j2, k4, Option.bind_some]
        obtain ⟨P, p1, p2, p3⟩ := E_addV o2 (by rw [List.length_append, List.length_singleton]; omega) (iw (k : Int)) (fun z6 => some z6)
        rw [p1]
        exact ⟨P, rfl, by simpa only [List.append_assoc, List.cons_append, List.nil_append] using p2, o3.trans p3⟩
      cases t with
      | anl => exact x.elim
      | acn _ _ _ => exact x.elim
      | lit l b =>
        obtain ⟨a', q1, k1, k2, k3, k4⟩ := nt
        cases q1
        rw [un 31 k2.2]
        show ∃ N, F_X30_write M a c = some N ∧ EW N H c (ws ++ [0, b.toInt32, (j_lshr b 32).toInt32]) ∧ _
        have b0 : ws.length ≤ 60000 := by omega
        unfold F_X30_write F_X39_addLong
        obtain ⟨O, o1, o2, o3⟩ := E_addV ew (by omega) 0 (fun z2 => (gl z2 a 1984).bind fun t3 => (vg z2 c 40).bind fun _ => ((vg z2 c 40).bind fun _ => (F_X39_add z2 c t3.toInt32).bind fun z2 => (vg z2 c 40).bind fun _ => (F_X39_add z2 c (j_lshr t3 32).toInt32).bind fun z4 => some z4).bind fun z5 => some z5)
        obtain ⟨j1, -, -, j4⟩ := o3.at1 k2.1 (by omega)
        rw [o1, gl_of (j1.trans k2.2) (show x_fj 31 1984 = true by decide), j4, k4, Option.bind_some, o2.v, Option.bind_some, Option.bind_some]
        have b1 : (ws ++ [0]).length ≤ 60001 := by rw [List.length_append, List.length_singleton]; omega
        obtain ⟨P, p1, p2, p3⟩ := E_addI o2 (by omega) b.toInt32
        rw [p1, Option.bind_some, p2.v, Option.bind_some]
        obtain ⟨Q, u1, u2, u3⟩ := E_addI p2 (by rw [List.length_append, List.length_singleton]; omega) (j_lshr b 32).toInt32
        rw [u1, Option.bind_some, Option.bind_some]
        exact ⟨Q, rfl, by simpa only [List.append_assoc, List.cons_append, List.nil_append] using u2, (o3.trans p3).trans u3⟩
      | par k l =>
        obtain ⟨a', q1, k1, k2, k3, k4, k5⟩ := nt
        cases q1
        rw [un 32 k2.2]
        exact nam 3 k k2 (by omega) k4 k5 (by omega)
      | opd k l =>
        obtain ⟨a', q1, k1, k2, k3, k4, k5⟩ := nt
        cases q1
        rw [un 32 k2.2]
        exact nam 1 k k2 (by omega) k4 k5 (by omega)
      | spt k =>
        obtain ⟨a', q1, k1, k2, k3, k4, k5⟩ := nt
        cases q1
        rw [un 32 k2.2]
        exact nam 2 k k2 (by omega) k4 k5 (by omega)
      | pre s l e =>
        have nt' := nt
        obtain ⟨a', ch, m, q1, k1, k2, k3, k4⟩ := nt'
        cases q1
        rw [un 30 k3.2]
        exact E_wPre (r1 := (R_2 n).1) I2 w (by have : e.ht + 1 ≤ h + 1 := hh; omega) nt hH wx ew hb
      | cst l e =>
        have nt' := nt
        obtain ⟨a', ch, m, q1, k1, k2, k3, k4⟩ := nt'
        cases q1
        rw [un 34 k3.2]
        exact E_wCst (r2 := (R_2 n).2) I1 w (by have : e.ht + 1 ≤ h + 1 := hh; omega) nt hH wx ew hb
      | bin o i l f1 f2 =>
        have nt' := nt
        obtain ⟨a', cx, cy, m1, m2, q1, k1, k2, k3, k4, k5⟩ := nt'
        cases q1
        rw [un 35 k4.2]
        have hh2 : max f1.ht f2.ht + 1 ≤ h + 1 := hh
        exact E_wBin I1 I2 w (by omega) (by omega) nt hH wx ew hb
      | sho o f1 f2 =>
        have nt' := nt
        obtain ⟨a', cx, cy, m1, m2, q1, k1, k2, k3, k4, k5⟩ := nt'
        cases q1
        rw [un 35 k4.2]
        have hh2 : max f1.ht f2.ht + 1 ≤ h + 1 := hh
        exact E_wSho (r2 := (R_2 n).2) I1 w (by omega) (by omega) nt hH wx ew hb
      | cnd l f0 f1 f2 =>
        have nt' := nt
        obtain ⟨a', cz, cx, cy, m0, m1, m2, q1, k1, k2, k3, k4, k5, k6⟩ := nt'
        cases q1
        rw [un 36 k5.2]
        have hh2 : max f0.ht (max f1.ht f2.ht) + 1 ≤ h + 1 := hh
        exact E_wCnd I1 I2 w (by omega) (by omega) (by omega) nt hH wx ew hb
      | bui f i r =>
        have nt' := nt
        obtain ⟨a', la, da, es, m, q1, k1, k2, k3, k4⟩ := nt'
        cases q1
        rw [un 33 k3.2]
        exact E_wBui (r1 := (R_2 n).1) I2 w (by have : r.ht + 1 ≤ h + 1 := hh; omega) nt hH wx ew hb
      | cal f l r =>
        have nt' := nt
        obtain ⟨a', la, da, es, m, q1, k1, k2, k3, k4⟩ := nt'
        cases q1
        rw [un 33 k3.2]
        exact E_wCal (r1 := (R_2 n).1) I2 hf6 hfl w (by have : r.ht + 1 ≤ h + 1 := hh; omega) nt hH wx ew hb
    exact ⟨h1, two (h + 1) h1⟩
end
