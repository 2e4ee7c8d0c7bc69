/-! ===== FORMULAS, 57: the engine checks calls, all ===== -/
section
variable {B v1 us lo hi de a p hh : Nat} {S : Sc} {Z : Nat → Prop} {ea : List Nat} {w : List Int32} {r : Mem → Nat → Nat → Option (Mem ⊕ (Nat × Mem))}
theorem wt_lns {fs : List Fn} {ps : List Int32} {op : Nat → Int32 → Prop} (hg : ∀ k, k < fs.length → Lk (fs.getD k fn0).ln) : ∀ t : Tx, wt fs ps op t → t.isr → ∀ l ∈ t.lns, Lk l
  | .anl, _, _, l, hl => by cases hl
  | .acn _ e r, h, ir, l, hl => by
    rcases List.mem_cons.mp hl with rfl | hl
    · exact wt_Lk hg e h.1 h.2.1
    · exact wt_lns hg r h.2.2.1 ir l hl
theorem us_tk : ∀ (r : Tx) (ls : List Int32) (k : Nat), r.isr → (r.tk ls).us k = r.us k
  | .anl, _, _, _ => rfl
  | .acn _ e r, ls, k, h => by
    show (e.us k || (r.tk ls.tail).us k) = (e.us k || r.us k)
    rw [us_tk r ls.tail k h]
theorem NEx.cnt {M : Mem} : ∀ (e : Ex) {lo hi : Nat} {as : List Nat}, e.isr → NEx M B e lo hi as → as.length = e.cnt
  | .anl, _, _, _, _, q => by rw [show _ = [] from q]; rfl
  | .acn e r, _, _, _, ir, ⟨b, as', l, m', q1, _, _, _, _, q2⟩ => by
    rw [q1]
    show as'.length + 1 = r.cnt + 1
    rw [NEx.cnt r ir q2]
theorem iw_nn0 {k : Nat} (h : k ≤ 2147483647) : ¬ iw (k : Int) < 0 := fun q => by
  have : iw (k : Int) < iw ((0 : Nat) : Int) := q
  rw [iw_le4 h (by omega)] at this
  omega
/-- behind the arguments -/
theorem E_ckTail {M N : Mem} {m la da lr : Nat} {es : List Nat} {t : Tx} {nn : Nat} (hS : S.ok) (hN : CX N B v1 us S Z ea de) (c0 : CF M N lo hi us) (hB : B ≤ lo) (hu : ¬ (lo ≤ us ∧ us < hi)) (hw : wok w) (l1 : lo ≤ m) (l2 : m ≤ a) (l3 : a < hi) (aN : a < m_nx N) (tN : m_tg N a = 33) (g3 : cI N a 1856 = iw (p : Int)) (nw : NmW N B (cR N a 2112) w) (g5 : cR N a 2113 = la) (g6 : cI N a 2114 = -1) (AN : AL N la da es) (n8 : lo ≤ la ∧ la < hi) (n9 : lo ≤ da ∧ da < hi) (nt : NTx N ea t lo m es) (hr : RIl N lr t.lns) (hk : ∀ l ∈ t.lns, Lk l) (ir : t.isr) (hl : t.lns.length = es.length) (r1 : m_nx N ≤ m_nx M + nn) (r2 : m_sl N + 1 ≤ m_sl M + 10 * nn) (hus : ∀ k, k < 8 → cI N us k = if t.us k = true then 1 else cI M us k) : RC M ea lo hi us nn [a] (F_X32_check_b15 r 1 N a v1 (iw (es.length : Int)) lr (iw (es.length : Int))) (oft p (ckF S w t)) := by
  have L := AN.len
  have cB := hN.2.2.1.2.2.1
  have hb := hN.1.2.2.1
  have anu : a ≠ us := fun q => hu (by omega)
  have lr5 := hr.1
  have lra : lr ≠ a := fun q => by rw [q, tN] at lr5; omega
  rw [show F_X32_check_b15 r 1 N a v1 (iw (es.length : Int)) lr (iw (es.length : Int)) = F_X32_check_b15_st r (F_X32_check_b15 r 0) N a v1 (iw (es.length : Int)) lr (iw (es.length : Int)) from rfl]
  unfold F_X32_check_b15_st
  rw [if_neg (by rw [iw_le4 (by omega) (by omega)]; omega), gr_of tN (show x_fr 33 2112 = true by decide), Option.bind_some, E_builtIn hN.1.2.1 nw.1.1 nw.2.1 (by have := nw.2.2; omega), Option.bind_some]
  obtain ⟨W1, e1⟩ : ∃ W1, W1 = wI N a 2115 (bltW w) := ⟨_, rfl⟩
  have tg1 : m_tg W1 a = 33 := by rw [e1]; exact tN
  have c1 : CF N W1 lo hi us := by rw [e1]; exact CF.wI _ (by omega) l3 (by omega)
  have h1 := hN.cf c1 hB
  have s1 : m_nx W1 = m_nx N ∧ m_sl W1 = m_sl N := by rw [e1]; exact ⟨rfl, rfl⟩
  have k1 : gi W1 a 2115 = some (bltW w) := by rw [gi_of tg1 (show x_fi 33 2115 = true by decide), e1, cI_wI, if_pos ⟨rfl, rfl⟩]
  have hr1 : RIl W1 lr t.lns := ⟨by rw [e1]; exact hr.1, by rw [e1]; exact hr.2.1, fun i hi => by rw [e1, cI_wI, if_neg (fun q => lra q.1)]; exact hr.2.2 i hi⟩
  rw [pi_of (bltW w) tN (show x_wi 33 2115 = true by decide) rfl, Option.bind_some, ← e1, k1, Option.bind_some]
  have nw1 : NmW W1 B (cR N a 2112) w := nw.df c1 (c1.ntx cB)
  unfold ckF
  cases hf : fdl w (wds (cty 50).1 15 0) 0 with
  | some f =>
    dsimp only
    have f1 := fdl_lt _ _ _ hf
    have f2 : (wds (cty 50).1 15 0).length = 15 := by decide +kernel
    have hb' : bltW w = iw (f : Int) := by unfold bltW; rw [hf]
    rw [hb', if_neg (iw_nn0 (show f ≤ 2147483647 by omega)), Option.bind_some, E_blkL hr1 hk (by omega) (by omega), Option.bind_some]
    cases hbl : blkL f t.lns with
    | none =>
      dsimp only
      obtain ⟨W2, e2⟩ : ∃ W2, W2 = wI W1 a 2116 (-1) := ⟨_, rfl⟩
      have tg2 : m_tg W2 a = 33 := by rw [e2]; exact tg1
      have c2 : CF W1 W2 lo hi us := by rw [e2]; exact CF.wI _ (by omega) l3 (by omega)
      have k2 : gi W2 a 2116 = some (-1) := by rw [gi_of tg2 (show x_fi 33 2116 = true by decide), e2, cI_wI, if_pos ⟨rfl, rfl⟩]
      have k3 : gi W2 a 1856 = some (iw (p : Int)) := by rw [gi_of tg2 (show x_fi 33 1856 = true by decide), e2, cI_wI, if_neg (by omega), e1, cI_wI, if_neg (by omega), g3]
      have s2 : m_nx W2 = m_nx W1 ∧ m_sl W2 = m_sl W1 := by rw [e2]; exact ⟨rfl, rfl⟩
      rw [pi_of (-1) tg1 (show x_wi 33 2116 = true by decide) rfl, Option.bind_some, ← e2, k2, Option.bind_some, if_pos (by decide), k3, Option.bind_some]
      exact RC.err ((c0.trans c1 (Nat.le_refl _) (Nat.le_refl _)).trans c2 (Nat.le_refl _) (Nat.le_refl _)) (by omega) (by omega) ((h1.cf c2 hB).wrong _)
    | some i =>
      dsimp only
      have Li := blkL_Lk hk hbl
      have ni : ¬ i < 0 := by rcases Li with rfl | rfl | rfl | rfl | rfl | rfl | rfl | rfl <;> decide
      obtain ⟨W2, e2⟩ : ∃ W2, W2 = wI W1 a 2116 i := ⟨_, rfl⟩
      have tg2 : m_tg W2 a = 33 := by rw [e2]; exact tg1
      have c2 : CF W1 W2 lo hi us := by rw [e2]; exact CF.wI _ (by omega) l3 (by omega)
      have k2 : gi W2 a 2116 = some i := by rw [gi_of tg2 (show x_fi 33 2116 = true by decide), e2, cI_wI, if_pos ⟨rfl, rfl⟩]
      rw [pi_of i tg1 (show x_wi 33 2116 = true by decide) rfl, Option.bind_some, ← e2, k2, Option.bind_some, if_neg ni, Option.bind_some, pi_of i tg2 (show x_wi 33 1857 = true by decide) rfl, Option.bind_some]
      obtain ⟨W3, e3⟩ : ∃ W3, W3 = wI W2 a 1857 i := ⟨_, rfl⟩
      have c3 : CF W2 W3 lo hi us := by rw [e3]; exact CF.wI _ (by omega) l3 (by omega)
      rw [← e3]
      have s3 : m_nx W3 = m_nx N ∧ m_sl W3 = m_sl N := by rw [e3, e2, e1]; exact ⟨rfl, rfl⟩
      have A3 : AL W3 la da es := by
        rw [e3, e2, e1]
        have lat := AN.2.1
        have nla : la ≠ a := fun q => by rw [q, tN] at lat; omega
        exact ((AN.df (P := fun x _ => x = a) (Q := n2) (R := n2) (Df.wI _ rfl) nla (fun q => q) (fun _ _ q => q)).df (P := fun x _ => x = a) (Q := n2) (R := n2) (Df.wI _ rfl) nla (fun q => q) (fun _ _ q => q)).df (P := fun x _ => x = a) (Q := n2) (R := n2) (Df.wI _ rfl) nla (fun q => q) (fun _ _ q => q)
      have nt3 : NTx W3 ea t lo m es := by rw [e3, e2, e1]; exact ((nt.wI _ l2).wI _ l2).wI _ l2
      refine ⟨W3, rfl, ((c0.trans c1 (Nat.le_refl _) (Nat.le_refl _)).trans c2 (Nat.le_refl _) (Nat.le_refl _)).trans c3 (Nat.le_refl _) (Nat.le_refl _), by omega, by omega, ⟨a, la, da, es, m, rfl, NTx.tk t _ ir nt3, ⟨l1, l2, l3⟩, ⟨by omega, by rw [e3]; exact tg2⟩, ?_, ?_, ?_, ?_, ?_, A3, n8, n9⟩, fun k hk => ?_⟩
      · rw [e3, cI_wI, if_pos ⟨rfl, rfl⟩]
      · rw [e3, cI_wI, if_neg (by omega), e2, cI_wI, if_neg (by omega), e1, cI_wI, if_neg (by omega), g6]
      · rw [e3, cI_wI, if_neg (by omega), e2, cI_wI, if_neg (by omega), e1, cI_wI, if_pos ⟨rfl, rfl⟩, hb']
      · rw [e3, cI_wI, if_neg (by omega), e2, cI_wI, if_pos ⟨rfl, rfl⟩]
      · rw [e3, e2, e1]; exact g5
      · show _ = if (t.tk _).us k = true then 1 else _
        rw [us_tk t _ k ir, e3, cI_wI, if_neg (fun q => anu q.1.symm), e2, cI_wI, if_neg (fun q => anu q.1.symm), e1, cI_wI, if_neg (fun q => anu q.1.symm), hus k hk]
  | none =>
    dsimp only
    have hb' : bltW w = -1 := by unfold bltW; rw [hf]
    obtain ⟨v, v2, v3⟩ := E_choose (M := W1) (s := cR N a 2112) (r := lr) (nm := w) (ls := t.lns) (h1.elb hS) hS.1 nw1.1.1 (by have := nw1.1.2.2.1.1; omega) hr1 hk (by omega)
    have g12 : gr W1 a 2112 = some (cR N a 2112) := by rw [gr_of tg1 (show x_fr 33 2112 = true by decide), e1]; rfl
    obtain ⟨-, -, y3, -, y5, -⟩ := h1.2.1
    rw [hb', if_pos (by decide), gr_of y3 (show x_fr 37 2369 = true by decide), y5, Option.bind_some, g12, Option.bind_some, v1009 h1.1.1, Option.bind_some, v2, Option.bind_some]
    obtain ⟨W2, e2⟩ : ∃ W2, W2 = wI W1 a 2114 v := ⟨_, rfl⟩
    have tg2 : m_tg W2 a = 33 := by rw [e2]; exact tg1
    have c2 : CF W1 W2 lo hi us := by rw [e2]; exact CF.wI _ (by omega) l3 (by omega)
    have h2 := h1.cf c2 hB
    have k2 : gi W2 a 2114 = some v := by rw [gi_of tg2 (show x_fi 33 2114 = true by decide), e2, cI_wI, if_pos ⟨rfl, rfl⟩]
    have k3 : gi W2 a 1856 = some (iw (p : Int)) := by rw [gi_of tg2 (show x_fi 33 1856 = true by decide), e2, cI_wI, if_neg (by omega), e1, cI_wI, if_neg (by omega), g3]
    have s2 : m_nx W2 = m_nx W1 ∧ m_sl W2 = m_sl W1 := by rw [e2]; exact ⟨rfl, rfl⟩
    rw [pi_of v tg1 (show x_wi 33 2114 = true by decide) rfl, Option.bind_some, ← e2]
    simp only [k2, Option.bind_some]
    rcases chb_of hS.1 hS.2.1 v3 with ⟨k, q1, q2, q3⟩ | ⟨q1, q2⟩
    · have fl := hS.2.1
      rw [q1, q3, if_neg (iw_nn0 (show k ≤ 2147483647 by omega))]
      dsimp only
      obtain ⟨-, -, z3, -, z5, -⟩ := h2.2.1
      obtain ⟨-, -, -, -, x5, ⟨x6, x7⟩, x8, x9⟩ := h2
      have st2 := (h1.cf c2 hB).1.1
      have ef := x9 k q2
      have g1 := ALb.get x6 (show k < ea.length by omega)
      rw [gr_of z3 (show x_fr 37 2369 = true by decide), z5, Option.bind_some, g1009_320 st2, Option.bind_some, v1010 st2, Option.bind_some, g1, Option.bind_some, cc_of ef.1.2 (show x_cast 39 39 = true by decide), Option.bind_some, gi_of ef.1.2 (show x_fi 39 2497 = true by decide), ef.2.2.1, Option.bind_some, pi_of _ tg2 (show x_wi 33 1857 = true by decide) rfl, Option.bind_some]
      obtain ⟨W3, e3⟩ : ∃ W3, W3 = wI W2 a 1857 (S.fs.getD k fn0).ln := ⟨_, rfl⟩
      have tg3 : m_tg W3 a = 33 := by rw [e3]; exact tg2
      have c3 : CF W2 W3 lo hi us := by rw [e3]; exact CF.wI _ (by omega) l3 (by omega)
      rw [← e3]
      have h3 := (h1.cf c2 hB).cf c3 hB
      obtain ⟨-, -, o3, -, o5, -⟩ := h3.2.1
      have st3 := h3.1.1
      have x6' := h3.2.2.2.2.2.1.1
      have g2 := ALb.get x6' (show k < ea.length by omega)
      have ef' := h3.2.2.2.2.2.2.2 k q2
      have k4 : gi W3 a 2114 = some (iw (k : Int)) := by rw [gi_of tg3 (show x_fi 33 2114 = true by decide), e3, cI_wI, if_neg (by omega), e2, cI_wI, if_pos ⟨rfl, rfl⟩, q3]
      rw [gr_of o3 (show x_fr 37 2369 = true by decide), o5, Option.bind_some, g1009_320 st3, Option.bind_some, k4, Option.bind_some, v1010 st3, Option.bind_some, g2, Option.bind_some, cc_of ef'.1.2 (show x_cast 39 39 = true by decide), Option.bind_some, pr_of _ tg3 (show x_wr 33 2117 = true by decide), Option.bind_some]
      obtain ⟨W4, e4⟩ : ∃ W4, W4 = wR W3 a 2117 (ea.getD k 0) := ⟨_, rfl⟩
      have c4 : CF W3 W4 lo hi us := by rw [e4]; exact CF.wR _ (by omega) l3 tg3
      rw [← e4]
      have s4 : m_nx W4 = m_nx N ∧ m_sl W4 = m_sl N := by rw [e4, e3, e2, e1]; exact ⟨rfl, rfl⟩
      have lat := AN.2.1
      have nla : la ≠ a := fun q => by rw [q, tN] at lat; omega
      have A4 : AL W4 la da es := by
        have A3 : AL W3 la da es := by
          rw [e3, e2, e1]
          exact ((AN.df (P := fun x _ => x = a) (Q := n2) (R := n2) (Df.wI _ rfl) nla (fun q => q) (fun _ _ q => q)).df (P := fun x _ => x = a) (Q := n2) (R := n2) (Df.wI _ rfl) nla (fun q => q) (fun _ _ q => q)).df (P := fun x _ => x = a) (Q := n2) (R := n2) (Df.wI _ rfl) nla (fun q => q) (fun _ _ q => q)
        rw [e4]
        refine A3.df (P := n2) (Q := n2) (R := fun x _ => x = a) (Df.wR _ rfl) (fun q => q) nla (fun i hd q => ?_)
        rcases AN.2.2.2.2 with z | z
        · omega
        · have := z.2.2.2.1
          rw [q, tN] at this
          omega
      have nt4 : NTx W4 ea t lo m es := by
        have nt3 : NTx W3 ea t lo m es := by rw [e3, e2, e1]; exact ((nt.wI _ l2).wI _ l2).wI _ l2
        rw [e4]
        exact NTx.df (P := n2) (Q := n2) (R := fun x _ => x = a) (Df.wR _ rfl) t lo m es (fun x i h1 h2 => ⟨fun q => q, fun q => q, fun q => by omega⟩) nt3
      refine ⟨W4, rfl, (((c0.trans c1 (Nat.le_refl _) (Nat.le_refl _)).trans c2 (Nat.le_refl _) (Nat.le_refl _)).trans c3 (Nat.le_refl _) (Nat.le_refl _)).trans c4 (Nat.le_refl _) (Nat.le_refl _), by omega, by omega, ⟨a, la, da, es, m, rfl, NTx.tk t _ ir nt4, ⟨l1, l2, l3⟩, ⟨by omega, by rw [e4]; exact tg3⟩, ?_, ?_, ?_, ?_, A4, n8, n9⟩, fun j hj => ?_⟩
      · rw [e4, cI_wR, e3, cI_wI, if_pos ⟨rfl, rfl⟩]
      · rw [e4, cI_wR, e3, cI_wI, if_neg (by omega), e2, cI_wI, if_pos ⟨rfl, rfl⟩, q3]
      · rw [e4, cR_wR, if_pos ⟨rfl, rfl⟩]
      · rw [e4, cR_wR, if_neg (by omega), e3, e2, e1]; exact g5
      · show _ = if (t.tk _).us j = true then 1 else _
        rw [us_tk t _ j ir, e4, cI_wR, e3, cI_wI, if_neg (fun q => anu q.1.symm), e2, cI_wI, if_neg (fun q => anu q.1.symm), e1, cI_wI, if_neg (fun q => anu q.1.symm), hus j hj]
    · rw [q1, if_pos q2, k3, Option.bind_some]
      exact RC.err ((c0.trans c1 (Nat.le_refl _) (Nat.le_refl _)).trans c2 (Nat.le_refl _) (Nat.le_refl _)) (by omega) (by omega) (h2.wrong _)
theorem E_ckCal {M : Mem} {x : Ex} (hr : InC r B v1 us S Z ea de hh) (hS : S.ok) (h : CX M B v1 us S Z ea de) (g : (Ex.cal p w x).gd) (hx : x.ht ≤ hh) (hB : B ≤ lo) (hu : ¬ (lo ≤ us ∧ us < hi)) (hn : NEx M B (.cal p w x) lo hi [a]) : RC M ea lo hi us (x.nn + 1) [a] (F_X32_check_o r M a v1) (ck S (.cal p w x)) := by
  obtain ⟨a', la, da, es, m, q1, nx, ⟨l1, l2, l3⟩, ⟨n1, n2', n3, n4⟩, nw, n5, n6, n7, n8, n9⟩ := hn
  cases q1
  have cB := h.2.2.1.2.2.1
  have us0 := h.2.2.1.2.1
  have hb := h.1.2.2.1
  have anu : a ≠ us := fun q => hu (by omega)
  have L := n7.len
  have hg : ∀ k, k < S.fs.length → Lk (S.fs.getD k fn0).ln := fun k hk => (hS.1.1 k hk).2.2.2.1
  have hes : es.length = x.cnt := NEx.cnt x g.2.2.1 nx
  have cn := Ex.cnt_nn x g.2.2.1 g.2.1
  obtain ⟨M1, e1⟩ : ∃ M1, M1 = m_new M 1005 es.length := ⟨_, rfl⟩
  have d1 : Df n2 n2 n2 M M1 := by rw [e1]; exact Df.new _ _
  have c1 : CF M M1 lo hi us := CF.new d1
  have s1 : m_nx M1 = m_nx M + 1 ∧ m_sl M1 = m_sl M + es.length := by rw [e1]; exact ⟨rfl, rfl⟩
  have t1 : m_tg M1 (m_nx M) = 1005 ∧ m_ln M1 (m_nx M) = es.length := by rw [e1, tg_new, if_pos rfl, ln_new, if_pos rfl]; exact ⟨rfl, rfl⟩
  unfold F_X32_check_o
  rw [gr_of n2' (show x_fr 33 2113 = true by decide), n5, Option.bind_some, vg_of n7.2.1 (show x_isa 67 67 = true by decide), Option.bind_some, n7.size, Option.bind_some, mk_of (by omega), ← e1, Option.bind_some]
  have A1 : AL M1 la da es := n7.df d1 (fun q => q) (fun q => q) (fun _ _ q => q)
  have nx1 : NEx M1 B x lo m es := NEx.df d1 (fun _ _ _ _ _ => ⟨fun q => q, fun q => q⟩) x lo m es (fun _ _ _ _ => ⟨fun q => q, fun q => q, fun q => q⟩) nx
  have hlt : m_tg M la = 67 ∧ la < m_nx M ∧ (1334 ≤ da → da < m_nx M ∧ m_tg M da = 1010) := ⟨n7.2.1, n7.1, fun q => by
    rcases n7.2.2.2.2 with z | z
    · omega
    · exact ⟨z.2.1, z.2.2.2.1⟩⟩
  have R := E_ckArg (n := es.length) hr hS h hB hu n1 n2' l2 l3 n5 rfl (Nat.le_refl _) hlt x M1 0 lo xN es g.2.2.1 g.2.1 hx (Nat.le_refl _) c1 A1 (List.drop_zero) ⟨by omega, t1⟩ nx1 (by omega) (by have : xN = 1099511627776 := rfl; omega)
  show RC M ea lo hi us (x.nn + 1) [a] (F_X32_check_b15 r xN M1 a v1 (iw (es.length : Int)) (m_nx M) (iw ((0 : Nat) : Int))) (cthen (ck S x) fun t => oft p (ckF S w t))
  cases hx' : ck S x with
  | inl q =>
    rw [hx'] at R
    obtain ⟨N, y1, y2, y3, y4⟩ := R
    exact ⟨N, y1, y2, by omega, by omega⟩
  | inr t =>
    rw [hx'] at R
    obtain ⟨N, y1, y2, y3, y4, y5, y6, y7, y8, y9, y10⟩ := R
    obtain ⟨w1, w2, w3, w4, w5⟩ := ck_wt hS x t g.2.1 hx'
    obtain ⟨ir, il⟩ := w3 g.2.2.1
    have nn := y2.1
    rw [y1]
    have k1 : m_tg N a = 33 := (y2.2.2 a n1).1.trans n2'
    have kr : ∀ i, i ≠ 2117 → cR N a i = cR M a i := fun i hi => y2.cR n1 (fun q => hi q.2.2.2)
    have aM1 : a < m_nx M1 := by omega
    have t1a : m_tg M1 a = 33 := (d1.2.2 a n1).1.trans n2'
    have ki : ∀ i, cI N a i = cI M a i := fun i => by
      rw [y3.cI aM1 (fun q => ?_), d1.cI n1 (fun q => q)]
      rcases q with q | q
      · unfold pCk at q; omega
      · omega
    have nwN : NmW N B (cR N a 2112) w := by rw [kr 2112 (by decide)]; exact nw.df y2 (y2.ntx cB)
    refine E_ckTail (m := m) (la := la) (da := da) hS (h.cf y2 hB) y2 hB hu g.1 l1 l2 l3 (by omega) k1 (by rw [ki]; exact n3) nwN (by rw [kr 2113 (by decide)]; exact n5) (by rw [ki]; exact n6) y7 n8 n9 y6 ⟨y8.2.1, by rw [y8.2.2, il]; exact hes, fun i hi => by have := y9 i hi; rw [Nat.zero_add] at this; exact this⟩ (wt_lns hg t w1 ir) ir (by rw [il, hes]) (by omega) (by omega) (fun k hk => ?_)
    rw [y10 k hk, d1.cI us0 (fun q => q)]
/-- all checks -/
theorem E_checkX (hS : S.ok) : ∀ h n, h ≤ n → InC (R_1 n) B v1 us S Z ea de h := by
  intro h
  induction h with
  | zero =>
    intro n hn e M lo hi a g x hh
    exfalso
    have : 1 ≤ e.ht := by
      cases e with
      | anl => exact x.elim
      | acn _ _ => exact x.elim
      | lit _ _ _ => exact Nat.le_refl _
      | nam _ _ => exact Nat.le_refl _
      | pre _ _ _ => exact Nat.succ_pos _
      | cst _ _ _ => exact Nat.succ_pos _
      | bin _ _ _ _ => exact Nat.succ_pos _
      | cnd _ _ _ _ => exact Nat.succ_pos _
      | cal _ _ _ => exact Nat.succ_pos _
    omega
  | succ h ih =>
    intro n hn e M lo hi a g x hh hC hB hu nE
    obtain ⟨n, rfl⟩ : ∃ k, n = k + 1 := ⟨n - 1, by omega⟩
    have IH := ih n (by omega)
    have un : ∀ t, m_tg M a = t → R_1 (n + 1) M a v1 = (if t = 30 then F_X29_check_o (R_1 n) M a v1 else if t = 31 then F_X30_check M a v1 else if t = 32 then F_X31_check M a v1 else if t = 33 then F_X32_check_o (R_1 n) M a v1 else if t = 34 then F_X33_check_o (R_1 n) M a v1 else if t = 35 then F_X34_check_o (R_1 n) M a v1 else if t = 36 then F_X35_check_o (R_1 n) M a v1 else none) := fun t ht => by
      rw [← ht]
      rfl
    cases e with
    | anl => exact x.elim
    | acn _ _ => exact x.elim
    | lit p l b =>
      obtain ⟨a', q1, k1, k2, k3, k4⟩ := nE
      cases q1
      rw [un 31 k2.2.1]
      exact ⟨M, rfl, CF.refl _ _ _ _, by show _ ≤ _ + 1; omega, by show _ + 1 ≤ _ + 10 * 1; omega, ⟨a, rfl, k1, ⟨k2.1, k2.2.1⟩, k3, k4⟩, fun k hk => rfl⟩
    | nam p w =>
      have nE' := nE
      obtain ⟨a', q1, k1, k2, k3⟩ := nE'
      cases q1
      rw [un 32 k2.2.1]
      show RC M ea lo hi us 1 [a] (F_X31_check M a v1) _
      cases hns : S.nm with
      | none => exact E_ckN0 hC hns hB hu g nE
      | some ns => exact E_ckN1 hC hS hns hB hu nE
    | pre p s e =>
      have nE' := nE
      obtain ⟨a', c, m, q1, k1, k2, k3, k4⟩ := nE'
      cases q1
      rw [un 30 k3.2.1]
      exact E_ckPre IH hS hC g (by have : e.ht + 1 ≤ h + 1 := hh; omega) hB hu nE
    | cst p l e =>
      have nE' := nE
      obtain ⟨a', c, m, q1, k1, k2, k3, k4⟩ := nE'
      cases q1
      rw [un 34 k3.2.1]
      exact E_ckCst IH hS hC g (by have : e.ht + 1 ≤ h + 1 := hh; omega) hB hu nE
    | bin p o f1 f2 =>
      have nE' := nE
      obtain ⟨a', c, d, m1, m2, q1, k1, k2, k3, k4, k5⟩ := nE'
      cases q1
      rw [un 35 k4.2.1]
      have hh2 : max f1.ht f2.ht + 1 ≤ h + 1 := hh
      exact E_ckBin IH hS hC g (by omega) (by omega) hB hu nE
    | cnd p f0 f1 f2 =>
      have nE' := nE
      obtain ⟨a', b, c, d, m0, m1, m2, q1, k1, k2, k3, k4, k5, k6⟩ := nE'
      cases q1
      rw [un 36 k5.2.1]
      have hh2 : max f0.ht (max f1.ht f2.ht) + 1 ≤ h + 1 := hh
      exact E_ckCnd IH hS hC g (by omega) (by omega) (by omega) hB hu nE
    | cal p w f1 =>
      have nE' := nE
      obtain ⟨a', la, da, es, m, q1, k1, k2, k3, k4⟩ := nE'
      cases q1
      rw [un 33 k3.2.1]
      exact E_ckCal IH hS hC g (by have : f1.ht + 1 ≤ h + 1 := hh; omega) hB hu nE
end
