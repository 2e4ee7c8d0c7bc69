/-! ===== FORMULAS, 73: what items mean: calls ===== -/
/-- the steps of a call -/
def opT4 (r : Tx) : Tx → List Mo
  | .bui f i _ => [opF f i r.lns]
  | .cal f _ q => [{ op := 18, n := iw (r.lns.length : Int), fn := f + 1 }] ++ q.als.map (fun q => { op := 5, k := q.1, to := q.2 })
  | _ => []
section
variable {C : MeC} {M N : Mem} {V W : MeV} {P : List Int32} {O : List Mo} {B ia lm dm : Nat} {S : Sc} {Z : Nat → Prop}
theorem tbid (x : Option (Mem ⊕ (Nat × Mem))) : (tb x fun z46 => some (Sum.inl z46)) = x := by
  cases x with
  | none => rfl
  | some v => cases v <;> rfl
theorem M_built {lr f p : Nat} {ls w : List Int32} {m : Int32} (h : MeG C M V P O) (hi : IMm M B ia { op := 3, pl := p, wd := w, n := m }) (hr : RIl M lr ls) (hrn : lr < m_nx M) (hk : ∀ l ∈ ls, Lk l) (hl : ls.length ≤ 1000000) (hf : f < 15) (hP : P.length + 1 ≤ C.K) (hO : O.length + 1 ≤ C.K) : match blkL f ls with
    | some i => ∃ N W, F_X45_built M C.v0 ia (iw (f : Int)) lr = some (.inl N) ∧ OKs C M V N W (P ++ [i]) (O ++ [opF f i ls]) 10
    | none => F_X45_built M C.v0 ia (iw (f : Int)) lr = some (.inr (m_nx M, mT M 2 (iw (p : Int)))) := by
  have lt : ∀ k : Nat, k < 100 → ((iw (f : Int) < iw (k : Int)) ↔ f < k) := fun k hk => by rw [iw_le4 (by omega) (by omega)]
  have gt : ∀ k : Nat, k < 100 → ((iw (k : Int) < iw (f : Int)) ↔ k < f) := fun k hk => by rw [iw_le4 (by omega) (by omega)]
  have l2 : (iw (f : Int) < (2 : Int32)) ↔ f < 2 := lt 2 (by decide)
  have l8 : ((8 : Int32) < iw (f : Int)) ↔ 8 < f := gt 8 (by decide)
  have l4 : (iw (f : Int) < (4 : Int32)) ↔ f < 4 := lt 4 (by decide)
  have l10 : ((10 : Int32) < iw (f : Int)) ↔ 10 < f := gt 10 (by decide)
  obtain ⟨two, htwo⟩ : ∃ two, two = decide (2 ≤ f ∧ f ≤ 8) := ⟨_, rfl⟩
  obtain ⟨wh, hwh⟩ : ∃ wh, wh = decide (4 ≤ f ∧ f ≤ 10) := ⟨_, rfl⟩
  have e1 : F_X45_built M C.v0 ia (iw (f : Int)) lr = F_X45_built_b16 M (mr two) C.v0 ia (iw (f : Int)) lr := by
    unfold F_X45_built F_X45_built_b15
    rw [htwo]
    by_cases q1 : f < 2
    · rw [if_pos (l2.mpr q1), decide_eq_false (by omega)]; rfl
    · rw [if_neg (fun w => q1 (l2.mp w))]
      by_cases q2 : 8 < f
      · rw [if_pos (l8.mpr q2), decide_eq_false (by omega)]; rfl
      · rw [if_neg (fun w => q2 (l8.mp w)), decide_eq_true (by omega)]; rfl
  have e2 : F_X45_built_b16 M (mr two) C.v0 ia (iw (f : Int)) lr = F_X45_built_b34 M (mr wh) C.v0 ia (iw (f : Int)) lr (mr two) := by
    unfold F_X45_built_b16 F_X45_built_b33
    rw [hwh]
    by_cases q1 : f < 4
    · rw [if_pos (l4.mpr q1), decide_eq_false (by omega)]; rfl
    · rw [if_neg (fun w => q1 (l4.mp w))]
      by_cases q2 : 10 < f
      · rw [if_pos (l10.mpr q2), decide_eq_false (by omega)]; rfl
      · rw [if_neg (fun w => q2 (l10.mp w)), decide_eq_true (by omega)]; rfl
  have e3 : F_X45_built_b34 M (mr wh) C.v0 ia (iw (f : Int)) lr (mr two) = if ls.length = (if 2 ≤ f ∧ f ≤ 8 then 2 else 1) then F_X45_built_b67 xN M C.v0 ia (iw (f : Int)) lr (mr two) (mr wh) 0 else some (.inr (m_nx M, mT M 2 (iw (p : Int)))) := by
    unfold F_X45_built_b34 F_X45_built_b49 F_X45_built_b57
    simp only [an_of hr.1 (by decide) hr.2.1, hi.pl, h.v, Option.bind_some]
    have ie : ∀ k : Nat, k < 100 → ((iw (ls.length : Int) = iw (k : Int)) ↔ ls.length = k) := fun k hk => by rw [iw_eq (by omega) (by omega) (by omega) (by omega)]; omega
    have i1 : (iw (ls.length : Int) = (1 : Int32)) ↔ ls.length = 1 := ie 1 (by decide)
    have i2 : (iw (ls.length : Int) = (2 : Int32)) ↔ ls.length = 2 := ie 2 (by decide)
    by_cases q : 2 ≤ f ∧ f ≤ 8
    · rw [htwo, decide_eq_true q, if_neg (show ¬ mr true = 0 by decide), if_pos q]
      by_cases z : ls.length = 2
      · rw [if_pos (i2.mpr z), if_pos z, M_mustT h, tb_l]
      · rw [if_neg (fun w => z (i2.mp w)), if_neg z, M_mustF h]; rfl
    · rw [htwo, decide_eq_false q, if_pos (show mr false = 0 by decide), if_neg q]
      by_cases z : ls.length = 1
      · rw [if_pos (i1.mpr z), if_pos z, M_mustT h, tb_l]
      · rw [if_neg (fun w => z (i1.mp w)), if_neg z, M_mustF h]; rfl
  rw [e1, e2, e3]
  have ik : ∀ l, inK wh l ↔ (if 4 ≤ f ∧ f ≤ 10 then isWk l else isNk l) := fun l => by
    unfold inK
    rw [hwh]
    by_cases q : 4 ≤ f ∧ f ≤ 10
    · rw [decide_eq_true q, if_pos rfl, if_pos q]
    · rw [decide_eq_false q, if_neg (by decide), if_neg q]
  unfold blkL
  by_cases hn : ls.length = (if 2 ≤ f ∧ f ≤ 8 then 2 else 1)
  · rw [if_pos hn]
    have hx : F_X45_built_b67 xN M C.v0 ia (iw (f : Int)) lr (mr two) (mr wh) 0 = F_X45_built_b67 (1099511627772 + 1 + 1 + 1 + 1) M C.v0 ia (iw (f : Int)) lr (mr two) (mr wh) (iw ((0 : Nat) : Int)) := rfl
    rw [hx]
    have l12 : ls.length = 1 ∨ ls.length = 2 := by rw [hn]; split <;> omega
    have k0 : Lk (ls.getD 0 0) := hk _ (getD_in (by omega))
    have hi2 : IMm M B ia { op := 3, pl := p, wd := [], n := 0 } ∨ ∃ w m, IMm M B ia { op := 3, pl := p, wd := w, n := m } := Or.inr ⟨w, m, hi⟩
    by_cases all : ∀ l ∈ ls, (if 4 ≤ f ∧ f ≤ 10 then isWk l else isNk l)
    · rw [if_pos ⟨hn, all⟩]
      dsimp only
      have z0 := (ik (ls.getD 0 0)).mpr (all (ls.getD 0 0) (getD_in (show 0 < ls.length by omega)))
      rw [M_b67s h hi2 hr hl (by omega) k0, if_pos z0]
      rcases l12 with q | q
      · have R := M_b67e (ia := ia) (wh := wh) (n := 1099511627772 + 1 + 1) h hr hrn hk hf hn hP hO
        rw [← htwo, q] at R
        rw [q]
        exact R
      · have z1 := (ik (ls.getD (0 + 1) 0)).mpr (all (ls.getD (0 + 1) 0) (getD_in (show 0 + 1 < ls.length by omega)))
        have k1 : Lk (ls.getD (0 + 1) 0) := hk _ (getD_in (by omega))
        rw [M_b67s h hi2 hr hl (by omega) k1, if_pos z1]
        have R := M_b67e (ia := ia) (wh := wh) (n := 1099511627772 + 1) h hr hrn hk hf hn hP hO
        rw [← htwo, q] at R
        rw [q]
        exact R
    · rw [if_neg (fun z => all z.2)]
      dsimp only
      rw [M_b67s h hi2 hr hl (by omega) k0]
      by_cases z0 : inK wh (ls.getD 0 0)
      · rw [if_pos z0]
        have q : ls.length = 2 := by
          rcases l12 with q | q
          · exfalso
            refine all (fun l hl => ?_)
            obtain ⟨j, hj, rfl⟩ := List.mem_iff_getElem.mp hl
            have j0 : j = 0 := by omega
            subst j0
            have := (ik _).mp z0
            rw [List.getD_eq_getElem?_getD, List.getElem?_eq_getElem hj, Option.getD_some] at this
            exact this
          · exact q
        have k1 : Lk (ls.getD (0 + 1) 0) := hk _ (getD_in (by omega))
        rw [M_b67s h hi2 hr hl (by omega) k1, if_neg (fun z1 => all (fun l hl => ?_))]
        obtain ⟨j, hj, rfl⟩ := List.mem_iff_getElem.mp hl
        rcases (show j = 0 ∨ j = 1 by omega) with rfl | rfl
        · have := (ik _).mp z0
          rw [List.getD_eq_getElem?_getD, List.getElem?_eq_getElem hj, Option.getD_some] at this
          exact this
        · have := (ik _).mp z1
          rw [List.getD_eq_getElem?_getD, List.getElem?_eq_getElem hj, Option.getD_some] at this
          exact this
      · rw [if_neg z0]
  · rw [if_neg hn, if_neg (fun z => hn z.1)]
theorem zip_drop (a b : List Int32) (i : Nat) (h1 : i < a.length) (h2 : i < b.length) : (a.zip b).drop i = (a.getD i 0, b.getD i 0) :: (a.zip b).drop (i + 1) := by
  rw [List.drop_eq_getElem_cons (by rw [List.length_zip]; omega), List.getElem_zip, List.getD_eq_getElem?_getD, List.getElem?_eq_getElem h1, List.getD_eq_getElem?_getD, List.getElem?_eq_getElem h2]
  rfl
/-- the lanes of arguments are kept as steps -/
theorem M_b127 {lr p k : Nat} {ls w : List Int32} (hS : S.ok) (hkf : k < S.fs.length) (hr : RIl M lr ls) (hrn : lr < m_nx M) (hln : ls.length = (S.fs.getD k fn0).ps.length) (hi : IMm M B ia { op := 3, pl := p, wd := w, n := iw (ls.length : Int) }) (hc : CMx C M B S Z lm dm) (hg0 : MeG C M V P O) :
    ∀ (m fu i : Nat) (N : Mem) (W : MeV) (O' : List Mo) (kk : Nat), i + m = ls.length → m + 1 ≤ fu → OKs C M V N W P O' kk → O'.length + m ≤ C.K → ∃ N' W', F_X45_call_b127 fu N C.v0 ia lr (C.fa.getD k 0) (iw (i : Int)) = ((vg N' C.v0 46).bind fun _ => (F_X45_give N' C.v0 (S.fs.getD k fn0).ln).bind fun z15 => some (.inl z15)) ∧ OKs C M V N' W' P (O' ++ ((ls.zip (S.fs.getD k fn0).ps).drop i).map (fun q => { op := 5, k := q.1, to := q.2 })) (kk + 2 * m) := by
  have f6 := (hS.1.1 k hkf).2.2.2.2.2.2.2.2.1
  have ntl : ∀ i, ¬ pG' C lr i := fun i q => by
    unfold pG' at q
    have z1 := hr.1
    have z2 := hg0.tg3
    rcases q with q | q | q
    · rw [q] at z1; omega
    · rw [q] at z1; omega
    · rw [q] at z1; omega
  have lz : (ls.zip (S.fs.getD k fn0).ps).length = ls.length := by rw [List.length_zip]; omega
  intro m
  induction m with
  | zero =>
    intro fu i N W O' kk him hf ok hK
    obtain ⟨fu, rfl⟩ : ∃ j, fu = j + 1 := ⟨fu - 1, by omega⟩
    have hiN := hi.fg ok.2.1.1 hg0.tg3
    have mf := (hc.fg ok.2.1.1 hg0).2.2.2.2.1 k hkf
    refine ⟨N, W, ?_, ?_⟩
    · rw [show F_X45_call_b127 (fu + 1) N C.v0 ia lr (C.fa.getD k 0) (iw (i : Int)) = F_X45_call_b127_st (F_X45_call_b127 fu) N C.v0 ia lr (C.fa.getD k 0) (iw (i : Int)) from rfl]
      unfold F_X45_call_b127_st
      rw [show gi N ia 2883 = some (iw (ls.length : Int)) from hiN.ni, Option.bind_some, if_neg (by rw [iw_le4 (by omega) (by omega)]; omega), gi_of mf.1.2 (show x_fi 44 2816 = true by decide), mf.2.1, Option.bind_some]
    · rw [List.drop_eq_nil_of_le (by omega), List.map_nil, List.append_nil]
      exact ok
  | succ m ih =>
    intro fu i N W O' kk him hf ok hK
    obtain ⟨fu, rfl⟩ : ∃ j, fu = j + 1 := ⟨fu - 1, by omega⟩
    have hiN := hi.fg ok.2.1.1 hg0.tg3
    obtain ⟨N1, W1, n1, n2⟩ := OKs.op ok.1 5 (by omega)
    have t1 := ok.trans n2.1
    have r1 := hr.df t1.2.1.1 hrn ntl
    have g1 := ai_of r1.1 r1.2.1 (show i < ls.length by omega) (by omega)
    rw [r1.2.2 i (by omega)] at g1
    obtain ⟨e2, n3⟩ := n2.pk (ls.getD i 0)
    have t3 := ok.trans n3.1
    have mf := (hc.fg t3.2.1.1 hg0).2.2.2.2.1 k hkf
    obtain ⟨dl, es, ⟨-, -, lz1⟩, lz2, lz3⟩ := mf.2.2.2.1
    have bx := (lz3 i (by omega)).1
    obtain ⟨e4, n5⟩ := n3.pto ((S.fs.getD k fn0).ps.getD i 0)
    have t5 := ok.trans n5.1
    obtain ⟨N', W', x1, x2⟩ := ih fu (i + 1) _ W1 _ _ (by omega) (by omega) t5 (by rw [List.length_append, List.length_singleton]; omega)
    refine ⟨N', W', ?_, ?_⟩
    · rw [show F_X45_call_b127 (fu + 1) N C.v0 ia lr (C.fa.getD k 0) (iw (i : Int)) = F_X45_call_b127_st (F_X45_call_b127 fu) N C.v0 ia lr (C.fa.getD k 0) (iw (i : Int)) from rfl]
      unfold F_X45_call_b127_st
      rw [show gi N ia 2883 = some (iw (ls.length : Int)) from hiN.ni, Option.bind_some, if_pos (by rw [iw_le4 (by omega) (by omega)]; omega), ok.1.v, Option.bind_some, n1, Option.bind_some, g1, Option.bind_some, e2, Option.bind_some, gr_of mf.1.2 (show x_fr 44 2821 = true by decide), Option.bind_some, vg_of lz1.2.1 (show x_isa 67 67 = true by decide), Option.bind_some, lz1.get (show i < es.length by omega), Option.bind_some, bx.cc, Option.bind_some, bx.vg, Option.bind_some, bx.val, Option.bind_some, e4, Option.bind_some, iw_succ]
      exact x1
    · have dr := zip_drop ls (S.fs.getD k fn0).ps i (by omega) (by omega)
      rw [dr, List.map_cons]
      have x2' : OKs C M V N' W' P (O' ++ [{ op := 5, k := ls.getD i 0, to := (S.fs.getD k fn0).ps.getD i 0 }] ++ ((ls.zip (S.fs.getD k fn0).ps).drop (i + 1)).map (fun q => { op := 5, k := q.1, to := q.2 })) (kk + 2 * (m + 1)) := x2.mono (by omega)
      simpa only [List.append_assoc, List.cons_append, List.nil_append] using x2'
theorem M_one3 {p : Nat} {w : List Int32} {r : Tx} (h : MeG C M V (P ++ r.lns) O) (hc : CMx C M B S Z lm dm) (hS : S.ok) (hw : wok w) (hi : IMm M B ia { op := 3, pl := p, wd := w, n := iw (r.lns.length : Int) }) (ir : r.isr) (hk : ∀ l ∈ r.lns, Lk l) (hl : r.lns.length ≤ 20000) (hP : P.length + 1 ≤ C.K) (hO : O.length + r.lns.length + 1 ≤ C.K) : RIt C M V P O (20 + 3 * r.lns.length) p (opT4 r) (F_X45_one M C.v0 ia) (ckF S w r) := by
  have o0 : gi M ia 2880 = some (3 : Int32) := by rw [gi_of hi.1.2.2 (show x_fi 45 2880 = true by decide)]; exact congrArg some hi.2.1
  have hb := hc.1.2.2
  have n0 : gi M ia 2883 = some (iw (r.lns.length : Int)) := hi.ni
  obtain ⟨M1, e1⟩ : ∃ M1, M1 = m_new M 1005 r.lns.length := ⟨_, rfl⟩
  have d1 : Df n2 n2 n2 M M1 := by rw [e1]; exact Df.new _ _
  have s1 : m_nx M1 = m_nx M + 1 ∧ m_sl M1 = m_sl M + r.lns.length := by rw [e1]; exact ⟨rfl, rfl⟩
  have t1 : m_tg M1 (m_nx M) = 1005 ∧ m_ln M1 (m_nx M) = r.lns.length := by rw [e1, tg_new, if_pos rfl, ln_new, if_pos rfl]; exact ⟨rfl, rfl⟩
  obtain ⟨g1, g1c⟩ := h.new d1
  have f1 : FG C M M1 := (Df.refl _ _ _ M).then d1 (fun _ _ _ q => q.elim) (fun _ _ _ q => q.elim) (fun _ _ _ q => q.elim)
  have hi1 := hi.fg f1 h.tg3
  have H0 : C.H ≤ m_nx M := by have := h.1.2.2.1; omega
  unfold F_X45_one
  rw [o0, Option.bind_some, if_neg (by decide), if_neg (by decide), if_pos rfl, h.v, Option.bind_some, tbid]
  unfold F_X45_call
  rw [n0, Option.bind_some, mk_of (by omega), ← e1, Option.bind_some]
  dsimp only
  rw [show gi M1 ia 2883 = some (iw (r.lns.length : Int)) from hi1.ni, Option.bind_some, show iw (r.lns.length : Int) - 1 = iw ((r.lns.length : Int) - 1) by show iw (r.lns.length : Int) - iw 1 = _; rw [iw_sub]]
  have ok1 : OKs C M V M1 V (P ++ r.lns.take r.lns.length) O (1 + r.lns.length) := by
    rw [List.take_length]
    exact ⟨g1, ⟨f1, by omega, by omega⟩, ⟨[], (List.append_nil _).symm⟩, rfl⟩
  obtain ⟨N, W, x1, x2, x3, x4⟩ := M_b14 (C := C) (M := M) (V := V) (P := P) (O := O) (ia := ia) (lr := m_nx M) (ls := r.lns) (by omega) (Nat.le_refl _) r.lns.length xN M1 V (Nat.le_refl _) (by have : xN = 1099511627776 := rfl; omega) ok1 ⟨by omega, H0, t1⟩ (fun i i1 i2 => by omega)
  rw [x1]
  have hiN := hi.fg x2.2.1.1 h.tg3
  have wd : WDm N B (cR N ia 2882) w := hiN.2.2.2.2.2.1 (Or.inr rfl)
  have k0 := x2.1.1.1.2.1
  have stN := x2.1.1.1.1
  have gs : gr N ia 2882 = some (cR N ia 2882) := gr_of hiN.1.2.2 (show x_fr 45 2882 = true by decide)
  rw [show F_X45_call_b14 1 N C.v0 ia (m_nx M) (-1) = F_X45_call_b14_st (F_X45_call_b14 0) N C.v0 ia (m_nx M) (-1) from rfl]
  unfold F_X45_call_b14_st
  rw [if_pos (by decide), gs, Option.bind_some, M_builtOf k0 wd.1.1 wd.2.2.1 (by have := wd.2.2.2; omega), Option.bind_some]
  unfold ckF
  cases hf : fdl w (wds (cty 50).1 15 0) 0 with
  | some f =>
    dsimp only
    have q1 := fdl_lt _ _ _ hf
    have q2 : (wds (cty 50).1 15 0).length = 15 := by decide +kernel
    have hb' : bltW w = iw (f : Int) := by unfold bltW; rw [hf]
    rw [hb', if_neg (iw_nn0 (show f ≤ 2147483647 by omega)), x2.1.v, Option.bind_some, tbid]
    have R := M_built (C := C) (P := P) (O := O) (f := f) x2.1 hiN x4 x3 hk (by omega) (by omega) hP (by omega)
    cases hbl : blkL f r.lns with
    | none =>
      rw [hbl] at R
      exact (x2.mono (by omega)).err R
    | some i =>
      rw [hbl] at R
      obtain ⟨N2, W2, y1, y2⟩ := R
      exact ⟨N2, W2, y1, (x2.trans y2).mono (by omega)⟩
  | none =>
    dsimp only
    have hb' : bltW w = -1 := by unfold bltW; rw [hf]
    have hcN := hc.fg x2.2.1.1 h
    obtain ⟨c1, c2, c3, c4, c5, -⟩ := x2.1.1.2.2.1
    have mlb : MLb N S.fs := by
      obtain ⟨⟨p1, p2, p3⟩, p4, ⟨p5, p6, p7, p8⟩, p9, p10, p11⟩ := hcN
      refine ⟨stN, lm, dm, C.fa, p5, p6, p9, hS.2.1, fun k hk => ?_⟩
      obtain ⟨⟨y1, y2⟩, y3, ⟨z1, z2, z3, z4⟩, ⟨dl, es, ⟨-, -, u1⟩, u2, u3⟩, y6⟩ := p10 k hk
      have G := hS.1.1 k hk
      exact ⟨y2, z4, (p4 _ z1).1, ⟨dl, es, u1, u2, fun i hi => (u3 i hi).1⟩, G.2.2.2.2.2.2.2.2.2.1, G.2.2.2.2.2.2.2.2.1⟩
    obtain ⟨v, v2, v3⟩ := M_chosen (M := N) (s := cR N ia 2882) (r := m_nx M) (nm := w) (ls := r.lns) mlb wd.1.1 (by have := wd.1.2.2.1.1; omega) x4 hk (by omega)
    rw [hb', if_pos (by decide), gr_of c3 (show x_fr 46 2944 = true by decide), c4, Option.bind_some, Option.bind_some, v1068 stN, Option.bind_some, v2, Option.bind_some]
    rcases chb_of hS.1 hS.2.1 v3 with ⟨k, q1, q2, q3⟩ | ⟨q1, q2⟩
    · have fl := hS.2.1
      have f6 := (hS.1.1 k q2).2.2.2.2.2.2.2.2.1
      obtain ⟨-, ⟨-, bs2, -⟩, -⟩ := chb_some q1
      rw [q1, q3, if_neg (iw_nn0 (show k ≤ 2147483647 by omega))]
      dsimp only
      unfold F_X45_call_b76
      obtain ⟨⟨p1, p2, p3⟩, p4, ⟨p5, p6, p7, p8⟩, p9, p10, p11⟩ := hcN
      have mf := p10 k q2
      rw [hiN.pl, Option.bind_some, x2.1.v, Option.bind_some, M_mustT x2.1, tb_l, gr_of c3 (show x_fr 46 2944 = true by decide), c4, Option.bind_some, g1068_1105 stN, p5, Option.bind_some, vg_of p6.2.1 (show x_isa 67 67 = true by decide), Option.bind_some, p6.get (show k < C.fa.length by omega), Option.bind_some, cc_of mf.1.2 (show x_cast 44 44 = true by decide), Option.bind_some, x2.1.v, Option.bind_some]
      obtain ⟨N1, W1, n1, n2'⟩ := OKs.op x2.1 18 (by omega)
      obtain ⟨e2, n3⟩ := n2'.pfn (j := k)
      have hi3 := hiN.fg n3.1.2.1.1 x2.1.tg3
      obtain ⟨e4, n5⟩ := n3.pn (iw (r.lns.length : Int))
      rw [n1, Option.bind_some, e2, Option.bind_some, show gi _ ia 2883 = some (iw (r.lns.length : Int)) from hi3.ni, Option.bind_some, e4, Option.bind_some]
      obtain ⟨N', W', y1, y2⟩ := M_b127 (C := C) (M := N) (V := W) (P := P) (O := O) (ia := ia) (w := w) (p := p) hS q2 x4 x3 bs2 hiN (hc.fg x2.2.1.1 h) x2.1 r.lns.length xN 0 _ W1 _ _ (by omega) (by have : xN = 1099511627776 := rfl; omega) n5.1 (by rw [List.length_append, List.length_singleton]; omega)
      rw [show (0 : Int32) = iw ((0 : Nat) : Int) from rfl, y1, y2.1.v, Option.bind_some]
      obtain ⟨N9, W9, z1, z2⟩ := OKs.give (hS.1.1 k q2).2.2.2.1 y2.1 hP
      rw [z1, Option.bind_some]
      refine ⟨N9, W9, rfl, ?_⟩
      have az := tk_als r (S.fs.getD k fn0).ps ir bs2.symm
      show OKs C M V N9 W9 (P ++ [(S.fs.getD k fn0).ln]) (O ++ ([{ op := 18, n := iw (r.lns.length : Int), fn := k + 1 }] ++ (r.tk (S.fs.getD k fn0).ps).als.map (fun q => { op := 5, k := q.1, to := q.2 }))) _
      rw [az, ← List.append_assoc]
      exact ((x2.trans y2).trans z2).mono (by omega)
    · rw [q1, if_pos q2]
      dsimp only
      unfold F_X45_call_b76
      rw [hiN.pl, Option.bind_some, x2.1.v, Option.bind_some, M_mustF x2.1]
      exact (x2.mono (by omega)).err rfl
end
