/-! ===== FORMULAS, 71: what items mean: names ===== -/
/-- what names mean, in the model -/
def MSm (M : Mem) (H B ow : Nat) (S : Sc) : Prop := match S.nm with
  | some ns => (6 < ow ∧ ow < H ∧ ow < m_nx M ∧ m_tg M ow = 44) ∧ ∃ ln dn en ll dl el, cR M ow 2819 = ln ∧ AL M ln dn en ∧ (ln < H ∧ (1334 ≤ dn → dn < H)) ∧ en.length = ns.length ∧ (∀ k, k < ns.length → WDm M B (en.getD k 0) (ns.getD k [])) ∧ cR M ow 2821 = ll ∧ AL M ll dl el ∧ (ll < H ∧ (1334 ≤ dl → dl < H)) ∧ el.length = S.ps.length ∧ ∀ k, k < S.ps.length → IB M (el.getD k 0) (S.ps.getD k 0) ∧ el.getD k 0 < 1000
  | none => ow = 0 ∧ ∀ n, n < 8 → match S.op n with
    | none => cI M 1078 n = 0
    | some l => ∃ j : Nat, 1 ≤ j ∧ j < 401 ∧ cI M 1078 n = iw (j : Int) ∧ cR M 1070 j < H ∧ m_tg M (cR M 1070 j) = 23 ∧ cI M (cR M 1070 j) 1472 = l
def CMx (C : MeC) (M : Mem) (B : Nat) (S : Sc) (Z : Nat → Prop) (lm dm : Nat) : Prop :=
  (C.H ≤ m_nx M ∧ 1334 ≤ C.H ∧ 1334 ≤ B) ∧ (∀ x, Z x → 1334 ≤ x ∧ x < C.H) ∧ (cR M 1068 1105 = lm ∧ AL M lm dm C.fa ∧ lm < C.H ∧ (1334 ≤ dm → dm < C.H)) ∧ C.fa.length = S.fs.length ∧ (∀ k, k < S.fs.length → MF M Z C.fa (C.fa.getD k 0) (S.fs.getD k fn0)) ∧ MSm M C.H B C.ow S
section
variable {C : MeC} {M N : Mem} {V W : MeV} {P : List Int32} {O : List Mo} {B ia lm dm : Nat} {S : Sc} {Z : Nat → Prop}
theorem CMx.fg (h : CMx C M B S Z lm dm) (f : FG C M N) (g : MeG C M V P O) : CMx C N B S Z lm dm := by
  obtain ⟨⟨h1, h2, h3⟩, h4, ⟨h5, h6, h7, h8⟩, h9, h10, h11⟩ := h
  obtain ⟨e1, e2, e3⟩ := g.1.2.2.2.2.1
  have hC := g.tg3
  have pB : ∀ x i, pG' C x i → C.H ≤ x := fun x i q => by unfold pG' at q; omega
  have rB : ∀ x i, rG' C M x i → C.H ≤ x := fun x i q => by unfold rG' at q; omega
  have nn := f.1
  have ntk : nTk (pG' C) n2 (rG' C M) M B := fun x i a1 a2 a3 => ⟨fun q => by
    unfold pG' at q
    rcases q with q | q | q
    · rw [q] at a3; omega
    · rw [q] at a3; omega
    · rw [q] at a3; omega, fun q => q, fun q => by
    unfold rG' at q
    rcases q with q | q | q | q
    · rw [q] at a3; omega
    · rw [q] at a3; omega
    · rw [q] at a3; omega
    · omega⟩
  have al : ∀ {l d : Nat} {es : List Nat}, AL M l d es → l < C.H → (1334 ≤ d → d < C.H) → AL N l d es := fun {l d es} a1 a2 a3 => a1.df f (fun q => by have := pB _ _ q; omega) (fun q => by have := rB _ _ q; omega) (fun i hi q => by have := rB _ _ q; have := a3 hi; omega)
  refine ⟨⟨by omega, h2, h3⟩, h4, ⟨by rw [f.cR (by omega) (fun q => by have := rB _ _ q; omega)]; exact h5, al h6 h7 h8, h7, h8⟩, h9, fun k hk => (h10 k hk).df f (fun x q => by have := h4 x q; omega) (fun x i q r => by have := h4 x q; have := pB _ _ r; omega) (fun x i q r => by have := h4 x q; have := rB _ _ r; omega) (fun x i q q2 r => r) (fun x i q r => by have := pB _ _ r; omega), ?_⟩
  unfold MSm at h11 ⊢
  cases hn : S.nm with
  | some ns =>
    rw [hn] at h11
    dsimp only at h11 ⊢
    obtain ⟨⟨o1, o2, o3, o4⟩, ln, dn, en, ll, dl, el, a1, a2, ⟨a3, a4⟩, a5, a6, a7, a8, ⟨a9, a10⟩, a11, a12⟩ := h11
    have ro : ∀ i, ¬ rG' C M C.ow i := fun i q => by have := rB _ _ q; omega
    exact ⟨⟨o1, o2, by omega, (f.2.2 _ o3).1.trans o4⟩, ln, dn, en, ll, dl, el, by rw [f.cR o3 (ro _)]; exact a1, al a2 a3 a4, ⟨a3, a4⟩, a5, fun k hk => (a6 k hk).df f ntk, by rw [f.cR o3 (ro _)]; exact a7, al a8 a9 a10, ⟨a9, a10⟩, a11, fun k hk => ⟨(a12 k hk).1.df f (fun q => by have := pB _ _ q; have := (a12 k hk).2; omega), (a12 k hk).2⟩⟩
  | none =>
    rw [hn] at h11
    dsimp only at h11 ⊢
    refine ⟨h11.1, fun n hn' => ?_⟩
    have z := h11.2 n hn'
    have ei : cI N 1078 n = cI M 1078 n := f.cI (by omega) (fun q => by have := pB _ _ q; omega)
    cases ho : S.op n with
    | none => rw [ho] at z; dsimp only at z ⊢; rw [ei]; exact z
    | some l =>
      rw [ho] at z
      dsimp only at z ⊢
      obtain ⟨j, j1, j2, j3, j4, j5, j6⟩ := z
      have er : cR N 1070 j = cR M 1070 j := f.cR (by omega) (fun q => by have := rB _ _ q; omega)
      exact ⟨j, j1, j2, by rw [ei]; exact j3, by rw [er]; exact j4, by rw [er, (f.2.2 _ (by omega)).1]; exact j5, by rw [er, f.cI (by omega) (fun q => by have := pB _ _ q; omega)]; exact j6⟩
theorem M_idx_l {ns : List (List Int32)} {ln dn s : Nat} {en : List Nat} {w : List Int32} (h2 : AL M ln dn en) (h3 : en.length = ns.length) (h4 : ∀ k, k < ns.length → WDm M B (en.getD k 0) (ns.getD k [])) (hB : 1334 ≤ B) (hs : SB M s w) (hs1 : 1000 ≤ s) : ∀ (m n i : Nat), i + m = ns.length → m + 1 ≤ n → F_X16_indexOf_b2 n M ln s (iw (i : Int)) = some (match fdl w (ns.drop i) i with
    | some k => iw (k : Int)
    | none => -1) := by
  have L := h2.len
  intro m
  induction m with
  | zero =>
    intro n i hi hn
    obtain ⟨n', rfl⟩ : ∃ n', n = n' + 1 := ⟨n - 1, by omega⟩
    show F_X16_indexOf_b2_st _ M ln s _ = _
    unfold F_X16_indexOf_b2_st
    simp only [vg_of h2.2.1 (show x_isa 67 67 = true by decide), h2.size, Option.bind_some]
    rw [if_neg (by rw [iw_le4 (by omega) (by omega)]; omega), List.drop_eq_nil_of_le (by omega)]
    rfl
  | succ m ih =>
    intro n i hi hn
    obtain ⟨n', rfl⟩ : ∃ n', n = n' + 1 := ⟨n - 1, by omega⟩
    have nw := h4 i (by omega)
    have I := ih n' (i + 1) (by omega) (by omega)
    have dr : ns.drop i = ns.getD i [] :: ns.drop (i + 1) := by
      rw [List.getD_eq_getElem?_getD, List.getElem?_eq_getElem (by omega), Option.getD_some]
      exact List.drop_eq_getElem_cons (by omega)
    show F_X16_indexOf_b2_st (F_X16_indexOf_b2 n') M ln s _ = _
    unfold F_X16_indexOf_b2_st
    simp only [vg_of h2.2.1 (show x_isa 67 67 = true by decide), h2.size, h2.get (show i < en.length by omega), cc_of nw.1.2.1 (show x_cast 76 76 = true by decide), vg_of nw.1.2.1 (show x_isa 76 76 = true by decide), J_eqs nw.1.1 hs (ac_big (by have := nw.1.2.2.1.1; omega) hs1) (show s ≠ 0 by omega), Option.bind_some]
    rw [if_pos (by rw [iw_le4 (by omega) (by omega)]; omega), dr]
    show _ = some (match (if ns.getD i [] = w then some i else fdl w (ns.drop (i + 1)) (i + 1)) with
      | some k => iw (k : Int)
      | none => -1)
    by_cases q : ns.getD i [] = w
    · rw [pif_pos q, if_neg (show ¬ (1 : Int32) = 0 by decide), if_pos q]
    · rw [pif_neg q, if_pos rfl, if_neg q, iw_succ]
      exact I
def opT3 : Tx → List Mo
  | .par n _ => [{ op := 2, n := iw (n : Int) }]
  | .opd n _ => [{ op := 3, n := iw (n : Int) }]
  | .spt n => [{ op := 4, n := iw (n : Int) }]
  | _ => []
theorem M_one2 {p : Nat} {w : List Int32} (h : MeG C M V P O) (hc : CMx C M B S Z lm dm) (hS : S.ok) (hw : wok w) (hi : IMm M B ia { op := 2, pl := p, wd := w }) (hP : P.length + 1 ≤ C.K) (hO : O.length + 1 ≤ C.K) : RIt C M V P O 10 p opT3 (F_X45_one M C.v0 ia) (ckN S w) := by
  have o0 : gi M ia 2880 = some (2 : Int32) := by rw [gi_of hi.1.2.2 (show x_fi 45 2880 = true by decide)]; exact congrArg some hi.2.1
  have hb := hc.1.2.2
  obtain ⟨s, hs⟩ : ∃ s, s = cR M ia 2882 := ⟨_, rfl⟩
  have wd : WDm M B s w := by rw [hs]; exact hi.2.2.2.2.2.1 (Or.inl rfl)
  have gs : gr M ia 2882 = some s := by rw [gr_of hi.1.2.2 (show x_fr 45 2882 = true by decide), hs]
  have L0 : Lk 0 := by unfold Lk; decide
  have L4 : Lk 4 := by unfold Lk; decide
  obtain ⟨c1, c2, c3, c4, c5, -⟩ := h.1.2.2.1
  have st := h.1.1.1
  have tb1 : ∀ x : Option (Mem ⊕ (Nat × Mem)), (tb x fun z46 => some (Sum.inl z46)) = x := fun x => by
    cases x with
    | none => rfl
    | some v => cases v <;> rfl
  unfold F_X45_one
  rw [o0, Option.bind_some, if_neg (by decide), if_pos rfl, h.v, Option.bind_some, tb1]
  unfold F_X45_name ckN
  rw [gr_of c3 (show x_fr 46 2945 = true by decide), c5, Option.bind_some]
  have ms := hc.2.2.2.2.2
  unfold MSm at ms
  cases hns : S.nm with
  | some ns =>
    rw [hns] at ms
    dsimp only at ms ⊢
    obtain ⟨⟨o1, o2, o3, o4⟩, ln, dn, en, ll, dl, el, a1, a2, ⟨a3, a4⟩, a5, a6, a7, a8, ⟨a9, a10⟩, a11, a12⟩ := ms
    have ix := M_idx_l (s := s) (w := w) a2 a5 a6 hb wd.1.1 (by have := wd.1.2.2.1.1; omega) ns.length xN 0 (by omega) (by have := a2.len; have : xN = 1099511627776 := rfl; omega)
    rw [List.drop_zero] at ix
    rw [if_neg (by omega), if_neg (by omega), Option.bind_some, gr_of o4 (show x_fr 44 2819 = true by decide), a1, Option.bind_some, gs, Option.bind_some]
    rw [show F_X16_indexOf M ln s = _ from ix, Option.bind_some]
    cases hf : fdl w ns 0 with
    | none =>
      dsimp only
      rw [if_pos (by decide)]
      unfold F_X45_name_b32
      rw [hi.pl, Option.bind_some, h.v, Option.bind_some]
      rw [M_mustF h]
      exact ((OKs.refl h).mono (by omega)).err rfl
    | some k =>
      dsimp only
      have k1 := fdl_lt _ _ _ hf
      have k2 := hS.2.2.1 ns hns
      have kL : Lk (S.ps.getD k 0) := hS.2.2.2.1 _ (getD_in (show k < S.ps.length by omega))
      have kb : k ≤ 200000 := by have := a2.len; omega
      rw [if_neg (iw_nn0 (show k ≤ 2147483647 by omega))]
      unfold F_X45_name_b32
      rw [hi.pl, Option.bind_some, h.v, Option.bind_some, M_mustT h, tb_l, h.v, Option.bind_some]
      obtain ⟨N2, W2, m1, m2⟩ := OKs.op h 2 hO
      rw [m1, Option.bind_some]
      obtain ⟨e1, m3⟩ := m2.pn (iw (k : Int))
      have hc3 := hc.fg m3.1.2.1.1 h
      have ms3 := hc3.2.2.2.2.2
      unfold MSm at ms3
      rw [hns] at ms3
      obtain ⟨⟨p1, p2, p3, p4⟩, ln', dn', en', ll', dl', el', b1, b2, b3, b5, b6, b7, b8, b9, b11, b12⟩ := ms3
      obtain ⟨d1, d2, d3, d4, d5, -⟩ := m3.1.1.1.2.2.1
      have bx := (b12 k (by omega)).1
      rw [e1, Option.bind_some, gr_of d3 (show x_fr 46 2945 = true by decide), d5, Option.bind_some, gr_of p4 (show x_fr 44 2821 = true by decide), b7, Option.bind_some, vg_of b8.2.1 (show x_isa 67 67 = true by decide), Option.bind_some, b8.get (show k < el'.length by omega), Option.bind_some, bx.cc, Option.bind_some, bx.vg, Option.bind_some, bx.val, Option.bind_some, m3.1.1.v, Option.bind_some]
      obtain ⟨N4, W4, g1, g2⟩ := OKs.give kL m3.1.1 hP
      rw [g1, Option.bind_some]
      exact ⟨N4, W4, rfl, (m3.1.trans g2).mono (by omega)⟩
  | none =>
    rw [hns] at ms
    dsimp only at ms ⊢
    obtain ⟨w0, ms⟩ := ms
    rw [w0, if_neg (by decide), if_pos rfl, gs, Option.bind_some, vg_of wd.1.2.1 (show x_isa 76 76 = true by decide), Option.bind_some, J_len wd.1.1, Option.bind_some]
    have bad : ∀ v : Int32, RIt C M V P O 10 p opT3 (F_X45_name_b111 M C.v0 C.v0 ia v) none := fun v => by
      unfold F_X45_name_b111 F_X45_name_b112
      rw [hi.pl, Option.bind_some, h.v, Option.bind_some, M_mustF h]
      exact ((OKs.refl h).mono (by omega)).err rfl
    have L := hw.2.1
    have le1 : (iw (w.length : Nat) = (1 : Int32)) ↔ w.length = 1 := by rw [show (1 : Int32) = iw ((1 : Nat) : Int) from rfl, iw_eq (by omega) (by omega) (by omega) (by omega)]; omega
    by_cases q1 : w.length = 1
    · have as0 : asc (w.getD 0 0) := hw.1 0 hw.2.2
      obtain ⟨c, cc1, cc2⟩ := as0
      have ci : (w.getD 0 0).toInt = (c : Int) := by rw [cc2]; exact iw_toInt (by omega) (by omega)
      have ch : F_J15_charAt M s 0 = some (iw (c : Int)) := by
        have := J_charAt wd.1.1 hw.2.2 ⟨c, cc1, cc2⟩
        rw [cc2] at this
        exact this
      have lt : ∀ k : Nat, k < 128 → ((iw (c : Int) < iw (k : Int)) ↔ c < k) := fun k hk => by rw [iw_le4 (by omega) (by omega)]
      have gt : ∀ k : Nat, k < 128 → ((iw (k : Int) < iw (c : Int)) ↔ k < c) := fun k hk => by rw [iw_le4 (by omega) (by omega)]
      have sub : ∀ k : Nat, k ≤ c → iw (c : Int) - iw (k : Int) = iw ((c - k : Nat) : Int) := fun k hk => by rw [iw_sub]; congr 1; omega
      have l97 : (iw (c : Int) < (97 : Int32)) ↔ c < 97 := lt 97 (by decide)
      have l108 : ((108 : Int32) < iw (c : Int)) ↔ 108 < c := gt 108 (by decide)
      have l104 : ((104 : Int32) < iw (c : Int)) ↔ 104 < c := gt 104 (by decide)
      rw [if_pos (le1.mpr q1), Option.bind_some, vg_of wd.1.2.1 (show x_isa 76 76 = true by decide), Option.bind_some, ch, Option.bind_some, if_pos q1, ci]
      unfold F_X45_name_b93
      by_cases q2 : c < 97
      · rw [if_pos (l97.mpr q2), if_neg (by omega), if_neg (by omega)]
        exact bad _
      rw [if_neg (fun q => q2 (l97.mp q))]
      by_cases q3 : 108 < c
      · rw [if_pos (l108.mpr q3), if_neg (by omega), if_neg (by omega)]
        exact bad _
      rw [if_neg (fun q => q3 (l108.mp q))]
      unfold F_X45_name_b112
      rw [hi.pl, Option.bind_some, h.v, Option.bind_some, M_mustT h, tb_l]
      by_cases q4 : 104 < c
      · rw [if_pos (l104.mpr q4), if_pos (by omega), h.v, Option.bind_some, show ((c : Int) - 105).toNat = c - 105 by omega]
        obtain ⟨N2, W2, m1, m2⟩ := OKs.op h 4 hO
        obtain ⟨e1, m3⟩ := m2.pn (iw ((c - 105 : Nat) : Int))
        rw [m1, Option.bind_some, show (105 : Int32) = iw ((105 : Nat) : Int) from rfl, sub 105 (by omega), e1, Option.bind_some, m3.1.1.v, Option.bind_some]
        obtain ⟨N4, W4, g1, g2⟩ := OKs.give L4 m3.1.1 hP
        rw [g1, Option.bind_some]
        exact ⟨N4, W4, rfl, (m3.1.trans g2).mono (by omega)⟩
      · rw [if_neg (fun q => q4 (l104.mp q)), if_neg (by omega), if_pos (by omega), gr_of c3 (show x_fr 46 2944 = true by decide), c4, Option.bind_some, g1068_1107 st, Option.bind_some, show (97 : Int32) = iw ((97 : Nat) : Int) from rfl, sub 97 (by omega), ai_of (t1078 st) (l1078 st) (show c - 97 < 8 by omega) (by decide), Option.bind_some, show ((c : Int) - 97).toNat = c - 97 by omega]
        have z := ms (c - 97) (by omega)
        cases ho : S.op (c - 97) with
        | none =>
          rw [ho] at z
          dsimp only at z ⊢
          rw [z, if_neg (by decide)]
          unfold F_X45_name_b164
          rw [hi.pl, Option.bind_some, h.v, Option.bind_some, M_mustF h]
          exact ((OKs.refl h).mono (by omega)).err rfl
        | some l =>
          rw [ho] at z
          dsimp only at z ⊢
          obtain ⟨j, j1, j2, j3, j4, j5, j6⟩ := z
          have jp : (0 : Int32) < iw (j : Int) := by
            have : iw ((0 : Nat) : Int) < iw (j : Int) := by rw [iw_le4 (by omega) (by omega)]; omega
            exact this
          rw [j3, if_pos jp]
          unfold F_X45_name_b164
          rw [hi.pl, Option.bind_some, h.v, Option.bind_some, M_mustT h, tb_l, h.v, Option.bind_some]
          obtain ⟨N2, W2, m1, m2⟩ := OKs.op h 3 hO
          obtain ⟨e1, m3⟩ := m2.pn (iw ((c - 97 : Nat) : Int))
          have hc3 := hc.fg m3.1.2.1.1 h
          have ms3 := hc3.2.2.2.2.2
          unfold MSm at ms3
          rw [hns] at ms3
          have z3 := ms3.2 (c - 97) (by omega)
          rw [ho] at z3
          dsimp only at z3
          obtain ⟨j', y1, y2, y3, y4, y5, y6⟩ := z3
          have st3 := m3.1.1.1.1.1
          obtain ⟨d1, d2, d3, d4, d5, -⟩ := m3.1.1.1.2.2.1
          rw [m1, Option.bind_some, show (97 : Int32) = iw ((97 : Nat) : Int) from rfl, sub 97 (by omega), e1, Option.bind_some, gr_of d3 (show x_fr 46 2944 = true by decide), d4, Option.bind_some, g1068_1092 st3, Option.bind_some, Option.bind_some, g1068_1107 st3, Option.bind_some, ai_of (t1078 st3) (l1078 st3) (show c - 97 < 8 by omega) (by decide), y3, Option.bind_some, ar_of (by rw [t1070 st3]; decide) (l1070 st3) y2 (by decide), Option.bind_some, gi_of y5 (show x_fi 23 1472 = true by decide), y6, Option.bind_some, m3.1.1.v, Option.bind_some]
          obtain ⟨N4, W4, g1, g2⟩ := OKs.give (hS.2.2.2.2 _ _ ho) m3.1.1 hP
          rw [g1, Option.bind_some]
          exact ⟨N4, W4, rfl, (m3.1.trans g2).mono (by omega)⟩
    · rw [if_neg (fun q => q1 (le1.mp q)), if_neg q1]
      unfold F_X45_name_b93
      rw [if_pos (by decide)]
      exact bad _
end
