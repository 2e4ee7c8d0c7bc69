/-! ===== FORMULAS, 15: the model's tokens ===== -/
/-- a list, and how great its row may be; what its rows have cost -/
def AP (M : Mem) (a ds : Nat) (es : List Nat) : Prop := AL M a ds es ∧ (ds = 4 ∨ 2 * m_ln M ds ≤ 3 * es.length + 20)
def rcs (M : Mem) (ds : Nat) : Nat := if ds = 4 then 0 else 4 * m_ln M ds
theorem AP.rcb {M : Mem} {a ds : Nat} {es : List Nat} (h : AP M a ds es) : rcs M ds ≤ 6 * es.length + 40 := by
  unfold rcs
  split
  · omega
  · have := h.2; omega
theorem AP.df {P Q R : Nat → Nat → Prop} {M N : Mem} {a ds : Nat} {es : List Nat} (h : AP M a ds es) (d : Df P Q R M N) (hP : ¬ P a 4289) (hR : ¬ R a 4288) (hD : ∀ i, 1334 ≤ ds → ¬ R ds i) : AP N a ds es ∧ rcs N ds = rcs M ds := by
  have e : ds = 4 ∨ m_ln N ds = m_ln M ds := by
    rcases h.1.2.2.2.2 with q | q
    · exact Or.inl q.2
    · exact Or.inr (d.2.2 ds q.2.1).2.1
  refine ⟨⟨h.1.df d hP hR hD, ?_⟩, ?_⟩
  · rcases e with e | e
    · exact Or.inl e
    · rw [e]; exact h.2
  · unfold rcs
    rcases e with e | e
    · rw [if_pos e, if_pos e]
    · rw [e]
theorem AP.add {M : Mem} {a ds : Nat} {es : List Nat} {v : Nat} (h : AP M a ds es) (h0 : 1334 ≤ m_nx M) (k4 : m_tg M 4 = 1091 ∧ m_ln M 4 = 0) (hl : es.length ≤ 60000) (hv : v = 0 ∨ (v < m_nx M ∧ x_asg (m_tg M v) 1010 = true)) :
    ∃ M' ds', F_J6_add M a v = some (1, M') ∧ AP M' a ds' (es ++ [v]) ∧ (ds' = ds ∨ m_nx M ≤ ds') ∧ Df (at1 a) n2 (fun x i => (x = a ∧ i = 4288) ∨ (x = ds ∧ 1334 ≤ ds)) M M' ∧ m_nx M' ≤ m_nx M + 1 ∧ m_sl M' + rcs M ds ≤ m_sl M + rcs M' ds' ∧ 1334 ≤ ds' := by
  obtain ⟨M', ds', e1, e2, e3, e4, e5, e6⟩ := h.1.addA h0 k4 hl hv
  have hlen : (es ++ [v]).length = es.length + 1 := by rw [List.length_append, List.length_singleton]
  unfold rcs
  rcases e6 with ⟨g1, g2, g3⟩ | ⟨g1, g2, g3⟩
  · subst g2
    have hd : ds' < m_nx M := by
      rcases h.1.2.2.2.2 with q | q
      · omega
      · exact q.2.1
    have el := (e4.2.2 ds' hd).2.1
    have h2 := h.2
    refine ⟨M', ds', e1, ⟨e2, Or.inr ?_⟩, e3, e4, e5, ?_, g1⟩
    · rw [el, hlen]; omega
    · rw [if_neg (by omega), if_neg (by omega), el]; omega
  · refine ⟨M', ds', e1, ⟨e2, Or.inr ?_⟩, e3, e4, e5, ?_, g1⟩
    · rcases g3 with ⟨q1, q2, q3⟩ | ⟨q1, q2, q3⟩
      · rw [q3, hlen]; omega
      · rw [q3, hlen]; omega
    · rw [if_neg (show ¬ ds' = 4 by omega)]
      rcases g3 with ⟨q1, q2, q3⟩ | ⟨q1, q2, q3⟩
      · rw [if_pos q2, q3]; omega
      · rw [if_neg (show ¬ ds = 4 by omega)]
        omega
theorem getD_l {α : Type} {d : α} {l m : List α} {i : Nat} (h : i < l.length) : (l ++ m).getD i d = l.getD i d := by
  rw [List.getD_eq_getElem?_getD, List.getD_eq_getElem?_getD, List.getElem?_append_left h]
theorem getD_r {α : Type} {d : α} {l m : List α} {i : Nat} (h : l.length ≤ i) : (l ++ m).getD i d = m.getD (i - l.length) d := by
  rw [List.getD_eq_getElem?_getD, List.getD_eq_getElem?_getD, List.getElem?_append_right h]
theorem pj_of {M : Mem} {a t g : Nat} (v : Int64) (ht : m_tg M a = t) (hf : x_wj t g = true) : pj M a g v = some (wJ M a g v) := by
  unfold pj
  rw [ht, if_pos hf]
theorem gl_of {M : Mem} {a t g : Nat} (ht : m_tg M a = t) (hf : x_fj t g = true) : gl M a g = some (cJ M a g) := by
  unfold gl
  rw [ht, if_pos hf]
/-- a word of the model -/
def WDm (M : Mem) (B s : Nat) (w : List Int32) : Prop := NMk M B s w ∧ HS M s w ∧ ascs w ∧ w.length ≤ 12
/-- a token's text -/
def sOK (M : Mem) (B s : Nat) (T : Tok) : Prop := ((T.kd = 1 ∨ T.kd = 2) → WDm M B s T.wd) ∧ (T.kd = 4 → s = T.sg) ∧ ((T.kd = 0 ∨ T.kd = 3 ∨ T.kd = 5) → s = 20)
/-- a token of the model -/
def TKm (M : Mem) (B a : Nat) (T : Tok) : Prop := (B ≤ a ∧ a < m_nx M ∧ m_tg M a = 43) ∧ cI M a 2752 = T.kd ∧ cI M a 2753 = iw (T.pl : Int) ∧ cI M a 2755 = T.ln ∧ cJ M a 2756 = T.bt ∧ sOK M B (cR M a 2754) T
/-- cells that hold tokens and words are left alone -/
def nTk (P Q R : Nat → Nat → Prop) (M : Mem) (B : Nat) : Prop := ∀ x i, B ≤ x → x < m_nx M → (m_tg M x = 43 ∨ m_tg M x = 76 ∨ m_tg M x = 1002) → ¬ P x i ∧ ¬ Q x i ∧ ¬ R x i
section
variable {P Q R : Nat → Nat → Prop} {M N : Mem} {B : Nat}
theorem WDm.df {s : Nat} {w : List Int32} (h : WDm M B s w) (d : Df P Q R M N) (hn : nTk P Q R M B) : WDm N B s w := by
  obtain ⟨⟨h1, h2, ⟨h3, h4⟩, h5, h6⟩, ⟨g1, g2, g3⟩, g4, g5⟩ := h
  have c : ∀ i, cI N s i = cI M s i := fun i => d.cI h4 (hn s i h3 h4 (Or.inr (Or.inl h2))).1
  have r : cR N s 4864 = cR M s 4864 := d.cR h4 (hn s _ h3 h4 (Or.inr (Or.inl h2))).2.2
  obtain ⟨sd, -⟩ := h1.df d h4 h6 (hn s _ h3 h4 (Or.inr (Or.inl h2))).2.2 (hn s _ h3 h4 (Or.inr (Or.inl h2))).1 (fun i => (hn _ i h5 h6 (Or.inr (Or.inr g1))).1)
  have nn := d.1
  refine ⟨⟨sd, (d.2.2 s h4).1.trans h2, ⟨h3, by omega⟩, by rw [r]; exact h5, by rw [r]; omega⟩, ⟨by rw [r, (d.2.2 _ h6).1]; exact g1, by rw [c]; exact g2, by rw [c]; exact g3⟩, g4, g5⟩
theorem TKm.df {a : Nat} {T : Tok} (h : TKm M B a T) (d : Df P Q R M N) (hn : nTk P Q R M B) : TKm N B a T := by
  obtain ⟨⟨h1, h2, h3⟩, h4, h5, h6, h7, h8, h9, h10⟩ := h
  have q := fun i => hn a i h1 h2 (Or.inl h3)
  have nn := d.1
  have r : cR N a 2754 = cR M a 2754 := d.cR h2 (q _).2.2
  refine ⟨⟨h1, by omega, (d.2.2 a h2).1.trans h3⟩, by rw [d.cI h2 (q _).1]; exact h4, by rw [d.cI h2 (q _).1]; exact h5, by rw [d.cI h2 (q _).1]; exact h6, by rw [((d.2.2 a h2).2.2 _).2.1 (q _).2.1]; exact h7, fun w => ?_, fun w => by rw [r]; exact h9 w, fun w => by rw [r]; exact h10 w⟩
  rw [r]
  exact (h8 w).df d hn
end
theorem SB_uni {M : Mem} {s : Nat} {w v : List Int32} (h : SB M s w) (k : SB M s v) : w = v := by
  have hl : w.length = v.length := by rw [← h.2.2.2.1, ← k.2.2.2.1]
  exact (list_ext0 hl).mp (fun j hj => by rw [← h.2.2.2.2.2 j hj, ← k.2.2.2.2.2 j (by omega)])
theorem WDm.hs {M N : Mem} {B s x : Nat} {w v : List Int32} (h : WDm M B s w) (hx : WDm M B x v) (d : Df (pHs x) n2 n2 M N) (hv : HS N x v) : WDm N B s w := by
  obtain ⟨⟨h1, h2, ⟨h3, h4⟩, h5, h6⟩, ⟨g1, g2, g3⟩, g4, g5⟩ := h
  have r : cR N s 4864 = cR M s 4864 := d.cR h4 (fun q => q)
  have nn := d.1
  have ne : cR M s 4864 ≠ x := fun q => by
    have := hx.1.2.1
    rw [← q, g1] at this
    exact absurd this (by decide)
  refine ⟨⟨h1.hs d h4 h6 ne, (d.2.2 s h4).1.trans h2, ⟨h3, by omega⟩, by rw [r]; exact h5, by rw [r]; omega⟩, ?_, g4, g5⟩
  by_cases q : s = x
  · subst q
    rw [SB_uni h1 hx.1.1]
    exact hv
  · exact ⟨by rw [r, (d.2.2 _ h6).1]; exact g1, by rw [d.cI h4 (fun w => q w.1)]; exact g2, by rw [d.cI h4 (fun w => q w.1)]; exact g3⟩
theorem TKm.hs {M N : Mem} {B a x : Nat} {v : List Int32} {T : Tok} (h : TKm M B a T) (hx : WDm M B x v) (d : Df (pHs x) n2 n2 M N) (hv : HS N x v) : TKm N B a T := by
  obtain ⟨⟨h1, h2, h3⟩, h4, h5, h6, h7, h8, h9, h10⟩ := h
  have ne : a ≠ x := fun q => by
    have := hx.1.2.1
    rw [← q, h3] at this
    exact absurd this (by decide)
  have nn := d.1
  have r : cR N a 2754 = cR M a 2754 := d.cR h2 (fun q => q)
  have c : ∀ i, cI N a i = cI M a i := fun i => d.cI h2 (fun w => ne w.1)
  refine ⟨⟨h1, by omega, (d.2.2 a h2).1.trans h3⟩, by rw [c]; exact h4, by rw [c]; exact h5, by rw [c]; exact h6, by rw [((d.2.2 a h2).2.2 _).2.1 (fun q => q)]; exact h7, fun w => ?_, fun w => by rw [r]; exact h9 w, fun w => by rw [r]; exact h10 w⟩
  rw [r]
  exact (h8 w).hs hx d hv
def tok0 : Tok := { kd := 0, pl := 0, to := 0 }
/-- the cutter: tokens and words so far -/
def CU (B0 M : Mem) (o lt lw : Nat) (f : Nat → Int32) (n dt : Nat) (et : List Nat) (dw : Nat) (ew : List Nat) (ts : List Tok) (ws : List (List Int32)) : Prop :=
  (1334 ≤ m_nx B0 ∧ Df n2 n2 n2 B0 M ∧ ST M ∧ K0 M ∧ m_tg M 4 = 1091 ∧ m_ln M 4 = 0) ∧ (m_nx B0 ≤ o ∧ o < m_nx M ∧ m_tg M o = 42) ∧ (cR M o 2688 = 1069 ∧ cI M o 2689 = iw (n : Int) ∧ n ≤ 4000 ∧ ∀ i, i < n → cI M 1069 i = f i ∧ bt (f i)) ∧ (cR M o 2690 = lt ∧ cR M o 2691 = lw) ∧
  (AP M lt dt et ∧ m_nx B0 ≤ lt ∧ (1334 ≤ dt → m_nx B0 ≤ dt)) ∧ (AP M lw dw ew ∧ m_nx B0 ≤ lw ∧ (1334 ≤ dw → m_nx B0 ≤ dw)) ∧ lt ≠ lw ∧ (dt = dw → dt = 4) ∧
  (et.length = ts.length ∧ ∀ i, i < ts.length → TKm M (m_nx B0) (et.getD i 0) (ts.getD i tok0)) ∧ ew.length = ws.length ∧ ∀ i, i < ws.length → WDm M (m_nx B0) (ew.getD i 0) (ws.getD i [])
theorem AL.tg {M : Mem} {a ds : Nat} {es : List Nat} (h : AL M a ds es) : m_tg M a = 67 ∧ (1334 ≤ ds → m_tg M ds = 1010 ∧ ds < m_nx M) := by
  refine ⟨h.2.1, fun q => ?_⟩
  rcases h.2.2.2.2 with w | w
  · omega
  · exact ⟨w.2.2.2.1, w.2.1⟩
section
variable {B0 M : Mem} {o lt lw n dt dw : Nat} {f : Nat → Int32} {et ew : List Nat} {ts : List Tok} {ws : List (List Int32)}
theorem M_code (h : CU B0 M o lt lw f n dt et dw ew ts ws) {k : Nat} (hk : k ≤ 100000) : F_X41_code M o (iw (k : Int)) = some (lk f n k) := by
  obtain ⟨⟨b1, b2, b3, b4, b5, b6⟩, ⟨o1, o2, o3⟩, ⟨x1, x2, x3, x4⟩, -⟩ := h
  unfold F_X41_code F_X41_code_b22 lk
  simp only [gi_of o3 (show x_fi 42 2689 = true by decide), gr_of o3 (show x_fr 42 2688 = true by decide), x1, x2, Option.bind_some]
  by_cases c : k < n
  · rw [if_pos (by rw [iw_le4 (by omega) (by omega)]; exact c), if_pos c]
    simp only [ab_of (Or.inr (Or.inl (t1069 b3))) (l1069 b3) (show k < 16000 by omega) (by decide), Option.bind_some, bn_and, (x4 k c).1]
    rfl
  · rw [if_neg (by rw [iw_le4 (by omega) (by omega)]; exact c), if_neg c]
theorem CU.vg (h : CU B0 M o lt lw f n dt et dw ew ts ws) : vg M o 42 = some () := vg_of h.2.1.2.2 (show x_isa 42 42 = true by decide)
/-- a token is added -/
theorem M_addT (h : CU B0 M o lt lw f n dt et dw ew ts ws) {T : Tok} {s : Nat} (hs : sOK M (m_nx B0) s T) (hl : ts.length ≤ 50000) (to : Int32) : ∃ M' dt' et', F_X41_add M o T.kd (iw (T.pl : Int)) to s T.ln T.bt = some (to, M') ∧ CU B0 M' o lt lw f n dt' et' dw ew (ts ++ [T]) ws ∧ m_nx M' ≤ m_nx M + 2 ∧ m_sl M' + rcs M dt + rcs M dw ≤ m_sl M + 5 + rcs M' dt' + rcs M' dw := by
  have h' := h
  obtain ⟨⟨b1, b2, b3, b4, b5, b6⟩, ⟨o1, o2, o3⟩, ⟨x1, x2, x3, x4⟩, ⟨y1, y2⟩, ⟨p1, p2, p3⟩, ⟨q1, q2, q3⟩, r1, r2, ⟨t1, t2⟩, w1, w2⟩ := h
  have nn := b2.1
  obtain ⟨C, hC⟩ : ∃ C, C = mo M 43 := ⟨_, rfl⟩
  have dC : Df n2 n2 n2 M C := by rw [hC]; exact Df.new _ _
  have tC : m_tg C (m_nx M) = 43 := by rw [hC]; show m_tg (m_new M 43 _) _ = _; rw [tg_new, if_pos rfl]
  have nC : m_nx C = m_nx M + 1 ∧ m_sl C = m_sl M + 5 := by rw [hC]; exact ⟨rfl, rfl⟩
  obtain ⟨D1, h1⟩ : ∃ D, D = wI C (m_nx M) 2752 T.kd := ⟨_, rfl⟩
  obtain ⟨D2, h2⟩ : ∃ D, D = wI D1 (m_nx M) 2753 (iw (T.pl : Int)) := ⟨_, rfl⟩
  obtain ⟨D3, h3⟩ : ∃ D, D = wR D2 (m_nx M) 2754 s := ⟨_, rfl⟩
  obtain ⟨D4, h4⟩ : ∃ D, D = wI D3 (m_nx M) 2755 T.ln := ⟨_, rfl⟩
  obtain ⟨D5, h5⟩ : ∃ D, D = wJ D4 (m_nx M) 2756 T.bt := ⟨_, rfl⟩
  have g1 : m_tg D1 (m_nx M) = 43 := by rw [h1]; exact tC
  have g2 : m_tg D2 (m_nx M) = 43 := by rw [h2]; exact g1
  have g3 : m_tg D3 (m_nx M) = 43 := by rw [h3]; exact g2
  have g4 : m_tg D4 (m_nx M) = 43 := by rw [h4]; exact g3
  have g5 : m_tg D5 (m_nx M) = 43 := by rw [h5]; exact g4
  have n5 : m_nx D5 = m_nx M + 1 ∧ m_sl D5 = m_sl M + 5 := by rw [h5, h4, h3, h2, h1]; exact nC
  have a0 : at1 (m_nx M) (m_nx M) 2752 := rfl
  have a1 : at1 (m_nx M) (m_nx M) 2753 := rfl
  have a2 : at1 (m_nx M) (m_nx M) 2754 := rfl
  have a3 : at1 (m_nx M) (m_nx M) 2755 := rfl
  have a4 : at1 (m_nx M) (m_nx M) 2756 := rfl
  have k1 : Df (at1 (m_nx M)) (at1 (m_nx M)) (at1 (m_nx M)) C D1 := by rw [h1]; exact Df.wI _ a0
  have k2 : Df (at1 (m_nx M)) (at1 (m_nx M)) (at1 (m_nx M)) D1 D2 := by rw [h2]; exact Df.wI _ a1
  have k3 : Df (at1 (m_nx M)) (at1 (m_nx M)) (at1 (m_nx M)) D2 D3 := by rw [h3]; exact Df.wR _ a2
  have k4 : Df (at1 (m_nx M)) (at1 (m_nx M)) (at1 (m_nx M)) D3 D4 := by rw [h4]; exact Df.wI _ a3
  have k5 : Df (at1 (m_nx M)) (at1 (m_nx M)) (at1 (m_nx M)) D4 D5 := by rw [h5]; exact Df.wJ _ a4
  have dD : Df n2 n2 n2 M D5 := dC.then ((((k1.trans k2).trans k3).trans k4).trans k5) (fun x i hx q => (show False by unfold at1 at q; omega)) (fun x i hx q => (show False by unfold at1 at q; omega)) (fun x i hx q => (show False by unfold at1 at q; omega))
  have nT0 : nTk n2 n2 n2 M (m_nx B0) := fun x i _ _ _ => ⟨fun q => q, fun q => q, fun q => q⟩
  have hs5 : sOK D5 (m_nx B0) s T := ⟨fun q => (hs.1 q).df dD nT0, hs.2⟩
  have tk5 : TKm D5 (m_nx B0) (m_nx M) T := by
    refine ⟨⟨by omega, by omega, g5⟩, ?_, ?_, ?_, ?_, ?_⟩
    · rw [h5]; show cI D4 _ _ = _; rw [h4, cI_wI, if_neg (by omega), h3]; show cI D2 _ _ = _; rw [h2, cI_wI, if_neg (by omega), h1, cI_wI, if_pos ⟨rfl, rfl⟩]
    · rw [h5]; show cI D4 _ _ = _; rw [h4, cI_wI, if_neg (by omega), h3]; show cI D2 _ _ = _; rw [h2, cI_wI, if_pos ⟨rfl, rfl⟩]
    · rw [h5]; show cI D4 _ _ = _; rw [h4, cI_wI, if_pos ⟨rfl, rfl⟩]
    · rw [h5, cJ_wJ, if_pos ⟨rfl, rfl⟩]
    · have : cR D5 (m_nx M) 2754 = s := by rw [h5, h4]; show cR D3 _ _ = _; rw [h3, cR_wR, if_pos ⟨rfl, rfl⟩]
      rw [this]; exact hs5
  obtain ⟨ap5, rc5⟩ := p1.df dD (fun q => q) (fun q => q) (fun _ _ q => q)
  obtain ⟨aw5, rw5⟩ := q1.df dD (fun q => q) (fun q => q) (fun _ _ q => q)
  have tg4 := dD.2.2 4 (by omega)
  have etl : et.length ≤ 60000 := by omega
  obtain ⟨M', ds', e1, e2, e3, e4, e5, e6, e7⟩ := ap5.add (v := m_nx M) (by omega) ⟨tg4.1.trans b5, tg4.2.1.trans b6⟩ etl (Or.inr ⟨by omega, by rw [g5]; decide⟩)
  have lto : m_tg D5 lt = 67 := ap5.1.2.1
  have dtg := ap5.1.tg
  have dwg := aw5.1.tg
  have dM : Df n2 n2 n2 B0 M' := (b2.trans dD).then e4 (fun x i hx q => (show False by unfold at1 at q; omega)) (fun _ _ _ q => q) (fun x i hx q => (show False by rcases q with q | q; omega; have := p3 q.2; omega))
  have nT1 : nTk (at1 lt) n2 (fun x i => (x = lt ∧ i = 4288) ∨ (x = dt ∧ 1334 ≤ dt)) D5 (m_nx B0) := fun x i x1 x2 x3 => by
    refine ⟨fun q => ?_, fun q => q, fun q => ?_⟩
    · unfold at1 at q; rw [q, lto] at x3; omega
    · rcases q with q | q
      · rw [q.1, lto] at x3; omega
      · rw [q.1, (dtg.2 q.2).1] at x3; omega
  have olt : o ≠ lt := fun q => by rw [← q] at lto; rw [(dD.2.2 o o2).1, o3] at lto; exact absurd lto (by decide)
  have odt : ¬ (o = dt ∧ 1334 ≤ dt) := fun q => by have := (dtg.2 q.2).1; rw [← q.1, (dD.2.2 o o2).1, o3] at this; exact absurd this (by decide)
  have rO : ∀ i, cR M' o i = cR M o i := fun i => by
    rw [e4.cR (by omega) (fun q => by rcases q with q | q; exact olt q.1; exact odt q), dD.cR o2 (fun q => q)]
  obtain ⟨aw6, rw6⟩ := aw5.df e4 (fun q => r1 q.symm) (fun q => by
    rcases q with q | q
    · exact r1 q.1.symm
    · have := (dtg.2 q.2).1; rw [← q.1, dwg.1] at this; exact absurd this (by decide)) (fun i hd q => by
    rcases q with q | q
    · have := (dwg.2 hd).1; rw [q.1, lto] at this; exact absurd this (by decide)
    · have := r2 q.1.symm; omega)
  have sM' : ST M' := (b3.df dD (fun _ _ q => q)).df e4 (fun p hp q => by
    have := stR_lt p hp
    rcases q with q | q
    · omega
    · have := p3 q.2; omega)
  have kM' : K0 M' := (b4.df b3 dD (fun _ _ _ q => q) (fun _ _ _ q => q)).df (b3.df dD (fun _ _ q => q)) e4 (fun a i q w => by unfold at1 at w; omega) (fun a i q w => by
    rcases w with w | w
    · omega
    · have := p3 w.2; omega)
  have tg4' := e4.2.2 4 (by omega)
  refine ⟨M', ds', et ++ [m_nx M], ?_, ⟨⟨b1, dM, sM', kM', tg4'.1.trans (tg4.1.trans b5), tg4'.2.1.trans (tg4.2.1.trans b6)⟩, ⟨o1, by have := e4.1; omega, ?_⟩, ⟨by rw [rO]; exact x1, ?_, x3, fun i hi => ?_⟩, ⟨by rw [rO]; exact y1, by rw [rO]; exact y2⟩, ⟨e2, p2, fun _ => by rcases e3 with q | q; rw [q] at e7 ⊢; exact p3 e7; omega⟩, ⟨aw6, q2, q3⟩, r1, fun q => ?_, ⟨?_, fun i hi => ?_⟩, w1, fun i hi => ?_⟩, by omega, by omega⟩
  · unfold F_X41_add F_X42_init
    rw [gr_of o3 (show x_fr 42 2690 = true by decide), Option.bind_some, y1, ← hC]
    simp only [ng_of tC (show (43 : Nat) ≠ 0 by decide), pi_of _ tC (show x_wi 43 2752 = true by decide) rfl, ← h1, pi_of _ g1 (show x_wi 43 2753 = true by decide) rfl, ← h2, pr_of _ g2 (show x_wr 43 2754 = true by decide), ← h3, pi_of _ g3 (show x_wi 43 2755 = true by decide) rfl, ← h4, pj_of _ g4 (show x_wj 43 2756 = true by decide), ← h5, vg_of lto (show x_isa 67 67 = true by decide), e1, Option.bind_some]
  · rw [(e4.2.2 o (by omega)).1, (dD.2.2 o o2).1]; exact o3
  · rw [e4.cI (by omega) (fun q => olt q), dD.cI o2 (fun q => q)]; exact x2
  · rw [e4.cI (by omega) (fun q => by unfold at1 at q; omega), dD.cI (by omega) (fun q => q)]; exact x4 i hi
  · rcases e3 with w | w
    · rw [w] at q ⊢; exact r2 q
    · rcases q1.1.2.2.2.2 with z | z
      · omega
      · omega
  · rw [List.length_append, List.length_append, List.length_singleton, List.length_singleton, t1]
  · rw [List.length_append, List.length_singleton] at hi
    rcases Nat.lt_or_ge i ts.length with z | z
    · rw [getD_l z, getD_l (l := et) (by omega)]
      exact ((t2 i z).df dD nT0).df e4 nT1
    · obtain rfl : i = ts.length := by omega
      rw [getD_r (Nat.le_refl _), getD_r (l := et) (by omega), t1, Nat.sub_self]
      exact tk5.df e4 nT1
  · exact ((w2 i hi).df dD nT0).df e4 nT1
end
