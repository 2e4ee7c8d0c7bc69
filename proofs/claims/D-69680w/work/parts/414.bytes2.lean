/-! ===== BYTES, 2: a grid's ===== -/
def szl (z : Nat → Nat) : Nat → Nat → List Int32
  | 0, _ => []
  | e + 1, i => nbs (iw (z i)).toInt64 2 ++ szl z e (i + 1)
def cel (val : Nat → Int64) (w : Nat) : Nat → Nat → List Int32
  | 0, _ => []
  | e + 1, i => nbs (val i) w ++ cel val w e (i + 1)
theorem szl_len (z : Nat → Nat) : ∀ e i, (szl z e i).length = 2 * e
  | 0, _ => rfl
  | e + 1, i => by
    show (nbs (iw (z i)).toInt64 2 ++ szl z e (i + 1)).length = _
    rw [List.length_append, nbs_len, szl_len z e]
    omega
theorem cel_len (val : Nat → Int64) (w : Nat) : ∀ e i, (cel val w e i).length = w * e
  | 0, _ => rfl
  | e + 1, i => by
    show (nbs (val i) w ++ cel val w e (i + 1)).length = _
    rw [List.length_append, nbs_len, cel_len val w e, Nat.mul_succ]
    omega
/-- how many bytes a cell has -/
def wdt (k : Int32) : Nat := if 1 < k then (if 3 < k then (if k = 4 then 4 else if k = 6 then 4 else 8) else 2) else 1
theorem wdt_eq {k : Int32} (hk : Lk k) : F_X20_width k = some (iw (wdt k : Nat)) ∧ F_X16_bytesOf_2 k = some (iw (wdt k : Nat)) ∧ 0 < wdt k ∧ wdt k ≤ 8 := by
  rcases hk with rfl | rfl | rfl | rfl | rfl | rfl | rfl | rfl <;> exact ⟨rfl, rfl, by decide, by decide⟩
def gby (k : Int32) (n : Nat) (z : Nat → Nat) (val : Nat → Int64) : List Int32 := [j_i2b 71, j_i2b 82, j_i2b k, j_i2b (iw (n : Int))] ++ szl z n 0 ++ cel val (wdt k) (prd z n) 0
theorem gby_len (k : Int32) (n : Nat) (z : Nat → Nat) (val : Nat → Int64) : (gby k n z val).length = 4 + 2 * n + wdt k * prd z n := by
  unfold gby
  rw [List.length_append, List.length_append, szl_len, cel_len]
  rfl
/-- with its check -/
def gbc (k : Int32) (n : Nat) (z : Nat → Nat) (val : Nat → Int64) : List Int32 := gby k n z val ++ nbs (crr (fun i => (gby k n z val).getD i 0) (gby k n z val).length 0 (-1)).toInt64 4
theorem gbc_len (k : Int32) (n : Nat) (z : Nat → Nat) (val : Nat → Int64) : (gbc k n z val).length = 8 + 2 * n + wdt k * prd z n := by
  unfold gbc
  rw [List.length_append, gby_len, nbs_len]
  omega
theorem qt_atO {o cap : Nat} (ob : OUT o cap) : qt (atO o) := fun a i q1 q2 => by unfold atO at q2; unfold OUT at ob; omega
theorem mr_dec {p q : Prop} [Decidable p] [Decidable q] (h : p ↔ q) : mr (decide p) = mr (decide q) := by
  by_cases c : p
  · rw [decide_eq_true c, decide_eq_true (h.mp c)]
  · rw [decide_eq_false c, decide_eq_false (fun x => c (h.mpr x))]
section GBY
variable {a b : Nat} {k : Int32} {n : Nat} {z : Nat → Nat} {s t : Nat → Int32} {x y : Int32} {c d L : Nat} {p : Int32} {o cap : Nat} {val : Nat → Int64}
theorem E_wsz (ob : OUT o cap) {st : Int32} : ∀ (e N i : Nat) (vs : List Int32) (M : Mem), i + e = n → ST M → GP M a b k n z s t x y c d L p → EO M o cap vs → ∃ M', F_X13_write_b54 (N + e) M a o st (mr (decide (vs.length ≤ cap))) (iw (i : Int)) = F_X13_write_b54 N M' a o st (mr (decide ((vs ++ szl z e i).length ≤ cap))) (iw (n : Int)) ∧ EO M' o cap (vs ++ szl z e i) ∧ Df (atO o) n2 n2 M M' ∧ m_nx M' = m_nx M ∧ m_sl M' = m_sl M ∧ ST M' := by
  intro e
  induction e with
  | zero =>
    intro N i vs M hi sM g eo
    have : i = n := by omega
    subst this
    show ∃ M', F_X13_write_b54 N M a o st (mr (decide (vs.length ≤ cap))) (iw (i : Int)) = F_X13_write_b54 N M' a o st (mr (decide ((vs ++ []).length ≤ cap))) (iw (i : Int)) ∧ EO M' o cap (vs ++ []) ∧ _
    rw [List.append_nil]
    exact ⟨M, rfl, eo, Df.refl _ _ _ _, rfl, rfl, sM⟩
  | succ e ih =>
    intro N i vs M hi sM g eo
    have hn := g.2.2.2.1
    obtain ⟨A, a1, a2, a3, a4, a5, a6⟩ := E_number (w := 2) (v := (iw (z i)).toInt64) ob sM eo (by decide) (by decide)
    obtain ⟨M', f1, f2, f3, f4, f5, f6⟩ := ih N (i + 1) _ A (by omega) a6 (g.df a3 (qt_atO ob) qt_n2 qt_n2) a2
    rw [List.append_assoc] at f1 f2
    refine ⟨M', ?_, f2, a3.trans f3, by omega, by omega, f6⟩
    rw [show vs ++ szl z (e + 1) i = vs ++ (nbs (iw (z i)).toInt64 2 ++ szl z e (i + 1)) from rfl, ← f1]
    show F_X13_write_b54_st (F_X13_write_b54 (N + e)) M _ _ _ _ _ = _
    unfold F_X13_write_b54_st F_X13_write_b87 F_X13_write_b88
    have a1' : F_X15_number M o (iw (z i)).toInt64 2 = some (mr (decide (vs.length + 2 ≤ cap)), A) := a1
    simp only [gi_of g.1.2.2.1 (show x_fi 22 1409 = true by decide), g.1.2.2.2.2.1, gr_of g.1.2.2.1 (show x_fr 22 1410 = true by decide), g.1.2.2.2.2.2.1.ai hn (show i < n by omega), (ob.f sM).2.2.2.1, a1', Option.bind_some, iw_succ]
    rw [if_pos (by rw [iw_le4 (by omega) (by omega)]; omega)]
    have hl : (vs ++ nbs (iw (z i)).toInt64 2).length = vs.length + 2 := by rw [List.length_append, nbs_len]
    rw [hl]
    by_cases c2 : vs.length + 2 ≤ cap
    · rw [decide_eq_true c2, decide_eq_true (show vs.length ≤ cap by omega)]
      rfl
    · rw [decide_eq_false c2]
      rfl
theorem E_wce (ob : OUT o cap) {st : Int32} (hw : 0 < wdt k) (hw8 : wdt k ≤ 8) (hp : prd z n ≤ 100000) : ∀ (e N i : Nat) (vs : List Int32) (M : Mem), i + e = prd z n → ST M → GP M a b k n z s t x y c d L p → (∀ q, q < prd z n → cJ M c (gpos n z s x q) = val q) → EO M o cap vs → ∃ M', F_X13_write_b113 (N + 1 + e) M a o st (mr (decide (vs.length ≤ cap))) (iw (prd z n : Nat)) (iw (wdt k : Nat)) (iw (i : Int)) = F_X13_write_b143 M' o st (mr (decide ((vs ++ cel val (wdt k) e i).length ≤ cap))) ∧ EO M' o cap (vs ++ cel val (wdt k) e i) ∧ Df (atO o) n2 n2 M M' ∧ m_nx M' = m_nx M ∧ m_sl M' = m_sl M ∧ ST M' := by
  intro e
  induction e with
  | zero =>
    intro N i vs M hi sM g hv eo
    show ∃ M', F_X13_write_b113 (N + 1) M a o st (mr (decide (vs.length ≤ cap))) (iw (prd z n : Nat)) (iw (wdt k : Nat)) (iw (i : Int)) = F_X13_write_b143 M' o st (mr (decide ((vs ++ []).length ≤ cap))) ∧ EO M' o cap (vs ++ []) ∧ _
    rw [List.append_nil]
    refine ⟨M, ?_, eo, Df.refl _ _ _ _, rfl, rfl, sM⟩
    show F_X13_write_b113_st (F_X13_write_b113 N) M _ _ _ _ _ _ _ = _
    unfold F_X13_write_b113_st
    rw [if_neg (by rw [iw_le4 (by omega) (by omega)]; omega)]
  | succ e ih =>
    intro N i vs M hi sM g hv eo
    have cp := g.2.2.2.2.2.2.2.1
    have hlt : i < prd z n := by omega
    by_cases c1 : vs.length ≤ cap
    · have gg := (g.get hlt).2.1
      rw [hv i hlt] at gg
      obtain ⟨A, a1, a2, a3, a4, a5, a6⟩ := E_number (w := wdt k) (v := val i) ob sM eo hw8 hw
      obtain ⟨M', f1, f2, f3, f4, f5, f6⟩ := ih N (i + 1) _ A (by omega) a6 (g.df a3 (qt_atO ob) qt_n2 qt_n2) (fun q hq => by rw [a3.cJ cp.2.1 (fun q => q)]; exact hv q hq) a2
      rw [List.append_assoc] at f1 f2
      refine ⟨M', ?_, f2, a3.trans f3, by omega, by omega, f6⟩
      rw [show vs ++ cel val (wdt k) (e + 1) i = vs ++ (nbs (val i) (wdt k) ++ cel val (wdt k) e (i + 1)) from rfl, ← f1]
      show F_X13_write_b113_st (F_X13_write_b113 (N + 1 + e)) M _ _ _ _ _ _ _ = _
      unfold F_X13_write_b113_st
      have hl : (vs ++ nbs (val i) (wdt k)).length = vs.length + wdt k := by rw [List.length_append, nbs_len]
      rw [if_pos (by rw [iw_le4 (by omega) (by omega)]; exact hlt), decide_eq_true c1, if_neg (by decide), hl]
      simp only [vg_of g.1.2.2.1 (show x_isa 22 22 = true by decide), gg, (ob.f sM).2.2.2.1, a1, iw_succ, Option.bind_some]
    · refine ⟨M, ?_, eo.full (by omega) _, Df.refl _ _ _ _, rfl, rfl, sM⟩
      show F_X13_write_b113_st (F_X13_write_b113 (N + 1 + e)) M _ _ _ _ _ _ _ = _
      unfold F_X13_write_b113_st
      rw [if_pos (by rw [iw_le4 (by omega) (by omega)]; exact hlt), decide_eq_false c1, if_pos (by decide), decide_eq_false (by rw [List.length_append]; omega)]
theorem E_wgrid {M : Mem} {vs : List Int32} (ob : OUT o cap) (sM : ST M) (g : GP M a b k n z s t x y c d L p) (hv : ∀ q, q < prd z n → cJ M c (gpos n z s x q) = val q) (eo : EO M o cap vs) (h0 : vs.length ≤ cap) :
    ∃ M', F_X13_write M a o = some (mr (decide (vs.length + (gbc k n z val).length ≤ cap)), M') ∧ Df (atO o) n2 n2 M M' ∧ m_nx M' = m_nx M ∧ m_sl M' = m_sl M ∧ ST M' ∧ (vs.length + (gbc k n z val).length ≤ cap → EO M' o cap (vs ++ gbc k n z val)) ∧ (vs.length + (gby k n z val).length ≤ cap → cI M' o 1025 = iw ((min (vs.length + (gbc k n z val).length) cap : Nat) : Int)) ∧ (∀ i, i < vs.length → cI M' (o + 1) i = vs.getD i 0) := by
  have hxN : xN = 1099511627776 := rfl
  have hn := g.2.2.2.1
  have hk := g.2.2.1
  have hp := g.2.2.2.2.2.1
  obtain ⟨w1, w2, w3, w4⟩ := wdt_eq hk
  obtain ⟨f1, f2, f3, f4, f5, f6, f7, f8, f9⟩ := ob.f sM
  have q4 := qt_atO ob
  -- the head
  obtain ⟨st, hst⟩ : ∃ st, st = iw (vs.length : Nat) := ⟨_, rfl⟩
  have e25 : cI M o 1025 = st := by rw [eo.1, hst, Nat.min_eq_left h0]
  have head : ∃ M1, F_X13_write M a o = F_X13_write_b54 xN M1 a o st (mr (decide ((vs ++ [j_i2b 71, j_i2b 82, j_i2b k, j_i2b (iw (n : Int))]).length ≤ cap))) (iw ((0 : Nat) : Int)) ∧ EO M1 o cap (vs ++ [j_i2b 71, j_i2b 82, j_i2b k, j_i2b (iw (n : Int))]) ∧ Df (atO o) n2 n2 M M1 ∧ m_nx M1 = m_nx M ∧ m_sl M1 = m_sl M ∧ ST M1 := by
    have hl4 : (vs ++ [j_i2b 71, j_i2b 82, j_i2b k, j_i2b (iw (n : Int))]).length = vs.length + 4 := by rw [List.length_append]; rfl
    rw [hl4]
    have m1 : ¬ mr true = 0 := by decide
    have m0 : mr false = 0 := by decide
    obtain ⟨A, a1, a2, a3, a4, a5⟩ := E_putb ob sM eo 71
    have sA : ST A := sM.n a3
    have gA := g.df a3 q4 qt_n2 qt_n2
    have la : (vs ++ [j_i2b 71]).length = vs.length + 1 := by rw [List.length_append, List.length_singleton]
    by_cases c1 : vs.length < cap
    · rw [decide_eq_true c1] at a1
      obtain ⟨B, b1, b2, b3, b4, b5⟩ := E_putb ob sA a2 82
      rw [la] at b1
      have sB : ST B := sA.n b3
      have gB := gA.df b3 q4 qt_n2 qt_n2
      have lb : (vs ++ [j_i2b 71] ++ [j_i2b 82]).length = vs.length + 2 := by rw [List.length_append, la, List.length_singleton]
      by_cases c2 : vs.length + 1 < cap
      · rw [decide_eq_true c2] at b1
        obtain ⟨C, c1', c2', c3', c4', c5'⟩ := E_putb ob sB b2 k
        rw [lb] at c1'
        have sC : ST C := sB.n c3'
        have gC := gB.df c3' q4 qt_n2 qt_n2
        have lc : (vs ++ [j_i2b 71] ++ [j_i2b 82] ++ [j_i2b k]).length = vs.length + 3 := by rw [List.length_append, lb, List.length_singleton]
        by_cases c3 : vs.length + 2 < cap
        · rw [decide_eq_true c3] at c1'
          obtain ⟨D, d1, d2, d3, d4, d5⟩ := E_putb ob sC c2' (iw (n : Int))
          rw [lc] at d1
          have sD : ST D := sC.n d3
          refine ⟨D, ?_, ?_, ((a3.trans b3).trans c3').trans d3, by omega, by omega, sD⟩
          · unfold F_X13_write F_X13_write_b49 F_X13_write_b50
            simp only [f2, e25, f4, a1, m1, (ob.f sA).2.2.2.1, b1, gi_of gB.1.2.2.1 (show x_fi 22 1408 = true by decide), gB.1.2.2.2.1, (ob.f sB).2.2.2.1, c1', gi_of gC.1.2.2.1 (show x_fi 22 1409 = true by decide), gC.1.2.2.2.2.1, (ob.f sC).2.2.2.1, d1, Option.bind_some, if_false]
            by_cases c4 : vs.length + 3 < cap
            · rw [decide_eq_true c4, if_neg m1, decide_eq_true (show vs.length + 4 ≤ cap by omega)]
              rfl
            · rw [decide_eq_false c4, if_pos m0, decide_eq_false (show ¬ vs.length + 4 ≤ cap by omega)]
              rfl
          · have : vs ++ [j_i2b 71] ++ [j_i2b 82] ++ [j_i2b k] ++ [j_i2b (iw (n : Int))] = vs ++ [j_i2b 71, j_i2b 82, j_i2b k, j_i2b (iw (n : Int))] := by simp
            rw [← this]
            exact d2
        · rw [decide_eq_false c3] at c1'
          refine ⟨C, ?_, ?_, (a3.trans b3).trans c3', by omega, by omega, sC⟩
          · unfold F_X13_write F_X13_write_b49 F_X13_write_b50
            simp only [f2, e25, f4, a1, m1, (ob.f sA).2.2.2.1, b1, gi_of gB.1.2.2.1 (show x_fi 22 1408 = true by decide), gB.1.2.2.2.1, (ob.f sB).2.2.2.1, c1', m0, Option.bind_some, if_false, if_true]
            rw [decide_eq_false (show ¬ vs.length + 4 ≤ cap by omega)]
            rfl
          · have : vs ++ [j_i2b 71] ++ [j_i2b 82] ++ [j_i2b k] ++ [j_i2b (iw (n : Int))] = vs ++ [j_i2b 71, j_i2b 82, j_i2b k, j_i2b (iw (n : Int))] := by simp
            rw [← this]
            exact c2'.full (by omega) _
      · rw [decide_eq_false c2] at b1
        refine ⟨B, ?_, ?_, a3.trans b3, by omega, by omega, sB⟩
        · unfold F_X13_write F_X13_write_b49 F_X13_write_b50
          simp only [f2, e25, f4, a1, m1, (ob.f sA).2.2.2.1, b1, m0, Option.bind_some, if_false, if_true]
          rw [decide_eq_false (show ¬ vs.length + 4 ≤ cap by omega)]
          rfl
        · have : vs ++ [j_i2b 71] ++ [j_i2b 82] ++ [j_i2b k, j_i2b (iw (n : Int))] = vs ++ [j_i2b 71, j_i2b 82, j_i2b k, j_i2b (iw (n : Int))] := by simp
          rw [← this]
          exact b2.full (by omega) _
    · rw [decide_eq_false c1] at a1
      refine ⟨A, ?_, ?_, a3, a4, a5, sA⟩
      · unfold F_X13_write F_X13_write_b49 F_X13_write_b50
        simp only [f2, e25, f4, a1, m0, Option.bind_some, if_true]
        rw [decide_eq_false (show ¬ vs.length + 4 ≤ cap by omega)]
        rfl
      · have : vs ++ [j_i2b 71] ++ [j_i2b 82, j_i2b k, j_i2b (iw (n : Int))] = vs ++ [j_i2b 71, j_i2b 82, j_i2b k, j_i2b (iw (n : Int))] := by simp
        rw [← this]
        exact a2.full (by omega) _
  obtain ⟨M1, h1, h2, h3, h4, h5, s1⟩ := head
  have g1 := g.df h3 q4 qt_n2 qt_n2
  have cp := g.2.2.2.2.2.2.2.1
  obtain ⟨N1, hN1⟩ : ∃ N1, N1 + 1 + n = xN := ⟨xN - 1 - n, by omega⟩
  obtain ⟨M2, k1, k2, k3, k4, k5, s2⟩ := E_wsz ob (st := st) n (N1 + 1) 0 _ M1 (by omega) s1 g1 h2
  rw [hN1] at k1
  have g2 := g1.df k3 q4 qt_n2 qt_n2
  obtain ⟨N2, hN2⟩ : ∃ N2, N2 + 1 + prd z n = xN := ⟨xN - 1 - prd z n, by omega⟩
  obtain ⟨M3, j1, j2, j3, j4, j5, s3⟩ := E_wce (val := val) ob (st := st) w3 w4 hp (prd z n) N2 0 _ M2 (by omega) s2 g2 (fun q hq => by have := cp.2.1; rw [k3.cJ (by omega) (fun q => q), h3.cJ cp.2.1 (fun q => q)]; exact hv q hq) k2
  rw [hN2] at j1
  have eg : vs ++ [j_i2b 71, j_i2b 82, j_i2b k, j_i2b (iw (n : Int))] ++ szl z n 0 ++ cel val (wdt k) (prd z n) 0 = vs ++ gby k n z val := by
    unfold gby
    rw [List.append_assoc, List.append_assoc, List.append_assoc]
  rw [eg] at j1 j2
  have run : F_X13_write M a o = F_X13_write_b143 M3 o st (mr (decide ((vs ++ gby k n z val).length ≤ cap))) := by
    rw [h1, k1, ← j1]
    show F_X13_write_b54_st (F_X13_write_b54 N1) M2 _ _ _ _ _ = _
    unfold F_X13_write_b54_st
    simp only [gi_of g2.1.2.2.1 (show x_fi 22 1409 = true by decide), g2.1.2.2.2.2.1, Option.bind_some]
    rw [if_neg (by rw [iw_le4 (by omega) (by omega)]; omega)]
    simp only [vg_of g2.1.2.2.1 (show x_isa 22 22 = true by decide), E_count g2.1 hn, gi_of g2.1.2.2.1 (show x_fi 22 1408 = true by decide), g2.1.2.2.2.1, w1, Option.bind_some]
    rfl
  have hlg : (vs ++ gby k n z val).length = vs.length + (gby k n z val).length := List.length_append
  have hlc : (gbc k n z val).length = (gby k n z val).length + 4 := by rw [gbc_len, gby_len]; omega
  have d13 : Df (atO o) n2 n2 M M3 := (h3.trans k3).trans j3
  rw [hlg] at run
  by_cases c1 : vs.length + (gby k n z val).length ≤ cap
  · obtain ⟨r1, r2, r3, r4, r5, r6, -, -, -⟩ := ob.f s3
    have e26 : cI M3 o 1025 = iw ((vs.length + (gby k n z val).length : Nat) : Int) := by rw [j2.1, hlg, Nat.min_eq_left c1]
    have ckE := E_check (fr := vs.length) (to := vs.length + (gby k n z val).length) r5 r6 c1 f7 (by omega)
    have ckc : crr (cI M3 (o + 1)) (vs.length + (gby k n z val).length - vs.length) vs.length (-1) = crr (fun i => (gby k n z val).getD i 0) (gby k n z val).length 0 (-1) := by
      rw [show vs.length + (gby k n z val).length - vs.length = (gby k n z val).length by omega]
      refine crr_congr _ _ _ _ (fun q hq => ?_)
      rw [j2.2 (vs.length + q) (by rw [hlg, Nat.min_eq_left c1]; omega), Nat.zero_add, List.getD_eq_getElem?_getD, List.getElem?_append_right (by omega), show vs.length + q - vs.length = q by omega, ← List.getD_eq_getElem?_getD]
    rw [ckc] at ckE
    obtain ⟨M4, y1, y2, y3, y4, y5, y6⟩ := E_number (w := 4) (v := (crr (fun i => (gby k n z val).getD i 0) (gby k n z val).length 0 (-1)).toInt64) ob s3 j2 (by decide) (by decide)
    have y1' : F_X15_number M3 o (crr (fun i => (gby k n z val).getD i 0) (gby k n z val).length 0 (-1)).toInt64 4 = some (mr (decide ((vs ++ gby k n z val).length + 4 ≤ cap)), M4) := y1
    have eo4 : EO M4 o cap (vs ++ gbc k n z val) := by
      unfold gbc
      rw [← List.append_assoc]
      exact y2
    refine ⟨M4, ?_, d13.trans y3, by omega, by omega, y6, fun _ => eo4, fun _ => by rw [eo4.1, List.length_append], fun i hi => by rw [eo4.2 i (by rw [List.length_append]; omega), getD_app hi]⟩
    rw [run, decide_eq_true c1]
    unfold F_X13_write_b143 F_X13_write_b172 F_X13_write_b173
    rw [if_neg (by decide)]
    simp only [r1, r2, e26, hst, ckE, r4, y1', Option.bind_some]
    rw [hlg]
    by_cases c2 : vs.length + (gby k n z val).length + 4 ≤ cap
    · rw [decide_eq_true c2, if_neg (by decide), decide_eq_true (show vs.length + (gbc k n z val).length ≤ cap by omega)]
      rfl
    · rw [decide_eq_false c2, if_pos (by decide), decide_eq_false (show ¬ vs.length + (gbc k n z val).length ≤ cap by omega)]
      rfl
  · refine ⟨M3, ?_, d13, by omega, by omega, s3, fun q => by omega, fun q => by omega, fun i hi => by rw [j2.2 i (by rw [List.length_append]; omega), getD_app hi]⟩
    rw [run, decide_eq_false c1]
    unfold F_X13_write_b143 F_X13_write_b172 F_X13_write_b173
    rw [if_pos (by decide), decide_eq_false (show ¬ vs.length + (gbc k n z val).length ≤ cap by omega)]
    rfl
end GBY
