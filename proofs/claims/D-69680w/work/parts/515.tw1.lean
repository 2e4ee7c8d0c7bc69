/-! ===== TABLES, 1: words in a text; the engine reads one ===== -/
/-- a sign that may stand in a word -/
def tch (f : Nat → Int32) (n a : Nat) : Bool := decide (a < n ∧ 32 ≤ bn (f a) ∧ bn (f a) ≤ 126)
theorem tch_t {f : Nat → Int32} {n a : Nat} : tch f n a = true ↔ a < n ∧ 32 ≤ bn (f a) ∧ bn (f a) ≤ 126 := by unfold tch; exact decide_eq_true_iff
/-- .. in a word without marks -/
def uch (f : Nat → Int32) (n a : Nat) : Bool := tch f n a && (!isC f n a 34 && !isC f n a 44)
/-- the end of a word without marks -/
def unq (f : Nat → Int32) (n : Nat) : Nat → Nat → Nat
  | 0, a => a
  | e + 1, a => if uch f n a = true then unq f n e (a + 1) else a
/-- the signs from a on, k of them -/
def sgs (f : Nat → Int32) (a k : Nat) : List Int32 := (List.range k).map (fun i => f (a + i))
/-- a word in marks, behind its first mark: where it is wrong, or what it means and its end -/
def qtd (f : Nat → Int32) (n : Nat) : Nat → Nat → List Int32 → Nat ⊕ (List Int32 × Nat)
  | 0, a, _ => .inl a
  | e + 1, a, x => if tch f n a = true then (if isC f n a 34 = true then (if isC f n (a + 1) 34 = true then qtd f n e (a + 2) (x ++ [f (a + 1)]) else .inr (x, a + 1)) else qtd f n e (a + 1) (x ++ [f a])) else .inl a
theorem unq_le {f : Nat → Int32} {n : Nat} : ∀ (e a : Nat), a ≤ unq f n e a ∧ (a ≤ n → unq f n e a ≤ n)
  | 0, a => ⟨Nat.le_refl _, id⟩
  | e + 1, a => by
    have e0 : unq f n (e + 1) a = if uch f n a = true then unq f n e (a + 1) else a := rfl
    rw [e0]
    by_cases c : uch f n a = true
    · rw [if_pos c]
      have k := unq_le (f := f) (n := n) e (a + 1)
      have := (tch_t.mp ((Bool.and_eq_true _ _).mp c).1).1
      exact ⟨by omega, fun _ => k.2 (by omega)⟩
    · rw [if_neg c]
      exact ⟨Nat.le_refl _, id⟩
theorem lk_lo {f : Nat → Int32} {n a : Nat} : lk f n a < 32 ↔ ¬ (a < n ∧ 32 ≤ bn (f a)) := by
  have hb : bn (f a) < 256 := Nat.mod_lt _ (by decide)
  unfold lk
  by_cases c : a < n
  · rw [if_pos c, show (32 : Int32) = iw ((32 : Nat) : Int) from rfl, iw_le4 (by omega) (by omega)]
    omega
  · rw [if_neg c]
    exact ⟨fun _ q => c q.1, fun _ => by decide⟩
theorem lk_hi {f : Nat → Int32} {n a : Nat} (c : a < n) : (126 : Int32) < lk f n a ↔ ¬ bn (f a) ≤ 126 := by
  have hb : bn (f a) < 256 := Nat.mod_lt _ (by decide)
  unfold lk
  rw [if_pos c, show (126 : Int32) = iw ((126 : Nat) : Int) from rfl, iw_le4 (by omega) (by omega)]
  omega
theorem lk34 {f : Nat → Int32} {n a : Nat} : lk f n a = 34 ↔ isC f n a 34 = true := lk_c (by decide)
theorem lk10 {f : Nat → Int32} {n a : Nat} : lk f n a = 10 ↔ isC f n a 10 = true := lk_c (by decide)
/-- the engine reads a table's text: it stands at a, the signs ms are kept -/
def TT (M : Mem) (f : Nat → Int32) (n a : Nat) (ms : List Int32) : Prop := ST M ∧ cR M 1037 772 = 1001 ∧ cI M 1037 773 = iw (n : Int) ∧ n ≤ 16000 ∧ cI M 1037 774 = iw (a : Int) ∧ a ≤ n ∧ (∀ i, i < n → cI M 1001 i = f i ∧ bt (f i)) ∧ cI M 1037 776 = iw (ms.length : Nat) ∧ ms.length ≤ a ∧ ∀ i, i < ms.length → cI M 1041 i = ms.getD i 0
def pTT : Nat → Nat → Prop := fun x i => (x = 1037 ∧ (i = 774 ∨ i = 776)) ∨ x = 1041
def SD (M M' : Mem) : Prop := Df pTT n2 n2 M M' ∧ m_nx M' = m_nx M ∧ m_sl M' = m_sl M
theorem SD.refl (M : Mem) : SD M M := ⟨Df.refl _ _ _ _, rfl, rfl⟩
theorem SD.trans {M N O : Mem} (s : SD M N) (t : SD N O) : SD M O := ⟨s.1.trans t.1, t.2.1.trans s.2.1, t.2.2.trans s.2.2⟩
theorem E_lookT {M : Mem} {f : Nat → Int32} {n a : Nat} {ms : List Int32} (t : TT M f n a ms) : F_X11_look M 1037 = some (lk f n a) := by
  obtain ⟨t1, t2, t3, t4, t5, t6, t7, -⟩ := t
  unfold F_X11_look F_X11_look_b28 lk
  simp only [g1037_774, g1037_773, t1, t3, t5, Option.bind_some]
  by_cases c : a < n
  · rw [if_pos (by rw [iw_le4 (by omega) (by omega)]; exact c), if_pos c]
    simp only [g1037_772, g1037_774, t1, t2, t5, ab_of (Or.inr (Or.inl (t1001 t1))) (l1001 t1) (show a < 16000 by omega) (by decide), Option.bind_some, bn_and, (t7 a c).1]
    rfl
  · rw [if_neg (by rw [iw_le4 (by omega) (by omega)]; exact c), if_neg c]
theorem E_goT {M : Mem} {f : Nat → Int32} {n a : Nat} {ms : List Int32} (t : TT M f n a ms) (c : a < n) : pi M 1037 774 (iw (a : Int) + 1) = some (wI M 1037 774 (iw ((a + 1 : Nat) : Int))) ∧ TT (wI M 1037 774 (iw ((a + 1 : Nat) : Int))) f n (a + 1) ms ∧ SD M (wI M 1037 774 (iw ((a + 1 : Nat) : Int))) := by
  obtain ⟨t1, t2, t3, t4, t5, t6, t7, t8, t9, t10⟩ := t
  refine ⟨by rw [iw_succ, p1037_774 t1], ⟨t1, t2, by rw [cI_wI, if_neg (by omega)]; exact t3, t4, by rw [cI_wI, if_pos ⟨rfl, rfl⟩], by omega, fun i hi => by rw [cI_wI, if_neg (by omega)]; exact t7 i hi, by rw [cI_wI, if_neg (by omega)]; exact t8, by omega, fun i hi => by rw [cI_wI, if_neg (by omega)]; exact t10 i hi⟩, Df.wI _ (Or.inl ⟨rfl, Or.inl rfl⟩), rfl, rfl⟩
theorem bt_i2b' {x : Int32} (h : bt x) : j_i2b x = x := by
  unfold bt at h
  refine Int32.toInt_inj.mp ?_
  unfold j_i2b
  rw [Int8.toInt_toInt32, Int32.toInt_toInt8, Int.bmod_eq_of_le (by omega) (by omega)]
theorem E_mean {M : Mem} {f : Nat → Int32} {n a : Nat} {ms : List Int32} (t : TT M f n a ms) (c : a < n) : ∃ M', F_X11_mean M 1037 = some M' ∧ TT M' f n (a + 1) (ms ++ [f a]) ∧ SD M M' := by
  obtain ⟨t1, t2, t3, t4, t5, t6, t7, t8, t9, t10⟩ := t
  have ft := (t7 a c).2
  obtain ⟨A, hA⟩ : ∃ A, A = wI M 1041 ms.length (f a) := ⟨_, rfl⟩
  obtain ⟨B, hB⟩ : ∃ B, B = wI A 1037 776 (iw ((ms.length + 1 : Nat) : Int)) := ⟨_, rfl⟩
  obtain ⟨C, hC⟩ : ∃ C, C = wI B 1037 774 (iw ((a + 1 : Nat) : Int)) := ⟨_, rfl⟩
  have sA : ST A := by rw [hA]; exact t1
  have sB : ST B := by rw [hB]; exact sA
  have hl : (ms ++ [f a]).length = ms.length + 1 := by rw [List.length_append, List.length_singleton]
  have cI' : ∀ x i, ¬ pTT x i → cI C x i = cI M x i := fun x i h => by
    unfold pTT at h
    rw [hC, cI_wI, if_neg (by omega), hB, cI_wI, if_neg (by omega), hA, cI_wI, if_neg (by omega)]
  have cA : cI A 1037 776 = iw (ms.length : Nat) := by rw [hA, cI_wI, if_neg (by omega)]; exact t8
  have cB : cI B 1037 774 = iw (a : Int) := by rw [hB, cI_wI, if_neg (by omega), hA, cI_wI, if_neg (by omega)]; exact t5
  refine ⟨C, ?_, ⟨by rw [hC]; exact sB, by rw [hC, hB, hA]; exact t2, by rw [cI' _ _ (by unfold pTT; omega)]; exact t3, t4, by rw [hC, cI_wI, if_pos ⟨rfl, rfl⟩], by omega, fun i hi => by rw [cI' _ _ (by unfold pTT; omega)]; exact t7 i hi, by rw [hC, cI_wI, if_neg (by omega), hB, cI_wI, if_pos ⟨rfl, rfl⟩, hl], by omega, fun i hi => ?_⟩, ?_, by rw [hC, hB, hA]; rfl, by rw [hC, hB, hA]; rfl⟩
  · unfold F_X11_mean
    simp only [g1037_775, g1037_776, g1037_772, g1037_774, t1, t2, t5, t8, ab_of (Or.inr (Or.inl (t1001 t1))) (l1001 t1) (show a < 16000 by omega) (by decide), (t7 a c).1, sb_of (f a) (t1041 t1) (l1041 t1) (show ms.length < 16000 by omega) (by decide), bt_i2b' ft, ← hA, Option.bind_some]
    simp only [g1037_776, sA, cA, iw_succ, p1037_776, ← hB, Option.bind_some]
    simp only [g1037_774, sB, cB, iw_succ, p1037_774, ← hC, Option.bind_some]
  · rw [hl] at hi
    rw [hC, cI_wI, if_neg (by omega), hB, cI_wI, if_neg (by omega), hA, cI_wI, List.getD_eq_getElem?_getD]
    by_cases k : i = ms.length
    · rw [if_pos ⟨rfl, k⟩, k, List.getElem?_append_right (Nat.le_refl _), Nat.sub_self]
      rfl
    · rw [if_neg (fun q => k q.2), List.getElem?_append_left (by omega), ← List.getD_eq_getElem?_getD]
      exact t10 i (by omega)
  · rw [hC, hB, hA]
    exact ((Df.wI (P := pTT) (Q := n2) (R := n2) (M := M) _ (Or.inr rfl)).trans (Df.wI _ (Or.inl ⟨rfl, Or.inr rfl⟩))).trans (Df.wI _ (Or.inl ⟨rfl, Or.inl rfl⟩))
theorem sgs_s (f : Nat → Int32) (a k : Nat) : sgs f a (k + 1) = f a :: sgs f (a + 1) k := by
  unfold sgs
  rw [List.range_succ_eq_map, List.map_cons, List.map_map, Nat.add_zero]
  refine congrArg (f a :: ·) (List.map_congr_left (fun i _ => ?_))
  show f (a + (i + 1)) = f (a + 1 + i)
  congr 1
  omega
/-- a word without marks -/
theorem E_unq {f : Nat → Int32} {n : Nat} {v1 v2 v3 : Int32} : ∀ (e N a : Nat) (ms : List Int32) (M : Mem), n ≤ a + e → TT M f n a ms → ∃ M', F_X11_cell_b39 (N + 1 + e) M 1037 v1 v2 v3 = F_X11_cell_b82 M' 1037 v1 v2 v3 ∧ TT M' f n (unq f n e a) (ms ++ sgs f a (unq f n e a - a)) ∧ SD M M'
  | 0, N, a, ms, M, he, t => by
    refine ⟨M, ?_, ?_, SD.refl M⟩
    · show F_X11_cell_b39_st (F_X11_cell_b39 N) M 1037 v1 v2 v3 = _
      unfold F_X11_cell_b39_st
      simp only [v1037, t.1, E_lookT t, Option.bind_some]
      rw [if_pos (lk_lo.mpr (fun q => by have := q.1; omega))]
    · have : unq f n 0 a = a := rfl
      rw [this, Nat.sub_self]
      show TT M f n a (ms ++ [])
      rw [List.append_nil]
      exact t
  | e + 1, N, a, ms, M, he, t => by
    have hs : F_X11_cell_b39 (N + 1 + (e + 1)) M 1037 v1 v2 v3 = F_X11_cell_b39_st (F_X11_cell_b39 (N + 1 + e)) M 1037 v1 v2 v3 := rfl
    have e0 : unq f n (e + 1) a = if uch f n a = true then unq f n e (a + 1) else a := rfl
    have stop : uch f n a ≠ true → F_X11_cell_b39 (N + 1 + (e + 1)) M 1037 v1 v2 v3 = F_X11_cell_b82 M 1037 v1 v2 v3 → ∃ M', F_X11_cell_b39 (N + 1 + (e + 1)) M 1037 v1 v2 v3 = F_X11_cell_b82 M' 1037 v1 v2 v3 ∧ TT M' f n (unq f n (e + 1) a) (ms ++ sgs f a (unq f n (e + 1) a - a)) ∧ SD M M' := fun h1 h2 => by
      refine ⟨M, h2, ?_, SD.refl M⟩
      rw [e0, if_neg h1, Nat.sub_self]
      show TT M f n a (ms ++ [])
      rw [List.append_nil]
      exact t
    by_cases c1 : lk f n a < 32
    · refine stop (fun q => lk_lo.mp c1 ?_) ?_
      · have := tch_t.mp ((Bool.and_eq_true _ _).mp q).1
        exact ⟨this.1, this.2.1⟩
      · rw [hs]
        unfold F_X11_cell_b39_st
        simp only [v1037, t.1, E_lookT t, Option.bind_some]
        rw [if_pos c1]
    · have c1' : a < n ∧ 32 ≤ bn (f a) := Classical.byContradiction (fun q => c1 (lk_lo.mpr q))
      by_cases c2 : (126 : Int32) < lk f n a
      · refine stop (fun q => (lk_hi c1'.1).mp c2 (tch_t.mp ((Bool.and_eq_true _ _).mp q).1).2.2) ?_
        rw [hs]
        unfold F_X11_cell_b39_st
        simp only [v1037, t.1, E_lookT t, Option.bind_some]
        rw [if_neg c1, if_pos c2]
      · have c2' : bn (f a) ≤ 126 := Classical.byContradiction (fun q => c2 ((lk_hi c1'.1).mpr q))
        by_cases c3 : lk f n a = 34
        · refine stop (fun q => ?_) ?_
          · have := ((Bool.and_eq_true _ _).mp ((Bool.and_eq_true _ _).mp q).2).1
            rw [lk34.mp c3] at this
            cases this
          · rw [hs]
            unfold F_X11_cell_b39_st
            simp only [v1037, t.1, E_lookT t, Option.bind_some]
            rw [if_neg c1, if_neg c2, if_pos c3]
        · by_cases c4 : lk f n a = 44
          · refine stop (fun q => ?_) ?_
            · have := ((Bool.and_eq_true _ _).mp ((Bool.and_eq_true _ _).mp q).2).2
              rw [lk44.mp c4] at this
              cases this
            · rw [hs]
              unfold F_X11_cell_b39_st
              simp only [v1037, t.1, E_lookT t, Option.bind_some]
              rw [if_neg c1, if_neg c2, if_neg c3, if_pos c4]
          · have hu : uch f n a = true := by
              have k3 : isC f n a 34 = false := Bool.eq_false_iff.mpr (fun q => c3 (lk34.mpr q))
              have k4 : isC f n a 44 = false := Bool.eq_false_iff.mpr (fun q => c4 (lk44.mpr q))
              unfold uch
              rw [k3, k4, tch_t.mpr ⟨c1'.1, c1'.2, c2'⟩]
              rfl
            obtain ⟨M1, m1, m2, m3⟩ := E_mean t c1'.1
            obtain ⟨M', f1, f2, f3⟩ := E_unq e N (a + 1) (ms ++ [f a]) M1 (by omega) m2
            refine ⟨M', ?_, ?_, m3.trans f3⟩
            · rw [hs]
              unfold F_X11_cell_b39_st
              simp only [v1037, t.1, E_lookT t, Option.bind_some]
              rw [if_neg c1, if_neg c2, if_neg c3, if_neg c4, m1]
              exact f1
            · have k := unq_le (f := f) (n := n) e (a + 1)
              rw [e0, if_pos hu, show unq f n e (a + 1) - a = (unq f n e (a + 1) - (a + 1)) + 1 by omega, sgs_s]
              rw [List.append_assoc] at f2
              exact f2
/-- a word in marks -/
theorem E_qtd {f : Nat → Int32} {n : Nat} : ∀ (e N a : Nat) (ms x : List Int32) (M : Mem), n + 1 ≤ a + e → TT M f n a (ms ++ x) → match qtd f n e a x with
    | .inl p => ∃ M' y, F_X11_quoted_b12 (N + 1 + e) M 1037 1 = F_X11_quoted_b33 M' 1037 ∧ TT M' f n p y ∧ SD M M'
    | .inr q => ∃ M', F_X11_quoted_b12 (N + 1 + e) M 1037 1 = some (.inl M') ∧ TT M' f n q.2 (ms ++ q.1) ∧ SD M M'
  | 0, N, a, ms, x, M, he, t => by have := t.2.2.2.2.2.1; omega
  | e + 1, N, a, ms, x, M, he, t => by
    have hs : F_X11_quoted_b12 (N + 1 + (e + 1)) M 1037 1 = F_X11_quoted_b12_st (F_X11_quoted_b12 (N + 1 + e)) M 1037 1 := rfl
    have n1 : ¬ (1 : Int32) = 0 := by decide
    have z1 : (0 : Int32) = 0 := rfl
    unfold qtd
    rw [hs]
    unfold F_X11_quoted_b12_st F_X11_quoted_b79 F_X11_quoted_b88
    rw [if_neg n1]
    simp only [v1037, t.1, E_lookT t, Option.bind_some]
    by_cases c : tch f n a = true
    · obtain ⟨k1, k2, k3⟩ := tch_t.mp c
      rw [if_pos c, if_neg (fun q => lk_lo.mp q ⟨k1, k2⟩), if_neg (fun q => (lk_hi k1).mp q k3)]
      by_cases c2 : isC f n a 34 = true
      · rw [if_pos c2, if_pos (lk34.mpr c2)]
        obtain ⟨g1, g2, g3⟩ := E_goT t k1
        simp only [g1037_774, t.1, t.2.2.2.2.1, g1, g2.1, v1037, E_lookT g2, Option.bind_some]
        by_cases c3 : isC f n (a + 1) 34 = true
        · have k4 := (isC_t.mp c3).1
          rw [if_pos c3, if_pos (lk34.mpr c3), if_neg n1]
          obtain ⟨M1, m1, m2, m3⟩ := E_mean g2 k4
          rw [List.append_assoc] at m2
          have ih := E_qtd (f := f) (n := n) e N (a + 2) ms (x ++ [f (a + 1)]) M1 (by omega) m2
          simp only [m1, Option.bind_some]
          generalize qtd f n e (a + 2) (x ++ [f (a + 1)]) = w at ih ⊢
          rcases w with p | q
          · obtain ⟨M', y, f1, f2, f3⟩ := ih
            exact ⟨M', y, f1, f2, g3.trans (m3.trans f3)⟩
          · obtain ⟨M', f1, f2, f3⟩ := ih
            exact ⟨M', f1, f2, g3.trans (m3.trans f3)⟩
        · rw [if_neg c3, if_neg (fun q => c3 (lk34.mp q)), if_pos trivial]
          refine ⟨_, ?_, g2, g3⟩
          rw [show N + 1 + e = N + e + 1 by omega]
          show F_X11_quoted_b12_st (F_X11_quoted_b12 (N + e)) _ 1037 0 = _
          unfold F_X11_quoted_b12_st
          rw [if_pos z1]
      · rw [if_neg c2, if_neg (fun q => c2 (lk34.mp q))]
        obtain ⟨M1, m1, m2, m3⟩ := E_mean t k1
        rw [List.append_assoc] at m2
        have ih := E_qtd (f := f) (n := n) e N (a + 1) ms (x ++ [f a]) M1 (by omega) m2
        simp only [m1, Option.bind_some]
        generalize qtd f n e (a + 1) (x ++ [f a]) = w at ih ⊢
        rcases w with p | q
        · obtain ⟨M', y, f1, f2, f3⟩ := ih
          exact ⟨M', y, f1, f2, m3.trans f3⟩
        · obtain ⟨M', f1, f2, f3⟩ := ih
          exact ⟨M', f1, f2, m3.trans f3⟩
    · rw [if_neg c]
      refine ⟨M, _, ?_, t, SD.refl M⟩
      by_cases c1 : lk f n a < 32
      · rw [if_pos c1]
      · have c1' : a < n ∧ 32 ≤ bn (f a) := Classical.byContradiction (fun q => c1 (lk_lo.mpr q))
        rw [if_neg c1, if_pos ((lk_hi c1'.1).mpr (fun q => c (tch_t.mpr ⟨c1'.1, c1'.2, q⟩)))]
