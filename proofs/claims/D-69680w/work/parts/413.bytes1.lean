/-! ===== BYTES, 1: writing them ===== -/
/-- an Out of the engine and its row -/
def OUT (o : Nat) (cap : Nat) : Prop := (o = 1064 ∧ cap = 30000) ∨ (o = 1066 ∧ cap = 30000) ∨ (o = 1052 ∧ cap = 60000) ∨ (o = 1054 ∧ cap = 60000)
theorem OUT.f {o cap : Nat} (b : OUT o cap) {M : Mem} (h : ST M) : gr M o 1024 = some (o + 1) ∧ gi M o 1025 = some (cI M o 1025) ∧ (∀ v, pi M o 1025 v = some (wI M o 1025 v)) ∧ vg M o 16 = some () ∧ m_tg M (o + 1) = 1002 ∧ m_ln M (o + 1) = cap ∧ cap ≤ 60000 ∧ 30000 ≤ cap ∧ o < 1334 := by
  rcases b with ⟨rfl, rfl⟩ | ⟨rfl, rfl⟩ | ⟨rfl, rfl⟩ | ⟨rfl, rfl⟩
  · exact ⟨g1064_1024 h, g1064_1025 h, p1064_1025 h, v1064 h, t1065 h, l1065 h, by decide, by decide, by decide⟩
  · exact ⟨g1066_1024 h, g1066_1025 h, p1066_1025 h, v1066 h, t1067 h, l1067 h, by decide, by decide, by decide⟩
  · exact ⟨g1052_1024 h, g1052_1025 h, p1052_1025 h, v1052 h, t1053 h, l1053 h, by decide, by decide, by decide⟩
  · exact ⟨g1054_1024 h, g1054_1025 h, p1054_1025 h, v1054 h, t1055 h, l1055 h, by decide, by decide, by decide⟩
/-- what has been put, of which what is beyond the bound is lost -/
def EO (M : Mem) (o cap : Nat) (vs : List Int32) : Prop := cI M o 1025 = iw ((min vs.length cap : Nat) : Int) ∧ ∀ i, i < min vs.length cap → cI M (o + 1) i = vs.getD i 0
def atO (o : Nat) : Nat → Nat → Prop := fun a i => (a = o ∧ i = 1025) ∨ a = o + 1
theorem getD_snoc {vs : List Int32} {b : Int32} {i : Nat} : (vs ++ [b]).getD i 0 = if i = vs.length then b else vs.getD i 0 := by
  rw [List.getD_eq_getElem?_getD, List.getD_eq_getElem?_getD]
  by_cases c : i = vs.length
  · rw [if_pos c, c, List.getElem?_append_right (Nat.le_refl _), Nat.sub_self]
    rfl
  · rw [if_neg c]
    rcases Nat.lt_or_ge i vs.length with q | q
    · rw [List.getElem?_append_left q]
    · rw [List.getElem?_append_right q, List.getElem?_eq_none (by rw [List.length_singleton]; omega), List.getElem?_eq_none q]
theorem getD_app {vs ys : List Int32} {i : Nat} (h : i < vs.length) : (vs ++ ys).getD i 0 = vs.getD i 0 := by
  rw [List.getD_eq_getElem?_getD, List.getD_eq_getElem?_getD, List.getElem?_append_left h]
/-- a full row stays what it is -/
theorem EO.full {M : Mem} {o cap : Nat} {vs : List Int32} (h : EO M o cap vs) (hf : cap ≤ vs.length) (ys : List Int32) : EO M o cap (vs ++ ys) := by
  have hl : (vs ++ ys).length = vs.length + ys.length := List.length_append
  refine ⟨by rw [h.1, hl, Nat.min_eq_right hf, Nat.min_eq_right (by omega)], fun i hi => ?_⟩
  rw [hl, Nat.min_eq_right (by omega)] at hi
  rw [getD_app (by omega)]
  exact h.2 i (by rw [Nat.min_eq_right hf]; exact hi)
theorem i2b_i2b (v : Int32) : j_i2b (j_i2b v) = j_i2b v := by
  unfold j_i2b
  exact Int32.toInt_inj.mp (by simp)
theorem E_putb {M : Mem} {o cap : Nat} {vs : List Int32} (ob : OUT o cap) (h : ST M) (e : EO M o cap vs) (b : Int32) : ∃ M', F_X15_put M o b = some (mr (decide (vs.length < cap)), M') ∧ EO M' o cap (vs ++ [j_i2b b]) ∧ Df (atO o) n2 n2 M M' ∧ m_nx M' = m_nx M ∧ m_sl M' = m_sl M := by
  obtain ⟨f1, f2, f3, f4, f5, f6, f7, f8, f9⟩ := ob.f h
  have an1 : an M (o + 1) = some (iw (cap : Int)) := an_of f5 (by decide) f6
  by_cases c : vs.length < cap
  · obtain ⟨A, hA⟩ : ∃ A, A = wI M (o + 1) vs.length (j_i2b b) := ⟨_, rfl⟩
    obtain ⟨B, hB⟩ : ∃ B, B = wI A o 1025 (iw ((vs.length + 1 : Nat) : Int)) := ⟨_, rfl⟩
    have sA : ST A := by rw [hA]; exact h
    obtain ⟨-, g2, g3, -⟩ := ob.f sA
    have e1 : cI M o 1025 = iw (vs.length : Nat) := by rw [e.1, Nat.min_eq_left (by omega)]
    have cA : cI A o 1025 = iw (vs.length : Nat) := by rw [hA, cI_wI, if_neg (fun q => by omega)]; exact e1
    have hl : (vs ++ [j_i2b b]).length = vs.length + 1 := by rw [List.length_append, List.length_singleton]
    refine ⟨B, ?_, ⟨?_, fun i hi => ?_⟩, ?_, by rw [hB, hA]; rfl, by rw [hB, hA]; rfl⟩
    · unfold F_X15_put
      simp only [f1, f2, an1, e1, Option.bind_some]
      rw [if_neg (by rw [iw_eq (by omega) (by omega) (by omega) (by omega)]; omega), sb_of (j_i2b b) f5 f6 c (by omega), i2b_i2b, ← hA]
      simp only [g2, cA, iw_succ, g3, Option.bind_some, ← hB]
      rw [decide_eq_true c]
      rfl
    · rw [hB, cI_wI, if_pos ⟨rfl, rfl⟩, hl, Nat.min_eq_left (by omega)]
    · rw [hl, Nat.min_eq_left (by omega)] at hi
      rw [hB, cI_wI, if_neg (fun q => by omega), hA, cI_wI, getD_snoc]
      by_cases ci : i = vs.length
      · rw [if_pos ⟨rfl, ci⟩, if_pos ci]
      · rw [if_neg (fun q => ci q.2), if_neg ci]
        exact e.2 i (by rw [Nat.min_eq_left (by omega)]; omega)
    · rw [hB, hA]
      exact (Df.wI (P := atO o) (Q := n2) (R := n2) (M := M) (a := o + 1) (i := vs.length) _ (Or.inr rfl)).trans (Df.wI (P := atO o) (Q := n2) (R := n2) (a := o) (i := 1025) _ (Or.inl ⟨rfl, rfl⟩))
  · refine ⟨M, ?_, e.full (by omega) _, Df.refl _ _ _ _, rfl, rfl⟩
    have e1 : cI M o 1025 = iw (cap : Int) := by rw [e.1, Nat.min_eq_right (by omega)]
    unfold F_X15_put
    simp only [f1, f2, an1, e1, Option.bind_some, if_true]
    rw [decide_eq_false c]
    rfl
/-- the bytes of a number, the highest first -/
def nbs (v : Int64) : Nat → List Int32
  | 0 => []
  | w + 1 => j_i2b (j_lshr v ((8 : Int32) * iw (w : Int))).toInt32 :: nbs v w
theorem nbs_len (v : Int64) : ∀ w, (nbs v w).length = w
  | 0 => rfl
  | w + 1 => by show (nbs v w).length + 1 = _; rw [nbs_len v w]
theorem mr_and (a b : Bool) : (if mr a = 0 then (0 : Int32) else if mr b = 0 then 0 else 1) = mr (b && a) := by cases a <;> cases b <;> rfl
theorem mr_1 (a : Bool) : mr a &&& 1 = mr a := by cases a <;> rfl
/-- all that is put fits, or not -/
def fts (fl : Bool) (l w cap : Nat) : Bool := fl && (decide (w = 0) || decide (l + w ≤ cap))
theorem E_num_loop {o cap : Nat} {v : Int64} (ob : OUT o cap) : ∀ (w N : Nat) (vs : List Int32) (fl : Bool) (M : Mem), w + 1 ≤ N → w ≤ 8 → ST M → EO M o cap vs → ∃ M', F_X15_number_b8 N M o v (mr fl) (iw ((w : Int) - 1)) = some (mr (fts fl vs.length w cap), M') ∧ EO M' o cap (vs ++ nbs v w) ∧ Df (atO o) n2 n2 M M' ∧ m_nx M' = m_nx M ∧ m_sl M' = m_sl M ∧ ST M' := by
  intro w
  induction w with
  | zero =>
    intro N vs fl M hN hw h e
    obtain ⟨N, rfl⟩ : ∃ y, N = y + 1 := ⟨N - 1, by omega⟩
    refine ⟨M, ?_, by show EO M o cap (vs ++ []); rw [List.append_nil]; exact e, Df.refl _ _ _ _, rfl, rfl, h⟩
    show F_X15_number_b8_st (F_X15_number_b8 N) M _ _ _ _ = _
    unfold F_X15_number_b8_st fts
    rw [if_pos (by decide), mr_1]
    cases fl <;> rfl
  | succ w ih =>
    intro N vs fl M hN hw h e
    obtain ⟨N, rfl⟩ : ∃ y, N = y + 1 := ⟨N - 1, by omega⟩
    obtain ⟨A, a1, a2, a3, a4, a5⟩ := E_putb ob h e (j_lshr v ((8 : Int32) * iw (w : Int))).toInt32
    have sA : ST A := h.n a3
    have hl : (vs ++ [j_i2b (j_lshr v ((8 : Int32) * iw (w : Int))).toInt32]).length = vs.length + 1 := by rw [List.length_append, List.length_singleton]
    obtain ⟨M', f1, f2, f3, f4, f5, f6⟩ := ih N _ (fl && decide (vs.length < cap)) A (by omega) (by omega) sA a2
    rw [hl] at f1
    rw [List.append_assoc] at f2
    refine ⟨M', ?_, f2, a3.trans f3, by omega, by omega, f6⟩
    have e0 : ((w + 1 : Nat) : Int) - 1 = (w : Int) := by omega
    have e3 : iw (w : Int) + -1 = iw ((w : Int) - 1) := by rw [show (-1 : Int32) = iw (-1) from rfl, iw_add]; rfl
    have vO := (ob.f h).2.2.2.1
    have run : F_X15_number_b8 (N + 1) M o v (mr fl) (iw (((w + 1 : Nat) : Int) - 1)) = F_X15_number_b8 N A o v (mr (fl && decide (vs.length < cap))) (iw ((w : Int) - 1)) := by
      show F_X15_number_b8_st (F_X15_number_b8 N) M _ _ _ _ = _
      unfold F_X15_number_b8_st F_X15_number_b37 F_X15_number_b38
      rw [e0, if_neg (by rw [iw_lt0 (by omega) (by omega)]; omega), vO]
      simp only [Option.bind_some]
      rw [a1]
      simp only [Option.bind_some]
      rw [e3]
      cases fl <;> cases decide (vs.length < cap) <;> rfl
    rw [run, f1]
    have ef : fts (fl && decide (vs.length < cap)) (vs.length + 1) w cap = fts fl vs.length (w + 1) cap := by
      unfold fts
      rw [decide_eq_false (show ¬ w + 1 = 0 by omega), Bool.false_or]
      by_cases c1 : vs.length + (w + 1) ≤ cap
      · rw [decide_eq_true c1, decide_eq_true (show vs.length < cap by omega), decide_eq_true (show vs.length + 1 + w ≤ cap by omega), Bool.or_true, Bool.and_true]
      · rw [decide_eq_false c1, Bool.and_false]
        by_cases c2 : vs.length < cap
        · rw [decide_eq_false (show ¬ vs.length + 1 + w ≤ cap by omega), decide_eq_false (show ¬ w = 0 by omega), Bool.or_false, Bool.and_false]
        · rw [decide_eq_false c2, Bool.and_false, Bool.false_and]
    rw [ef]
theorem E_number {M : Mem} {o cap w : Nat} {v : Int64} {vs : List Int32} (ob : OUT o cap) (h : ST M) (e : EO M o cap vs) (hw : w ≤ 8) (h1 : 0 < w) : ∃ M', F_X15_number M o v (iw (w : Int)) = some (mr (decide (vs.length + w ≤ cap)), M') ∧ EO M' o cap (vs ++ nbs v w) ∧ Df (atO o) n2 n2 M M' ∧ m_nx M' = m_nx M ∧ m_sl M' = m_sl M ∧ ST M' := by
  obtain ⟨M', f1, f2⟩ := E_num_loop (v := v) ob w xN vs true M (by have : xN = 1099511627776 := rfl; omega) hw h e
  refine ⟨M', ?_, f2⟩
  unfold F_X15_number
  rw [show (1 : Int32) = iw 1 from rfl, iw_sub]
  have : fts true vs.length w cap = decide (vs.length + w ≤ cap) := by
    unfold fts
    rw [decide_eq_false (show ¬ w = 0 by omega), Bool.true_and, Bool.false_or]
  rw [← this]
  exact f1
/-- a Bytes of the model and its row -/
def BYT (o : Nat) : Prop := o = 1325 ∨ o = 1327
theorem BYT.f {o : Nat} (b : BYT o) {M : Mem} (h : ST M) : gr M o 1280 = some (o + 1) ∧ gi M o 1281 = some (cI M o 1281) ∧ (∀ v, pi M o 1281 v = some (wI M o 1281 v)) ∧ vg M o 20 = some () ∧ m_tg M (o + 1) = 1002 ∧ m_ln M (o + 1) = 30000 ∧ o < 1334 ∧ o + 1 < 1334 := by
  rcases b with rfl | rfl
  · exact ⟨g1325_1280 h, g1325_1281 h, p1325_1281 h, v1325 h, t1326 h, l1326 h, by decide, by decide⟩
  · exact ⟨g1327_1280 h, g1327_1281 h, p1327_1281 h, v1327 h, t1328 h, l1328 h, by decide, by decide⟩
def MO (M : Mem) (o : Nat) (vs : List Int32) : Prop := cI M o 1281 = iw (vs.length : Nat) ∧ ∀ i, i < vs.length → cI M (o + 1) i = vs.getD i 0
def atB (o : Nat) : Nat → Nat → Prop := fun a i => (a = o ∧ i = 1281) ∨ a = o + 1
theorem i2b_and (x : Int32) : j_i2b (x &&& 255) = j_i2b x := by
  unfold j_i2b
  rw [Int32.toInt8_and, show (255 : Int32).toInt8 = -1 from rfl, Int8.and_neg_one]
theorem M_addb {M : Mem} {o : Nat} {vs : List Int32} (ob : BYT o) (h : ST M) (e : MO M o vs) (hl : vs.length < 30000) (b : Int32) : ∃ M', F_X19_add M o b = some M' ∧ MO M' o (vs ++ [j_i2b b]) ∧ Df (atB o) n2 n2 M M' ∧ m_nx M' = m_nx M ∧ m_sl M' = m_sl M := by
  obtain ⟨f1, f2, f3, f4, f5, f6, f7, f8⟩ := ob.f h
  obtain ⟨A, hA⟩ : ∃ A, A = wI M (o + 1) vs.length (j_i2b b) := ⟨_, rfl⟩
  obtain ⟨B, hB⟩ : ∃ B, B = wI A o 1281 (iw ((vs.length + 1 : Nat) : Int)) := ⟨_, rfl⟩
  have sA : ST A := by rw [hA]; exact h
  obtain ⟨-, g2, g3, -⟩ := ob.f sA
  have cA : cI A o 1281 = iw (vs.length : Nat) := by rw [hA, cI_wI, if_neg (fun q => by omega)]; exact e.1
  have hl2 : (vs ++ [j_i2b b]).length = vs.length + 1 := by rw [List.length_append, List.length_singleton]
  refine ⟨B, ?_, ⟨?_, fun i hi => ?_⟩, ?_, by rw [hB, hA]; rfl, by rw [hB, hA]; rfl⟩
  · unfold F_X19_add F_X19_add_b21
    simp only [f1, f2, e.1, Option.bind_some]
    rw [if_pos (by rw [show (30000 : Int32) = iw ((30000 : Nat) : Int) from rfl, iw_le4 (by omega) (by omega)]; exact hl), sb_of (j_i2b b) f5 f6 hl (by decide), i2b_i2b, ← hA]
    simp only [g2, cA, iw_succ, g3, Option.bind_some, ← hB]
  · rw [hB, cI_wI, if_pos ⟨rfl, rfl⟩, hl2]
  · rw [hl2] at hi
    rw [hB, cI_wI, if_neg (fun q => by omega), hA, cI_wI, getD_snoc]
    by_cases ci : i = vs.length
    · rw [if_pos ⟨rfl, ci⟩, if_pos ci]
    · rw [if_neg (fun q => ci q.2), if_neg ci]
      exact e.2 i (by omega)
  · rw [hB, hA]
    exact (Df.wI (P := atB o) (Q := n2) (R := n2) (M := M) (a := o + 1) (i := vs.length) _ (Or.inr rfl)).trans (Df.wI (P := atB o) (Q := n2) (R := n2) (a := o) (i := 1281) _ (Or.inl ⟨rfl, rfl⟩))
theorem M_num_loop {o : Nat} {v : Int64} (ob : BYT o) : ∀ (w N : Nat) (vs : List Int32) (M : Mem), w + 1 ≤ N → w ≤ 8 → vs.length + w ≤ 30000 → ST M → MO M o vs → ∃ M', F_X19_number_b5 N M o v (iw ((w : Int) - 1)) = some M' ∧ MO M' o (vs ++ nbs v w) ∧ Df (atB o) n2 n2 M M' ∧ m_nx M' = m_nx M ∧ m_sl M' = m_sl M ∧ ST M' := by
  intro w
  induction w with
  | zero =>
    intro N vs M hN hw hl h e
    obtain ⟨N, rfl⟩ : ∃ y, N = y + 1 := ⟨N - 1, by omega⟩
    refine ⟨M, ?_, by show MO M o (vs ++ []); rw [List.append_nil]; exact e, Df.refl _ _ _ _, rfl, rfl, h⟩
    show F_X19_number_b5_st (F_X19_number_b5 N) M _ _ _ = _
    unfold F_X19_number_b5_st
    rw [if_pos (by decide)]
  | succ w ih =>
    intro N vs M hN hw hl h e
    obtain ⟨N, rfl⟩ : ∃ y, N = y + 1 := ⟨N - 1, by omega⟩
    obtain ⟨A, a1, a2, a3, a4, a5⟩ := M_addb ob h e (by omega) ((j_lshr v ((8 : Int32) * iw (w : Int))).toInt32 &&& 255)
    rw [i2b_and] at a2
    have sA : ST A := h.n a3
    have hl2 : (vs ++ [j_i2b (j_lshr v ((8 : Int32) * iw (w : Int))).toInt32]).length = vs.length + 1 := by rw [List.length_append, List.length_singleton]
    obtain ⟨M', f1, f2, f3, f4, f5, f6⟩ := ih N _ A (by omega) (by omega) (by omega) sA a2
    rw [List.append_assoc] at f2
    refine ⟨M', ?_, f2, a3.trans f3, by omega, by omega, f6⟩
    have e0 : ((w + 1 : Nat) : Int) - 1 = (w : Int) := by omega
    have e3 : iw (w : Int) + -1 = iw ((w : Int) - 1) := by rw [show (-1 : Int32) = iw (-1) from rfl, iw_add]; rfl
    rw [← f1]
    show F_X19_number_b5_st (F_X19_number_b5 N) M _ _ _ = _
    unfold F_X19_number_b5_st
    rw [e0, if_neg (by rw [iw_lt0 (by omega) (by omega)]; omega), (ob.f h).2.2.2.1]
    simp only [Option.bind_some]
    rw [a1]
    simp only [Option.bind_some, e3]
theorem M_number {M : Mem} {o w : Nat} {v : Int64} {vs : List Int32} (ob : BYT o) (h : ST M) (e : MO M o vs) (hw : w ≤ 8) (hl : vs.length + w ≤ 30000) : ∃ M', F_X19_number M o v (iw (w : Int)) = some M' ∧ MO M' o (vs ++ nbs v w) ∧ Df (atB o) n2 n2 M M' ∧ m_nx M' = m_nx M ∧ m_sl M' = m_sl M ∧ ST M' := by
  obtain ⟨M', f1, f2⟩ := M_num_loop (v := v) ob w xN vs M (by have : xN = 1099511627776 := rfl; omega) hw hl h e
  refine ⟨M', ?_, f2⟩
  unfold F_X19_number
  rw [show (1 : Int32) = iw 1 from rfl, iw_sub]
  exact f1
/-! the check -/
def ck1 (c : Int32) : Int32 := if c &&& 1 = 1 then j_iushr c 1 ^^^ (-306674912) else j_iushr c 1
def ck8 : Nat → Int32 → Int32
  | 0, c => c
  | e + 1, c => ck8 e (ck1 c)
def crr (f : Nat → Int32) : Nat → Nat → Int32 → Int32
  | 0, _, c => c ^^^ (-1)
  | e + 1, i, c => crr f e (i + 1) (ck8 8 (c ^^^ (f i &&& 255)))
theorem crr_congr {f g : Nat → Int32} : ∀ (e i j : Nat) (c : Int32), (∀ x, x < e → f (i + x) = g (j + x)) → crr f e i c = crr g e j c
  | 0, _, _, _, _ => rfl
  | e + 1, i, j, c, h => by
    show crr f e (i + 1) _ = crr g e (j + 1) _
    have h0 : f i = g j := h 0 (by omega)
    rw [h0]
    exact crr_congr e (i + 1) (j + 1) _ (fun x hx => by rw [show i + 1 + x = i + (x + 1) by omega, show j + 1 + x = j + (x + 1) by omega]; exact h (x + 1) (by omega))
theorem E_ck8 {k5 : Mem → Nat → Int32 → Int32 → Int32 → Option Int32} {M : Mem} {a : Nat} {v2 v4 : Int32} : ∀ (e N j : Nat) (c : Int32), j + e = 8 → e + 1 ≤ N → F_X13_checkOf_b25 k5 N M a v2 c v4 (iw (j : Int)) = k5 M a v2 (ck8 e c) (v4 + 1)
  | 0, N, j, c, h1, h2 => by
    obtain ⟨N, rfl⟩ : ∃ y, N = y + 1 := ⟨N - 1, by omega⟩
    show F_X13_checkOf_b25_st k5 (F_X13_checkOf_b25 k5 N) M _ _ _ _ _ = _
    unfold F_X13_checkOf_b25_st
    rw [if_neg (by rw [show (8 : Int32) = iw ((8 : Nat) : Int) from rfl, iw_le4 (by omega) (by omega)]; omega)]
    rfl
  | e + 1, N, j, c, h1, h2 => by
    obtain ⟨N, rfl⟩ : ∃ y, N = y + 1 := ⟨N - 1, by omega⟩
    show F_X13_checkOf_b25_st k5 (F_X13_checkOf_b25 k5 N) M _ _ _ _ _ = k5 M a v2 (ck8 e (ck1 c)) (v4 + 1)
    unfold F_X13_checkOf_b25_st F_X13_checkOf_b51
    rw [if_pos (by rw [show (8 : Int32) = iw ((8 : Nat) : Int) from rfl, iw_le4 (by omega) (by omega)]; omega)]
    unfold ck1
    by_cases c1 : c &&& 1 = 1
    · rw [if_pos c1, if_pos c1]
      show F_X13_checkOf_b25 k5 N M a v2 _ v4 (iw (j : Int) + 1) = _
      rw [iw_succ]
      exact E_ck8 e N (j + 1) _ (by omega) (by omega)
    · rw [if_neg c1, if_neg c1]
      show F_X13_checkOf_b25 k5 N M a v2 _ v4 (iw (j : Int) + 1) = _
      rw [iw_succ]
      exact E_ck8 e N (j + 1) _ (by omega) (by omega)
theorem E_check_loop {M : Mem} {a cap to : Nat} (ht : m_tg M a = 1002) (hl : m_ln M a = cap) (hc : to ≤ cap) (hc2 : cap ≤ 60000) : ∀ (e N i : Nat) (c : Int32), i + e = to → e + 1 ≤ N → F_X13_checkOf_b5 N M a (iw (to : Int)) c (iw (i : Int)) = some (crr (cI M a) e i c)
  | 0, N, i, c, h1, h2 => by
    obtain ⟨N, rfl⟩ : ∃ y, N = y + 1 := ⟨N - 1, by omega⟩
    show F_X13_checkOf_b5_st (F_X13_checkOf_b5 N) M _ _ _ _ = _
    unfold F_X13_checkOf_b5_st
    rw [if_neg (by rw [iw_le4 (by omega) (by omega)]; omega)]
    rfl
  | e + 1, N, i, c, h1, h2 => by
    obtain ⟨N, rfl⟩ : ∃ y, N = y + 1 := ⟨N - 1, by omega⟩
    show F_X13_checkOf_b5_st (F_X13_checkOf_b5 N) M _ _ _ _ = _
    unfold F_X13_checkOf_b5_st
    rw [if_pos (by rw [iw_le4 (by omega) (by omega)]; omega), ab_of (Or.inr (Or.inl ht)) hl (by omega) (by omega)]
    simp only [Option.bind_some]
    refine (E_ck8 (k5 := F_X13_checkOf_b5 N) (M := M) (a := a) (v2 := iw (to : Int)) (v4 := iw (i : Int)) 8 xN 0 _ rfl (by decide)).trans ?_
    rw [iw_succ]
    exact E_check_loop ht hl hc hc2 e N (i + 1) _ (by omega) (by omega)
theorem E_check {M : Mem} {a cap fr to : Nat} (ht : m_tg M a = 1002) (hl : m_ln M a = cap) (hc : to ≤ cap) (hc2 : cap ≤ 60000) (hf : fr ≤ to) : F_X13_checkOf M a (iw (fr : Int)) (iw (to : Int)) = some (crr (cI M a) (to - fr) fr (-1)) :=
  E_check_loop ht hl hc hc2 (to - fr) xN fr (-1) (by omega) (by have : xN = 1099511627776 := rfl; omega)
theorem M_ck8 {k4 : Mem → Nat → Int32 → Int32 → Int32 → Option Int32} {M : Mem} {a : Nat} {v1 v3 : Int32} : ∀ (e N j : Nat) (c : Int32), j + e = 8 → e + 1 ≤ N → F_X16_crc_b22 k4 N M a v1 c v3 (iw (j : Int)) = k4 M a v1 (ck8 e c) (v3 + 1)
  | 0, N, j, c, h1, h2 => by
    obtain ⟨N, rfl⟩ : ∃ y, N = y + 1 := ⟨N - 1, by omega⟩
    show F_X16_crc_b22_st k4 (F_X16_crc_b22 k4 N) M _ _ _ _ _ = _
    unfold F_X16_crc_b22_st
    rw [if_neg (by rw [show (8 : Int32) = iw ((8 : Nat) : Int) from rfl, iw_le4 (by omega) (by omega)]; omega)]
    rfl
  | e + 1, N, j, c, h1, h2 => by
    obtain ⟨N, rfl⟩ : ∃ y, N = y + 1 := ⟨N - 1, by omega⟩
    show F_X16_crc_b22_st k4 (F_X16_crc_b22 k4 N) M _ _ _ _ _ = k4 M a v1 (ck8 e (ck1 c)) (v3 + 1)
    unfold F_X16_crc_b22_st F_X16_crc_b49
    rw [if_pos (by rw [show (8 : Int32) = iw ((8 : Nat) : Int) from rfl, iw_le4 (by omega) (by omega)]; omega)]
    unfold ck1
    by_cases c1 : c &&& 1 = 1
    · rw [if_pos c1, if_pos c1]
      show F_X16_crc_b22 k4 N M a v1 _ v3 (iw (j : Int) + 1) = _
      rw [iw_succ]
      exact M_ck8 e N (j + 1) _ (by omega) (by omega)
    · rw [if_neg c1, if_neg c1]
      show F_X16_crc_b22 k4 N M a v1 _ v3 (iw (j : Int) + 1) = _
      rw [iw_succ]
      exact M_ck8 e N (j + 1) _ (by omega) (by omega)
theorem M_crc_loop {M : Mem} {a cap to : Nat} (ht : m_tg M a = 1002) (hl : m_ln M a = cap) (hc : to ≤ cap) (hc2 : cap ≤ 60000) : ∀ (e N i : Nat) (c : Int32), i + e = to → e + 1 ≤ N → F_X16_crc_b4 N M a (iw (to : Int)) c (iw (i : Int)) = some (crr (cI M a) e i c)
  | 0, N, i, c, h1, h2 => by
    obtain ⟨N, rfl⟩ : ∃ y, N = y + 1 := ⟨N - 1, by omega⟩
    show F_X16_crc_b4_st (F_X16_crc_b4 N) M _ _ _ _ = _
    unfold F_X16_crc_b4_st
    rw [if_neg (by rw [iw_le4 (by omega) (by omega)]; omega)]
    rfl
  | e + 1, N, i, c, h1, h2 => by
    obtain ⟨N, rfl⟩ : ∃ y, N = y + 1 := ⟨N - 1, by omega⟩
    show F_X16_crc_b4_st (F_X16_crc_b4 N) M _ _ _ _ = _
    unfold F_X16_crc_b4_st
    rw [if_pos (by rw [iw_le4 (by omega) (by omega)]; omega), ab_of (Or.inr (Or.inl ht)) hl (by omega) (by omega)]
    simp only [Option.bind_some]
    refine (M_ck8 (k4 := F_X16_crc_b4 N) (M := M) (a := a) (v1 := iw (to : Int)) (v3 := iw (i : Int)) 8 xN 0 _ rfl (by decide)).trans ?_
    rw [iw_succ]
    exact M_crc_loop ht hl hc hc2 e N (i + 1) _ (by omega) (by omega)
theorem M_crc {M : Mem} {a cap to : Nat} (ht : m_tg M a = 1002) (hl : m_ln M a = cap) (hc : to ≤ cap) (hc2 : cap ≤ 60000) : F_X16_crc M a (iw (to : Int)) = some (crr (cI M a) to 0 (-1)) :=
  M_crc_loop ht hl hc hc2 to xN 0 (-1) (by omega) (by have : xN = 1099511627776 := rfl; omega)
