/-! ===== GRIDS, 2: pairs of grids ===== -/
/-- every spot of a grid lies among the cells -/
def VL (n : Nat) (z : Nat → Nat) (s : Nat → Int32) (b : Int32) (L : Nat) : Prop := ∀ ix : Nat → Nat, (∀ i, i < n → ix i < z i) → 0 ≤ b.toInt + (List.range n).foldl (fun a i => a + (ix i : Int) * (s i).toInt) 0 ∧ b.toInt + (List.range n).foldl (fun a i => a + (ix i : Int) * (s i).toInt) 0 < L
/-- the sum over the first axes -/
def sm (s : Nat → Int32) (ix : Nat → Nat) : Nat → Int
  | 0 => 0
  | m + 1 => (ix m : Int) * (s m).toInt + sm s ix m
theorem sm_fold (s : Nat → Int32) (ix : Nat → Nat) : ∀ n, (List.range n).foldl (fun a i => a + (ix i : Int) * (s i).toInt) 0 = sm s ix n
  | 0 => rfl
  | n + 1 => by
    rw [List.range_succ, List.foldl_append, sm_fold s ix n]
    show sm s ix n + (ix n : Int) * (s n).toInt = (ix n : Int) * (s n).toInt + sm s ix n
    omega
/-- the digits of a number in row order -/
def dg (z : Nat → Nat) : Nat → Nat → Nat → Nat
  | 0, _, _ => 0
  | m + 1, x, i => if i = m then x % z m else dg z m (x / z m) i
theorem dg_lt {z : Nat → Nat} : ∀ (m x i : Nat), i < m → 0 < z i → dg z m x i < z i
  | 0, _, _, h, _ => absurd h (by omega)
  | m + 1, x, i, h, hz => by
    show (if i = m then x % z m else dg z m (x / z m) i) < z i
    by_cases e : i = m
    · subst e
      rw [if_pos rfl]
      exact Nat.mod_lt _ hz
    · rw [if_neg e]
      exact dg_lt m _ i (by omega) hz
theorem sm_congr {s : Nat → Int32} {ix iy : Nat → Nat} : ∀ m, (∀ i, i < m → ix i = iy i) → sm s ix m = sm s iy m
  | 0, _ => rfl
  | m + 1, h => by
    show (ix m : Int) * (s m).toInt + sm s ix m = (iy m : Int) * (s m).toInt + sm s iy m
    rw [h m (by omega), sm_congr m (fun i hi => h i (by omega))]
theorem plc_sm (z : Nat → Nat) (s : Nat → Int32) : ∀ (m x : Nat), plc z s m x = sm s (dg z m x) m
  | 0, _ => rfl
  | m + 1, x => by
    show ((x % z m : Nat) : Int) * (s m).toInt + plc z s m (x / z m) = ((if m = m then x % z m else dg z m (x / z m) m : Nat) : Int) * (s m).toInt + sm s (dg z (m + 1) x) m
    rw [if_pos rfl, plc_sm z s m (x / z m)]
    refine congrArg _ (sm_congr m (fun i hi => ?_))
    show _ = (if i = m then x % z m else dg z m (x / z m) i)
    rw [if_neg (by omega)]
/-- strides count where a size is above 1 -/
theorem sm_ag {z : Nat → Nat} {s s' : Nat → Int32} {ix : Nat → Nat} : ∀ m, (∀ i, i < m → ix i < z i) → (∀ i, i < m → 1 < z i → s i = s' i) → sm s ix m = sm s' ix m
  | 0, _, _ => rfl
  | m + 1, h, ha => by
    show (ix m : Int) * (s m).toInt + sm s ix m = (ix m : Int) * (s' m).toInt + sm s' ix m
    rw [sm_ag m (fun i hi => h i (by omega)) (fun i hi => ha i (by omega))]
    by_cases h1 : 1 < z m
    · rw [ha m (by omega) h1]
    · have := h m (by omega)
      rw [show ix m = 0 by omega]
      simp
theorem prd_pos {z : Nat → Nat} : ∀ m, prd z m ≠ 0 ↔ ∀ i, i < m → 0 < z i
  | 0 => ⟨fun _ i h => absurd h (by omega), fun _ => by show (1 : Nat) ≠ 0; decide⟩
  | m + 1 => by
    have ih := prd_pos (z := z) m
    show prd z m * z m ≠ 0 ↔ _
    constructor
    · intro h i hi
      have h1 : prd z m ≠ 0 := fun hh => h (by rw [hh, Nat.zero_mul])
      have h2 : z m ≠ 0 := fun hh => h (by rw [hh, Nat.mul_zero])
      by_cases e : i = m
      · subst e; omega
      · exact ih.mp h1 i (by omega)
    · intro h
      exact Nat.mul_ne_zero (ih.mpr (fun i hi => h i (by omega))) (by have := h m (by omega); omega)
/-- rows of cells that hold the same -/
def CP (M : Mem) (k : Int32) (c d L : Nat) : Prop := 1334 ≤ c ∧ c < m_nx M ∧ 1334 ≤ d ∧ d < m_nx M ∧ m_tg M c = 1006 ∧ m_tg M d = 1006 ∧ m_ln M c = L ∧ m_ln M d = L ∧ L ≤ 100000 ∧ ∀ i, i < L → cJ M c i = cJ M d i ∧ vb k (cJ M c i)
/-- a grid of the engine and one of the model that are alike -/
def GP (M : Mem) (a b : Nat) (k : Int32) (n : Nat) (z : Nat → Nat) (s t : Nat → Int32) (x y : Int32) (c d L : Nat) (p : Int32) : Prop :=
  GE M a k n z s x c p ∧ GM M b k n z t y d p ∧ Lk k ∧ n ≤ 4 ∧ (∀ i, i < n → z i ≤ 4096) ∧ prd z n ≤ 100000 ∧ (p = 0 ∨ p = 1) ∧ CP M k c d L ∧ (prd z n ≠ 0 → x = y ∧ (∀ i, i < n → 1 < z i → s i = t i) ∧ VL n z s x L)
theorem VL.pos {n : Nat} {z : Nat → Nat} {s : Nat → Int32} {b : Int32} {L : Nat} (h : VL n z s b L) {ix : Nat → Nat} (hi : ∀ i, i < n → ix i < z i) : 0 ≤ b.toInt + sm s ix n ∧ b.toInt + sm s ix n < L := by
  have := h ix hi
  rw [sm_fold] at this
  exact this
/-- the place of a cell in row order -/
def gpos (n : Nat) (z : Nat → Nat) (s : Nat → Int32) (x : Int32) (j : Nat) : Nat := (x.toInt + plc z s n j).toNat
/-- the place of a cell: both alike, and in range -/
theorem GP.place {M : Mem} {a b : Nat} {k : Int32} {n : Nat} {z : Nat → Nat} {s t : Nat → Int32} {x y : Int32} {c d L : Nat} {p : Int32} (g : GP M a b k n z s t x y c d L p) {j : Nat} (hj : j < prd z n) : gpos n z s x j < L ∧ F_X21_place M a (iw (j : Int)) = some (iw (gpos n z s x j : Nat)) ∧ F_X22_place M b (iw (j : Int)) = some (iw (gpos n z s x j : Nat)) := by
  obtain ⟨gE, gM, hk, hn, hz, hc, hp, hC, hv⟩ := g
  have h0 : prd z n ≠ 0 := by omega
  have hz0 := (prd_pos n).mp h0
  obtain ⟨v1, v2, v3⟩ := hv h0
  have e1 := E_place gE hn (fun i hi => ⟨hz0 i hi, hz i hi⟩) (x := j) (by omega)
  have e2 := M_place gM hn (fun i hi => ⟨hz0 i hi, hz i hi⟩) (x := j) (by omega)
  have hd : ∀ i, i < n → dg z n j i < z i := fun i hi => dg_lt n j i hi (hz0 i hi)
  have hr := v3.pos hd
  have e3 : plc z t n j = plc z s n j := by rw [plc_sm, plc_sm, sm_ag n hd v2]
  rw [← plc_sm] at hr
  have hq : x.toInt + plc z s n j = (gpos n z s x j : Int) := by unfold gpos; omega
  refine ⟨by omega, by rw [e1, hq], by rw [e2, e3, ← v1, hq]⟩
theorem GP.get {M : Mem} {a b : Nat} {k : Int32} {n : Nat} {z : Nat → Nat} {s t : Nat → Int32} {x y : Int32} {c d L : Nat} {p : Int32} (g : GP M a b k n z s t x y c d L p) {j : Nat} (hj : j < prd z n) : vb k (cJ M c (gpos n z s x j)) ∧ F_X21_get M a (iw (j : Int)) = some (cJ M c (gpos n z s x j)) ∧ F_X22_cell M b (iw (j : Int)) = some (cJ M c (gpos n z s x j)) := by
  obtain ⟨q1, q2, q3⟩ := g.place hj
  obtain ⟨gE, gM, hk, hn, hz, hc, hp, hC, hv⟩ := g
  obtain ⟨c1, c2, c3, c4, c5, c6, c7, c8, c9, c10⟩ := hC
  refine ⟨(c10 _ q1).2, ?_, ?_⟩
  · unfold F_X21_get
    simp only [gr_of gE.2.2.1 (show x_fr 22 1413 = true by decide), gE.2.2.2.2.2.2.2.2.1, vg_of gE.2.2.1 (show x_isa 22 22 = true by decide), q2, Option.bind_some, al_of c5 c7 q1 (by omega)]
  · unfold F_X22_cell
    simp only [gr_of gM.2.2.1 (show x_fr 23 1476 = true by decide), gM.2.2.2.2.2.2.2.1, vg_of gM.2.2.1 (show x_isa 23 23 = true by decide), q3, Option.bind_some, al_of c6 c8 q1 (by omega), (c10 _ q1).1]
