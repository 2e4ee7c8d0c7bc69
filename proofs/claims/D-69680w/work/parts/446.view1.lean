/-! ===== VIEWS, 1: letters, blanks, numbers; the engine's scanning ===== -/
/-- what stands at a place, or -1 -/
def lk (f : Nat → Int32) (n a : Nat) : Int32 := if a < n then iw (bn (f a) : Nat) else -1
def isC (f : Nat → Int32) (n a c : Nat) : Bool := decide (a < n ∧ bn (f a) = c)
def isD (f : Nat → Int32) (n a : Nat) : Bool := decide (a < n ∧ 48 ≤ bn (f a) ∧ bn (f a) ≤ 57)
theorem isC_t {f : Nat → Int32} {n a c : Nat} : isC f n a c = true ↔ a < n ∧ bn (f a) = c := by unfold isC; exact decide_eq_true_iff
theorem isD_t {f : Nat → Int32} {n a : Nat} : isD f n a = true ↔ a < n ∧ 48 ≤ bn (f a) ∧ bn (f a) ≤ 57 := by unfold isD; exact decide_eq_true_iff
theorem lk_c {f : Nat → Int32} {n a c : Nat} (hc : c < 256) : lk f n a = iw (c : Int) ↔ isC f n a c = true := by
  rw [isC_t]
  unfold lk
  have := bn_lt (f a)
  by_cases h : a < n
  · rw [if_pos h, iw_eq (by omega) (by omega) (by omega) (by omega)]
    omega
  · rw [if_neg h, show (-1 : Int32) = iw (-1) from rfl, iw_eq (by omega) (by omega) (by omega) (by omega)]
    omega
theorem lk32 {f : Nat → Int32} {n a : Nat} : lk f n a = 32 ↔ isC f n a 32 = true := lk_c (by decide)
theorem lk42 {f : Nat → Int32} {n a : Nat} : lk f n a = 42 ↔ isC f n a 42 = true := lk_c (by decide)
theorem lk44 {f : Nat → Int32} {n a : Nat} : lk f n a = 44 ↔ isC f n a 44 = true := lk_c (by decide)
theorem lk45 {f : Nat → Int32} {n a : Nat} : lk f n a = 45 ↔ isC f n a 45 = true := lk_c (by decide)
theorem lk58 {f : Nat → Int32} {n a : Nat} : lk f n a = 58 ↔ isC f n a 58 = true := lk_c (by decide)
theorem lk_neg {f : Nat → Int32} {n a : Nat} : lk f n a < 0 ↔ n ≤ a := by
  unfold lk
  have := bn_lt (f a)
  by_cases h : a < n
  · rw [if_pos h, iw_lt0 (by omega) (by omega)]
    omega
  · rw [if_neg h]
    exact ⟨fun _ => by omega, fun _ => by decide⟩
theorem E_isDigit {f : Nat → Int32} {n a : Nat} : F_X3_isDigit (lk f n a) = some (mr (isD f n a)) := by
  have := bn_lt (f a)
  unfold F_X3_isDigit F_X3_isDigit_b16 F_X3_isDigit_b17 isD lk
  by_cases h : a < n
  · rw [if_pos h]
    have q1 : iw (bn (f a) : Nat) < (48 : Int32) ↔ bn (f a) < 48 := by rw [show (48 : Int32) = iw ((48 : Nat) : Int) from rfl, iw_le4 (by omega) (by omega)]
    have q2 : (57 : Int32) < iw (bn (f a) : Nat) ↔ 57 < bn (f a) := by rw [show (57 : Int32) = iw ((57 : Nat) : Int) from rfl, iw_le4 (by omega) (by omega)]
    by_cases c1 : bn (f a) < 48
    · rw [if_pos (q1.mpr c1), decide_eq_false (by omega)]
      rfl
    · rw [if_neg (fun hh => c1 (q1.mp hh))]
      by_cases c2 : 57 < bn (f a)
      · rw [if_pos (q2.mpr c2), decide_eq_false (by omega)]
        rfl
      · rw [if_neg (fun hh => c2 (q2.mp hh)), decide_eq_true (by omega)]
        rfl
  · rw [if_neg h, if_pos (by decide), decide_eq_false (by omega)]
    rfl
/-- behind the blanks -/
def skp (f : Nat → Int32) (n : Nat) : Nat → Nat → Nat
  | 0, a => a
  | e + 1, a => if isC f n a 32 = true then skp f n e (a + 1) else a
def skpa (f : Nat → Int32) (n a : Nat) : Nat := skp f n (n - a) a
theorem skp_ge {f : Nat → Int32} {n : Nat} : ∀ e a, a ≤ skp f n e a
  | 0, a => Nat.le_refl _
  | e + 1, a => by
    show a ≤ if isC f n a 32 = true then skp f n e (a + 1) else a
    by_cases c : isC f n a 32 = true
    · rw [if_pos c]
      have := skp_ge (f := f) (n := n) e (a + 1)
      omega
    · rw [if_neg c]
      exact Nat.le_refl _
theorem skp_le {f : Nat → Int32} {n : Nat} : ∀ e a, a ≤ n → skp f n e a ≤ n
  | 0, a, h => h
  | e + 1, a, h => by
    show (if isC f n a 32 = true then skp f n e (a + 1) else a) ≤ n
    by_cases c : isC f n a 32 = true
    · rw [if_pos c]
      exact skp_le e (a + 1) (by have := (isC_t.mp c).1; omega)
    · rw [if_neg c]
      exact h
theorem skp_no {f : Nat → Int32} {n : Nat} : ∀ e a, n ≤ a + e → ¬ isC f n (skp f n e a) 32 = true
  | 0, a, h => fun c => by
    have := (isC_t.mp c).1
    have e : skp f n 0 a = a := rfl
    omega
  | e + 1, a, h => by
    show ¬ isC f n (if isC f n a 32 = true then skp f n e (a + 1) else a) 32 = true
    by_cases c : isC f n a 32 = true
    · rw [if_pos c]
      exact skp_no e (a + 1) (by omega)
    · rw [if_neg c]
      exact c
theorem skpa_ge {f : Nat → Int32} {n a : Nat} : a ≤ skpa f n a := skp_ge _ _
theorem skpa_le {f : Nat → Int32} {n a : Nat} (h : a ≤ n) : skpa f n a ≤ n := skp_le _ _ h
theorem skpa_no {f : Nat → Int32} {n a : Nat} : ¬ isC f n (skpa f n a) 32 = true := skp_no _ _ (by omega)
theorem skpa_id {f : Nat → Int32} {n a : Nat} (h : ¬ isC f n a 32 = true) : skpa f n a = a := by
  unfold skpa
  cases n - a with
  | zero => rfl
  | succ e =>
    show (if isC f n a 32 = true then skp f n e (a + 1) else a) = a
    rw [if_neg h]
theorem skpa_2 {f : Nat → Int32} {n a : Nat} : skpa f n (skpa f n a) = skpa f n a := skpa_id skpa_no
/-- digits -/
def vdg (f : Nat → Int32) (n : Nat) : Nat → Int → Nat → Nat ⊕ (Int × Nat)
  | 0, v, a => if isD f n a = true then .inl a else .inr (v, a)
  | r + 1, v, a => if isD f n a = true then vdg f n r (10 * v + ((bn (f a) : Int) - 48)) (a + 1) else .inr (v, a)
def vnm (f : Nat → Int32) (n a : Nat) : Nat ⊕ (Int × Nat) :=
  if isD f n (if isC f n a 45 = true then a + 1 else a) = true then
    match vdg f n 9 0 (if isC f n a 45 = true then a + 1 else a) with
    | .inl p => .inl p
    | .inr vb => .inr (if isC f n a 45 = true then -vb.1 else vb.1, vb.2)
  else .inl (if isC f n a 45 = true then a + 1 else a)
def isN (f : Nat → Int32) (n a : Nat) : Bool := isC f n a 45 || isD f n a
theorem vdg_b {f : Nat → Int32} {n : Nat} : ∀ (r : Nat) (v : Int) (a : Nat), 0 ≤ v → v < 10 ^ (9 - r) → r ≤ 9 → a ≤ n → ∀ x b, vdg f n r v a = .inr (x, b) → 0 ≤ x ∧ x < 1000000000 ∧ a ≤ b ∧ b ≤ n
  | 0, v, a, h1, h2, _, h3, x, b, h => by
    have e : vdg f n 0 v a = if isD f n a = true then .inl a else .inr (v, a) := rfl
    rw [e] at h
    by_cases c : isD f n a = true
    · rw [if_pos c] at h; cases h
    · rw [if_neg c] at h
      cases h
      exact ⟨h1, h2, Nat.le_refl _, h3⟩
  | r + 1, v, a, h1, h2, hr, h3, x, b, h => by
    have e : vdg f n (r + 1) v a = if isD f n a = true then vdg f n r (10 * v + ((bn (f a) : Int) - 48)) (a + 1) else .inr (v, a) := rfl
    rw [e] at h
    have p9 : (10 : Int) ^ (9 - (r + 1)) ≤ 1000000000 := by
      have : r = 0 ∨ r = 1 ∨ r = 2 ∨ r = 3 ∨ r = 4 ∨ r = 5 ∨ r = 6 ∨ r = 7 ∨ r = 8 := by omega
      rcases this with rfl | rfl | rfl | rfl | rfl | rfl | rfl | rfl | rfl <;> decide
    by_cases c : isD f n a = true
    · rw [if_pos c] at h
      have ⟨d1, d2, d3⟩ := isD_t.mp c
      have hp : (10 : Int) ^ (9 - r) = 10 * 10 ^ (9 - (r + 1)) := by
        rw [show 9 - r = (9 - (r + 1)) + 1 by omega, Int.pow_succ, Int.mul_comm]
      have := vdg_b r (10 * v + ((bn (f a) : Int) - 48)) (a + 1) (by omega) (by rw [hp]; omega) (by omega) (by omega) x b h
      exact ⟨this.1, this.2.1, by omega, this.2.2.2⟩
    · rw [if_neg c] at h
      cases h
      exact ⟨h1, by omega, Nat.le_refl _, h3⟩
theorem vnm_b {f : Nat → Int32} {n a : Nat} {x : Int} {b : Nat} (ha : a ≤ n) (h : vnm f n a = .inr (x, b)) : -1000000000 < x ∧ x < 1000000000 ∧ a ≤ b ∧ b ≤ n := by
  unfold vnm at h
  have h1 : a ≤ (if isC f n a 45 = true then a + 1 else a) ∧ (if isC f n a 45 = true then a + 1 else a) ≤ n := by
    by_cases c : isC f n a 45 = true
    · have := isC_t.mp c
      rw [if_pos c]
      omega
    · rw [if_neg c]
      omega
  obtain ⟨a', ha'⟩ : ∃ a', a' = if isC f n a 45 = true then a + 1 else a := ⟨_, rfl⟩
  rw [← ha'] at h h1
  by_cases c : isD f n a' = true
  · rw [if_pos c] at h
    cases hd : vdg f n 9 0 a' with
    | inl p => rw [hd] at h; cases h
    | inr vb =>
      rw [hd] at h
      obtain ⟨v, b'⟩ := vb
      have hb := vdg_b 9 0 a' (by decide) (by decide) (by decide) h1.2 v b' hd
      have h' : Sum.inr ((if isC f n a 45 = true then -v else v), b') = (Sum.inr (x, b) : Nat ⊕ (Int × Nat)) := h
      have h2 : (if isC f n a 45 = true then -v else v) = x ∧ b' = b := by
        have := Sum.inr.inj h'
        exact ⟨congrArg Prod.fst this, congrArg Prod.snd this⟩
      rw [← h2.1, ← h2.2]
      by_cases c2 : isC f n a 45 = true
      · rw [if_pos c2]
        omega
      · rw [if_neg c2]
        omega
  · rw [if_neg c] at h; cases h
/-! the engine -/
/-- only the place in the text has moved -/
def SC (M M' : Mem) (a : Nat) : Prop := ST M' ∧ Df (fun a i => a = 1006 ∧ i = 259) n2 n2 M M' ∧ cI M' 1006 259 = iw (a : Int) ∧ m_nx M' = m_nx M ∧ m_sl M' = m_sl M
/-- a text is looked at -/
def TX (M : Mem) (f : Nat → Int32) (n a : Nat) : Prop := ST M ∧ cR M 1006 257 = 1001 ∧ cI M 1006 258 = iw (n : Int) ∧ n ≤ 16000 ∧ cI M 1006 259 = iw (a : Int) ∧ a ≤ n ∧ ∀ i, cI M 1001 i = f i
theorem SC.tx {M M' : Mem} {f : Nat → Int32} {n a b : Nat} (s : SC M M' b) (t : TX M f n a) (hb : b ≤ n) : TX M' f n b := by
  obtain ⟨t1, t2, t3, t4, t5, t6, t7⟩ := t
  have h0 := t1.1
  exact ⟨s.1, by rw [s.2.1.cR (by omega) (fun q => q)]; exact t2, by rw [s.2.1.cI (by omega) (by omega)]; exact t3, t4, s.2.2.1, hb, fun i => by rw [s.2.1.cI (by omega) (by omega)]; exact t7 i⟩
theorem SC.trans {M M' M'' : Mem} {a b : Nat} (s : SC M M' a) (t : SC M' M'' b) : SC M M'' b := ⟨t.1, s.2.1.trans t.2.1, t.2.2.1, t.2.2.2.1.trans s.2.2.2.1, t.2.2.2.2.trans s.2.2.2.2⟩
theorem SC.refl {M : Mem} {f : Nat → Int32} {n a : Nat} (t : TX M f n a) : SC M M a := ⟨t.1, Df.refl _ _ _ _, t.2.2.2.2.1, rfl, rfl⟩
theorem SC.w {M : Mem} (h : ST M) (a : Nat) : SC M (wI M 1006 259 (iw (a : Int))) a := ⟨h, Df.wI _ ⟨rfl, rfl⟩, by rw [cI_wI, if_pos ⟨rfl, rfl⟩], rfl, rfl⟩
theorem E_look {M : Mem} {f : Nat → Int32} {n a : Nat} (t : TX M f n a) : F_X3_look M 1006 = some (lk f n a) := by
  obtain ⟨t1, t2, t3, t4, t5, t6, t7⟩ := t
  unfold F_X3_look F_X3_look_b28 lk
  simp only [g1006_259, g1006_258, t1, t3, t5, Option.bind_some]
  by_cases c : a < n
  · rw [if_pos (by rw [iw_le4 (by omega) (by omega)]; exact c), if_pos c]
    simp only [g1006_257, g1006_259, t1, t2, t5, ab_of (Or.inr (Or.inl (t1001 t1))) (l1001 t1) (show a < 16000 by omega) (by decide), Option.bind_some, bn_and, t7]
    rfl
  · rw [if_neg (by rw [iw_le4 (by omega) (by omega)]; exact c), if_neg c]
theorem TX.go {M : Mem} {f : Nat → Int32} {n a : Nat} (t : TX M f n a) : pi M 1006 259 (iw (a : Int) + 1) = some (wI M 1006 259 (iw ((a + 1 : Nat) : Int))) := by rw [iw_succ, p1006_259 t.1]
theorem E_skip_l {f : Nat → Int32} {n : Nat} : ∀ (e N a : Nat) (M : Mem), n ≤ a + e → TX M f n a → ∃ M', F_X3_skip_b0 (N + 1 + e) M 1006 = some M' ∧ SC M M' (skp f n e a)
  | 0, N, a, M, he, t => by
    refine ⟨M, ?_, SC.refl t⟩
    show F_X3_skip_b0_st (F_X3_skip_b0 N) M 1006 = _
    unfold F_X3_skip_b0_st
    simp only [v1006, t.1, E_look t, Option.bind_some]
    rw [if_neg (fun hh => by have := (isC_t.mp (lk32.mp hh)).1; omega)]
  | e + 1, N, a, M, he, t => by
    have hs : F_X3_skip_b0 (N + 1 + (e + 1)) M 1006 = F_X3_skip_b0_st (F_X3_skip_b0 (N + 1 + e)) M 1006 := rfl
    rw [hs]
    unfold F_X3_skip_b0_st
    simp only [v1006, t.1, E_look t, Option.bind_some]
    have e0 : skp f n (e + 1) a = if isC f n a 32 = true then skp f n e (a + 1) else a := rfl
    rw [e0]
    by_cases c : isC f n a 32 = true
    · have hl := (isC_t.mp c).1
      rw [if_pos (lk32.mpr c), if_pos c]
      simp only [g1006_259, t.1, t.2.2.2.2.1, Option.bind_some, t.go]
      have s := SC.w t.1 (a + 1)
      obtain ⟨M', f1, f2⟩ := E_skip_l e N (a + 1) _ (by omega) (s.tx t (by omega))
      exact ⟨M', f1, s.trans f2⟩
    · rw [if_neg (fun hh => c (lk32.mp hh)), if_neg c]
      exact ⟨M, rfl, SC.refl t⟩
theorem E_skip {M : Mem} {f : Nat → Int32} {n a : Nat} (t : TX M f n a) : ∃ M', F_X3_skip M 1006 = some M' ∧ SC M M' (skpa f n a) := by
  have hxN : xN = 1099511627776 := rfl
  have := t.2.2.2.1
  obtain ⟨N, hN⟩ : ∃ N, N + 1 + (n - a) = xN := ⟨xN - 1 - (n - a), by omega⟩
  unfold F_X3_skip skpa
  rw [← hN]
  exact E_skip_l (n - a) N a M (by omega) t
theorem E_isNumber {M : Mem} {f : Nat → Int32} {n a : Nat} (t : TX M f n a) : F_X3_isNumber M 1006 = some (mr (isN f n a)) := by
  unfold F_X3_isNumber F_X3_isNumber_b19 F_X3_isNumber_b24 isN
  simp only [v1006, t.1, E_look t, E_isDigit, Option.bind_some]
  by_cases c : isC f n a 45 = true
  · rw [if_pos (lk45.mpr c), c]
    rfl
  · rw [if_neg (fun hh => c (lk45.mp hh)), eq_false_of_ne_true c]
    cases isD f n a <;> rfl
/-- stopped by a fault -/
def pVw : Nat → Nat → Prop := fun a _ => a = 1006 ∨ a = 1007 ∨ a = 1008 ∨ a = 1002
def VF (M M' : Mem) (p : Nat) : Prop := ST M' ∧ Df pVw n2 n2 M M' ∧ m_nx M' = m_nx M ∧ m_sl M' = m_sl M ∧ cI M' 1002 130 = iw (p : Int) ∧ cI M' 1006 262 = cI M 1006 262
theorem VF.of {M : Mem} (h : ST M) (p : Nat) : VF M (eT M 20 (iw (p : Int))) p := ⟨h, (eT_d2 M 20 _).mono (fun a i q => by unfold at1 at q; unfold pVw; omega) (fun _ _ q => q) (fun _ _ q => q), rfl, rfl, (eT_c M 20 _).2, by unfold eT; rw [cI_wI, if_neg (by decide), cI_wI, if_neg (by decide)]⟩
theorem SC.vf {M M' M'' : Mem} {a p : Nat} (h : ST M) (s : SC M M' a) (v : VF M' M'' p) : VF M M'' p := ⟨v.1, (s.2.1.mono (fun a i q => Or.inl q.1) (fun _ _ q => q) (fun _ _ q => q)).trans v.2.1, v.2.2.1.trans s.2.2.2.1, v.2.2.2.1.trans s.2.2.2.2, v.2.2.2.2.1, v.2.2.2.2.2.trans (s.2.1.cI (by have := h.1; omega) (by omega))⟩
theorem E_vwrong {α : Type} {M : Mem} (h : ST M) (p : Nat) : ((F_X3_wrong M 1006 (iw (p : Int))).bind fun z => (ie z.2 z.1).bind fun _ => (some (.inr (z.1, z.2)) : Option (α ⊕ (Nat × Mem)))) = some (.inr (1003, eT M 20 (iw (p : Int)))) := by
  have hs : ST (eT M 20 (iw (p : Int))) := h
  unfold F_X3_wrong
  simp only [g1006_256, v1002, h, E_at h, Option.bind_some]
  unfold ie
  rw [if_pos (t1003 hs)]
  rfl
theorem iw_neg' (v : Int) : -(iw v) = iw (-v) := (Int32.ofInt_neg v).symm
