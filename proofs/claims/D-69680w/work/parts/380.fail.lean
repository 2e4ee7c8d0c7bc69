/-! ===== FAILURES: what is thrown, where a cell failed; work that may fail ===== -/
/-- the engine's memory when it stops -/
def eT (M : Mem) (c p : Int32) : Mem := wI (wI M 1002 129 c) 1002 130 p
/-- the model's -/
def mT (M : Mem) (c p : Int32) : Mem := mo (wI (wI M 1075 1152 c) 1075 1153 p) 64
theorem eT_df (M : Mem) (c p : Int32) : Df psc n2 n2 M (eT M c p) := (Df.wI (P := psc) (Q := n2) (R := n2) (M := M) (a := 1002) (i := 129) c (Or.inr (Or.inl rfl))).trans (Df.wI (P := psc) (Q := n2) (R := n2) (a := 1002) (i := 130) p (Or.inr (Or.inl rfl)))
theorem eT_d2 (M : Mem) (c p : Int32) : Df (at1 1002) n2 n2 M (eT M c p) := (Df.wI (P := at1 1002) (Q := n2) (R := n2) (M := M) (a := 1002) (i := 129) c rfl).trans (Df.wI (P := at1 1002) (Q := n2) (R := n2) (a := 1002) (i := 130) p rfl)
theorem qt_at1 {a : Nat} (h : a < 1334) : qt (at1 a) := fun a' i q1 q2 => by unfold at1 at q2; omega
theorem psc_1075 (i : Nat) : psc 1075 i := by unfold psc; omega
theorem mT_df (M : Mem) (c p : Int32) : Df psc n2 n2 M (mT M c p) := ((Df.wI (P := psc) (Q := n2) (R := n2) (M := M) (a := 1075) (i := 1152) c (psc_1075 _)).trans (Df.wI (P := psc) (Q := n2) (R := n2) (a := 1075) (i := 1153) p (psc_1075 _))).trans (Df.new (P := psc) (Q := n2) (R := n2) 64 (x_cn 64))
theorem eT_c (M : Mem) (c p : Int32) : cI (eT M c p) 1002 129 = c ∧ cI (eT M c p) 1002 130 = p := by
  unfold eT
  exact ⟨by rw [cI_wI, if_neg (by decide), cI_wI, if_pos ⟨rfl, rfl⟩], by rw [cI_wI, if_pos ⟨rfl, rfl⟩]⟩
theorem mT_c {M : Mem} (c p : Int32) (h : 1334 ≤ m_nx M) : cI (mT M c p) 1075 1152 = c ∧ cI (mT M c p) 1075 1153 = p := by
  have e : ∀ i, cI (mT M c p) 1075 i = cI (wI (wI M 1075 1152 c) 1075 1153 p) 1075 i := fun i => by
    show cI (m_new (wI (wI M 1075 1152 c) 1075 1153 p) 64 (x_cn 64)) 1075 i = _
    rw [cI_new, if_neg (by show ¬ 1075 = m_nx M; omega)]
  exact ⟨by rw [e, cI_wI, if_neg (by decide), cI_wI, if_pos ⟨rfl, rfl⟩], by rw [e, cI_wI, if_pos ⟨rfl, rfl⟩]⟩
theorem E_at {M : Mem} (h : ST M) (c p : Int32) : F_X1_at M 1002 c p = some (1003, eT M c p) := by
  simp only [F_X1_at, p1002_129, p1002_130, g1002_128, h, ST_wI, Option.bind_some]
  rfl
theorem M_at {M : Mem} (h : ST M) (c p : Int32) : F_X17_at M 1075 c p = some (m_nx M, mT M c p) := by
  have t : m_tg (mo (wI (wI M 1075 1152 c) 1075 1153 p) 64) (m_nx M) = 64 := by
    show m_tg (m_new (wI (wI M 1075 1152 c) 1075 1153 p) 64 (x_cn 64)) (m_nx M) = 64
    exact tg_new.trans (if_pos rfl)
  simp only [F_X17_at, p1075_1152, p1075_1153, h, ST_wI, Option.bind_some]
  rw [show m_nx (wI (wI M 1075 1152 c) 1075 1153 p) = m_nx M from rfl, ng_of t (by decide)]
  simp only [Option.bind_some]
  unfold ie
  rw [if_pos t]
  rfl
theorem eTh_of {α : Type} {M : Mem} (h : ST M) (c : Int32) : (eTh M 1002 c : Option (α ⊕ (Nat × Mem))) = some (.inr (1003, eT M c (-1))) := by
  have hs : ST (eT M c (-1)) := h
  unfold eTh F_X1_with
  simp only [v1002, h, E_at h, Option.bind_some]
  unfold ie
  rw [if_pos (t1003 hs)]
  rfl
theorem mTh_of {α : Type} {M : Mem} (h : ST M) (c : Int32) : (mTh M 1068 c : Option (α ⊕ (Nat × Mem))) = some (.inr (m_nx M, mT M c (-1))) := by
  have t : m_tg (mT M c (-1)) (m_nx M) = 64 := by
    show m_tg (m_new (wI (wI M 1075 1152 c) 1075 1153 (-1)) 64 (x_cn 64)) (m_nx M) = 64
    exact tg_new.trans (if_pos rfl)
  unfold mTh F_X16_fails
  simp only [v1068, g1068_1103, v1075, h, M_at h, Option.bind_some]
  unfold ie
  rw [if_pos t]
  rfl
/-- where the first failure is -/
def ff (r : Nat → Option Int64) : Nat → Nat → Option Nat
  | _, 0 => none
  | i, e + 1 => match r i with
    | none => some i
    | some _ => ff r (i + 1) e
theorem ff_none {r : Nat → Option Int64} {i e : Nat} (h : r i = none) : ff r i (e + 1) = some i := by
  show (match r i with | none => some i | some _ => ff r (i + 1) e) = _
  rw [h]
theorem ff_some {r : Nat → Option Int64} {i e : Nat} {v : Int64} (h : r i = some v) : ff r i (e + 1) = ff r (i + 1) e := by
  show (match r i with | none => some i | some _ => ff r (i + 1) e) = _
  rw [h]
theorem ff_all {r : Nat → Option Int64} : ∀ (e i : Nat), ff r i e = none → ∀ x, i ≤ x → x < i + e → ∃ v, r x = some v
  | 0, i, _, x, h1, h2 => by omega
  | e + 1, i, h, x, h1, h2 => by
    cases hr : r i with
    | none => rw [ff_none hr] at h; exact absurd h (by simp)
    | some v =>
      rw [ff_some hr] at h
      by_cases c : x = i
      · exact ⟨v, by rw [c]; exact hr⟩
      · exact ff_all e (i + 1) h x (by omega) (by omega)
/-- a loop that works values out into a row, and may fail -/
theorem wloop {β : Type} (B : Nat → Mem → Int32 → Option β) (fl : Mem → Nat → Option β) (arr n : Nat) (r : Nat → Option Int64) (J Jf : Mem → Prop)
    (ok : ∀ N M i v, J M → i < n → r i = some v → ∃ M', B (N + 1) M (iw (i : Int)) = B N M' (iw ((i + 1 : Nat) : Int)) ∧ J M' ∧ cJ M' arr i = v ∧ ∀ x, x < i → cJ M' arr x = cJ M arr x)
    (no : ∀ N M i, J M → i < n → r i = none → ∃ M', B (N + 1) M (iw (i : Int)) = fl M' i ∧ Jf M') :
    ∀ (e N i : Nat) (M : Mem), i + e = n → J M → (∀ x, x < i → cJ M arr x = (r x).getD 0) →
      (ff r i e = none ∧ ∃ M', J M' ∧ B (N + e) M (iw (i : Int)) = B N M' (iw (n : Int)) ∧ ∀ x, x < n → cJ M' arr x = (r x).getD 0) ∨ (∃ q M', ff r i e = some q ∧ q < n ∧ r q = none ∧ Jf M' ∧ B (N + e) M (iw (i : Int)) = fl M' q) := by
  intro e
  induction e with
  | zero =>
    intro N i M hi hJ hx
    have : i = n := by omega
    subst this
    exact Or.inl ⟨rfl, M, hJ, rfl, hx⟩
  | succ e ih =>
    intro N i M hi hJ hx
    cases hr : r i with
    | none =>
      right
      obtain ⟨M', f1, f2⟩ := no (N + e) M i hJ (by omega) hr
      exact ⟨i, M', ff_none hr, by omega, hr, f2, f1⟩
    | some v =>
      obtain ⟨M', f1, f2, f3, f4⟩ := ok (N + e) M i v hJ (by omega) hr
      rw [ff_some hr, show N + (e + 1) = N + e + 1 from rfl, f1]
      exact ih N (i + 1) M' (by omega) f2 (fun x hx' => by
        by_cases c : x = i
        · rw [c, f3, hr]; rfl
        · rw [f4 x (by omega)]; exact hx x (by omega))
/-- the spot of a cell in row order: the engine writes it down -/
theorem E_failed_loop {z : Nat → Nat} {n : Nat} (hn : n ≤ 4) (hz : ∀ i, i < n → 0 < z i ∧ z i ≤ 4096) : ∀ (m N x : Nat) (M : Mem), m ≤ n → m + 1 ≤ N → x < 2147483648 → ST M → (∀ i, i < n → cI M 1062 i = iw (z i)) →
    ∃ M', F_X0_failedAt_b17 N M 1000 (iw (x : Int)) (iw ((m : Int) - 1)) = some (-(cI M 1002 129), M') ∧ m_nx M' = m_nx M ∧ m_sl M' = m_sl M ∧ Df (fun a _ => a = 1063) n2 n2 M M' ∧ ∀ i, cI M' 1063 i = if i < m then iw (dg z m x i : Nat) else cI M 1063 i := by
  intro m
  induction m with
  | zero =>
    intro N x M hm hN hx h hs
    obtain ⟨N, rfl⟩ : ∃ y, N = y + 1 := ⟨N - 1, by omega⟩
    refine ⟨M, ?_, rfl, rfl, Df.refl _ _ _ _, fun i => by rw [if_neg (by omega)]⟩
    show F_X0_failedAt_b17_st (F_X0_failedAt_b17 N) M _ _ _ = _
    unfold F_X0_failedAt_b17_st
    rw [if_pos (by decide)]
    simp only [g1000_67, g1002_129, h, Option.bind_some]
  | succ m ih =>
    intro N x M hm hN hx h hs
    obtain ⟨N, rfl⟩ : ∃ y, N = y + 1 := ⟨N - 1, by omega⟩
    have hlt : m < n := by omega
    have hzm := hz m hlt
    have h0 := h.1
    have d1 : Df (fun a _ => a = 1063) n2 n2 M (wI M 1063 m (iw ((x % z m : Nat) : Int))) := Df.wI _ rfl
    have hdiv := Nat.div_le_self x (z m)
    obtain ⟨M', f1, f2, f3, f4, f5⟩ := ih N (x / z m) (wI M 1063 m (iw ((x % z m : Nat) : Int))) (by omega) (by omega) (by omega) h (fun i hi => by rw [cI_wI, if_neg (fun q => absurd q.1 (by decide))]; exact hs i hi)
    refine ⟨M', ?_, f2, f3, d1.trans f4, fun i => ?_⟩
    · have hz0 : ¬ iw (z m : Nat) = 0 := by rw [iw_eq0 (by omega) (by omega)]; omega
      have e : ((m + 1 : Nat) : Int) - 1 = (m : Int) := by omega
      have e1 : j_irem (iw (x : Int)) (iw (z m : Nat)) = iw ((x % z m : Nat) : Int) := by
        rw [iw_rem (by omega) (by omega) (by omega) (by omega)]
        rfl
      have e2 : iw (x : Int) / iw (z m : Nat) = iw ((x / z m : Nat) : Int) := by
        rw [iw_div (by omega) (by omega) (by omega) (by omega)]
        rfl
      have e3 : iw (m : Int) + -1 = iw ((m : Int) - 1) := by rw [show (-1 : Int32) = iw (-1) from rfl, iw_add]; rfl
      have a1 : ai M 1062 (iw (m : Int)) = some (iw (z m : Nat)) := by rw [ai_of (t1062 h) (l1062 h) (by omega) (by decide), hs m hlt]
      have s1 : si M 1063 (iw (m : Int)) (iw ((x % z m : Nat) : Int)) = some (wI M 1063 m (iw ((x % z m : Nat) : Int))) := si_of _ (t1063 h) (l1063 h) (by omega) (by decide)
      have a2 : ai (wI M 1063 m (iw ((x % z m : Nat) : Int))) 1062 (iw (m : Int)) = some (iw (z m : Nat)) := a1
      show F_X0_failedAt_b17_st (F_X0_failedAt_b17 N) M _ _ _ = _
      unfold F_X0_failedAt_b17_st
      rw [e, if_neg (by rw [iw_lt0 (by omega) (by omega)]; omega)]
      simp only [g1000_90, g1000_88, h, ST_wI, a1, hz0, if_false, e1, s1, a2, e2, e3, Option.bind_some]
      exact f1
    · rw [f5 i]
      by_cases c : i < m
      · rw [if_pos c, if_pos (by omega)]
        show _ = iw ((if i = m then x % z m else dg z m (x / z m) i : Nat) : Int)
        rw [if_neg (by omega)]
      · rw [if_neg c, cI_wI]
        by_cases c' : i = m
        · rw [if_pos ⟨rfl, c'⟩, if_pos (by omega)]
          show _ = iw ((if i = m then x % z m else dg z m (x / z m) i : Nat) : Int)
          rw [if_pos c']
        · rw [if_neg (fun q => c' q.2), if_neg (by omega)]
theorem E_failedAt {M : Mem} {z : Nat → Nat} {n x : Nat} (h : ST M) (hn : n ≤ 4) (hz : ∀ i, i < n → 0 < z i ∧ z i ≤ 4096) (ha : cI M 1000 89 = iw n) (hs : ∀ i, i < n → cI M 1062 i = iw (z i)) (hx : x < 2147483648) :
    ∃ M', F_X0_failedAt M 1000 (iw (x : Int)) = some (-(cI M 1002 129), M') ∧ m_nx M' = m_nx M ∧ m_sl M' = m_sl M ∧ Df (fun a i => a = 1063 ∨ (a = 1000 ∧ i = 91)) n2 n2 M M' ∧ cI M' 1000 91 = iw n ∧ ∀ i, i < n → cI M' 1063 i = iw (dg z n x i : Nat) := by
  have h0 := h.1
  obtain ⟨M', f1, f2, f3, f4, f5⟩ := E_failed_loop hn hz n xN x (wI M 1000 91 (iw n)) (Nat.le_refl _) (by have : xN = 1099511627776 := rfl; omega) hx h (fun i hi => by rw [cI_wI, if_neg (fun q => absurd q.1 (by decide))]; exact hs i hi)
  refine ⟨M', ?_, f2, f3, (Df.wI (P := fun a i => a = 1063 ∨ (a = 1000 ∧ i = 91)) (Q := n2) (R := n2) (a := 1000) (i := 91) _ (Or.inr ⟨rfl, rfl⟩)).trans (f4.mono (fun _ _ q => Or.inl q) (fun _ _ q => q) (fun _ _ q => q)), ?_, fun i hi => by rw [f5 i, if_pos hi]⟩
  · unfold F_X0_failedAt
    simp only [g1000_89, p1000_91, h, ST_wI, ha, cI_wI, Nat.reduceEqDiff, and_false, if_false, Option.bind_some]
    rw [show (1 : Int32) = iw 1 from rfl, iw_sub, f1, cI_wI, if_neg (by decide)]
  · rw [f4.cI (show 1000 < m_nx M by omega) (fun q => absurd q (by decide)), cI_wI, if_pos ⟨rfl, rfl⟩]
/-- the model goes to the spot -/
theorem M_goTo_loop {z : Nat → Nat} {n sa : Nat} (hn : n ≤ 4) (hz : ∀ i, i < n → 0 < z i ∧ z i ≤ 4096) : ∀ (m N x : Nat) (M : Mem), m ≤ n → m + 1 ≤ N → x < 2147483648 → ST M → IRw M sa n (fun i => iw (z i)) →
    ∃ M', F_X16_goTo_b14 N M 1068 sa (iw (x : Int)) (iw ((m : Int) - 1)) = some M' ∧ m_nx M' = m_nx M ∧ m_sl M' = m_sl M ∧ Df (fun a _ => a = 1082) n2 n2 M M' ∧ ∀ i, cI M' 1082 i = if i < m then iw (dg z m x i : Nat) else cI M 1082 i := by
  intro m
  induction m with
  | zero =>
    intro N x M hm hN hx h hs
    obtain ⟨N, rfl⟩ : ∃ y, N = y + 1 := ⟨N - 1, by omega⟩
    refine ⟨M, ?_, rfl, rfl, Df.refl _ _ _ _, fun i => by rw [if_neg (by omega)]⟩
    show F_X16_goTo_b14_st (F_X16_goTo_b14 N) M _ _ _ _ = _
    unfold F_X16_goTo_b14_st
    rw [if_pos (by decide)]
  | succ m ih =>
    intro N x M hm hN hx h hs
    obtain ⟨N, rfl⟩ : ∃ y, N = y + 1 := ⟨N - 1, by omega⟩
    have hlt : m < n := by omega
    have hzm := hz m hlt
    have h0 := h.1
    have hsa := hs.1
    have d1 : Df (fun a _ => a = 1082) n2 n2 M (wI M 1082 m (iw ((x % z m : Nat) : Int))) := Df.wI _ rfl
    have hdiv := Nat.div_le_self x (z m)
    have hs' : IRw (wI M 1082 m (iw ((x % z m : Nat) : Int))) sa n (fun i => iw (z i)) := hs.df d1 (fun a i q1 q2 => by have q2 : a = 1082 := q2; omega)
    obtain ⟨M', f1, f2, f3, f4, f5⟩ := ih N (x / z m) (wI M 1082 m (iw ((x % z m : Nat) : Int))) (by omega) (by omega) (by omega) h hs'
    refine ⟨M', ?_, f2, f3, d1.trans f4, fun i => ?_⟩
    · have hz0 : ¬ iw (z m : Nat) = 0 := by rw [iw_eq0 (by omega) (by omega)]; omega
      have e : ((m + 1 : Nat) : Int) - 1 = (m : Int) := by omega
      have e1 : j_irem (iw (x : Int)) (iw (z m : Nat)) = iw ((x % z m : Nat) : Int) := by
        rw [iw_rem (by omega) (by omega) (by omega) (by omega)]
        rfl
      have e2 : iw (x : Int) / iw (z m : Nat) = iw ((x / z m : Nat) : Int) := by
        rw [iw_div (by omega) (by omega) (by omega) (by omega)]
        rfl
      have e3 : iw (m : Int) + -1 = iw ((m : Int) - 1) := by rw [show (-1 : Int32) = iw (-1) from rfl, iw_add]; rfl
      have a1 : ai M sa (iw (m : Int)) = some (iw (z m : Nat)) := hs.ai hn hlt
      have s1 : si M 1082 (iw (m : Int)) (iw ((x % z m : Nat) : Int)) = some (wI M 1082 m (iw ((x % z m : Nat) : Int))) := si_of _ (t1082 h) (l1082 h) (by omega) (by decide)
      have a2 : ai (wI M 1082 m (iw ((x % z m : Nat) : Int))) sa (iw (m : Int)) = some (iw (z m : Nat)) := hs'.ai hn hlt
      show F_X16_goTo_b14_st (F_X16_goTo_b14 N) M _ _ _ _ = _
      unfold F_X16_goTo_b14_st
      rw [e, if_neg (by rw [iw_lt0 (by omega) (by omega)]; omega)]
      simp only [g1068_1114, h, a1, hz0, if_false, e1, s1, a2, e2, e3, Option.bind_some]
      exact f1
    · rw [f5 i]
      by_cases c : i < m
      · rw [if_pos c, if_pos (by omega)]
        show _ = iw ((if i = m then x % z m else dg z m (x / z m) i : Nat) : Int)
        rw [if_neg (by omega)]
      · rw [if_neg c, cI_wI]
        by_cases c' : i = m
        · rw [if_pos ⟨rfl, c'⟩, if_pos (by omega)]
          show _ = iw ((if i = m then x % z m else dg z m (x / z m) i : Nat) : Int)
          rw [if_pos c']
        · rw [if_neg (fun q => c' q.2), if_neg (by omega)]
theorem M_goTo {M : Mem} {z : Nat → Nat} {n x sa : Nat} (h : ST M) (hn : n ≤ 4) (hz : ∀ i, i < n → 0 < z i ∧ z i ≤ 4096) (hs : IRw M sa n (fun i => iw (z i))) (hx : x < 2147483648) :
    ∃ M', F_X16_goTo M 1068 sa (iw (x : Int)) = some M' ∧ m_nx M' = m_nx M ∧ m_sl M' = m_sl M ∧ Df (fun a i => a = 1082 ∨ (a = 1068 ∧ i = 1115)) n2 n2 M M' ∧ cI M' 1068 1115 = iw n ∧ ∀ i, i < n → cI M' 1082 i = iw (dg z n x i : Nat) := by
  have h0 := h.1
  have hsa := hs.1
  have d1 : Df (fun a i => a = 1082 ∨ (a = 1068 ∧ i = 1115)) n2 n2 M (wI M 1068 1115 (iw n)) := Df.wI _ (Or.inr ⟨rfl, rfl⟩)
  have hs' : IRw (wI M 1068 1115 (iw n)) sa n (fun i => iw (z i)) := hs.df d1 (fun a i q1 q2 => by rcases q2 with q | q <;> omega)
  obtain ⟨M', f1, f2, f3, f4, f5⟩ := M_goTo_loop hn hz n xN x (wI M 1068 1115 (iw n)) (Nat.le_refl _) (by have : xN = 1099511627776 := rfl; omega) hx h hs'
  refine ⟨M', ?_, f2, f3, d1.trans (f4.mono (fun _ _ q => Or.inl q) (fun _ _ q => q) (fun _ _ q => q)), ?_, fun i hi => by rw [f5 i, if_pos hi]⟩
  · unfold F_X16_goTo
    simp only [an_of hs.2.2.1 (by decide) hs.2.2.2.1, p1068_1115, h, an_of hs'.2.2.1 (by decide) hs'.2.2.2.1, Option.bind_some]
    rw [show (1 : Int32) = iw 1 from rfl, iw_sub, f1]
  · rw [f4.cI (show 1068 < m_nx M by omega) (fun q => absurd q (by decide)), cI_wI, if_pos ⟨rfl, rfl⟩]
theorem M_fails_loop {n : Nat} {c : Int32} (hn : n ≤ 4) : ∀ (e N i : Nat) (M : Mem), i + e = n → e + 1 ≤ N → ST M → cI M 1068 1115 = iw n →
    ∃ M', F_X16_failsAt_b10 N M 1068 c (iw (i : Int)) = some (-c, M') ∧ m_nx M' = m_nx M ∧ m_sl M' = m_sl M ∧ Df (fun a _ => a = 1083) n2 n2 M M' ∧ ∀ x, cI M' 1083 x = if i ≤ x ∧ x < n then cI M 1082 x else cI M 1083 x := by
  intro e
  induction e with
  | zero =>
    intro N i M hi hN h hc
    obtain ⟨N, rfl⟩ : ∃ y, N = y + 1 := ⟨N - 1, by omega⟩
    refine ⟨M, ?_, rfl, rfl, Df.refl _ _ _ _, fun x => by rw [if_neg (by omega)]⟩
    show F_X16_failsAt_b10_st (F_X16_failsAt_b10 N) M _ _ _ = _
    unfold F_X16_failsAt_b10_st
    simp only [g1068_1115, h, hc, Option.bind_some]
    rw [if_neg (by rw [iw_le4 (by omega) (by omega)]; omega)]
  | succ e ih =>
    intro N i M hi hN h hc
    obtain ⟨N, rfl⟩ : ∃ y, N = y + 1 := ⟨N - 1, by omega⟩
    have d1 : Df (fun a _ => a = 1083) n2 n2 M (wI M 1083 i (cI M 1082 i)) := Df.wI _ rfl
    obtain ⟨M', f1, f2, f3, f4, f5⟩ := ih N (i + 1) (wI M 1083 i (cI M 1082 i)) (by omega) (by omega) h (by rw [cI_wI, if_neg (fun q => absurd q.1 (by decide))]; exact hc)
    refine ⟨M', ?_, f2, f3, d1.trans f4, fun x => ?_⟩
    · have a1 : ai M 1082 (iw (i : Int)) = some (cI M 1082 i) := ai_of (t1082 h) (l1082 h) (by omega) (by decide)
      have s1 : si M 1083 (iw (i : Int)) (cI M 1082 i) = some (wI M 1083 i (cI M 1082 i)) := si_of _ (t1083 h) (l1083 h) (by omega) (by decide)
      show F_X16_failsAt_b10_st (F_X16_failsAt_b10 N) M _ _ _ = _
      unfold F_X16_failsAt_b10_st
      simp only [g1068_1115, g1068_1116, g1068_1114, h, hc, a1, s1, iw_succ, Option.bind_some]
      rw [if_pos (by rw [iw_le4 (by omega) (by omega)]; omega)]
      exact f1
    · rw [f5 x]
      simp only [cI_wI, Nat.reduceEqDiff, false_and, if_false, true_and]
      by_cases c1 : x = i
      · rw [if_neg (by omega), if_pos c1, if_pos (by omega), c1]
      · by_cases c2 : i + 1 ≤ x ∧ x < n
        · rw [if_pos c2, if_pos (by omega)]
        · rw [if_neg c2, if_neg c1, if_neg (by omega)]
theorem M_failsAt {M : Mem} {n : Nat} {c : Int32} (h : ST M) (hn : n ≤ 4) (hc : cI M 1068 1115 = iw n) :
    ∃ M', F_X16_failsAt M 1068 c = some (-c, M') ∧ m_nx M' = m_nx M ∧ m_sl M' = m_sl M ∧ Df (fun a i => a = 1083 ∨ (a = 1068 ∧ i = 1117)) n2 n2 M M' ∧ cI M' 1068 1117 = iw n ∧ ∀ i, i < n → cI M' 1083 i = cI M 1082 i := by
  have h0 := h.1
  obtain ⟨M', f1, f2, f3, f4, f5⟩ := M_fails_loop (c := c) hn n xN 0 (wI M 1068 1117 (iw n)) (by omega) (by have : xN = 1099511627776 := rfl; omega) h (by rw [cI_wI, if_neg (by decide)]; exact hc)
  refine ⟨M', ?_, f2, f3, (Df.wI (P := fun a i => a = 1083 ∨ (a = 1068 ∧ i = 1117)) (Q := n2) (R := n2) (a := 1068) (i := 1117) _ (Or.inr ⟨rfl, rfl⟩)).trans (f4.mono (fun _ _ q => Or.inl q) (fun _ _ q => q) (fun _ _ q => q)), ?_, fun i hi => ?_⟩
  · unfold F_X16_failsAt
    simp only [g1068_1115, p1068_1117, h, hc, Option.bind_some]
    exact f1
  · rw [f4.cI (show 1068 < m_nx M by omega) (fun q => absurd q (by decide)), cI_wI, if_pos ⟨rfl, rfl⟩]
  · rw [f5 i, if_pos ⟨Nat.zero_le _, hi⟩, cI_wI, if_neg (fun q => absurd q.1 (by decide))]
/-- what calls change that may fail -/
def pFl : Nat → Nat → Prop := fun a i => (a = 1000 ∧ i = 91) ∨ a = 1063 ∨ a = 1083 ∨ (a = 1068 ∧ (i = 1115 ∨ i = 1117))
theorem qt_pFl : qt pFl := fun a i q1 q2 => by unfold pFl at q2; omega
theorem noGr_pFl : noGr pFl := fun a i q1 q2 => by unfold pGr at q1; unfold pFl at q2; omega
/-- told numbers after a call that may fail: what failed is alike -/
theorem I4.fl {p Q R : Nat → Nat → Prop} {M M' : Mem} (h : ST M) (d : Df p Q R M M') (h4 : I4 M) (hp : ∀ a i, ((a = 1000 ∧ (i = 94 ∨ i = 95 ∨ i = 96 ∨ i = 97 ∨ i = 98)) ∨ (a = 1068 ∧ (i = 1102 ∨ i = 1091 ∨ i = 1113 ∨ i = 1095 ∨ i = 1132))) → ¬ p a i)
    (hf : ∃ (n : Nat) (m : Int), n ≤ 4 ∧ -1 ≤ m ∧ (m = n ∨ (m = -1 ∧ n = 0)) ∧ cI M' 1000 91 = iw n ∧ cI M' 1068 1117 = iw m ∧ ∀ i, i < n → cI M' 1063 i = cI M' 1083 i) : I4 M' := by
  have h0 := h.1
  obtain ⟨h1, h2, h3, h4, h5, h6, -⟩ := h4
  have e := fun i (hi : i = 94 ∨ i = 95 ∨ i = 96 ∨ i = 97 ∨ i = 98) => d.cI (a := 1000) (i := i) (by omega) (hp _ _ (Or.inl ⟨rfl, hi⟩))
  have f := fun i (hi : i = 1102 ∨ i = 1091 ∨ i = 1113 ∨ i = 1095 ∨ i = 1132) => d.cI (a := 1068) (i := i) (by omega) (hp _ _ (Or.inr ⟨rfl, hi⟩))
  refine ⟨?_, ?_, ?_, ?_, ?_, ?_, hf⟩
  · rw [e 94 (by simp), f 1102 (by simp)]; exact h1
  · rw [e 95 (by simp), f 1091 (by simp)]; exact h2
  · rw [e 96 (by simp), f 1113 (by simp)]; exact h3
  · rw [e 97 (by simp)]; exact h4
  · rw [e 97 (by simp), f 1095 (by simp)]; exact h5
  · rw [e 98 (by simp), f 1132 (by simp)]; exact h6
/-- the model's part of it -/
def pFm : Nat → Nat → Prop := fun a i => a = 1083 ∨ (a = 1068 ∧ (i = 1115 ∨ i = 1117))
/-- both write down where it failed -/
theorem flB {A : Mem} {n q : Nat} {z : Nat → Nat} (hA : ST A) (hn : n ≤ 4) (hz : ∀ i, i < n → cI A 1062 i = iw (z i) ∧ z i ≤ 4096) (ha : cI A 1000 89 = iw n) (hq : q < prd z n) (hq2 : q < 2147483648) :
    ∃ M1, F_X0_failedAt A 1000 (iw (q : Int)) = some (-(cI A 1002 129), M1) ∧ ST M1 ∧ Df pFl n2 n2 A M1 ∧ m_nx M1 = m_nx A ∧ m_sl M1 = m_sl A ∧
      ∀ B sa, Df (pp pFm) qsc n2 M1 B → IRw B sa n (fun i => iw (z i)) → ∃ B1, F_X16_goTo B 1068 sa (iw (q : Int)) = some B1 ∧ ST B1 ∧ cI B1 1075 1152 = cI B 1075 1152 ∧
        ∀ c, ∃ M2, F_X16_failsAt B1 1068 c = some (-c, M2) ∧ Df (pp pFl) qsc n2 M1 M2 ∧ m_nx M2 = m_nx B ∧ m_sl M2 = m_sl B ∧ cI M2 1000 91 = iw n ∧ cI M2 1068 1117 = iw n ∧ ∀ i, i < n → cI M2 1063 i = cI M2 1083 i := by
  have h0 := hA.1
  have hp0 := (prd_pos n).mp (show prd z n ≠ 0 by omega)
  have hz' : ∀ i, i < n → 0 < z i ∧ z i ≤ 4096 := fun i hi => ⟨hp0 i hi, (hz i hi).2⟩
  obtain ⟨M1, f1, f2, f3, f4, f5, f6⟩ := E_failedAt hA hn hz' ha (fun i hi => (hz i hi).1) hq2
  have sM1 : ST M1 := hA.n f4
  refine ⟨M1, f1, sM1, f4.mono (fun a i q => by unfold pFl; omega) (fun _ _ q => q) (fun _ _ q => q), f2, f3, fun B sa dB hs => ?_⟩
  have sB : ST B := sM1.n dB
  have nB := dB.1
  obtain ⟨B1, g1, g2, g3, g4, g5, g6⟩ := M_goTo sB hn hz' hs hq2
  have sB1 : ST B1 := sB.n g4
  refine ⟨B1, g1, sB1, g4.cI (by omega) (by omega), fun c => ?_⟩
  obtain ⟨M2, k1, k2, k3, k4, k5, k6⟩ := M_failsAt (c := c) sB1 hn g5
  refine ⟨M2, k1, ?_, by omega, by omega, ?_, k5, fun i hi => ?_⟩
  · exact ((dB.mono (fun _ _ q => q.imp id (fun q => by unfold pFm at q; unfold pFl; omega)) (fun _ _ q => q) (fun _ _ q => q)).trans (g4.mono (fun a i q => by rcases q with q | q; exact Or.inl (by unfold psc; omega); exact Or.inr (by unfold pFl; omega)) (fun _ _ q => q.elim) (fun _ _ q => q))).trans (k4.mono (fun a i q => Or.inr (by unfold pFl; omega)) (fun _ _ q => q.elim) (fun _ _ q => q))
  · rw [k4.cI (by omega) (by omega), g4.cI (by omega) (by omega), dB.cI (by omega) (fun q => by unfold pp psc pFm at q; omega), f5]
  · rw [k6 i hi, g6 i hi, k4.cI (by omega) (by omega), g4.cI (by omega) (by omega), dB.cI (by omega) (fun q => by unfold pp psc pFm at q; omega), f6 i hi]
