/-! ===== STATE, 2: arrays; the tray ===== -/
theorem m_in' {M : Mem} {a n j : Nat} (hl : m_ln M a = n) (hj : j < n) (hn : n < 2147483648) : m_in M a (iw (j : Int)) = true ∧ (iw (j : Int)).toNatClampNeg = j := by
  rw [iw_nat]
  exact m_in_of (by omega) (by omega)
theorem ai_of {M : Mem} {a n j : Nat} (ht : m_tg M a = 1005) (hl : m_ln M a = n) (hj : j < n) (hn : n < 2147483648) : ai M a (iw (j : Int)) = some (cI M a j) := by
  obtain ⟨h1, h2⟩ := m_in' hl hj hn
  unfold ai
  rw [if_pos ⟨Or.inl ht, h1⟩, h2]
theorem si_of {M : Mem} {a n j : Nat} (v : Int32) (ht : m_tg M a = 1005) (hl : m_ln M a = n) (hj : j < n) (hn : n < 2147483648) : si M a (iw (j : Int)) v = some (wI M a j v) := by
  obtain ⟨h1, h2⟩ := m_in' hl hj hn
  unfold si
  rw [if_pos ⟨ht, h1⟩, h2]
theorem ab_of {M : Mem} {a n j : Nat} (ht : m_tg M a = 1001 ∨ m_tg M a = 1002 ∨ m_tg M a = 1008) (hl : m_ln M a = n) (hj : j < n) (hn : n < 2147483648) : ab M a (iw (j : Int)) = some (cI M a j) := by
  obtain ⟨h1, h2⟩ := m_in' hl hj hn
  unfold ab
  rw [if_pos ⟨ht, h1⟩, h2]
theorem sb_of {M : Mem} {a n j : Nat} (v : Int32) (ht : m_tg M a = 1002) (hl : m_ln M a = n) (hj : j < n) (hn : n < 2147483648) : sb M a (iw (j : Int)) v = some (wI M a j (j_i2b v)) := by
  obtain ⟨h1, h2⟩ := m_in' hl hj hn
  unfold sb
  rw [if_pos h1, ht, if_neg (by decide), if_pos rfl, h2]
theorem sz_of {M : Mem} {a n j : Nat} (v : Int32) (ht : m_tg M a = 1001) (hl : m_ln M a = n) (hj : j < n) (hn : n < 2147483648) : sb M a (iw (j : Int)) v = some (wI M a j (v &&& 1)) := by
  obtain ⟨h1, h2⟩ := m_in' hl hj hn
  unfold sb
  rw [if_pos h1, ht, if_pos rfl, h2]
theorem al_of {M : Mem} {a n j : Nat} (ht : m_tg M a = 1006) (hl : m_ln M a = n) (hj : j < n) (hn : n < 2147483648) : al M a (iw (j : Int)) = some (cJ M a j) := by
  obtain ⟨h1, h2⟩ := m_in' hl hj hn
  unfold al
  rw [if_pos ⟨ht, h1⟩, h2]
theorem sj_of {M : Mem} {a n j : Nat} (v : Int64) (ht : m_tg M a = 1006) (hl : m_ln M a = n) (hj : j < n) (hn : n < 2147483648) : sj M a (iw (j : Int)) v = some (wJ M a j v) := by
  obtain ⟨h1, h2⟩ := m_in' hl hj hn
  unfold sj
  rw [if_pos ⟨ht, h1⟩, h2]
theorem ar_of {M : Mem} {a n j : Nat} (ht : 1010 ≤ m_tg M a) (hl : m_ln M a = n) (hj : j < n) (hn : n < 2147483648) : ar M a (iw (j : Int)) = some (cR M a j) := by
  obtain ⟨h1, h2⟩ := m_in' hl hj hn
  unfold ar
  rw [if_pos ⟨ht, h1⟩, h2]
theorem sr_of {M : Mem} {a n j v : Nat} (ht : 1010 ≤ m_tg M a ∧ m_tg M a < 1090) (hl : m_ln M a = n) (hj : j < n) (hn : n < 2147483648) (hv : v = 0 ∨ x_asg (m_tg M v) (m_tg M a) = true) : sr M a (iw (j : Int)) v = some (wR M a j v) := by
  obtain ⟨h1, h2⟩ := m_in' hl hj hn
  unfold sr
  rw [if_pos ⟨ht, h1, hv⟩, h2]
/-- a byte's value -/
def bt (x : Int32) : Prop := -128 ≤ x.toInt ∧ x.toInt ≤ 127
theorem bt_i2b (v : Int32) : bt (j_i2b v) := by
  unfold bt j_i2b
  rw [Int8.toInt_toInt32]
  have h1 := Int8.le_toInt v.toInt8
  have h2 := Int8.toInt_lt v.toInt8
  omega
/-- the bytes of an int, the highest first -/
def wb (v : Int32) (k : Nat) : Int32 := j_i2b (j_i2b (j_ishr v (iw (24 - 8 * (k : Int)))))
/-! the tray: engine -/
theorem E_four {M : Mem} {t : Nat} {v : Int32} (h : ST M) (ht : cI M 1000 65 = iw t) (hb : t + 4 ≤ 16000) : ∃ M', F_X0_four M 1000 v = some M' ∧ m_nx M' = m_nx M ∧ m_sl M' = m_sl M ∧ cI M' 1000 65 = iw (t + 4) ∧ (∀ i, cI M' 1001 i = if t ≤ i ∧ i < t + 4 then wb v (i - t) else cI M 1001 i) ∧ Df (fun a i => a = 1001 ∨ (a = 1000 ∧ i = 65)) n2 n2 M M' := by
  have step : ∀ (N k : Nat) (M : Mem), k < 4 → ST M → cI M 1000 65 = iw ((t + k : Nat) : Int) → F_X0_four_b3 (N + 1) M 1000 v (iw (24 - 8 * (k : Int))) = F_X0_four_b3 N (wI (wI M 1001 (t + k) (wb v k)) 1000 65 (iw ((t + (k + 1) : Nat) : Int))) 1000 v (iw (24 - 8 * ((k + 1 : Nat) : Int))) := by
    intro N k M hk h hc
    show F_X0_four_b3_st (F_X0_four_b3 N) M 1000 v _ = _
    unfold F_X0_four_b3_st
    rw [if_neg (by rw [iw_lt0 (by omega) (by omega)]; omega), g1000_64 h]
    simp only [Option.bind_some]
    rw [g1000_65 h, hc]
    simp only [Option.bind_some]
    rw [sb_of (j := t + k) _ (t1001 h) (l1001 h) (by omega) (by decide)]
    simp only [Option.bind_some]
    have h1 := h.wI 1001 (t + k) (j_i2b (j_i2b (j_ishr v (iw (24 - 8 * (k : Int))))))
    rw [g1000_65 h1]
    simp only [Option.bind_some]
    rw [cI_wI, if_neg (by omega), hc, p1000_65 h1]
    simp only [Option.bind_some]
    rw [show (1 : Int32) = iw 1 from rfl, iw_add, show (-8 : Int32) = iw (-8) from rfl, iw_add]
    congr 2
    omega
  obtain ⟨N, hN⟩ : ∃ N, xN = N + 1 + 1 + 1 + 1 + 1 := ⟨xN - 5, by decide⟩
  unfold F_X0_four
  rw [hN, show (24 : Int32) = iw (24 - 8 * ((0 : Nat) : Int)) from rfl, step _ 0 M (by decide) h (by simpa using ht)]
  have c1 : ∀ (M : Mem) (x : Int32), cI (wI M 1000 65 x) 1000 65 = x := fun M x => by rw [cI_wI, if_pos ⟨rfl, rfl⟩]
  rw [step _ 1 _ (by decide) ((h.wI _ _ _).wI _ _ _) (c1 _ _), step _ 2 _ (by decide) ((((h.wI _ _ _).wI _ _ _).wI _ _ _).wI _ _ _) (c1 _ _), step _ 3 _ (by decide) ((((((h.wI _ _ _).wI _ _ _).wI _ _ _).wI _ _ _).wI _ _ _).wI _ _ _) (c1 _ _)]
  refine ⟨_, rfl, rfl, rfl, ?_, ?_, ?_⟩
  · rw [c1]
    rfl
  · intro i
    simp only [cI_wI]
    by_cases e0 : i = t + 0
    · subst e0; simp
    by_cases e1 : i = t + 1
    · subst e1; simp
    by_cases e2 : i = t + 2
    · subst e2; simp
    by_cases e3 : i = t + 3
    · subst e3; simp
    have : ¬ (t ≤ i ∧ i < t + 4) := by omega
    simp [this, e1, e2, e3, show ¬ i = t by omega]
  · have a := fun (M : Mem) (i : Nat) (x : Int32) => Df.wI (P := fun a i => a = 1001 ∨ (a = 1000 ∧ i = 65)) (Q := n2) (R := n2) (M := M) (a := 1001) (i := i) x (Or.inl rfl)
    have b := fun (M : Mem) (x : Int32) => Df.wI (P := fun a i => a = 1001 ∨ (a = 1000 ∧ i = 65)) (Q := n2) (R := n2) (M := M) (a := 1000) (i := 65) x (Or.inr ⟨rfl, rfl⟩)
    exact (a _ _ _).trans ((b _ _).trans ((a _ _ _).trans ((b _ _).trans ((a _ _ _).trans ((b _ _).trans ((a _ _ _).trans (b _ _)))))))
