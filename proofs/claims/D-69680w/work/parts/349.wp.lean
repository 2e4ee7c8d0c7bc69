/-! ===== what a function gives: rows for stepping through one ===== -/
def Wp {τ : Type} (x : Option τ) (Q : τ → Prop) : Prop := ∃ v, x = some v ∧ Q v
section WP
variable {τ σ : Type} {Q : τ → Prop}
theorem Wp.ret {v : τ} (h : Q v) : Wp (some v) Q := ⟨v, rfl, h⟩
theorem Wp.mono {x : Option τ} {R : τ → Prop} (h : Wp x R) (k : ∀ v, R v → Q v) : Wp x Q := by
  obtain ⟨v, h1, h2⟩ := h
  exact ⟨v, h1, k v h2⟩
theorem Wp.call {x : Option σ} {f : σ → Option τ} {R : σ → Prop} (h : Wp x R) (k : ∀ v, R v → Wp (f v) Q) : Wp (x.bind f) Q := by
  obtain ⟨v, h1, h2⟩ := h
  rw [h1]
  exact k v h2
theorem Wp.to {x : Option σ} {f : σ → Option τ} {v : σ} (h : x = some v) (k : Wp (f v) Q) : Wp (x.bind f) Q := by
  rw [h]; exact k
theorem Wp.ite {c : Prop} [Decidable c] {a b : Option τ} (h1 : c → Wp a Q) (h2 : ¬ c → Wp b Q) : Wp (if c then a else b) Q := by
  by_cases h : c
  · rw [if_pos h]; exact h1 h
  · rw [if_neg h]; exact h2 h
theorem Wp.pos {c : Prop} [Decidable c] {a b : Option τ} (h : c) (k : Wp a Q) : Wp (if c then a else b) Q := by
  rw [if_pos h]; exact k
theorem Wp.neg {c : Prop} [Decidable c] {a b : Option τ} (h : ¬ c) (k : Wp b Q) : Wp (if c then a else b) Q := by
  rw [if_neg h]; exact k
theorem Wp.eq {x : Option τ} {v : τ} (h : Wp x (fun w => w = v)) : x = some v := by
  obtain ⟨w, h1, h2⟩ := h
  rw [h1, h2]
variable {M : Mem} {a g t : Nat}
theorem Wp.r_gi {f : Int32 → Option τ} (ht : m_tg M a = t) (hf : x_fi t g = true) (k : Wp (f (cI M a g)) Q) : Wp ((gi M a g).bind f) Q := Wp.to (by unfold gi; rw [ht, if_pos hf]) k
theorem Wp.r_gl {f : Int64 → Option τ} (ht : m_tg M a = t) (hf : x_fj t g = true) (k : Wp (f (cJ M a g)) Q) : Wp ((gl M a g).bind f) Q := Wp.to (by unfold gl; rw [ht, if_pos hf]) k
theorem Wp.r_gr {f : Nat → Option τ} (ht : m_tg M a = t) (hf : x_fr t g = true) (k : Wp (f (cR M a g)) Q) : Wp ((gr M a g).bind f) Q := Wp.to (by unfold gr; rw [ht, if_pos hf]) k
theorem Wp.r_pi {f : Mem → Option τ} {v : Int32} (ht : m_tg M a = t) (hf : x_wi t g = true) (hv : x_fit (x_ft g) v = true) (k : Wp (f (wI M a g v)) Q) : Wp ((pi M a g v).bind f) Q := Wp.to (by unfold pi; rw [ht, if_pos ⟨hf, hv⟩]) k
theorem Wp.r_pj {f : Mem → Option τ} {v : Int64} (ht : m_tg M a = t) (hf : x_wj t g = true) (k : Wp (f (wJ M a g v)) Q) : Wp ((pj M a g v).bind f) Q := Wp.to (by unfold pj; rw [ht, if_pos hf]) k
theorem Wp.r_pr {f : Mem → Option τ} {v : Nat} (ht : m_tg M a = t) (hf : x_wr t g = true) (k : Wp (f (wR M a g v)) Q) : Wp ((pr M a g v).bind f) Q := Wp.to (by unfold pr; rw [ht, if_pos hf]) k
theorem Wp.r_vg {f : Unit → Option τ} (ht : m_tg M a = t) {u : Nat} (hf : x_isa t u = true) (k : Wp (f ()) Q) : Wp ((vg M a u).bind f) Q := Wp.to (by unfold vg; rw [ht, if_pos hf]) k
theorem Wp.r_ng {f : Unit → Option τ} (ht : m_tg M a ≠ 0) (k : Wp (f ()) Q) : Wp ((ng M a).bind f) Q := Wp.to (by unfold ng; rw [if_neg ht]) k
theorem Wp.r_cc {f : Unit → Option τ} (ht : m_tg M a = t) {u : Nat} (hf : x_cast t u = true) (k : Wp (f ()) Q) : Wp ((cc M a u).bind f) Q := Wp.to (by unfold cc; rw [ht, if_pos (Or.inr hf)]) k
theorem Wp.r_an {f : Int32 → Option τ} (ht : m_tg M a = t) (hf : Nat.ble 1001 t = true) (k : Wp (f (m_ln M a).toInt32) Q) : Wp ((an M a).bind f) Q := Wp.to (by unfold an; rw [ht, if_pos (Nat.le_of_ble_eq_true hf)]) k
theorem m_in_of {j : Nat} (h : j < m_ln M a) (h2 : j < 2147483648) : m_in M a (Int32.ofNat j) = true ∧ (Int32.ofNat j).toNatClampNeg = j := by
  have h1 : (Int32.ofNat j).toInt = j := Int32.toInt_ofNat_of_lt (by omega)
  have h3 : (Int32.ofNat j).toNatClampNeg = j := by
    show (Int32.ofNat j).toInt.toNat = j
    rw [h1]; rfl
  refine ⟨?_, h3⟩
  unfold m_in
  refine decide_eq_true ?_
  rw [h3, Int32.lt_iff_toInt_lt, h1]
  show ¬ ((j : Int) < 0 ∨ m_ln M a ≤ j)
  omega
theorem Wp.r_ai {f : Int32 → Option τ} {j : Nat} (ht : m_tg M a = 1005 ∨ m_tg M a = 1007) (hj : j < m_ln M a) (h2 : j < 2147483648) (k : Wp (f (cI M a j)) Q) : Wp ((ai M a (Int32.ofNat j)).bind f) Q := Wp.to (by
  obtain ⟨h3, h4⟩ := m_in_of hj h2
  unfold ai; rw [if_pos ⟨ht, h3⟩, h4]) k
theorem Wp.r_al {f : Int64 → Option τ} {j : Nat} (ht : m_tg M a = 1006) (hj : j < m_ln M a) (h2 : j < 2147483648) (k : Wp (f (cJ M a j)) Q) : Wp ((al M a (Int32.ofNat j)).bind f) Q := Wp.to (by
  obtain ⟨h3, h4⟩ := m_in_of hj h2
  unfold al; rw [if_pos ⟨ht, h3⟩, h4]) k
theorem Wp.r_ab {f : Int32 → Option τ} {j : Nat} (ht : m_tg M a = 1001 ∨ m_tg M a = 1002 ∨ m_tg M a = 1008) (hj : j < m_ln M a) (h2 : j < 2147483648) (k : Wp (f (cI M a j)) Q) : Wp ((ab M a (Int32.ofNat j)).bind f) Q := Wp.to (by
  obtain ⟨h3, h4⟩ := m_in_of hj h2
  unfold ab; rw [if_pos ⟨ht, h3⟩, h4]) k
theorem Wp.r_ar {f : Nat → Option τ} {j : Nat} (ht : 1010 ≤ m_tg M a) (hj : j < m_ln M a) (h2 : j < 2147483648) (k : Wp (f (cR M a j)) Q) : Wp ((ar M a (Int32.ofNat j)).bind f) Q := Wp.to (by
  obtain ⟨h3, h4⟩ := m_in_of hj h2
  unfold ar; rw [if_pos ⟨ht, h3⟩, h4]) k
theorem Wp.r_si {f : Mem → Option τ} {j : Nat} {v : Int32} (ht : m_tg M a = 1005) (hj : j < m_ln M a) (h2 : j < 2147483648) (k : Wp (f (wI M a j v)) Q) : Wp ((si M a (Int32.ofNat j) v).bind f) Q := Wp.to (by
  obtain ⟨h3, h4⟩ := m_in_of hj h2
  unfold si; rw [if_pos ⟨ht, h3⟩, h4]) k
theorem Wp.r_sj {f : Mem → Option τ} {j : Nat} {v : Int64} (ht : m_tg M a = 1006) (hj : j < m_ln M a) (h2 : j < 2147483648) (k : Wp (f (wJ M a j v)) Q) : Wp ((sj M a (Int32.ofNat j) v).bind f) Q := Wp.to (by
  obtain ⟨h3, h4⟩ := m_in_of hj h2
  unfold sj; rw [if_pos ⟨ht, h3⟩, h4]) k
theorem Wp.r_sb {f : Mem → Option τ} {j : Nat} {v : Int32} (ht : m_tg M a = 1002) (hj : j < m_ln M a) (h2 : j < 2147483648) (k : Wp (f (wI M a j (j_i2b v))) Q) : Wp ((sb M a (Int32.ofNat j) v).bind f) Q := Wp.to (by
  obtain ⟨h3, h4⟩ := m_in_of hj h2
  unfold sb; rw [if_pos h3, if_neg (by omega), if_pos ht, h4]) k
theorem Wp.r_sz {f : Mem → Option τ} {j : Nat} {v : Int32} (ht : m_tg M a = 1001) (hj : j < m_ln M a) (h2 : j < 2147483648) (k : Wp (f (wI M a j (v &&& 1))) Q) : Wp ((sb M a (Int32.ofNat j) v).bind f) Q := Wp.to (by
  obtain ⟨h3, h4⟩ := m_in_of hj h2
  unfold sb; rw [if_pos h3, if_pos ht, h4]) k
theorem Wp.r_sr {f : Mem → Option τ} {j v : Nat} (ht : 1010 ≤ m_tg M a ∧ m_tg M a < 1090) (hj : j < m_ln M a) (h2 : j < 2147483648) (hv : v = 0 ∨ x_asg (m_tg M v) (m_tg M a) = true) (k : Wp (f (wR M a j v)) Q) : Wp ((sr M a (Int32.ofNat j) v).bind f) Q := Wp.to (by
  obtain ⟨h3, h4⟩ := m_in_of hj h2
  unfold sr; rw [if_pos ⟨ht, h3, hv⟩, h4]) k
theorem Wp.r_mk {f : Mem → Option τ} {n : Nat} (h : n ≤ 67108864) (k : Wp (f (m_new M t n)) Q) : Wp ((mk M t (Int32.ofNat n)).bind f) Q := Wp.to (by
  have h1 : (Int32.ofNat n).toInt = n := Int32.toInt_ofNat_of_lt (by omega)
  have h3 : (Int32.ofNat n).toNatClampNeg = n := by
    show (Int32.ofNat n).toInt.toNat = n
    rw [h1]; rfl
  unfold mk
  rw [if_neg ?_, h3]
  rw [h3, Int32.lt_iff_toInt_lt, h1]
  show ¬ ((n : Int) < 0 ∨ 67108864 < n)
  omega) k
end WP
/-! reading what was written -/
section RW
variable {M : Mem} {a b i j : Nat}
theorem cI_wI (v : Int32) : cI (wI M a i v) b j = if b = a ∧ j = i then v else cI M b j := by
  unfold wI uI c_up cI
  by_cases h : b = a
  · subst h
    by_cases hj : j = i <;> simp [hj]
  · simp [h]
theorem cJ_wJ (v : Int64) : cJ (wJ M a i v) b j = if b = a ∧ j = i then v else cJ M b j := by
  unfold wJ uJ c_up cJ
  by_cases h : b = a
  · subst h
    by_cases hj : j = i <;> simp [hj]
  · simp [h]
theorem cR_wR (v : Nat) : cR (wR M a i v) b j = if b = a ∧ j = i then v else cR M b j := by
  unfold wR uR c_up cR
  by_cases h : b = a
  · subst h
    by_cases hj : j = i <;> simp [hj]
  · simp [h]
theorem cI_wJ (v : Int64) : cI (wJ M a i v) b j = cI M b j := rfl
theorem cI_wR (v : Nat) : cI (wR M a i v) b j = cI M b j := rfl
theorem cJ_wI (v : Int32) : cJ (wI M a i v) b j = cJ M b j := rfl
theorem cJ_wR (v : Nat) : cJ (wR M a i v) b j = cJ M b j := rfl
theorem cR_wI (v : Int32) : cR (wI M a i v) b j = cR M b j := rfl
theorem cR_wJ (v : Int64) : cR (wJ M a i v) b j = cR M b j := rfl
theorem tg_wI (v : Int32) : m_tg (wI M a i v) b = m_tg M b := rfl
theorem tg_wJ (v : Int64) : m_tg (wJ M a i v) b = m_tg M b := rfl
theorem tg_wR (v : Nat) : m_tg (wR M a i v) b = m_tg M b := rfl
theorem ln_wI (v : Int32) : m_ln (wI M a i v) b = m_ln M b := rfl
theorem ln_wJ (v : Int64) : m_ln (wJ M a i v) b = m_ln M b := rfl
theorem ln_wR (v : Nat) : m_ln (wR M a i v) b = m_ln M b := rfl
theorem nx_wI (v : Int32) : m_nx (wI M a i v) = m_nx M := rfl
theorem nx_wJ (v : Int64) : m_nx (wJ M a i v) = m_nx M := rfl
theorem nx_wR (v : Nat) : m_nx (wR M a i v) = m_nx M := rfl
theorem sl_wI (v : Int32) : m_sl (wI M a i v) = m_sl M := rfl
theorem sl_wJ (v : Int64) : m_sl (wJ M a i v) = m_sl M := rfl
theorem sl_wR (v : Nat) : m_sl (wR M a i v) = m_sl M := rfl
variable {t n : Nat}
theorem tg_new : m_tg (m_new M t n) b = if b = m_nx M then t else m_tg M b := rfl
theorem ln_new : m_ln (m_new M t n) b = if b = m_nx M then n else m_ln M b := rfl
theorem nx_new : m_nx (m_new M t n) = m_nx M + 1 := rfl
theorem sl_new : m_sl (m_new M t n) = m_sl M + n := rfl
theorem cI_new : cI (m_new M t n) b i = if b = m_nx M then 0 else cI M b i := by
  show (if b = M.1 then fun _ => 0 else M.2.2.2.2.1 b) i = _
  by_cases h : b = M.1 <;> simp [h, m_nx, cI]
theorem cJ_new : cJ (m_new M t n) b i = if b = m_nx M then 0 else cJ M b i := by
  show (if b = M.1 then fun _ => 0 else M.2.2.2.2.2.1 b) i = _
  by_cases h : b = M.1 <;> simp [h, m_nx, cJ]
theorem cR_new : cR (m_new M t n) b i = if b = m_nx M then 0 else cR M b i := by
  show (if b = M.1 then fun _ => 0 else M.2.2.2.2.2.2 b) i = _
  by_cases h : b = M.1 <;> simp [h, m_nx, cR]
end RW
