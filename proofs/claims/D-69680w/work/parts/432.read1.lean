/-! ===== READING, 1: what bytes say; the engine's numbers ===== -/
theorem nl_byte {x : Nat} (b : Int32) (hx : x < 2 ^ 56) : j_lshl (nl x) 8 ||| (b &&& 255).toInt64 = nl (x * 256 + bn b) := by
  have hb := bn_lt b
  rw [bn_and, ← iw_ni, i64_iw (by omega), show (8 : Int32) = Int32.ofNat 8 from rfl, nl_shl (by decide)]
  refine un_inj ?_
  rw [un_or, un_nl' (by omega), un_nl' (by omega), un_nl' (by omega)]
  have := Nat.two_pow_add_eq_or_of_lt (i := 8) hb x
  rw [Nat.mul_comm x, ← this]
/-- a number out of bytes as a value of a lane -/
def cvk (k : Int32) (v : Int64) : Int64 := if k = 1 then (j_i2b v.toInt32).toInt64 else if k = 2 then (j_i2s v.toInt32).toInt64 else if k = 4 then v.toInt32.toInt64 else v
/-- the head: where it is wrong -/
def hdE (g : Nat → Int32) (n : Nat) : Option Nat :=
  if n < 8 then some (n - 4) else if ¬ ni (bev g (n - 4) 4) = crr g (n - 4) 0 (-1) then some (n - 4) else if ¬ bn (g 0) = 71 then some 0 else if ¬ bn (g 1) = 82 then some 1 else if 7 < bn (g 2) then some 2 else if 4 < bn (g 3) then some 3 else none
def zRd (g : Nat → Int32) (j : Nat) : Nat := bev g (4 + 2 * j) 2
/-- the sizes -/
def szE (g : Nat → Int32) (e : Nat) : Nat → Nat → Option Nat
  | 0, _ => none
  | r + 1, j => if e < 4 + 2 * j + 2 then some (4 + 2 * j) else if 4096 < zRd g j then some (4 + 2 * j) else szE g e r (j + 1)
def cRd (g : Nat → Int32) (k : Int32) (a : Nat) : Int64 := cvk k (nl (bev g a (wdt k)))
/-- the cells -/
noncomputable def clE (g : Nat → Int32) (e : Nat) (k : Int32) (N : Nat) : Nat → Nat → Nat → Option Nat
  | 0, _, _ => none
  | r + 1, i, a => if i < N then (if e < a + wdt k then some a else if F_X23_isBits k (cRd g k a) = some 0 then some a else clE g e k N r (i + 1) (a + wdt k)) else if a < e then some a else none
/-- where a grid's bytes are wrong -/
noncomputable def rdE (g : Nat → Int32) (n : Nat) : Option Nat :=
  match hdE g n with
  | some p => some p
  | none => match szE g (n - 4) (bn (g 3)) 0 with
    | some p => some p
    | none => clE g (n - 4) (iw (bn (g 2) : Nat)) (prd (zRd g) (bn (g 3))) n 0 (4 + 2 * bn (g 3))
theorem iw_Lk {x : Nat} (h : x ≤ 7) : Lk (iw (x : Int)) := by
  have : x = 0 ∨ x = 1 ∨ x = 2 ∨ x = 3 ∨ x = 4 ∨ x = 5 ∨ x = 6 ∨ x = 7 := by omega
  unfold Lk
  rcases this with rfl | rfl | rfl | rfl | rfl | rfl | rfl | rfl <;> decide
/-- what the reader changes -/
def pRd : Nat → Nat → Prop := fun a _ => a = 1048 ∨ a = 1049 ∨ a = 1002
def qRd : Nat → Nat → Prop := fun a _ => a = 1050
def rRd : Nat → Nat → Prop := fun a i => a = 1048 ∧ i = 897
theorem rRd_st : ∀ p ∈ stR, ¬ rRd p.1 p.2.1 := by
  unfold rRd
  decide +kernel
/-- a row of bytes -/
def Brow (M : Mem) (r cap : Nat) : Prop := r < m_nx M ∧ ¬ pRd r 0 ∧ m_tg M r = 1002 ∧ m_ln M r = cap ∧ cap ≤ 60000
/-- the reader at a place -/
def Rdr (M0 M : Mem) (r fr e a : Nat) : Prop := ST M ∧ Df pRd qRd rRd M0 M ∧ m_nx M = m_nx M0 ∧ m_sl M = m_sl M0 ∧ cR M 1048 897 = r ∧ cI M 1048 898 = iw ((fr + e : Nat) : Int) ∧ cI M 1048 899 = iw ((fr + a : Nat) : Int)
/-- the reader has stopped -/
def RdF (M0 M : Mem) (p : Nat) : Prop := ST M ∧ Df pRd qRd rRd M0 M ∧ m_nx M = m_nx M0 ∧ m_sl M = m_sl M0 ∧ cI M 1002 129 = 20 ∧ cI M 1002 130 = iw (p : Int)
theorem Rdr.fail {M0 M : Mem} {r fr e a : Nat} (h : Rdr M0 M r fr e a) (p : Nat) : RdF M0 (eT M 20 (iw (p : Int))) p :=
  ⟨h.1, h.2.1.trans ((eT_d2 M 20 (iw (p : Int))).mono (fun a i q => by unfold at1 at q; unfold pRd; omega) (fun _ _ q => q.elim) (fun _ _ q => q.elim)), h.2.2.1, h.2.2.2.1, (eT_c M 20 _).1, (eT_c M 20 _).2⟩
theorem E_wrong {α : Type} {M : Mem} (h : ST M) {p fr : Nat} {x : Int32} (hx : x = iw ((fr + p : Nat) : Int)) : ((F_X13_wrong M 1048 x (iw (fr : Int))).bind fun z => (ie z.2 z.1).bind fun _ => (some (.inr (z.1, z.2)) : Option (α ⊕ (Nat × Mem)))) = some (.inr (1003, eT M 20 (iw (p : Int)))) := by
  have hs : ST (eT M 20 (iw (p : Int))) := h
  have e : iw ((fr + p : Nat) : Int) - iw (fr : Int) = iw (p : Int) := by rw [iw_nsub (by omega), show fr + p - fr = p by omega]
  subst hx
  unfold F_X13_wrong
  rw [e]
  simp only [g1048_896, v1002, h, E_at h, Option.bind_some]
  unfold ie
  rw [if_pos (t1003 hs)]
  rfl
theorem Rdr.byte {M0 M : Mem} {r cap fr e a : Nat} (h : Rdr M0 M r fr e a) (b : Brow M0 r cap) {i : Nat} (hi : i < cap) : ab M r (iw (i : Int)) = some (cI M0 r i) := by
  have d := h.2.1.2.2 r b.1
  have hp : ∀ i, ¬ pRd r i := fun i => b.2.1
  rw [ab_of (Or.inr (Or.inl (d.1.trans b.2.2.1))) (d.2.1.trans b.2.2.2.1) hi (by have := b.2.2.2.2; omega), h.2.1.cI b.1 (hp i)]
theorem E_num_l {M0 M : Mem} {r cap fr e a w : Nat} (h : Rdr M0 M r fr e a) (b : Brow M0 r cap) (hc : fr + a + w ≤ cap) (hw : w ≤ 8) : ∀ (m N j x : Nat), j + m = w → m + 1 ≤ N → x < 256 ^ j →
    F_X13_number_b28 N M 1048 (iw (w : Int)) (nl x) (iw (j : Int)) = some (.inl (nl (x * 256 ^ m + bev (fun p => cI M0 r (fr + p)) (a + j) m), wI M 1048 899 (iw ((fr + (a + w) : Nat) : Int)))) := by
  obtain ⟨h1, h2, h3, h4, h5, h6, h7⟩ := id h
  have hcap := b.2.2.2.2
  intro m
  induction m with
  | zero =>
    intro N j x hj hN hx
    obtain ⟨N, rfl⟩ : ∃ y, N = y + 1 := ⟨N - 1, by omega⟩
    show F_X13_number_b28_st (F_X13_number_b28 N) M 1048 _ _ _ = _
    unfold F_X13_number_b28_st
    rw [if_neg (by rw [iw_le4 (by omega) (by omega)]; omega)]
    simp only [g1048_899, p1048_899, h1, h7, iw_nad, Option.bind_some]
    rw [show fr + a + w = fr + (a + w) by omega, Nat.pow_zero, Nat.mul_one]
    rfl
  | succ m ih =>
    intro N j x hj hN hx
    obtain ⟨N, rfl⟩ : ∃ y, N = y + 1 := ⟨N - 1, by omega⟩
    show F_X13_number_b28_st (F_X13_number_b28 N) M 1048 _ _ _ = _
    unfold F_X13_number_b28_st
    rw [if_pos (by rw [iw_le4 (by omega) (by omega)]; omega)]
    have hx56 : x < 2 ^ 56 := by
      have : 256 ^ j ≤ 256 ^ 7 := Nat.pow_le_pow_right (by decide) (by omega)
      omega
    have hb := bn_lt (cI M0 r (fr + (a + j)))
    have ih' := ih N (j + 1) (x * 256 + bn (cI M0 r (fr + (a + j)))) (by omega) (by omega) (by rw [Nat.pow_succ]; omega)
    simp only [g1048_897, g1048_899, h1, h5, h7, iw_nad, h.byte b (show fr + a + j < cap by omega), Option.bind_some]
    rw [show fr + a + j = fr + (a + j) by omega, nl_byte _ hx56, show iw (j : Int) + 1 = iw ((j + 1 : Nat) : Int) from iw_nad j 1, ih']
    have : (x * 256 + bn (cI M0 r (fr + (a + j)))) * 256 ^ m + bev (fun p => cI M0 r (fr + p)) (a + (j + 1)) m = x * 256 ^ (m + 1) + bev (fun p => cI M0 r (fr + p)) (a + j) (m + 1) := by
      show _ = _ + (bn (cI M0 r (fr + (a + j))) * 256 ^ m + bev (fun p => cI M0 r (fr + p)) (a + j + 1) m)
      rw [Nat.pow_succ, Nat.add_mul, show a + (j + 1) = a + j + 1 by omega, Nat.mul_assoc, Nat.mul_comm 256 (256 ^ m), Nat.add_assoc]
    rw [this]
theorem E_numR {M0 M : Mem} {r cap fr e a w : Nat} (h : Rdr M0 M r fr e a) (b : Brow M0 r cap) (hc : fr + e ≤ cap) (ha : a ≤ e) (hw : w ≤ 8) :
    (a + w ≤ e → F_X13_number M 1048 (iw (w : Int)) (iw (fr : Int)) = some (.inl (nl (bev (fun p => cI M0 r (fr + p)) a w), wI M 1048 899 (iw ((fr + (a + w) : Nat) : Int))))) ∧
    (e < a + w → F_X13_number M 1048 (iw (w : Int)) (iw (fr : Int)) = some (.inr (1003, eT M 20 (iw (a : Int))))) := by
  obtain ⟨h1, h2, h3, h4, h5, h6, h7⟩ := id h
  have hcap := b.2.2.2.2
  constructor
  · intro hh
    unfold F_X13_number
    simp only [g1048_899, g1048_898, h1, h6, h7, iw_nad, Option.bind_some]
    rw [if_neg (by rw [iw_le4 (by omega) (by omega)]; omega)]
    have := E_num_l h b (show fr + a + w ≤ cap by omega) hw w xN 0 0 (by omega) (by have : xN = 1099511627776 := rfl; omega) (by decide)
    rw [Nat.zero_mul, Nat.zero_add, Nat.add_zero] at this
    exact this
  · intro hh
    unfold F_X13_number
    simp only [g1048_899, g1048_898, h1, h6, h7, iw_nad, Option.bind_some]
    rw [if_pos (by rw [iw_le4 (by omega) (by omega)]; omega)]
    simp only [v1048, h1, Option.bind_some]
    exact E_wrong h1 rfl
