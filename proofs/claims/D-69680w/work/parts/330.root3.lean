/-! ===== FLOATS, 22: the model's root is the engine's ===== -/
theorem dd512 (m : Nat) : m * 256 / 512 = m / 2 ∧ (m * 256 + 128) / 512 = m / 2 ∧ m * 256 % 512 = m % 2 * 256 ∧ (m * 256 + 128) % 512 = m % 2 * 256 + 128 := by
  refine ⟨by omega, by omega, by omega, by omega⟩
theorem made_53 {s : Bool} {m : Nat} {e : Int} {more : Bool} (h0 : 2 ^ 53 ≤ m) (h : m < 2 ^ 54) (he : -900 ≤ e) (he2 : e ≤ 900) :
    F_X24_made (mr s) (nl m) (iw e) (mr more) = some (nl (FP.Core.encode FP.Core.b64 (FP.Core.roundRatio FP.Core.b64 s (2 * m + if more = true then 1 else 0) 1 (e - 1)))) := by
  cases more with
  | false => exact X24_made (by omega) (by omega) (fun h => by cases h) (by omega) (by omega)
  | true =>
    have l1 : m.log2 = 53 := log_of h0 h
    have l2 : (2 * m + 1).log2 = 54 := log_of (by omega) (by omega)
    have hr : rndm 53 1023 m e true = rndm 53 1023 (2 * m + 1) (e - 1) false := by
      unfold rndm
      rw [l1, l2]
      have hx : e - 1 - ((61 - 54 : Nat) : Int) = e - ((61 - 53 : Nat) : Int) := by omega
      rw [hx]
      have hx1 : m * 2 ^ (61 - 53) = m * 256 := by rw [show (2 : Nat) ^ (61 - 53) = 256 from rfl]
      have hx2 : (2 * m + 1) * 2 ^ (61 - 54) = m * 256 + 128 := by
        rw [show (2 : Nat) ^ (61 - 54) = 128 from rfl]; omega
      rw [hx1, hx2]
      unfold rnd
      have c1 : ¬ (2 * ((1023 : Nat) : Int) + 1 ≤ e - ((61 - 53 : Nat) : Int) + 61 + ((1023 : Nat) : Int)) := by omega
      have c2 : ¬ (e - ((61 - 53 : Nat) : Int) + 61 + ((1023 : Nat) : Int) ≤ 0) := by omega
      simp only [if_neg c1, if_neg c2]
      rw [show (62 - 53 : Nat) = 9 from rfl, if_neg (show ¬ (62 : Nat) < 9 by decide), if_neg (show ¬ (62 : Nat) < 9 by decide), show (2 : Nat) ^ 9 = 512 from rfl, show (9 - 1 : Nat) = 8 from rfl, show (2 : Nat) ^ 8 = 256 from rfl]
      obtain ⟨d1, d2, d3, d4⟩ := dd512 m
      rw [d1, d2, d3, d4]
      refine congrArg (fun z => (e - ((8 : Nat) : Int) + 60 + ((1023 : Nat) : Int)).toNat * 2 ^ (53 - 1) + z) ?_
      rcases Nat.mod_two_eq_zero_or_one m with hm | hm
      · rw [hm, if_neg (by omega), if_neg (by omega)]
      · rw [hm, if_pos (by simp), if_pos (by omega)]
    have hmade : F_X24_made (mr s) (nl m) (iw e) (mr true) = F_X24_made (mr s) (nl (2 * m + 1)) (iw (e - 1)) (mr false) := by
      unfold F_X24_made
      rw [show (53 : Int32) = iw ((53 : Nat) : Int) from rfl, show (1023 : Int32) = iw ((1023 : Nat) : Int) from rfl, X24_rounded (by decide) (by decide) (by omega) (by omega) (by omega) (by omega), X24_rounded (by decide) (by decide) (by omega) (by omega) (by omega) (by omega), hr]
    rw [hmade, X24_made (by omega) (by omega) (fun h => by cases h) (by omega) (by omega), if_pos rfl]
    refine congrArg (fun z => some (nl (FP.Core.encode FP.Core.b64 z))) (rr_congr (by decide) (by decide) ?_)
    rw [show (e - 1 - 1 - (e - 1)).toNat = 0 by omega, show (e - 1 - (e - 1 - 1)).toNat = 1 by omega, if_neg (by decide)]
    omega
/-- the root's digits, rounded -/
def rW (r t : Nat) : Nat := if r % 2 = 1 ∧ (t ≠ 0 ∨ r / 2 % 2 = 1) then r / 2 + 1 else r / 2
theorem rW_bd {r t : Nat} (h0 : 2 ^ 53 ≤ r) (h : r < 2 ^ 54) : 2 ^ 52 ≤ rW r t ∧ rW r t ≤ 2 ^ 53 := by
  unfold rW
  split <;> omega
theorem res_W {r t : Nat} {E : Int} (h0 : 2 ^ 53 ≤ r) (h : r < 2 ^ 54) (he : -900 ≤ E) (he2 : E ≤ 900) :
    FP.Core.roundRatio FP.Core.b64 false (2 * r + if decide (t ≠ 0) = true then 1 else 0) 1 (E - 1) = FP.Core.roundRatio FP.Core.b64 false (rW r t) 1 (E + 1) := by
  have eq1 : FP.Core.b64.qmin = -1074 ∧ FP.Core.b64.qmax = 971 ∧ FP.Core.b64.p = 53 ∧ FP.Core.b64.tails = 2 ^ 52 := by decide
  obtain ⟨w1, w2⟩ := rW_bd (t := t) h0 h
  obtain ⟨x, hx⟩ : ∃ x, (if decide (t ≠ 0) = true then 1 else 0) = x := ⟨_, rfl⟩
  have hx2 : (t ≠ 0 ∧ x = 1) ∨ (t = 0 ∧ x = 0) := by
    by_cases ht : t = 0
    · right; exact ⟨ht, by rw [← hx, if_neg (by rw [decide_eq_true_iff]; omega)]⟩
    · left; exact ⟨ht, by rw [← hx, if_pos (decide_eq_true ht)]⟩
  rw [hx]
  have hn : FP.Core.nearest (2 * r + x) 4 = rW r t := by
    unfold FP.Core.nearest rW
    have d1 : (2 * r + x) / 4 = r / 2 := by omega
    have d2 : (2 * r + x) % 4 = 2 * (r % 2) + x := by omega
    rw [d1, d2]
    rcases Nat.mod_two_eq_zero_or_one r with hr | hr
    · rw [hr, if_pos (by omega), if_neg (by omega)]
    · rw [hr, if_neg (by omega)]
      rcases hx2 with ⟨h1, h2⟩ | ⟨h1, h2⟩
      · rw [if_pos (by omega), if_pos ⟨rfl, Or.inl h1⟩]
      · rw [if_neg (by omega)]
        rcases Nat.mod_two_eq_zero_or_one (r / 2) with hq | hq
        · rw [hq, if_neg (by omega)]
          rfl
        · rw [hq, if_pos ⟨rfl, Or.inr rfl⟩]
  have lhs : FP.Core.roundRatio FP.Core.b64 false (2 * r + x) 1 (E - 1) = FP.Core.settle FP.Core.b64 false (rW r t) (E + 1) := by
    unfold FP.Core.roundRatio
    have hq : FP.Core.quantum FP.Core.b64 (2 * r + x) 1 (E - 1) = E + 1 := by
      unfold FP.Core.quantum
      rw [lead_of (k := 54) (by decide) (by omega) (by omega), eq1.1, eq1.2.2.1]
      omega
    rw [if_neg (by omega), hq]
    unfold FP.Core.roundAt FP.Core.unitsNum FP.Core.unitsDen
    rw [show (E - 1 - (E + 1)).toNat = 0 by omega, show (E + 1 - (E - 1)).toNat = 2 by omega, Nat.pow_zero, Nat.mul_one, show (1 : Nat) * 2 ^ 2 = 4 from rfl, hn]
  rw [lhs]
  unfold FP.Core.settle FP.Core.bound
  rw [eq1.2.2.1, eq1.2.1, eq1.2.2.2]
  have fit : ∀ (c : Nat) (q : Int), 2 ^ 52 ≤ c → c < 2 ^ 53 → -1074 ≤ q → q ≤ 971 → FP.Core.roundRatio FP.Core.b64 false c 1 q = .fin false c q := by
    intro c q a1 a2 a3 a4
    have hf : FP.Core.fits FP.Core.b64 (.fin false c q) := ⟨a2, by rw [eq1.1]; exact a3, by rw [eq1.2.1]; exact a4, Or.inr a1⟩
    exact fits_rr f64.1 f64.2.1 (by decide) hf
  by_cases hW : rW r t < 2 ^ 53
  · rw [if_pos hW, if_pos (by omega), fit _ _ w1 hW (by omega) (by omega)]
  · have hW2 : rW r t = 2 ^ 53 := by omega
    rw [if_neg hW, if_pos (by omega), hW2]
    have e : FP.Core.roundRatio FP.Core.b64 false (2 ^ 53) 1 (E + 1) = FP.Core.roundRatio FP.Core.b64 false (2 ^ 52) 1 (E + 1 + 1) := by
      refine rr_congr (by decide) (by decide) ?_
      rw [show (E + 1 - (E + 1 + 1)).toNat = 0 by omega, show (E + 1 + 1 - (E + 1)).toNat = 1 by omega]
    rw [e, fit _ _ (by decide) (by decide) (by omega) (by omega)]
theorem iw_and1 (e : Int) : (iw e &&& 1 = 0) ↔ e % 2 = 0 := by
  have h1 : ui (iw e &&& 1) = ui (iw e) % 2 := by
    rw [ui_and, show ui (1 : Int32) = 2 ^ 1 - 1 from rfl, Nat.and_two_pow_sub_one_eq_mod]
  have h2 : ui (iw e) = (e % 2 ^ 32).toNat := by
    show (BitVec.ofInt 32 e).toNat = _
    rw [BitVec.toNat_ofInt]
    rfl
  constructor
  · intro h
    rw [h] at h1
    have : ui (0 : Int32) = 0 := rfl
    omega
  · intro h
    refine ui_inj ?_
    rw [h1, show ui (0 : Int32) = 0 from rfl]
    omega
/-- the model's root -/
theorem X24_root_val {x : Int64} (h3 : dE (un x) ≠ 2047) (h4 : dC (un x) ≠ 0) : ∃ (m a r t : Nat) (e : Int), e % 2 = 0 ∧ 2 ^ 52 ≤ m ∧ m < 2 ^ 54 ∧ m = dC (un x) * 2 ^ a ∧ e = dQ (un x) - a ∧ sqOk r t (m * 4 ^ 27) ∧
    F_X24_root x = some (nl (FP.Core.encode FP.Core.b64 (FP.Core.roundRatio FP.Core.b64 false (rW r t) 1 (e / 2 - 26)))) := by
  obtain ⟨l1, g1, g2⟩ := log53 (show 0 < dC (un x) by omega) (dC_lt _)
  have qx := dQ_bd (un x)
  have kx : sge (dC (un x)) (dQ (un x)) = dQ (un x) - (52 - (dC (un x)).log2 : Nat) := rfl
  have main : ∀ (m a : Nat) (e : Int), e % 2 = 0 → 2 ^ 52 ≤ m → m < 2 ^ 54 → m = dC (un x) * 2 ^ a → e = dQ (un x) - a → -1200 ≤ e → e ≤ 1000 → F_X24_root x = F_X24_root_b23 (iw e) (nl m) →
      ∃ (m a r t : Nat) (e : Int), e % 2 = 0 ∧ 2 ^ 52 ≤ m ∧ m < 2 ^ 54 ∧ m = dC (un x) * 2 ^ a ∧ e = dQ (un x) - a ∧ sqOk r t (m * 4 ^ 27) ∧
    F_X24_root x = some (nl (FP.Core.encode FP.Core.b64 (FP.Core.roundRatio FP.Core.b64 false (rW r t) 1 (e / 2 - 26)))) := by
    intro m a e h1 h2 h3 h4 h5 h6 h7 h8
    have hs0 : sqOk 0 0 (dgP 27 m 0) := by
      have : dgP 27 m 0 = 0 := by
        unfold dgP
        rw [if_pos (by decide)]
        exact Nat.div_eq_of_lt (by show m < 4 ^ 27; omega)
      rw [this]
      exact ⟨rfl, Nat.le_refl _⟩
    obtain ⟨r, t, hs, hl⟩ := root_loop (m := m) (e := iw e) h3 54 xN 0 0 0 (by decide) (by decide) hs0
    have e54 : dgP 27 m 54 = m * 4 ^ 27 := by
      unfold dgP
      rw [if_neg (by decide)]
    rw [e54] at hs
    have r1 : r < 2 ^ 54 := sq_lt hs (by omega)
    have r2 : 2 ^ 53 ≤ r := sq_ge hs (by omega)
    refine ⟨m, a, r, t, e, h1, h2, h3, h4, h5, hs, ?_⟩
    rw [h8]
    have hl : F_X24_root_b23 (iw e) (nl m) = F_X24_root_b131 0 (nl r) ((iw e - 54) / 2) (mr (decide (t ≠ 0))) := hl
    rw [hl]
    have ee : (iw e - 54) / 2 = iw (e / 2 - 27) := by
      rw [show (54 : Int32) = iw 54 from rfl, show (2 : Int32) = iw 2 from rfl, iw_sub, iw_div (by omega) (by omega) (by omega) (by omega)]
      congr 1
      have h9 : e - 54 = 2 * (e / 2 - 27) := by omega
      rw [h9, Int.mul_tdiv_cancel_left _ (by decide)]
    rw [ee]
    unfold F_X24_root_b131
    rw [show (0 : Int32) = mr false from rfl, made_53 r2 r1 (by omega) (by omega), res_W r2 r1 (by omega) (by omega), show e / 2 - 27 + 1 = e / 2 - 26 by omega]
    rfl
  have st : F_X24_root x = if iw (sge (dC (un x)) (dQ (un x))) &&& 1 = 0 then F_X24_root_b23 (iw (sge (dC (un x)) (dQ (un x)))) (nl (sgm (dC (un x)))) else F_X24_root_b23 (iw (sge (dC (un x)) (dQ (un x))) + -1) (j_lshl (nl (sgm (dC (un x)))) 1) := by
    unfold F_X24_root
    rw [X24_exponent h4, X24_significand h4]
    rfl
  by_cases hp : sge (dC (un x)) (dQ (un x)) % 2 = 0
  · rw [if_pos ((iw_and1 _).mpr hp)] at st
    exact main (sgm (dC (un x))) (52 - (dC (un x)).log2) (sge (dC (un x)) (dQ (un x))) hp g1 (by omega) rfl kx (by omega) (by omega) st
  · rw [if_neg (fun h => hp ((iw_and1 _).mp h))] at st
    have e1 : j_lshl (nl (sgm (dC (un x)))) 1 = nl (sgm (dC (un x)) * 2) := nl_shl (k := 1) (by decide)
    have e2 : iw (sge (dC (un x)) (dQ (un x))) + (-1 : Int32) = iw (sge (dC (un x)) (dQ (un x)) - 1) := by
      rw [show (-1 : Int32) = iw (-1) from rfl, iw_add]
      congr 1
    rw [e1, e2] at st
    exact main (sgm (dC (un x)) * 2) (52 - (dC (un x)).log2 + 1) (sge (dC (un x)) (dQ (un x)) - 1) (by omega) (by omega) (by omega) (by unfold sgm; rw [Nat.pow_succ, Nat.mul_assoc]) (by omega) (by omega) (by omega) st
theorem c_4 : FP.Core.decode FP.Core.b64 (4616189618054758400 : UInt64).toNat = .fin false (2 ^ 52) (2 - 52) := by decide
theorem c_2 : FP.Core.decode FP.Core.b64 (4611686018427387904 : UInt64).toNat = .fin false (2 ^ 52) (1 - 52) := by decide
theorem c_54 : FP.Core.decode FP.Core.b64 (4850376798678024192 : UInt64).toNat = .fin false (2 ^ 52) 2 := by decide
theorem c_56 : FP.Core.decode FP.Core.b64 (4859383997932765184 : UInt64).toNat = .fin false (2 ^ 52) 4 := by decide
def vl (c : Nat) (q : Int) : Nat := c * 2 ^ (q - -1074).toNat
theorem vl_4 {c : Nat} {q : Int} (h : -1074 ≤ q) : vl c (q + 2) = 4 * vl c q := by
  unfold vl
  rw [show (q + 2 - -1074).toNat = (q - -1074).toNat + 2 by omega, Nat.pow_add, ← Nat.mul_assoc]
  omega
def tT : Nat := 2 ^ 52 * 2 ^ ((2 : Int) - -1074).toNat
theorem tT4 : 2 ^ 52 * 2 ^ ((4 : Int) - -1074).toNat = 4 * tT := by
  unfold tT
  rw [show ((4 : Int) - -1074).toNat = ((2 : Int) - -1074).toNat + 2 from rfl, Nat.pow_add]
  omega
theorem vl_lo {c : Nat} {q : Int} (hc : c < 2 ^ 53) (h : tT ≤ vl c q) : 2 ≤ q := by
  rcases Int.lt_or_le q 2 with h1 | h1
  · exfalso
    have h2 : 2 ^ (q - -1074).toNat ≤ 2 ^ 1075 := Nat.pow_le_pow_right (by decide) (by omega)
    have h3 : vl c q ≤ (2 ^ 53 - 1) * 2 ^ 1075 := Nat.mul_le_mul (by omega) h2
    have h4 : tT = 2 ^ 53 * 2 ^ 1075 := by
      unfold tT
      rw [show ((2 : Int) - -1074).toNat = 1076 from rfl, ← Nat.pow_add, ← Nat.pow_add]
    have h5 := Nat.two_pow_pos 1075
    rw [Nat.sub_mul] at h3
    omega
  · exact h1
theorem vl_m {c : Nat} {q : Int} (h : 2 ≤ q) (h1 : tT ≤ vl c q) (h2 : vl c q < 4 * tT) : 2 ^ 54 ≤ c * 2 ^ q.toNat ∧ c * 2 ^ q.toNat < 2 ^ 56 := by
  have e : vl c q = c * 2 ^ q.toNat * 2 ^ 1074 := by
    unfold vl
    rw [show (q - -1074).toNat = q.toNat + 1074 by omega, Nat.pow_add, Nat.mul_assoc]
  have e2 : tT = 2 ^ 54 * 2 ^ 1074 := by
    unfold tT
    rw [show ((2 : Int) - -1074).toNat = 1076 from rfl, ← Nat.pow_add, ← Nat.pow_add]
  rw [e, e2] at h1 h2
  have p := Nat.two_pow_pos 1074
  refine ⟨Nat.le_of_mul_le_mul_right h1 p, ?_⟩
  rw [← Nat.mul_assoc] at h2
  have := Nat.lt_of_mul_lt_mul_right h2
  omega
