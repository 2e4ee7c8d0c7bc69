/-! ===== FLOATS, 18: float operations through doubles, on the bits ===== -/
/-- what is rounded and is no NaN fits -/
theorem rnd_fits {f : FP.Core.Fmt} (hE : f.exps = 2 * f.emax + 2) (hem : 1 ≤ f.emax) (hp : 2 ≤ f.p) {d : FP.Core.Datum} (h : d ≠ .nan) : FP.Core.fits f (FP.Core.round f d) ∧ FP.Core.round f d ≠ .nan := by
  cases d with
  | nan => exact absurd rfl h
  | inf s => exact ⟨trivial, by simp [FP.Core.round]⟩
  | fin s c q => exact rr_fits hE hem hp (by decide)
theorem r64 {d : FP.Core.Datum} (h : d ≠ .nan) : FP.Core.fits FP.Core.b64 (FP.Core.round FP.Core.b64 d) ∧ FP.Core.round FP.Core.b64 d ≠ .nan := rnd_fits f64.1 f64.2.1 (by decide) h
theorem r32 {d : FP.Core.Datum} (h : d ≠ .nan) : FP.Core.fits FP.Core.b32 (FP.Core.round FP.Core.b32 d) ∧ FP.Core.round FP.Core.b32 d ≠ .nan := rnd_fits f32.1 f32.2.1 (by decide) h
/-- the double whose datum is d -/
def bd (d : FP.Core.Datum) : UInt64 := UInt64.ofNat (FP.Core.encode FP.Core.b64 d)
def bf (d : FP.Core.Datum) : UInt32 := UInt32.ofNat (FP.Core.encode FP.Core.b32 d)
theorem bd_nat {d : FP.Core.Datum} (h : FP.Core.fits FP.Core.b64 d) (hn : d ≠ .nan) : (bd d).toNat = FP.Core.encode FP.Core.b64 d ∧ okd (bd d).toNat ∧ FP.Core.decode FP.Core.b64 (bd d).toNat = d := by
  have := okd_enc h hn
  have e : (bd d).toNat = FP.Core.encode FP.Core.b64 d := by
    unfold bd
    rw [UInt64.toNat_ofNat', Nat.mod_eq_of_lt this.2]
  rw [e]
  exact ⟨rfl, this.1, dec_enc f64.1 f64.2.1 (by decide) h hn⟩
theorem bf_nat {d : FP.Core.Datum} (h : FP.Core.fits FP.Core.b32 d) (hn : d ≠ .nan) : (bf d).toNat = FP.Core.encode FP.Core.b32 d ∧ okf (bf d).toNat ∧ FP.Core.decode FP.Core.b32 (bf d).toNat = d := by
  have := okf_enc h hn
  have e : (bf d).toNat = FP.Core.encode FP.Core.b32 d := by
    unfold bf
    rw [UInt32.toNat_ofNat', Nat.mod_eq_of_lt this.2]
  rw [e]
  exact ⟨rfl, this.1, dec_enc f32.1 f32.2.1 (by decide) h hn⟩
theorem d2f_bf {y : UInt64} (h : okd y.toNat) : FP.d2f y = bf (FP.Core.round FP.Core.b32 (FP.Core.decode FP.Core.b64 y.toNat)) := by
  unfold FP.d2f
  have h2 : FP.Core.dIsNaN y = false := decide_eq_false (not_nan (UInt64.toNat_lt y) h)
  rw [h2]
  rfl
theorem f2d_bd {a : UInt32} (h : okf a.toNat) : FP.f2d a = bd (FP.Core.round FP.Core.b64 (FP.Core.decode FP.Core.b32 a.toNat)) := by
  unfold FP.f2d
  have h2 : FP.Core.fIsNaN a = false := decide_eq_false (not_nan32 (UInt32.toNat_lt a) h)
  rw [h2]
  rfl
theorem f2d_ok {a : UInt32} (h : okf a.toNat) : okd (FP.f2d a).toNat ∧ FP.Core.decode FP.Core.b64 (FP.f2d a).toNat = FP.Core.round FP.Core.b64 (FP.Core.decode FP.Core.b32 a.toNat) := by
  have h1 := r64 (not_nan32 (UInt32.toNat_lt a) h)
  rw [f2d_bd h]
  exact (bd_nat h1.1 h1.2).2
theorem d2f_ok {y : UInt64} (h : okd y.toNat) : okf (FP.d2f y).toNat ∧ FP.Core.decode FP.Core.b32 (FP.d2f y).toNat = FP.Core.round FP.Core.b32 (FP.Core.decode FP.Core.b64 y.toNat) := by
  have h1 := r32 (not_nan (UInt64.toNat_lt y) h)
  rw [d2f_bf h]
  exact (bf_nat h1.1 h1.2).2
/-- bits are what their datum is written as -/
theorem bf_dec {a : UInt32} (h : okf a.toNat) : bf (FP.Core.decode FP.Core.b32 a.toNat) = a := by
  have hlt := UInt32.toNat_lt a
  have e : FP.Core.encode FP.Core.b32 (FP.Core.decode FP.Core.b32 a.toNat) = a.toNat := by
    generalize a.toNat = n at *
    have asm : ∀ s e t, FP.Core.assemble FP.Core.b32 s e t = (s.toNat * 256 + e) * 2 ^ 23 + t := fun _ _ _ => rfl
    have hS : (fS n).toNat = n / 2 ^ 31 := by
      unfold fS
      by_cases hs : 2 ^ 31 ≤ n
      · rw [decide_eq_true hs]; show 1 = _; omega
      · rw [decide_eq_false hs]; show 0 = _; omega
    rcases okf_cases hlt h with ⟨h2, h3⟩ | ⟨h1, h2, h3⟩ | ⟨h3, h4, h5⟩
    · rw [dec32_inf hlt h2 h3]
      show FP.Core.assemble FP.Core.b32 (fS n) 255 0 = n
      rw [asm, hS]
      unfold fE fT at *
      omega
    · rw [dec32_fin hlt (by omega), h1]
      have e0 : FP.Core.encode FP.Core.b32 (.fin (fS n) 0 (fQ n)) = FP.Core.assemble FP.Core.b32 (fS n) 0 0 := by
        unfold FP.Core.encode
        simp only []
        rw [if_pos (by decide)]
      rw [e0, asm, hS]
      unfold fE fT at *
      omega
    · rw [dec32_fin hlt h3]
      have e : FP.Core.encode FP.Core.b32 (.fin (fS n) (fC n) (fQ n)) = if fC n < 2 ^ 23 then (((fS n).toNat * 256 + 0) * 2 ^ 23 + fC n) else (((fS n).toNat * 256 + ((fQ n - -149).toNat + 1)) * 2 ^ 23 + (fC n - 2 ^ 23)) := rfl
      rw [e, hS]
      have hT : fT n < 2 ^ 23 := Nat.mod_lt _ (by decide)
      by_cases hz : fE n = 0
      · have e1 : fC n = fT n := if_pos hz
        rw [e1, if_pos hT]
        unfold fE fT at *
        omega
      · have e1 : fC n = 2 ^ 23 + fT n := if_neg hz
        have e2 : fQ n = (fE n : Int) - 150 := if_neg hz
        rw [e1, e2, if_neg (by omega), show (((fE n : Int) - 150 - -149).toNat + 1) = fE n by omega]
        unfold fE fT at *
        omega
  unfold bf
  rw [e]
  exact UInt32.ofNat_toNat
theorem bd_dec {a : UInt64} (h : okd a.toNat) : bd (FP.Core.decode FP.Core.b64 a.toNat) = a := by
  have hlt := UInt64.toNat_lt a
  have e : FP.Core.encode FP.Core.b64 (FP.Core.decode FP.Core.b64 a.toNat) = a.toNat := by
    generalize a.toNat = n at *
    have asm : ∀ s e t, FP.Core.assemble FP.Core.b64 s e t = (s.toNat * 2048 + e) * 2 ^ 52 + t := fun _ _ _ => rfl
    have hS : (dS n).toNat = n / 2 ^ 63 := by
      unfold dS
      by_cases hs : 2 ^ 63 ≤ n
      · rw [decide_eq_true hs]; show 1 = _; omega
      · rw [decide_eq_false hs]; show 0 = _; omega
    rcases okd_cases hlt h with ⟨h1, h2, h3⟩ | ⟨h0, h1, h2⟩ | ⟨h1, h2, h3, h4⟩
    · rw [dec_inf hlt h2 h3]
      show FP.Core.assemble FP.Core.b64 (dS n) 2047 0 = n
      rw [asm, hS]
      unfold dE dT at *
      omega
    · rw [dec_fin hlt (by omega), h1]
      have e0 : FP.Core.encode FP.Core.b64 (.fin (dS n) 0 (dQ n)) = FP.Core.assemble FP.Core.b64 (dS n) 0 0 := by
        unfold FP.Core.encode
        simp only []
        rw [if_pos (by decide)]
      rw [e0, asm, hS]
      omega
    · rw [dec_fin hlt h3]
      have e : FP.Core.encode FP.Core.b64 (.fin (dS n) (dC n) (dQ n)) = if dC n < 2 ^ 52 then (((dS n).toNat * 2048 + 0) * 2 ^ 52 + dC n) else (((dS n).toNat * 2048 + ((dQ n - -1074).toNat + 1)) * 2 ^ 52 + (dC n - 2 ^ 52)) := rfl
      rw [e, hS]
      have hT : dT n < 2 ^ 52 := Nat.mod_lt _ (by decide)
      by_cases hz : dE n = 0
      · have e1 : dC n = dT n := if_pos hz
        rw [e1, if_pos hT]
        unfold dE dT at *
        omega
      · have e1 : dC n = 2 ^ 52 + dT n := if_neg hz
        have e2 : dQ n = (dE n : Int) - 1075 := if_neg hz
        rw [e1, e2, if_neg (by omega), show (((dE n : Int) - 1075 - -1074).toNat + 1) = dE n by omega]
        unfold dE dT at *
        omega
  unfold bd
  rw [e]
  exact UInt64.ofNat_toNat
/-- a float's datum -/
theorem f_dat {a : UInt32} (h : okf a.toNat) : (∃ s, FP.Core.decode FP.Core.b32 a.toNat = .inf s) ∨ ∃ s c q, FP.Core.decode FP.Core.b32 a.toNat = .fin s c q ∧ c < 2 ^ 24 ∧ -149 ≤ q ∧ q ≤ 104 ∧ (q = -149 ∨ 2 ^ 23 ≤ c) := by
  have hlt := UInt32.toNat_lt a
  generalize a.toNat = n at *
  have hE : fE n < 256 := Nat.mod_lt _ (by decide)
  have hT : fT n < 2 ^ 23 := Nat.mod_lt _ (by decide)
  have fin : fE n ≠ 255 → ∃ s c q, FP.Core.decode FP.Core.b32 n = .fin s c q ∧ c < 2 ^ 24 ∧ -149 ≤ q ∧ q ≤ 104 ∧ (q = -149 ∨ 2 ^ 23 ≤ c) := by
    intro h3
    refine ⟨_, _, _, dec32_fin hlt h3, fC_lt n, (fQ_bd n).1, ?_, ?_⟩
    · unfold fQ
      split <;> omega
    · unfold fQ fC
      by_cases hz : fE n = 0
      · left; rw [if_pos hz]
      · right; rw [if_neg hz]; omega
  rcases okf_cases hlt h with ⟨h2, h3⟩ | ⟨h1, h2, h3⟩ | ⟨h3, h4, h5⟩
  · exact Or.inl ⟨_, dec32_inf hlt h2 h3⟩
  · exact Or.inr (fin (by omega))
  · exact Or.inr (fin h3)
theorem fits_rr {f : FP.Core.Fmt} (hE : f.exps = 2 * f.emax + 2) (hem : 1 ≤ f.emax) (hp : 2 ≤ f.p) {d : FP.Core.Datum} (h : FP.Core.fits f d) : FP.Core.round f d = d := by
  cases d with
  | nan => rfl
  | inf s => rfl
  | fin s c q =>
    obtain ⟨h1, h2, h3, h4⟩ : c < 2 ^ f.p ∧ f.qmin ≤ q ∧ q ≤ f.qmax ∧ (q = f.qmin ∨ f.tails ≤ c) := h
    show FP.Core.roundRatio f s c 1 q = _
    rcases Nat.eq_zero_or_pos c with h0 | h0
    · subst h0
      have ht : 0 < f.tails := Nat.two_pow_pos _
      unfold FP.Core.roundRatio
      rw [if_pos rfl]
      rcases h4 with h4 | h4
      · rw [h4]
      · omega
    · obtain ⟨j, hj⟩ := rr_exact (s := s) hp h1 h0 h2 h3
      have hf := (rr_fits (s := s) hE hem hp (A := c) (B := 1) (e := q) (by decide)).1
      rw [hj] at hf ⊢
      obtain ⟨k1, k2, k3, k4⟩ : c * 2 ^ j < 2 ^ f.p ∧ f.qmin ≤ q - j ∧ q - j ≤ f.qmax ∧ (q - j = f.qmin ∨ f.tails ≤ c * 2 ^ j) := hf
      have hj0 : j = 0 := by
        rcases h4 with h4 | h4
        · omega
        · rcases Nat.eq_zero_or_pos j with h | h
          · exact h
          · exfalso
            have h2p : 2 ^ f.p = 2 * f.tails := by
              show 2 ^ f.p = 2 * 2 ^ (f.p - 1)
              obtain ⟨p', hp'⟩ : ∃ p', f.p = p' + 1 := ⟨f.p - 1, by omega⟩
              rw [hp', Nat.add_sub_cancel, Nat.pow_succ]
              omega
            have h5 : 2 ^ 1 ≤ 2 ^ j := Nat.pow_le_pow_right (by decide) h
            have h6 := Nat.mul_le_mul h4 h5
            omega
      rw [hj0]
      simp
theorem d2f_f2d {a : UInt32} (h : okf a.toNat) : FP.d2f (FP.f2d a) = a := by
  obtain ⟨h1, h2⟩ := f2d_ok h
  rw [d2f_bf h1, h2]
  have : FP.Core.round FP.Core.b32 (FP.Core.round FP.Core.b64 (FP.Core.decode FP.Core.b32 a.toNat)) = FP.Core.decode FP.Core.b32 a.toNat := by
    rcases f_dat h with ⟨s, hs⟩ | ⟨s, c, q, hs, c1, c2, c3, c4⟩
    · rw [hs]; rfl
    · rw [hs]
      have hf : FP.Core.fits FP.Core.b32 (.fin s c q) := ⟨c1, by rw [show FP.Core.b32.qmin = -149 by decide]; exact c2, by rw [show FP.Core.b32.qmax = 104 by decide]; exact c3, by rw [show FP.Core.b32.qmin = -149 by decide]; exact c4⟩
      show FP.Core.round FP.Core.b32 (FP.Core.roundRatio FP.Core.b64 s c 1 q) = _
      rw [dr_exact (by omega) (by omega) (by omega)]
      exact fits_rr f32.1 f32.2.1 (by decide) hf
  rw [this, bf_dec h]
/-- an operation, from what it does to data -/
theorem f_op {x : UInt64} {X64 X32 : FP.Core.Datum} (hx : x = bd X64) (h : FP.Core.fits FP.Core.b64 X64) (hn : X64 ≠ .nan) (hr : FP.Core.round FP.Core.b32 X64 = X32) : FP.d2f x = bf X32 ∧ okd x.toNat ∧ okf (bf X32).toNat := by
  obtain ⟨-, h1, h2⟩ := bd_nat h hn
  rw [hx]
  have e : FP.d2f (bd X64) = bf X32 := by rw [d2f_bf h1, h2, hr]
  refine ⟨e, h1, ?_⟩
  rw [← e]
  exact (d2f_ok h1).1
theorem nan_fin {s : Bool} {c : Nat} {q : Int} : FP.Core.Datum.fin s c q ≠ .nan := by simp
theorem nan_inf {s : Bool} : FP.Core.Datum.inf s ≠ .nan := by simp
theorem f_add {a b : UInt32} (ha : okf a.toNat) (hb : okf b.toNat) (hn : FP.Core.exactSum (FP.Core.decode FP.Core.b32 a.toNat) (FP.Core.decode FP.Core.b32 b.toNat) ≠ .nan) :
    FP.d2f (FP.dadd (FP.f2d a) (FP.f2d b)) = FP.fadd a b ∧ okd (FP.dadd (FP.f2d a) (FP.f2d b)).toNat ∧ okf (FP.fadd a b).toNat := by
  have e1 : FP.dadd (FP.f2d a) (FP.f2d b) = bd (FP.Core.round FP.Core.b64 (FP.Core.exactSum (FP.Core.round FP.Core.b64 (FP.Core.decode FP.Core.b32 a.toNat)) (FP.Core.round FP.Core.b64 (FP.Core.decode FP.Core.b32 b.toNat)))) := by
    rw [← (f2d_ok ha).2, ← (f2d_ok hb).2]; rfl
  have e2 : FP.fadd a b = bf (FP.Core.round FP.Core.b32 (FP.Core.exactSum (FP.Core.decode FP.Core.b32 a.toNat) (FP.Core.decode FP.Core.b32 b.toNat))) := rfl
  rw [e1, e2]
  have key : FP.Core.exactSum (FP.Core.round FP.Core.b64 (FP.Core.decode FP.Core.b32 a.toNat)) (FP.Core.round FP.Core.b64 (FP.Core.decode FP.Core.b32 b.toNat)) ≠ .nan ∧
      FP.Core.round FP.Core.b32 (FP.Core.round FP.Core.b64 (FP.Core.exactSum (FP.Core.round FP.Core.b64 (FP.Core.decode FP.Core.b32 a.toNat)) (FP.Core.round FP.Core.b64 (FP.Core.decode FP.Core.b32 b.toNat)))) = FP.Core.round FP.Core.b32 (FP.Core.exactSum (FP.Core.decode FP.Core.b32 a.toNat) (FP.Core.decode FP.Core.b32 b.toNat)) := by
    rcases f_dat ha with ⟨s, hs⟩ | ⟨s, c, q, hs, c1, c2, c3, c4⟩ <;> rcases f_dat hb with ⟨t, ht⟩ | ⟨t, d, r, ht, d1, d2, d3, d4⟩
    · rw [hs, ht] at hn ⊢
      have hst : s = t := by
        rcases Decidable.em (s = t) with h | h
        · exact h
        · exact absurd (if_neg h) hn
      subst hst
      have e : FP.Core.exactSum (FP.Core.round FP.Core.b64 (.inf s)) (FP.Core.round FP.Core.b64 (.inf s)) = .inf s := if_pos rfl
      rw [e]
      refine ⟨nan_inf, ?_⟩
      have e' : FP.Core.exactSum (.inf s) (.inf s) = .inf s := if_pos rfl
      rw [e']; rfl
    · rw [hs, ht]
      obtain ⟨i, hi⟩ := wide_fin (s := t) d1 d2 d3
      rw [hi]
      exact ⟨nan_inf, rfl⟩
    · rw [hs, ht]
      obtain ⟨j, hj⟩ := wide_fin (s := s) c1 c2 c3
      rw [hj]
      exact ⟨nan_inf, rfl⟩
    · rw [hs, ht]
      obtain ⟨j, hj⟩ := wide_fin (s := s) c1 c2 c3
      obtain ⟨i, hi⟩ := wide_fin (s := t) d1 d2 d3
      rw [hj, hi]
      refine ⟨nan_fin, ?_⟩
      rw [sum_w]
      exact dr_sum c1 d1 c3 c2 d2 d3 c4 d4
  have h64 := r64 key.1
  exact f_op rfl h64.1 h64.2 key.2
theorem neg_rnd (f : FP.Core.Fmt) {s : Bool} {c : Nat} {q : Int} : FP.Core.negate (FP.Core.round f (.fin s c q)) = FP.Core.round f (.fin (!s) c q) := by
  show FP.Core.negate (FP.Core.roundRatio f s c 1 q) = FP.Core.roundRatio f (!s) c 1 q
  unfold FP.Core.roundRatio
  split
  · rfl
  · unfold FP.Core.roundAt FP.Core.settle FP.Core.bound
    split <;> split <;> rfl
theorem f_sub {a b : UInt32} (ha : okf a.toNat) (hb : okf b.toNat) (hn : FP.Core.exactSum (FP.Core.decode FP.Core.b32 a.toNat) (FP.Core.negate (FP.Core.decode FP.Core.b32 b.toNat)) ≠ .nan) :
    FP.d2f (FP.dsub (FP.f2d a) (FP.f2d b)) = FP.fsub a b ∧ okd (FP.dsub (FP.f2d a) (FP.f2d b)).toNat ∧ okf (FP.fsub a b).toNat := by
  have e1 : FP.dsub (FP.f2d a) (FP.f2d b) = bd (FP.Core.round FP.Core.b64 (FP.Core.exactSum (FP.Core.round FP.Core.b64 (FP.Core.decode FP.Core.b32 a.toNat)) (FP.Core.negate (FP.Core.round FP.Core.b64 (FP.Core.decode FP.Core.b32 b.toNat))))) := by
    rw [← (f2d_ok ha).2, ← (f2d_ok hb).2]; rfl
  have e2 : FP.fsub a b = bf (FP.Core.round FP.Core.b32 (FP.Core.exactSum (FP.Core.decode FP.Core.b32 a.toNat) (FP.Core.negate (FP.Core.decode FP.Core.b32 b.toNat)))) := rfl
  rw [e1, e2]
  have key : FP.Core.exactSum (FP.Core.round FP.Core.b64 (FP.Core.decode FP.Core.b32 a.toNat)) (FP.Core.negate (FP.Core.round FP.Core.b64 (FP.Core.decode FP.Core.b32 b.toNat))) ≠ .nan ∧
      FP.Core.round FP.Core.b32 (FP.Core.round FP.Core.b64 (FP.Core.exactSum (FP.Core.round FP.Core.b64 (FP.Core.decode FP.Core.b32 a.toNat)) (FP.Core.negate (FP.Core.round FP.Core.b64 (FP.Core.decode FP.Core.b32 b.toNat))))) = FP.Core.round FP.Core.b32 (FP.Core.exactSum (FP.Core.decode FP.Core.b32 a.toNat) (FP.Core.negate (FP.Core.decode FP.Core.b32 b.toNat))) := by
    rcases f_dat ha with ⟨s, hs⟩ | ⟨s, c, q, hs, c1, c2, c3, c4⟩ <;> rcases f_dat hb with ⟨t, ht⟩ | ⟨t, d, r, ht, d1, d2, d3, d4⟩
    · rw [hs, ht] at hn ⊢
      have hst : s = !t := by
        rcases Decidable.em (s = !t) with h | h
        · exact h
        · exact absurd (if_neg h) hn
      have e : FP.Core.exactSum (FP.Core.round FP.Core.b64 (.inf s)) (FP.Core.negate (FP.Core.round FP.Core.b64 (.inf t))) = .inf s := if_pos hst
      rw [e]
      refine ⟨nan_inf, ?_⟩
      have e' : FP.Core.exactSum (.inf s) (FP.Core.negate (.inf t)) = .inf s := if_pos hst
      rw [e']; rfl
    · rw [hs, ht, neg_rnd]
      obtain ⟨i, hi⟩ := wide_fin (s := !t) d1 d2 d3
      rw [hi]
      exact ⟨nan_inf, rfl⟩
    · rw [hs, ht]
      obtain ⟨j, hj⟩ := wide_fin (s := s) c1 c2 c3
      rw [hj]
      exact ⟨nan_inf, rfl⟩
    · rw [hs, ht, neg_rnd]
      obtain ⟨j, hj⟩ := wide_fin (s := s) c1 c2 c3
      obtain ⟨i, hi⟩ := wide_fin (s := !t) d1 d2 d3
      rw [hj, hi]
      refine ⟨nan_fin, ?_⟩
      rw [sum_w]
      exact dr_sum c1 d1 c3 c2 d2 d3 c4 d4
  have h64 := r64 key.1
  exact f_op rfl h64.1 h64.2 key.2
theorem f_mul {a b : UInt32} (ha : okf a.toNat) (hb : okf b.toNat) (hn : FP.Core.exactProduct (FP.Core.decode FP.Core.b32 a.toNat) (FP.Core.decode FP.Core.b32 b.toNat) ≠ .nan) :
    FP.d2f (FP.dmul (FP.f2d a) (FP.f2d b)) = FP.fmul a b ∧ okd (FP.dmul (FP.f2d a) (FP.f2d b)).toNat ∧ okf (FP.fmul a b).toNat := by
  have e1 : FP.dmul (FP.f2d a) (FP.f2d b) = bd (FP.Core.round FP.Core.b64 (FP.Core.exactProduct (FP.Core.round FP.Core.b64 (FP.Core.decode FP.Core.b32 a.toNat)) (FP.Core.round FP.Core.b64 (FP.Core.decode FP.Core.b32 b.toNat)))) := by
    rw [← (f2d_ok ha).2, ← (f2d_ok hb).2]; rfl
  have e2 : FP.fmul a b = bf (FP.Core.round FP.Core.b32 (FP.Core.exactProduct (FP.Core.decode FP.Core.b32 a.toNat) (FP.Core.decode FP.Core.b32 b.toNat))) := rfl
  rw [e1, e2]
  have pz : ∀ x k : Nat, x * 2 ^ k = 0 ↔ x = 0 := fun x k => by
    have := Nat.two_pow_pos k
    rw [Nat.mul_eq_zero]; omega
  have key : FP.Core.exactProduct (FP.Core.round FP.Core.b64 (FP.Core.decode FP.Core.b32 a.toNat)) (FP.Core.round FP.Core.b64 (FP.Core.decode FP.Core.b32 b.toNat)) ≠ .nan ∧
      FP.Core.round FP.Core.b32 (FP.Core.round FP.Core.b64 (FP.Core.exactProduct (FP.Core.round FP.Core.b64 (FP.Core.decode FP.Core.b32 a.toNat)) (FP.Core.round FP.Core.b64 (FP.Core.decode FP.Core.b32 b.toNat)))) = FP.Core.round FP.Core.b32 (FP.Core.exactProduct (FP.Core.decode FP.Core.b32 a.toNat) (FP.Core.decode FP.Core.b32 b.toNat)) := by
    rcases f_dat ha with ⟨s, hs⟩ | ⟨s, c, q, hs, c1, c2, c3, c4⟩ <;> rcases f_dat hb with ⟨t, ht⟩ | ⟨t, d, r, ht, d1, d2, d3, d4⟩
    · rw [hs, ht]
      exact ⟨nan_inf, rfl⟩
    · rw [hs, ht] at hn ⊢
      obtain ⟨i, hi⟩ := wide_fin (s := t) d1 d2 d3
      have hd : d ≠ 0 := fun h => hn (if_pos h)
      rw [hi]
      have e : FP.Core.exactProduct (FP.Core.round FP.Core.b64 (.inf s)) (.fin t (d * 2 ^ i) (r - i)) = .inf (s != t) := if_neg (fun h => hd ((pz _ _).mp h))
      have e' : FP.Core.exactProduct (.inf s) (.fin t d r) = .inf (s != t) := if_neg hd
      rw [e, e']
      exact ⟨nan_inf, rfl⟩
    · rw [hs, ht] at hn ⊢
      obtain ⟨j, hj⟩ := wide_fin (s := s) c1 c2 c3
      have hc : c ≠ 0 := fun h => hn (if_pos h)
      rw [hj]
      have e : FP.Core.exactProduct (.fin s (c * 2 ^ j) (q - j)) (FP.Core.round FP.Core.b64 (.inf t)) = .inf (s != t) := if_neg (fun h => hc ((pz _ _).mp h))
      have e' : FP.Core.exactProduct (.fin s c q) (.inf t) = .inf (s != t) := if_neg hc
      rw [e, e']
      exact ⟨nan_inf, rfl⟩
    · rw [hs, ht]
      obtain ⟨j, hj⟩ := wide_fin (s := s) c1 c2 c3
      obtain ⟨i, hi⟩ := wide_fin (s := t) d1 d2 d3
      rw [hj, hi]
      refine ⟨nan_fin, ?_⟩
      rw [prod_w]
      have := Nat.mul_le_mul (show c ≤ 2 ^ 24 by omega) (show d ≤ 2 ^ 24 by omega)
      exact dr_exact (by omega) (by omega) (by omega)
  have h64 := r64 key.1
  exact f_op rfl h64.1 h64.2 key.2
theorem quot_fits {f : FP.Core.Fmt} (hE : f.exps = 2 * f.emax + 2) (hem : 1 ≤ f.emax) (hp : 2 ≤ f.p) {s t : Bool} {c d : Nat} {q r : Int} (h : FP.Core.quotient f (.fin s c q) (.fin t d r) ≠ .nan) : FP.Core.fits f (FP.Core.quotient f (.fin s c q) (.fin t d r)) := by
  have e : FP.Core.quotient f (.fin s c q) (.fin t d r) = (if d = 0 then (if c = 0 then FP.Core.Datum.nan else .inf (s != t)) else FP.Core.roundRatio f (s != t) c d (q - r)) := rfl
  rw [e] at h ⊢
  by_cases hd : d = 0
  · rw [if_pos hd] at h ⊢
    by_cases hc : c = 0
    · rw [if_pos hc] at h
      exact absurd rfl h
    · rw [if_neg hc]
      exact trivial
  · rw [if_neg hd]
    exact (rr_fits hE hem hp (by omega)).1
theorem f_div {a b : UInt32} (ha : okf a.toNat) (hb : okf b.toNat) (hn : FP.Core.quotient FP.Core.b32 (FP.Core.decode FP.Core.b32 a.toNat) (FP.Core.decode FP.Core.b32 b.toNat) ≠ .nan) :
    FP.d2f (FP.ddiv (FP.f2d a) (FP.f2d b)) = FP.fdiv a b ∧ okd (FP.ddiv (FP.f2d a) (FP.f2d b)).toNat ∧ okf (FP.fdiv a b).toNat := by
  have e1 : FP.ddiv (FP.f2d a) (FP.f2d b) = bd (FP.Core.quotient FP.Core.b64 (FP.Core.round FP.Core.b64 (FP.Core.decode FP.Core.b32 a.toNat)) (FP.Core.round FP.Core.b64 (FP.Core.decode FP.Core.b32 b.toNat))) := by
    rw [← (f2d_ok ha).2, ← (f2d_ok hb).2]; rfl
  have e2 : FP.fdiv a b = bf (FP.Core.quotient FP.Core.b32 (FP.Core.decode FP.Core.b32 a.toNat) (FP.Core.decode FP.Core.b32 b.toNat)) := rfl
  rw [e1, e2]
  have z64 : ∀ s : Bool, FP.Core.fits FP.Core.b64 (.fin s 0 FP.Core.b64.qmin) := fun s => ⟨by decide, by decide, by decide, Or.inl rfl⟩
  have key : FP.Core.fits FP.Core.b64 (FP.Core.quotient FP.Core.b64 (FP.Core.round FP.Core.b64 (FP.Core.decode FP.Core.b32 a.toNat)) (FP.Core.round FP.Core.b64 (FP.Core.decode FP.Core.b32 b.toNat))) ∧ FP.Core.quotient FP.Core.b64 (FP.Core.round FP.Core.b64 (FP.Core.decode FP.Core.b32 a.toNat)) (FP.Core.round FP.Core.b64 (FP.Core.decode FP.Core.b32 b.toNat)) ≠ .nan ∧
      FP.Core.round FP.Core.b32 (FP.Core.quotient FP.Core.b64 (FP.Core.round FP.Core.b64 (FP.Core.decode FP.Core.b32 a.toNat)) (FP.Core.round FP.Core.b64 (FP.Core.decode FP.Core.b32 b.toNat))) = FP.Core.quotient FP.Core.b32 (FP.Core.decode FP.Core.b32 a.toNat) (FP.Core.decode FP.Core.b32 b.toNat) := by
    rcases f_dat ha with ⟨s, hs⟩ | ⟨s, c, q, hs, c1, c2, c3, c4⟩ <;> rcases f_dat hb with ⟨t, ht⟩ | ⟨t, d, r, ht, d1, d2, d3, d4⟩
    · rw [hs, ht] at hn
      exact absurd rfl hn
    · rw [hs, ht]
      obtain ⟨i, hi⟩ := wide_fin (s := t) d1 d2 d3
      rw [hi]
      exact ⟨trivial, nan_inf, rfl⟩
    · rw [hs, ht]
      obtain ⟨j, hj⟩ := wide_fin (s := s) c1 c2 c3
      rw [hj]
      refine ⟨z64 _, nan_fin, ?_⟩
      show FP.Core.roundRatio FP.Core.b32 (s != t) 0 1 _ = .fin (s != t) 0 FP.Core.b32.qmin
      unfold FP.Core.roundRatio
      rw [if_pos rfl]
    · rw [hs, ht] at hn ⊢
      obtain ⟨j, hj⟩ := wide_fin (s := s) c1 c2 c3
      obtain ⟨i, hi⟩ := wide_fin (s := t) d1 d2 d3
      rw [hj, hi, quot_w]
      have e : ∀ f : FP.Core.Fmt, FP.Core.quotient f (.fin s c q) (.fin t d r) = (if d = 0 then (if c = 0 then FP.Core.Datum.nan else .inf (s != t)) else FP.Core.roundRatio f (s != t) c d (q - r)) := fun _ => rfl
      have hn64 : FP.Core.quotient FP.Core.b64 (.fin s c q) (.fin t d r) ≠ .nan := by
        rw [e] at hn ⊢
        by_cases hd : d = 0
        · rw [if_pos hd] at hn ⊢; exact hn
        · rw [if_neg hd]; exact (rr_fits f64.1 f64.2.1 (by decide) (by omega)).2
      refine ⟨quot_fits f64.1 f64.2.1 (by decide) hn64, hn64, ?_⟩
      rw [e, e]
      by_cases hd : d = 0
      · rw [if_pos hd, if_pos hd]
        by_cases hc : c = 0
        · rw [if_pos hc]; rfl
        · rw [if_neg hc]; rfl
      · rw [if_neg hd, if_neg hd]
        rcases Nat.eq_zero_or_pos c with hc | hc
        · subst hc
          unfold FP.Core.roundRatio
          rw [if_pos rfl, if_pos rfl]
          show FP.Core.roundRatio FP.Core.b32 (s != t) 0 1 _ = .fin (s != t) 0 FP.Core.b32.qmin
          unfold FP.Core.roundRatio
          rw [if_pos rfl]
        · exact dr_div hc (by omega) c1 d1 (by omega) (by omega)
  exact f_op rfl key.1 key.2.1 key.2.2
theorem f_rem {a b : UInt32} (ha : okf a.toNat) (hb : okf b.toNat) (hn : FP.Core.exactRemainder (FP.Core.decode FP.Core.b32 a.toNat) (FP.Core.decode FP.Core.b32 b.toNat) ≠ .nan) :
    FP.d2f (FP.drem (FP.f2d a) (FP.f2d b)) = FP.frem a b ∧ okd (FP.drem (FP.f2d a) (FP.f2d b)).toNat ∧ okf (FP.frem a b).toNat := by
  have e1 : FP.drem (FP.f2d a) (FP.f2d b) = bd (FP.Core.round FP.Core.b64 (FP.Core.exactRemainder (FP.Core.round FP.Core.b64 (FP.Core.decode FP.Core.b32 a.toNat)) (FP.Core.round FP.Core.b64 (FP.Core.decode FP.Core.b32 b.toNat)))) := by
    rw [← (f2d_ok ha).2, ← (f2d_ok hb).2]; rfl
  have e2 : FP.frem a b = bf (FP.Core.round FP.Core.b32 (FP.Core.exactRemainder (FP.Core.decode FP.Core.b32 a.toNat) (FP.Core.decode FP.Core.b32 b.toNat))) := rfl
  rw [e1, e2]
  have key : FP.Core.exactRemainder (FP.Core.round FP.Core.b64 (FP.Core.decode FP.Core.b32 a.toNat)) (FP.Core.round FP.Core.b64 (FP.Core.decode FP.Core.b32 b.toNat)) ≠ .nan ∧
      FP.Core.round FP.Core.b32 (FP.Core.round FP.Core.b64 (FP.Core.exactRemainder (FP.Core.round FP.Core.b64 (FP.Core.decode FP.Core.b32 a.toNat)) (FP.Core.round FP.Core.b64 (FP.Core.decode FP.Core.b32 b.toNat)))) = FP.Core.round FP.Core.b32 (FP.Core.exactRemainder (FP.Core.decode FP.Core.b32 a.toNat) (FP.Core.decode FP.Core.b32 b.toNat)) := by
    rcases f_dat ha with ⟨s, hs⟩ | ⟨s, c, q, hs, c1, c2, c3, c4⟩ <;> rcases f_dat hb with ⟨t, ht⟩ | ⟨t, d, r, ht, d1, d2, d3, d4⟩
    · rw [hs, ht] at hn
      exact absurd rfl hn
    · rw [hs, ht] at hn
      exact absurd rfl hn
    · rw [hs, ht]
      obtain ⟨j, hj⟩ := wide_fin (s := s) c1 c2 c3
      rw [hj]
      refine ⟨nan_fin, ?_⟩
      show FP.Core.round FP.Core.b32 (FP.Core.round FP.Core.b64 (.fin s (c * 2 ^ j) (q - j))) = FP.Core.round FP.Core.b32 (.fin s c q)
      have e : FP.Core.round FP.Core.b64 (.fin s (c * 2 ^ j) (q - j)) = .fin s (c * 2 ^ j) (q - j) := by
        rw [← hj]
        exact fits_rr f64.1 f64.2.1 (by decide) (r64 nan_fin).1
      rw [e, ← hj]
      exact dr_exact (by omega) (by omega) (by omega)
    · rw [hs, ht] at hn ⊢
      obtain ⟨j, hj⟩ := wide_fin (s := s) c1 c2 c3
      obtain ⟨i, hi⟩ := wide_fin (s := t) d1 d2 d3
      have hd : d ≠ 0 := fun h => hn (if_pos h)
      have hd2 : d * 2 ^ i ≠ 0 := by
        have := Nat.two_pow_pos i
        rw [Ne, Nat.mul_eq_zero]; omega
      have hnn : FP.Core.exactRemainder (.fin s (c * 2 ^ j) (q - j)) (.fin t (d * 2 ^ i) (r - i)) ≠ .nan := by
        have e : FP.Core.exactRemainder (.fin s (c * 2 ^ j) (q - j)) (.fin t (d * 2 ^ i) (r - i)) = .fin s (FP.Core.inUnits (c * 2 ^ j) (q - j) (min (q - j) (r - i)) % FP.Core.inUnits (d * 2 ^ i) (r - i) (min (q - j) (r - i))) (min (q - j) (r - i)) := if_neg hd2
        rw [e]; exact nan_fin
      rw [hj, hi]
      refine ⟨hnn, ?_⟩
      rw [rem_w]
      have e : FP.Core.exactRemainder (.fin s c q) (.fin t d r) = .fin s (FP.Core.inUnits c q (min q r) % FP.Core.inUnits d r (min q r)) (min q r) := if_neg hd
      rw [e]
      refine dr_exact ?_ (by omega) (by omega)
      unfold FP.Core.inUnits
      rcases Int.lt_or_le q r with h | h
      · rw [show (q - min q r).toNat = 0 by omega, Nat.pow_zero, Nat.mul_one]
        have := Nat.mod_le c (d * 2 ^ (r - min q r).toNat)
        omega
      · rw [show (r - min q r).toNat = 0 by omega, Nat.pow_zero, Nat.mul_one]
        have := Nat.mod_lt (c * 2 ^ (q - min q r).toNat) (show 0 < d by omega)
        omega
  have h64 := r64 key.1
  exact f_op rfl h64.1 h64.2 key.2
