/-! ===== VALUES, 2: arithmetic of floating lanes ===== -/
/-- whether there is no number that is the result: 1 + 2 - 3 * 4 / 5 % -/
def dnn (w : Int32) : FP.Core.Datum → FP.Core.Datum → Bool
  | .inf s, .inf t => if w = 1 then s != t else if w = 2 then s == t else if w = 3 then false else true
  | .inf _, .fin _ c _ => if w = 3 then c == 0 else if w = 5 then true else false
  | .fin _ c _, .inf _ => if w = 3 then c == 0 else false
  | .fin _ c _, .fin _ d _ => if w = 4 then (c == 0 && d == 0) else if w = 5 then d == 0 else false
  | _, _ => true
def Wk (w : Int32) : Prop := w = 1 ∨ w = 2 ∨ w = 3 ∨ w = 4 ∨ w = 5
def dI : FP.Core.Datum → Bool
  | .inf _ => true
  | _ => false
def dZ : FP.Core.Datum → Bool
  | .fin _ c _ => c == 0
  | _ => false
abbrev d64 (x : UInt64) : FP.Core.Datum := FP.Core.decode FP.Core.b64 x.toNat
abbrev d32 (x : UInt32) : FP.Core.Datum := FP.Core.decode FP.Core.b32 x.toNat
theorem d64_cases {x : UInt64} (h : okd x.toNat) : (∃ s, d64 x = .inf s ∧ x.toNat % 2 ^ 63 = 2047 * 2 ^ 52 ∧ dS x.toNat = s) ∨ (∃ s c q, d64 x = .fin s c q ∧ x.toNat % 2 ^ 63 < 2047 * 2 ^ 52 ∧ dS x.toNat = s ∧ (c = 0 ↔ x.toNat % 2 ^ 63 = 0)) := by
  have hn : x.toNat < 2 ^ 64 := x.toNat_lt
  rcases okd_cases hn h with ⟨a1, a2, a3⟩ | ⟨a1, a2, a3⟩ | ⟨a1, a2, a3, a4⟩
  · exact Or.inl ⟨_, dec_inf hn a2 a3, a1, rfl⟩
  · exact Or.inr ⟨_, _, _, dec_fin hn (by omega), by omega, rfl, by omega⟩
  · exact Or.inr ⟨_, _, _, dec_fin hn a3, by unfold okd at h; omega, rfl, by omega⟩
theorem ord_rk {x y : UInt64} (hx : okd x.toNat) (hy : okd y.toNat) : FP.dcmp x y = some (compare (rk x.toNat) (rk y.toNat)) := order_ok x.toNat_lt y.toNat_lt hx hy
theorem E_endless {x : UInt64} (h : okd x.toNat) : F_X23_isEndless x = some (mr (dI (d64 x))) := by
  unfold F_X23_isEndless F_X23_isEndless_b16 F_X23_isEndless_b21
  have k1 := (jd_lt (ord_rk h (y := 9218868437227405311) (by unfold okd; decide)) .l).2.1
  have k2 := (jd_lt (ord_rk h (y := 18442240474082181119) (by unfold okd; decide)) .g).1
  rw [show rk (9218868437227405311 : UInt64).toNat = 9218868437227405311 by decide] at k1
  rw [show rk (18442240474082181119 : UInt64).toNat = -9218868437227405311 by decide] at k2
  simp only [k1, k2]
  rcases d64_cases h with ⟨s, e, m, hs⟩ | ⟨s, c, q, e, m, hs, -⟩
  · rw [e]
    unfold rk
    rw [hs, m]
    cases s with
    | true => rw [if_pos rfl, if_neg (by decide), if_pos (by decide)]; rfl
    | false => rw [if_pos (by decide)]; rfl
  · rw [e, if_neg (by unfold rk; split <;> omega), if_neg (by unfold rk; split <;> omega)]
    rfl
theorem E_zero {x : UInt64} (h : okd x.toNat) (op : CmpOp) : j_dcmp x 0 op = 0 ↔ dZ (d64 x) = true := by
  have k := (jd_lt (ord_rk h (y := 0) (by unfold okd; decide)) op).2.2
  rw [k, show rk (0 : UInt64).toNat = 0 by decide]
  rcases d64_cases h with ⟨s, e, m, hs⟩ | ⟨s, c, q, e, m, hs, hz⟩
  · rw [e]
    unfold rk
    rw [hs, m]
    cases s <;> decide
  · rw [e]
    show _ ↔ (c == 0) = true
    rw [beq_iff_eq, hz]
    unfold rk
    split <;> omega
theorem E_eqinf {x y : UInt64} {s t : Bool} (hx : d64 x = .inf s) (hy : d64 y = .inf t) (op : CmpOp) : j_dcmp x y op = 0 ↔ s = t := by
  have e : FP.dcmp x y = some (compare (FP.Core.signed s 1) (FP.Core.signed t 1)) := by
    show FP.Core.order (d64 x) (d64 y) = _
    rw [hx, hy]
    rfl
  rw [(jd_lt e op).2.2]
  cases s <;> cases t <;> decide
theorem E_hasNone {w : Int32} {x y : UInt64} (hw : Wk w) (hx : okd x.toNat) (hy : okd y.toNat) : F_X23_hasNone w x y = some (mr (dnn w (d64 x) (d64 y))) := by
  unfold F_X23_hasNone F_X23_hasNone_b18 F_X23_hasNone_b19 F_X23_hasNone_b99 F_X23_hasNone_b67 F_X23_hasNone_b68 F_X23_hasNone_b84 F_X23_hasNone_b85 F_X23_hasNone_b112 F_X23_hasNone_b116 F_X23_hasNone_b117 F_X23_hasNone_b135 F_X23_hasNone_b139 F_X23_hasNone_b140 F_X23_hasNone_b154 F_X23_hasNone_b159
  simp only [E_endless hx, E_endless hy, Option.bind_some, E_zero hx, E_zero hy, mr_0]
  rcases d64_cases hx with ⟨s, e, -, -⟩ | ⟨s, c, q, e, -, -, -⟩ <;> rcases d64_cases hy with ⟨t, e', -, -⟩ | ⟨t, d, r, e', -, -, -⟩
  · simp only [E_eqinf e e']
    rw [e, e']
    rcases hw with rfl | rfl | rfl | rfl | rfl <;> cases s <;> cases t <;> rfl
  · rw [e, e']
    rcases hw with rfl | rfl | rfl | rfl | rfl <;> simp [dI, dZ, dnn, mr] <;> split <;> rfl
  · rw [e, e']
    rcases hw with rfl | rfl | rfl | rfl | rfl <;> simp [dI, dZ, dnn, mr] <;> split <;> rfl
  · rw [e, e']
    rcases hw with rfl | rfl | rfl | rfl | rfl <;> simp [dI, dZ, dnn, mr] <;> (repeat split) <;> first | rfl | omega | simp_all
/-- machine operations -/
def dop (w : Int32) (x y : UInt64) : UInt64 := if w = 1 then FP.dadd x y else if w = 2 then FP.dsub x y else if w = 3 then FP.dmul x y else if w = 4 then FP.ddiv x y else FP.drem x y
def fop (w : Int32) (x y : UInt32) : UInt32 := if w = 1 then FP.fadd x y else if w = 2 then FP.fsub x y else if w = 3 then FP.fmul x y else if w = 4 then FP.fdiv x y else FP.frem x y
def eop (f : FP.Core.Fmt) (w : Int32) (d e : FP.Core.Datum) : FP.Core.Datum := if w = 1 then FP.Core.exactSum d e else if w = 2 then FP.Core.exactSum d (FP.Core.negate e) else if w = 3 then FP.Core.exactProduct d e else if w = 4 then FP.Core.quotient f d e else FP.Core.exactRemainder d e
theorem eop_nan {f : FP.Core.Fmt} {w : Int32} {d e : FP.Core.Datum} (hw : Wk w) (hf : ∀ s A B q, 0 < B → FP.Core.roundRatio f s A B q ≠ .nan) (h : dnn w d e = false) : eop f w d e ≠ .nan := by
  unfold eop
  cases d with
  | nan => cases h
  | inf s =>
    cases e with
    | nan => cases h
    | inf t => rcases hw with rfl | rfl | rfl | rfl | rfl <;> cases s <;> cases t <;> first | exact absurd h (by decide) | exact nan_inf
    | fin t d r =>
      rcases hw with rfl | rfl | rfl | rfl | rfl
      · exact nan_inf
      · exact nan_inf
      · have h : (d == 0) = false := h
        have h0 : ¬ d = 0 := by intro hh; rw [hh] at h; cases h
        show (if d = 0 then FP.Core.Datum.nan else .inf (s != t)) ≠ .nan
        rw [if_neg h0]
        exact nan_inf
      · exact nan_inf
      · cases h
  | fin s c q =>
    cases e with
    | nan => cases h
    | inf t =>
      rcases hw with rfl | rfl | rfl | rfl | rfl
      · exact nan_inf
      · exact nan_inf
      · have h : (c == 0) = false := h
        have h0 : ¬ c = 0 := by intro hh; rw [hh] at h; cases h
        show (if c = 0 then FP.Core.Datum.nan else .inf (s != t)) ≠ .nan
        rw [if_neg h0]
        exact nan_inf
      · exact nan_fin
      · exact nan_fin
    | fin t d r =>
      rcases hw with rfl | rfl | rfl | rfl | rfl
      · exact nan_fin
      · exact nan_fin
      · exact nan_fin
      · have h : (c == 0 && d == 0) = false := h
        show (if d = 0 then (if c = 0 then FP.Core.Datum.nan else .inf (s != t)) else FP.Core.roundRatio f (s != t) c d (q - r)) ≠ .nan
        by_cases hd : d = 0
        · rw [if_pos hd, if_neg (by intro hc; rw [hc, hd] at h; cases h)]
          exact nan_inf
        · rw [if_neg hd]
          exact hf _ _ _ _ (by omega)
      · have h : (d == 0) = false := h
        have h0 : ¬ d = 0 := by intro hh; rw [hh] at h; cases h
        show (if d = 0 then FP.Core.Datum.nan else _) ≠ .nan
        rw [if_neg h0]
        exact nan_fin
theorem rr_nn64 (s : Bool) (A B : Nat) (q : Int) (h : 0 < B) : FP.Core.roundRatio FP.Core.b64 s A B q ≠ .nan := (rr_fits f64.1 f64.2.1 (by decide) h).2
theorem rr_nn32 (s : Bool) (A B : Nat) (q : Int) (h : 0 < B) : FP.Core.roundRatio FP.Core.b32 s A B q ≠ .nan := (rr_fits f32.1 f32.2.1 (by decide) h).2
theorem quot_fits' {d e : FP.Core.Datum} (h : FP.Core.quotient FP.Core.b64 d e ≠ .nan) : FP.Core.fits FP.Core.b64 (FP.Core.quotient FP.Core.b64 d e) := by
  cases d with
  | nan => exact absurd rfl h
  | inf s => cases e <;> trivial
  | fin s c q =>
    cases e with
    | nan => exact absurd rfl h
    | inf t => exact ⟨by decide, by decide, by decide, Or.inl rfl⟩
    | fin t d r => exact quot_fits f64.1 f64.2.1 (by decide) h
theorem dop_ok {w : Int32} {x y : UInt64} (hw : Wk w) (h : dnn w (d64 x) (d64 y) = false) : okd (dop w x y).toNat := by
  have hn := eop_nan hw rr_nn64 h
  unfold dop
  rcases hw with rfl | rfl | rfl | rfl | rfl
  · exact (bd_nat (r64 hn).1 (r64 hn).2).2.1
  · exact (bd_nat (r64 hn).1 (r64 hn).2).2.1
  · exact (bd_nat (r64 hn).1 (r64 hn).2).2.1
  · exact (bd_nat (quot_fits' hn) hn).2.1
  · exact (bd_nat (r64 hn).1 (r64 hn).2).2.1
theorem dI_inf {x : UInt64} (h : okd x.toNat) : dI (d64 x) = decide (x.toNat % 2 ^ 63 = 2047 * 2 ^ 52) := by
  rcases d64_cases h with ⟨s, e, m, hs⟩ | ⟨s, c, q, e, m, hs, hz⟩
  · rw [e, decide_eq_true m]
    rfl
  · rw [e, decide_eq_false (by omega)]
    rfl
theorem dZ_zero {x : UInt64} (h : okd x.toNat) : dZ (d64 x) = decide (x.toNat % 2 ^ 63 = 0) := by
  rcases d64_cases h with ⟨s, e, m, hs⟩ | ⟨s, c, q, e, m, hs, hz⟩
  · rw [e, decide_eq_false (by omega)]
    rfl
  · rw [e]
    show (c == 0) = _
    by_cases h0 : c = 0
    · rw [decide_eq_true (hz.mp h0), h0]
      rfl
    · rw [decide_eq_false (fun hh => h0 (hz.mpr hh))]
      exact beq_false_of_ne h0
theorem M_inf {x : UInt64} (h : okd x.toNat) : F_X24_isInfinite x.toInt64 = some (mr (dI (d64 x))) := by
  rw [X24_isInfinite, dI_inf h]
  rfl
theorem M_zer {x : UInt64} (h : okd x.toNat) : F_X24_isZero x.toInt64 = some (mr (dZ (d64 x))) := by
  rw [X24_isZero, dZ_zero h]
  rfl
theorem M_neg {y : UInt64} (h : okd y.toNat) : ∃ z : UInt64, F_X24_negative y.toInt64 = some z.toInt64 ∧ okd z.toNat ∧ d64 z = FP.Core.negate (d64 y) := by
  have hn : y.toNat < 2 ^ 64 := y.toNat_lt
  obtain ⟨n, en, n1, n2⟩ : ∃ n : Nat, un (y.toInt64 ^^^ -9223372036854775808) = n ∧ n % 2 ^ 63 = y.toNat % 2 ^ 63 ∧ dS n = !dS y.toNat := by
    refine ⟨_, rfl, ?_⟩
    rw [un_xor, show un (-9223372036854775808) = 2 ^ 63 from rfl]
    have e : un y.toInt64 = y.toNat := rfl
    rw [e]
    have x1 : (y.toNat ^^^ 2 ^ 63) % 2 ^ 63 = y.toNat % 2 ^ 63 := by
      rw [Nat.xor_mod_two_pow, Nat.mod_self, Nat.xor_zero]
    have x2 : (y.toNat ^^^ 2 ^ 63) / 2 ^ 63 = (y.toNat / 2 ^ 63) ^^^ 1 := by
      rw [Nat.xor_div_two_pow, Nat.div_self (by decide)]
    refine ⟨x1, ?_⟩
    have hb : y.toNat / 2 ^ 63 = 0 ∨ y.toNat / 2 ^ 63 = 1 := by omega
    unfold dS
    generalize y.toNat ^^^ 2 ^ 63 = n at *
    rcases hb with hb | hb
    · rw [hb] at x2
      have x2 : n / 2 ^ 63 = 1 := x2
      rw [decide_eq_false (show ¬ 2 ^ 63 ≤ y.toNat by omega), decide_eq_true (by omega)]
      rfl
    · rw [hb] at x2
      have x2 : n / 2 ^ 63 = 0 := x2
      rw [decide_eq_true (show 2 ^ 63 ≤ y.toNat by omega), decide_eq_false (by omega)]
      rfl
  have hlt : n < 2 ^ 64 := by rw [← en]; exact un_lt _
  have hto : (UInt64.ofNat n).toNat = n := UInt64.toNat_ofNat_of_lt' hlt
  have hok : okd n := by unfold okd at *; omega
  refine ⟨UInt64.ofNat n, ?_, by rw [hto]; exact hok, ?_⟩
  · unfold F_X24_negative
    refine congrArg some (un_inj ?_)
    rw [en]
    show n = (UInt64.ofNat n).toNat
    rw [hto]
  · show FP.Core.decode FP.Core.b64 (UInt64.ofNat n).toNat = FP.Core.negate (FP.Core.decode FP.Core.b64 y.toNat)
    rw [hto]
    have e1 : dE n = dE y.toNat := by unfold dE; omega
    have e2 : dT n = dT y.toNat := by unfold dT; omega
    by_cases hE : dE y.toNat = 2047
    · have hT : dT y.toNat = 0 := by
        rcases okd_cases hn h with ⟨a1, a2, a3⟩ | ⟨a1, a2, a3⟩ | ⟨a1, a2, a3, a4⟩ <;> omega
      rw [dec_inf hn hE hT, dec_inf hlt (by omega) (by omega), n2]
      rfl
    · rw [dec_fin hn hE, dec_fin hlt (by omega), n2]
      have e3 : dC n = dC y.toNat := by unfold dC; rw [e1, e2]
      have e4 : dQ n = dQ y.toNat := by unfold dQ; rw [e1]
      rw [e3, e4]
      rfl
/-- what the model throws, and the engine -/
noncomputable def mTh {α : Type} (M : Mem) (v0 : Nat) (c : Int32) : Option (α ⊕ (Nat × Mem)) := (vg M v0 17).bind fun _ => (F_X16_fails M v0 c).bind fun z => (ie z.2 z.1).bind fun _ => some (.inr (z.1, z.2))
noncomputable def eTh {α : Type} (M : Mem) (st : Nat) (c : Int32) : Option (α ⊕ (Nat × Mem)) := (vg M st 2).bind fun _ => (F_X1_with M st c).bind fun z => (ie z.2 z.1).bind fun _ => some (.inr (z.1, z.2))
theorem M_fl1 {x y : UInt64} {M : Mem} {v0 : Nat} (hx : okd x.toNat) (hy : okd y.toNat) :
    F_X16_floating_b180 M y.toInt64 v0 x.toInt64 (mr (dI (d64 x))) (mr (dI (d64 y))) = if dnn 1 (d64 x) (d64 y) = true then mTh M v0 8 else some (.inl ((FP.dadd x y).toInt64, M)) := by
  have ux : un x.toInt64 = x.toNat := rfl
  have uy : un y.toInt64 = y.toNat := rfl
  have mt : mr true ≠ 0 := by decide
  have mf : mr false = 0 := by decide
  have add : (∀ s t, d64 x = .inf s → d64 y = .inf t → s = t) → F_X24_add x.toInt64 y.toInt64 = some (FP.dadd x y).toInt64 := by
    intro hst
    refine X24_add hx hy (fun i1 i2 => ?_)
    rcases d64_cases hx with ⟨s, e, m, hs⟩ | ⟨s, c, q, e, m, hs, hc⟩ <;> rcases d64_cases hy with ⟨t, e', m', hs'⟩ | ⟨t, c', q', e', m', hs', hc'⟩
    · rw [ux, uy, hs, hs']
      exact hst s t e e'
    · rw [uy] at i2; omega
    · rw [ux] at i1; omega
    · rw [ux] at i1; omega
  unfold F_X16_floating_b180 F_X16_floating_b206
  rcases d64_cases hx with ⟨s, e, m, hs⟩ | ⟨s, c, q, e, m, hs, hc⟩ <;> rcases d64_cases hy with ⟨t, e', m', hs'⟩ | ⟨t, c', q', e', m', hs', hc'⟩
  · have heq : x.toInt64 = y.toInt64 ↔ s = t := by
      constructor
      · intro hh
        have : x.toNat = y.toNat := congrArg un hh
        rw [← hs, ← hs', this]
      · intro hh
        refine un_inj ?_
        rw [ux, uy]
        rw [← hs, ← hs'] at hh
        unfold dS at hh
        have h1 := x.toNat_lt
        have h2 := y.toNat_lt
        by_cases hb : 2 ^ 63 ≤ x.toNat
        · rw [decide_eq_true hb] at hh
          have := of_decide_eq_true hh.symm
          omega
        · rw [decide_eq_false hb] at hh
          have := of_decide_eq_false hh.symm
          omega
    by_cases hst : s = t
    · have := add (fun s' t' a b => by rw [e] at a; rw [e'] at b; cases a; cases b; exact hst)
      rw [this, e, e']
      show (if mr true = 0 then _ else if mr true = 0 then _ else if x.toInt64 = y.toInt64 then _ else _) = if (s != t) = true then _ else _
      rw [if_neg mt, if_neg mt, if_pos (heq.mpr hst), hst, bne_self_eq_false, if_neg (by decide)]
      rfl
    · rw [e, e']
      show (if mr true = 0 then _ else if mr true = 0 then _ else if x.toInt64 = y.toInt64 then _ else _) = if (s != t) = true then _ else _
      rw [if_neg mt, if_neg mt, if_neg (fun hh => hst (heq.mp hh)), if_pos (by rw [bne_iff_ne]; exact hst)]
      rfl
  · have := add (fun s' t' a b => by rw [e'] at b; cases b)
    rw [this, e, e']
    rfl
  · have := add (fun s' t' a b => by rw [e] at a; cases a)
    rw [this, e, e']
    rfl
  · have := add (fun s' t' a b => by rw [e] at a; cases a)
    rw [this, e, e']
    rfl
theorem M_fl {w : Int32} {x y : UInt64} {M : Mem} {v0 v1 : Nat} (hw : Wk w) (hx : okd x.toNat) (hy : okd y.toNat) (hv : vg M v1 76 = some ()) (he : F_J15_equals M v1 34 = some (if w = 2 then 1 else 0)) :
    F_X16_floating_b129 M v0 v1 x.toInt64 y.toInt64 (mr (dI (d64 x))) (mr (dI (d64 y))) (if w = 1 then 0 else if w = 2 then 1 else if w = 3 then 2 else if w = 4 then 3 else -1) =
      if dnn w (d64 x) (d64 y) = true then mTh M v0 8 else some (.inl ((dop w x y).toInt64, M)) := by
  have mt : mr true ≠ 0 := by decide
  have mf : mr false = 0 := by decide
  unfold F_X16_floating_b129
  rcases hw with rfl | rfl | rfl | rfl | rfl
  · rw [if_pos rfl, if_pos rfl]
    unfold F_X16_floating_b160
    rw [hv, he]
    simp only [Option.bind_some]
    rw [if_pos (by decide), M_fl1 hx hy]
    rfl
  · show F_X16_floating_b160 M v0 v1 x.toInt64 y.toInt64 _ _ = _
    unfold F_X16_floating_b160
    obtain ⟨z, z1, z2, z3⟩ := M_neg hy
    rw [hv, he, z1]
    simp only [Option.bind_some]
    rw [if_neg (by decide)]
    have e1 : dI (d64 y) = dI (d64 z) := by rw [z3]; cases d64 y <;> rfl
    have e2 : dnn 2 (d64 x) (d64 y) = dnn 1 (d64 x) (d64 z) := by
      rw [z3]
      cases d64 x with
      | nan => cases d64 y <;> rfl
      | inf s =>
        cases d64 y with
        | nan => rfl
        | inf t => cases s <;> cases t <;> rfl
        | fin t d r => rfl
      | fin s c q => cases d64 y <;> rfl
    have e3 : dop 2 x y = FP.dadd x z := by
      show bd (FP.Core.round FP.Core.b64 (FP.Core.exactSum (d64 x) (FP.Core.negate (d64 y)))) = bd (FP.Core.round FP.Core.b64 (FP.Core.exactSum (d64 x) (d64 z)))
      rw [z3]
    rw [e1, e2, e3, M_fl1 hx z2]
  · show (if mr (dI (d64 x)) = 0 then F_X16_floating_b226 M v0 x.toInt64 y.toInt64 (mr (dI (d64 y))) else (F_X24_isZero y.toInt64).bind fun z18 => if z18 = 0 then F_X16_floating_b226 M v0 x.toInt64 y.toInt64 (mr (dI (d64 y))) else F_X16_floating_b238 M v0) = _
    unfold F_X16_floating_b226 F_X16_floating_b238 F_X16_floating_b245
    have mul : dnn 3 (d64 x) (d64 y) = false → F_X24_multiply x.toInt64 y.toInt64 = some (FP.dmul x y).toInt64 := by
      intro hd
      refine X24_multiply hx hy (fun hh => ?_) (fun hh => ?_)
      · have h1 : x.toNat % 2 ^ 63 = 2047 * 2 ^ 52 := hh.1
        have h2 : y.toNat % 2 ^ 63 = 0 := hh.2
        rcases d64_cases hx with ⟨s, e, m, -⟩ | ⟨s, c, q, e, m, -, hc⟩
        · rcases d64_cases hy with ⟨t, e', m', -⟩ | ⟨t, d, r, e', m', -, hc'⟩
          · omega
          · rw [e, e', hc'.mpr h2] at hd
            exact absurd (show true = false from hd) (by decide)
        · omega
      · have h1 : y.toNat % 2 ^ 63 = 2047 * 2 ^ 52 := hh.1
        have h2 : x.toNat % 2 ^ 63 = 0 := hh.2
        rcases d64_cases hx with ⟨s, e, m, -⟩ | ⟨s, c, q, e, m, -, hc⟩
        · omega
        · rcases d64_cases hy with ⟨t, e', m', -⟩ | ⟨t, d, r, e', m', -, hc'⟩
          · rw [e, e', hc.mpr h2] at hd
            exact absurd (show true = false from hd) (by decide)
          · omega
    rw [M_zer hx, M_zer hy]
    simp only [Option.bind_some]
    rcases d64_cases hx with ⟨s, e, -, -⟩ | ⟨s, c, q, e, -, -, -⟩ <;> rcases d64_cases hy with ⟨t, e', -, -⟩ | ⟨t, d, r, e', -, -, -⟩
    · rw [mul (by rw [e, e']; rfl), e, e']
      rfl
    · by_cases hd : d = 0
      · subst hd
        rw [e, e']
        rfl
      · have hb : (d == 0) = false := beq_false_of_ne hd
        rw [mul (by rw [e, e']; exact hb), e, e']
        show (if mr true = 0 then _ else if mr (d == 0) = 0 then (if mr false = 0 then _ else _) else _) = if (d == 0) = true then _ else _
        rw [hb]
        rfl
    · by_cases hc : c = 0
      · subst hc
        rw [e, e']
        rfl
      · have hb : (c == 0) = false := beq_false_of_ne hc
        rw [mul (by rw [e, e']; exact hb), e, e']
        show (if mr false = 0 then (if mr true = 0 then _ else if mr (c == 0) = 0 then _ else _) else _) = if (c == 0) = true then _ else _
        rw [hb]
        rfl
    · rw [mul (by rw [e, e']; rfl), e, e']
      rfl
  · show (if mr (dI (d64 x)) = 0 then F_X16_floating_b262 M v0 x.toInt64 y.toInt64 else if mr (dI (d64 y)) = 0 then F_X16_floating_b262 M v0 x.toInt64 y.toInt64 else F_X16_floating_b277 M v0) = _
    unfold F_X16_floating_b262 F_X16_floating_b277 F_X16_floating_b284
    have div : dnn 4 (d64 x) (d64 y) = false → F_X24_divide x.toInt64 y.toInt64 = some (FP.ddiv x y).toInt64 := by
      intro hd
      refine X24_divide hx hy (fun hh => ?_) (fun hh => ?_)
      · have h1 : x.toNat % 2 ^ 63 = 2047 * 2 ^ 52 := hh.1
        have h2 : y.toNat % 2 ^ 63 = 2047 * 2 ^ 52 := hh.2
        rcases d64_cases hx with ⟨s, e, m, -⟩ | ⟨s, c, q, e, m, -, hc⟩
        · rcases d64_cases hy with ⟨t, e', m', -⟩ | ⟨t, d, r, e', m', -, hc'⟩
          · rw [e, e'] at hd
            exact absurd (show true = false from hd) (by decide)
          · omega
        · omega
      · have h1 : x.toNat % 2 ^ 63 = 0 := hh.1
        have h2 : y.toNat % 2 ^ 63 = 0 := hh.2
        rcases d64_cases hx with ⟨s, e, m, -⟩ | ⟨s, c, q, e, m, -, hc⟩
        · omega
        · rcases d64_cases hy with ⟨t, e', m', -⟩ | ⟨t, d, r, e', m', -, hc'⟩
          · omega
          · rw [e, e', hc.mpr h1, hc'.mpr h2] at hd
            exact absurd (show true = false from hd) (by decide)
    rw [M_zer hx, M_zer hy]
    simp only [Option.bind_some]
    rcases d64_cases hx with ⟨s, e, -, -⟩ | ⟨s, c, q, e, -, -, -⟩ <;> rcases d64_cases hy with ⟨t, e', -, -⟩ | ⟨t, d, r, e', -, -, -⟩
    · rw [e, e']
      rfl
    · rw [div (by rw [e, e']; rfl), e, e']
      rfl
    · rw [div (by rw [e, e']; rfl), e, e']
      show (if mr false = 0 then (if mr (c == 0) = 0 then _ else if mr false = 0 then _ else _) else _) = if false = true then _ else _
      cases (c == 0) <;> rfl
    · by_cases hcd : (c == 0 && d == 0) = true
      · obtain ⟨hc, hd⟩ := (Bool.and_eq_true _ _).mp hcd
        rw [e, e']
        show (if mr false = 0 then (if mr (c == 0) = 0 then _ else if mr (d == 0) = 0 then _ else _) else _) = if (c == 0 && d == 0) = true then _ else _
        rw [hc, hd]
        rfl
      · have hf : (c == 0 && d == 0) = false := by rw [Bool.eq_false_iff]; exact hcd
        rw [div (by rw [e, e']; exact hf), e, e']
        show (if mr false = 0 then (if mr (c == 0) = 0 then _ else if mr (d == 0) = 0 then _ else _) else _) = if (c == 0 && d == 0) = true then _ else _
        rw [if_pos mf]
        cases hc : (c == 0) with
        | false => rfl
        | true =>
          cases hd : (d == 0) with
          | false => rfl
          | true => rw [hc, hd] at hf; cases hf
  · show (if mr (dI (d64 x)) = 0 then (F_X24_isZero y.toInt64).bind fun z19 => if z19 = 0 then (F_X16_rest x.toInt64 y.toInt64).bind fun z20 => some (.inl (z20, M)) else F_X16_floating_b304 M v0 else F_X16_floating_b304 M v0) = _
    unfold F_X16_floating_b304
    rw [M_zer hy]
    simp only [Option.bind_some]
    have hI := dI_inf hx
    have hZ := dZ_zero hy
    rcases d64_cases hx with ⟨s, e, m, -⟩ | ⟨s, c, q, e, m, -, -⟩
    · have : dnn 5 (d64 x) (d64 y) = true := by rw [e]; cases d64 y <;> rfl
      rw [this, e]
      rfl
    · have hd : dnn 5 (d64 x) (d64 y) = dZ (d64 y) := by
        rcases d64_cases hy with ⟨t, e', -, -⟩ | ⟨t, d, r, e', -, -, -⟩ <;> rw [e, e'] <;> rfl
      rw [hd, e]
      show (if mr false = 0 then _ else _) = _
      rw [if_pos mf]
      cases hz : dZ (d64 y) with
      | true => rfl
      | false =>
        rw [hz] at hZ
        have := X16_rest (a := x.toInt64) (b := y.toInt64) hx hy (show x.toNat % 2 ^ 63 ≠ _ by omega) (show y.toNat % 2 ^ 63 ≠ 0 from of_decide_eq_false hZ.symm)
        rw [this]
        rfl
/-- floats as doubles: the same class -/
theorem dnn_f {w : Int32} {a b : UInt32} (hw : Wk w) (ha : okf a.toNat) (hb : okf b.toNat) : dnn w (d64 (FP.f2d a)) (d64 (FP.f2d b)) = dnn w (d32 a) (d32 b) := by
  have key : ∀ {a : UInt32}, okf a.toNat → (∃ s, d32 a = .inf s ∧ d64 (FP.f2d a) = .inf s) ∨ ∃ s c q C Q, d32 a = .fin s c q ∧ d64 (FP.f2d a) = .fin s C Q ∧ (C == 0) = (c == 0) := by
    intro a ha
    have e := (f2d_ok ha).2
    rcases f_dat ha with ⟨s, h⟩ | ⟨s, c, q, h, h1, h2, h3, h4⟩
    · exact Or.inl ⟨s, h, by rw [h] at e; exact e⟩
    · obtain ⟨j, hj⟩ := wide_fin (s := s) h1 h2 h3
      rw [h, hj] at e
      refine Or.inr ⟨s, c, q, _, _, h, e, ?_⟩
      have := Nat.two_pow_pos j
      by_cases hc : c = 0
      · rw [hc, Nat.zero_mul]
      · rw [beq_false_of_ne hc, beq_false_of_ne (Nat.mul_ne_zero hc (by omega))]
  rcases key ha with ⟨s, e1, e2⟩ | ⟨s, c, q, C, Q, e1, e2, e3⟩ <;> rcases key hb with ⟨t, g1, g2⟩ | ⟨t, d, r, D, R, g1, g2, g3⟩ <;> rw [e1, e2, g1, g2] <;> rcases hw with rfl | rfl | rfl | rfl | rfl <;> first | rfl | exact e3 | exact g3 | (show (C == 0 && D == 0) = (c == 0 && d == 0); rw [e3, g3])
theorem f_all {w : Int32} {a b : UInt32} (hw : Wk w) (ha : okf a.toNat) (hb : okf b.toNat) (h : dnn w (d32 a) (d32 b) = false) : FP.d2f (dop w (FP.f2d a) (FP.f2d b)) = fop w a b ∧ okd (dop w (FP.f2d a) (FP.f2d b)).toNat ∧ okf (fop w a b).toNat := by
  have hn := eop_nan hw rr_nn32 h
  rcases hw with rfl | rfl | rfl | rfl | rfl
  · exact f_add ha hb hn
  · exact f_sub ha hb hn
  · exact f_mul ha hb hn
  · exact f_div ha hb hn
  · exact f_rem ha hb hn
/-- arithmetic of two values of a lane from int on; none: there is no such number -/
noncomputable def ari (w k : Int32) (a b : Int64) : Option Int64 :=
  if 5 < k then (if dnn w (d64 (lnR k a)) (d64 (lnR k b)) = true then none else some (if k = 6 then zx (fop w a.toInt32.toUInt32 b.toInt32.toUInt32) else (dop w a.toUInt64 b.toUInt64).toInt64))
  else if (w = 4 ∨ w = 5) ∧ b = 0 then none
  else some (if w = 1 then lnC k (a + b) else if w = 2 then lnC k (a - b) else if w = 3 then lnC k (a * b) else if w = 4 then (if b = -1 then lnC k (-a) else a / b) else (if b = -1 then 0 else j_lrem a b))
def Ak (k : Int32) : Prop := k = 4 ∨ k = 5 ∨ k = 6 ∨ k = 7
/-- how an engine's work that may fail ends -/
noncomputable def eRes (r : Option Int64) (M : Mem) (st : Nat) : Option ((Int64 × Mem) ⊕ (Nat × Mem)) := match r with
  | some v => some (.inl (v, M))
  | none => eTh M st 8
noncomputable def mRes (r : Option Int64) (M : Mem) (v0 : Nat) : Option ((Int64 × Mem) ⊕ (Nat × Mem)) := match r with
  | some v => some (.inl (v, M))
  | none => mTh M v0 8
theorem dop_1 (x y : UInt64) : dop 1 x y = FP.dadd x y := by
  unfold dop
  rw [if_pos rfl]
theorem dop_2 (x y : UInt64) : dop 2 x y = FP.dsub x y := by
  unfold dop
  rw [if_neg (by decide), if_pos rfl]
theorem dop_3 (x y : UInt64) : dop 3 x y = FP.dmul x y := by
  unfold dop
  rw [if_neg (by decide), if_neg (by decide), if_pos rfl]
theorem dop_4 (x y : UInt64) : dop 4 x y = FP.ddiv x y := by
  unfold dop
  rw [if_neg (by decide), if_neg (by decide), if_neg (by decide), if_pos rfl]
theorem dop_5 (x y : UInt64) : dop 5 x y = FP.drem x y := by
  unfold dop
  rw [if_neg (by decide), if_neg (by decide), if_neg (by decide), if_neg (by decide)]
theorem fop_1 (x y : UInt32) : fop 1 x y = FP.fadd x y := by
  unfold fop
  rw [if_pos rfl]
theorem fop_2 (x y : UInt32) : fop 2 x y = FP.fsub x y := by
  unfold fop
  rw [if_neg (by decide), if_pos rfl]
theorem fop_3 (x y : UInt32) : fop 3 x y = FP.fmul x y := by
  unfold fop
  rw [if_neg (by decide), if_neg (by decide), if_pos rfl]
theorem fop_4 (x y : UInt32) : fop 4 x y = FP.fdiv x y := by
  unfold fop
  rw [if_neg (by decide), if_neg (by decide), if_neg (by decide), if_pos rfl]
theorem fop_5 (x y : UInt32) : fop 5 x y = FP.frem x y := by
  unfold fop
  rw [if_neg (by decide), if_neg (by decide), if_neg (by decide), if_neg (by decide)]
theorem lnR_6 (v : Int64) : lnR 6 v = FP.f2d v.toInt32.toUInt32 := by
  unfold lnR
  rw [if_pos rfl]
theorem lnR_7 (v : Int64) : lnR 7 v = v.toUInt64 := by
  unfold lnR
  rw [if_neg (by decide), if_pos rfl]
theorem lnB_6 (x : UInt64) : lnB 6 x = zx (FP.d2f x) := by
  unfold lnB
  rw [if_pos rfl]
theorem lnB_7 (x : UInt64) : lnB 7 x = x.toInt64 := by
  unfold lnB
  rw [if_neg (by decide)]
theorem E_floating {w k : Int32} {a b : Int64} (hw : Wk w) (hk : k = 6 ∨ k = 7) (ha : vb k a) (hb : vb k b) (h : dnn w (d64 (lnR k a)) (d64 (lnR k b)) = false) :
    ∃ z, F_X23_floating w k (lnR k a) (lnR k b) = some z ∧ okd z.toNat ∧ lnB k z = (if k = 6 then zx (fop w a.toInt32.toUInt32 b.toInt32.toUInt32) else (dop w a.toUInt64 b.toUInt64).toInt64) := by
  rcases hk with rfl | rfl
  · have ka : okf a.toInt32.toUInt32.toNat := (vb_6.mp ha).2
    have kb : okf b.toInt32.toUInt32.toNat := (vb_6.mp hb).2
    rw [lnR_6, lnR_6] at h ⊢
    rw [dnn_f hw ka kb] at h
    rw [if_pos rfl]
    generalize a.toInt32.toUInt32 = x at *
    generalize b.toInt32.toUInt32 = y at *
    obtain ⟨f1, f2, f3⟩ := f_all hw ka kb h
    have n1 := xn32 f3
    have n2 := xn64 (f2d_ok f3).1
    refine ⟨FP.f2d (fop w x y), ?_, (f2d_ok f3).1, ?_⟩
    · unfold F_X23_floating
      rw [if_pos rfl]
      simp only [d2f_f2d ka, d2f_f2d kb, xn32 ka, xn32 kb, if_true]
      rcases hw with rfl | rfl | rfl | rfl | rfl
      · rw [fop_1] at n1 n2 ⊢
        rw [if_pos rfl, if_pos n1, if_pos n2]
      · rw [fop_2] at n1 n2 ⊢
        rw [if_neg (show ¬ (2 : Int32) = 1 by decide), if_pos rfl, if_pos n1, if_pos n2]
      · rw [fop_3] at n1 n2 ⊢
        rw [if_neg (show ¬ (3 : Int32) = 1 by decide), if_neg (show ¬ (3 : Int32) = 2 by decide), if_pos rfl, if_pos n1, if_pos n2]
      · rw [fop_4] at n1 n2 ⊢
        rw [if_neg (show ¬ (4 : Int32) = 1 by decide), if_neg (show ¬ (4 : Int32) = 2 by decide), if_neg (show ¬ (4 : Int32) = 3 by decide), if_pos rfl, if_pos n1, if_pos n2]
      · rw [fop_5] at n1 n2 ⊢
        rw [if_neg (show ¬ (5 : Int32) = 1 by decide), if_neg (show ¬ (5 : Int32) = 2 by decide), if_neg (show ¬ (5 : Int32) = 3 by decide), if_neg (show ¬ (5 : Int32) = 4 by decide), if_pos n1, if_pos n2]
    · rw [lnB_6, d2f_f2d f3]
  · rw [lnR_7, lnR_7] at h ⊢
    rw [if_neg (show ¬ (7 : Int32) = 6 by decide)]
    have ok := dop_ok hw h
    have n1 := xn64 ok
    refine ⟨dop w a.toUInt64 b.toUInt64, ?_, ok, lnB_7 _⟩
    unfold F_X23_floating
    rw [if_neg (by decide)]
    rcases hw with rfl | rfl | rfl | rfl | rfl
    · rw [dop_1] at n1 ⊢
      rw [if_pos rfl, if_pos n1]
    · rw [dop_2] at n1 ⊢
      rw [if_neg (show ¬ (2 : Int32) = 1 by decide), if_pos rfl, if_pos n1]
    · rw [dop_3] at n1 ⊢
      rw [if_neg (show ¬ (3 : Int32) = 1 by decide), if_neg (show ¬ (3 : Int32) = 2 by decide), if_pos rfl, if_pos n1]
    · rw [dop_4] at n1 ⊢
      rw [if_neg (show ¬ (4 : Int32) = 1 by decide), if_neg (show ¬ (4 : Int32) = 2 by decide), if_neg (show ¬ (4 : Int32) = 3 by decide), if_pos rfl, if_pos n1]
    · rw [dop_5] at n1 ⊢
      rw [if_neg (show ¬ (5 : Int32) = 1 by decide), if_neg (show ¬ (5 : Int32) = 2 by decide), if_neg (show ¬ (5 : Int32) = 3 by decide), if_neg (show ¬ (5 : Int32) = 4 by decide), if_pos n1]
theorem E_ari {w k : Int32} {a b : Int64} {M : Mem} {st : Nat} (hw : Wk w) (hk : Ak k) (ha : vb k a) (hb : vb k b) : F_X23_arithmetic M w k a b st = eRes (ari w k a b) M st := by
  unfold F_X23_arithmetic ari
  by_cases h5 : 5 < k
  · have hk' : k = 6 ∨ k = 7 := by rcases hk with rfl | rfl | rfl | rfl <;> first | exact absurd h5 (by decide) | exact Or.inl rfl | exact Or.inr rfl
    rw [if_neg (by rcases hk' with rfl | rfl <;> decide), if_pos h5, (E_real ha).1, (E_real hb).1]
    simp only [Option.bind_some]
    rw [E_hasNone hw (E_real ha).2 (E_real hb).2]
    simp only [Option.bind_some]
    cases hd : dnn w (d64 (lnR k a)) (d64 (lnR k b)) with
    | true => rfl
    | false =>
      obtain ⟨z, z1, z2, z3⟩ := E_floating hw hk' ha hb hd
      rw [if_pos (by decide), z1]
      simp only [Option.bind_some]
      rw [E_bits z2, z3]
      rfl
  · have hk' : k = 4 ∨ k = 5 := by rcases hk with rfl | rfl | rfl | rfl <;> first | exact Or.inl rfl | exact Or.inr rfl | exact absurd (by decide) h5
    rw [if_pos (by rcases hk' with rfl | rfl <;> decide), if_neg h5]
    unfold F_X23_arithmetic_b74 F_X23_arithmetic_b153 F_X23_arithmetic_b171
    simp only [E_cut, Option.bind_some]
    rcases hw with rfl | rfl | rfl | rfl | rfl
    · rfl
    · rfl
    · rfl
    · by_cases hb0 : b = 0
      · rw [if_neg (by decide), if_pos hb0, if_pos ⟨Or.inl rfl, hb0⟩]
        rfl
      · rw [if_neg (by decide), if_neg hb0, if_neg (show ¬ (((4 : Int32) = 4 ∨ (4 : Int32) = 5) ∧ b = 0) from fun hh => hb0 hh.2)]
        simp only [hb0, if_false]
        by_cases h1 : b = -1
        · simp [h1, eRes]
        · simp [h1, eRes]
    · by_cases hb0 : b = 0
      · rw [if_neg (by decide), if_pos hb0, if_pos ⟨Or.inr rfl, hb0⟩]
        rfl
      · rw [if_neg (by decide), if_neg hb0, if_neg (show ¬ (((5 : Int32) = 4 ∨ (5 : Int32) = 5) ∧ b = 0) from fun hh => hb0 hh.2)]
        simp only [hb0, if_false]
        by_cases h1 : b = -1
        · simp [h1, eRes]
        · simp [h1, eRes]
