/-! ===== FORMULAS, 5: the tokens of a text ===== -/
def scn (p : Nat → Bool) : Nat → Nat → Nat
  | 0, a => a
  | e + 1, a => if p a = true then scn p e (a + 1) else a
/-- where it first does not hold -/
def sc (p : Nat → Bool) (n a : Nat) : Nat := scn p (n - a) a
theorem sc_t {p : Nat → Bool} {n a : Nat} (h : p a = true) (hn : a < n) : sc p n a = sc p n (a + 1) := by
  unfold sc
  obtain ⟨e, he⟩ : ∃ e, n - a = e + 1 := ⟨n - a - 1, by omega⟩
  rw [he, show n - (a + 1) = e by omega]
  show (if p a = true then scn p e (a + 1) else a) = _
  rw [if_pos h]
theorem sc_f {p : Nat → Bool} {n a : Nat} (h : p a = false) : sc p n a = a := by
  unfold sc
  cases n - a with
  | zero => rfl
  | succ e =>
    show (if p a = true then scn p e (a + 1) else a) = _
    rw [if_neg (by rw [h]; decide)]
theorem sc_spec {p : Nat → Bool} {n : Nat} (hp : ∀ a, p a = true → a < n) : ∀ (e a : Nat), a + e = n → a ≤ sc p n a ∧ sc p n a ≤ n ∧ p (sc p n a) = false ∧ ∀ i, a ≤ i → i < sc p n a → p i = true
  | 0, a, h => by
    have hf : p a = false := by
      cases q : p a with
      | false => rfl
      | true => have := hp a q; omega
    rw [sc_f hf]
    exact ⟨Nat.le_refl _, by omega, hf, fun i h1 h2 => by omega⟩
  | e + 1, a, h => by
    cases q : p a with
    | false =>
      rw [sc_f q]
      exact ⟨Nat.le_refl _, by omega, q, fun i h1 h2 => by omega⟩
    | true =>
      rw [sc_t q (by omega)]
      obtain ⟨h1, h2, h3, h4⟩ := sc_spec hp e (a + 1) (by omega)
      exact ⟨by omega, h2, h3, fun i i1 i2 => by rcases Nat.lt_or_ge a i with w | w; exact h4 i w i2; rw [show i = a by omega]; exact q⟩
def cB (b : Nat) : Bool := decide (b = 32 ∨ b = 9 ∨ b = 10 ∨ b = 13)
def cL (b : Nat) : Bool := decide (97 ≤ b ∧ b ≤ 122)
def cU (b : Nat) : Bool := decide (65 ≤ b ∧ b ≤ 90)
def cD (b : Nat) : Bool := decide (48 ≤ b ∧ b ≤ 57)
/-- a blank; a small letter; a sign of a name -/
def isBl (f : Nat → Int32) (n a : Nat) : Bool := decide (a < n) && cB (bn (f a))
def isLo (f : Nat → Int32) (n a : Nat) : Bool := decide (a < n) && cL (bn (f a))
def isNm (f : Nat → Int32) (n a : Nat) : Bool := decide (a < n) && (cL (bn (f a)) || cU (bn (f a)) || cD (bn (f a)))
theorem isBl_lt {f : Nat → Int32} {n a : Nat} (h : isBl f n a = true) : a < n := of_decide_eq_true ((Bool.and_eq_true _ _).mp h).1
theorem isLo_lt {f : Nat → Int32} {n a : Nat} (h : isLo f n a = true) : a < n := of_decide_eq_true ((Bool.and_eq_true _ _).mp h).1
theorem isNm_lt {f : Nat → Int32} {n a : Nat} (h : isNm f n a = true) : a < n := of_decide_eq_true ((Bool.and_eq_true _ _).mp h).1
theorem isD_lt {f : Nat → Int32} {n a : Nat} (h : isD f n a = true) : a < n := (of_decide_eq_true h).1
/-- digits' worth -/
def dcv (f : Nat → Int32) (V a : Nat) : Nat → Nat
  | 0 => V
  | k + 1 => 10 * dcv f V a k + (bn (f (a + k)) - 48)
/-- kinds: 0 the end, 1 a name, 2 a word, 3 a number, 4 a sign, 5 none -/
structure Tok where
  kd : Int32
  pl : Nat
  to : Nat
  wd : List Int32 := []
  sg : Nat := 20
  ln : Int32 := 0
  bt : Int64 := 0
/-- the lane of a word -/
def lnW (w : List Int32) : Int32 := if w = (cty 51).1 then 0 else if w = (cty 53).1 then 1 else if w = (cty 60).1 then 2 else if w = (cty 54).1 then 3 else if w = (cty 58).1 then 4 else if w = (cty 59).1 then 5 else if w = (cty 57).1 then 6 else if w = (cty 55).1 then 7 else -1
def isKy (w : List Int32) : Bool := decide (0 ≤ lnW w) || (decide (w = (cty 61).1) || decide (w = (cty 56).1))
/-- a sign: how many bytes, its text -/
def sgl (c d e : Int32) : Nat × Nat :=
  if c = 62 then (if d = 62 then (if e = 62 then (3, 47) else (2, 46)) else if d = 61 then (2, 45) else (1, 44))
  else if c = 60 then (if d = 60 then (2, 40) else if d = 61 then (2, 41) else (1, 39))
  else if c = 61 then (if d = 61 then (2, 43) else (1, 42))
  else if c = 33 then (if d = 61 then (2, 24) else (1, 23))
  else if c = 38 then (if d = 38 then (2, 27) else (1, 26))
  else if c = 124 then (if d = 124 then (2, 63) else (1, 62))
  else if c = 37 then (1, 25) else if c = 40 then (1, 28) else if c = 41 then (1, 30) else if c = 42 then (1, 31) else if c = 43 then (1, 32) else if c = 44 then (1, 33) else if c = 45 then (1, 34) else if c = 47 then (1, 35) else if c = 58 then (1, 37) else if c = 59 then (1, 38) else if c = 63 then (1, 48) else if c = 94 then (1, 49) else if c = 126 then (1, 64) else (0, 20)
def tkX (a : Nat) : Tok := { kd := 5, pl := a, to := a }
def tkW2 (f : Nat → Int32) (a e : Nat) : Tok := if 12 < e - a then tkX a else { kd := if isKy (sgs f a (e - a)) = true then 2 else 1, pl := a, to := e, wd := sgs f a (e - a) }
def tkW (f : Nat → Int32) (n a : Nat) : Tok := tkW2 f a (sc (isNm f n) n a)
/-- a number with a point at e, its last digit before e2 -/
def tkR (f : Nat → Int32) (n a e e2 : Nat) : Tok := if 15 < e2 - a - 1 then tkX a else if isC f n e2 70 = true then { kd := 3, pl := a, to := e2 + 1, ln := 6, bt := lnB 6 (FP.ddiv (FP.l2d (nl (dcv f (dcv f 0 a (e - a)) (e + 1) (e2 - (e + 1))))) (tn (e2 - (e + 1)))) } else { kd := 3, pl := a, to := e2, ln := 7, bt := lnB 7 (FP.ddiv (FP.l2d (nl (dcv f (dcv f 0 a (e - a)) (e + 1) (e2 - (e + 1))))) (tn (e2 - (e + 1)))) }
def tkI (f : Nat → Int32) (n a e : Nat) : Tok := if isC f n e 76 = true then (if 9223372036854775807 < dcv f 0 a (e - a) then tkX a else { kd := 3, pl := a, to := e + 1, ln := 5, bt := nl (dcv f 0 a (e - a)) }) else (if 2147483647 < dcv f 0 a (e - a) then tkX a else { kd := 3, pl := a, to := e, ln := 4, bt := nl (dcv f 0 a (e - a)) })
def tkN2 (f : Nat → Int32) (n a e : Nat) : Tok := if isC f n e 46 = true ∧ isD f n (e + 1) = true then tkR f n a e (sc (isD f n) n (e + 1)) else tkI f n a e
def tkN (f : Nat → Int32) (n a : Nat) : Tok := tkN2 f n a (sc (isD f n) n a)
def tkS2 (a : Nat) (q : Nat × Nat) : Tok := if q.1 = 0 then tkX a else { kd := 4, pl := a, to := a + q.1, sg := q.2 }
def tkS (f : Nat → Int32) (n a : Nat) : Tok := tkS2 a (sgl (lk f n a) (lk f n (a + 1)) (lk f n (a + 2)))
def tok2 (f : Nat → Int32) (n a : Nat) : Tok := if n ≤ a then { kd := 0, pl := a, to := a } else if isLo f n a = true then tkW f n a else if isD f n a = true then tkN f n a else tkS f n a
/-- the token from a place on -/
def tok (f : Nat → Int32) (n k : Nat) : Tok := tok2 f n (sc (isBl f n) n k)
/-! chars -/
theorem chr_all : (List.range 256).all (fun b => decide (F_X5_isBlank (iw (b : Int)) = some (mr (cB b))) && decide (F_X5_isDigit (iw (b : Int)) = some (mr (cD b))) && decide (F_X5_isLetter (iw (b : Int)) = some (mr (cL b || cU b))) && decide (F_X16_isDigit (iw (b : Int)) = some (mr (cD b))) && decide (F_X16_isLetter (iw (b : Int)) = some (mr (cL b)))) = true := by decide +kernel
theorem chr_m1 : F_X5_isBlank (-1) = some (mr false) ∧ F_X5_isDigit (-1) = some (mr false) ∧ F_X5_isLetter (-1) = some (mr false) ∧ F_X16_isDigit (-1) = some (mr false) ∧ F_X16_isLetter (-1) = some (mr false) := by decide +kernel
theorem bn_256 (x : Int32) : bn x < 256 := Nat.mod_lt _ (by decide)
theorem chr_b {b : Nat} (h : b < 256) : F_X5_isBlank (iw (b : Int)) = some (mr (cB b)) ∧ F_X5_isDigit (iw (b : Int)) = some (mr (cD b)) ∧ F_X5_isLetter (iw (b : Int)) = some (mr (cL b || cU b)) ∧ F_X16_isDigit (iw (b : Int)) = some (mr (cD b)) ∧ F_X16_isLetter (iw (b : Int)) = some (mr (cL b)) := by
  have q := List.all_eq_true.mp chr_all b (List.mem_range.mpr h)
  simp only [Bool.and_eq_true, decide_eq_true_eq] at q
  exact ⟨q.1.1.1.1, q.1.1.1.2, q.1.1.2, q.1.2, q.2⟩
theorem k_blank {f : Nat → Int32} {n a : Nat} : F_X5_isBlank (lk f n a) = some (mr (isBl f n a)) := by
  unfold lk isBl
  by_cases c : a < n
  · rw [if_pos c, decide_eq_true c, Bool.true_and]; exact (chr_b (bn_256 _)).1
  · rw [if_neg c, decide_eq_false c, Bool.false_and]; exact chr_m1.1
theorem isD_eq {f : Nat → Int32} {n a : Nat} : isD f n a = (decide (a < n) && cD (bn (f a))) := by
  unfold isD cD
  by_cases c : a < n
  · simp [c]
  · simp [c]
theorem k_digit {f : Nat → Int32} {n a : Nat} : F_X5_isDigit (lk f n a) = some (mr (isD f n a)) ∧ F_X16_isDigit (lk f n a) = some (mr (isD f n a)) := by
  rw [isD_eq]
  unfold lk
  by_cases c : a < n
  · rw [if_pos c, decide_eq_true c, Bool.true_and]; exact ⟨(chr_b (bn_256 _)).2.1, (chr_b (bn_256 _)).2.2.2.1⟩
  · rw [if_neg c, decide_eq_false c, Bool.false_and]; exact ⟨chr_m1.2.1, chr_m1.2.2.2.1⟩
theorem k_letE {f : Nat → Int32} {n a : Nat} : F_X5_isLetter (lk f n a) = some (mr (decide (a < n) && (cL (bn (f a)) || cU (bn (f a))))) := by
  unfold lk
  by_cases c : a < n
  · rw [if_pos c, decide_eq_true c, Bool.true_and]; exact (chr_b (bn_256 _)).2.2.1
  · rw [if_neg c, decide_eq_false c, Bool.false_and]; exact chr_m1.2.2.1
theorem k_letM {f : Nat → Int32} {n a : Nat} : F_X16_isLetter (lk f n a) = some (mr (isLo f n a)) := by
  unfold lk isLo
  by_cases c : a < n
  · rw [if_pos c, decide_eq_true c, Bool.true_and]; exact (chr_b (bn_256 _)).2.2.2.2
  · rw [if_neg c, decide_eq_false c, Bool.false_and]; exact chr_m1.2.2.2.2
theorem isNm_eq {f : Nat → Int32} {n a : Nat} : isNm f n a = ((decide (a < n) && (cL (bn (f a)) || cU (bn (f a)))) || isD f n a) := by
  rw [isD_eq]
  unfold isNm
  cases decide (a < n) <;> simp
theorem mr0 {b : Bool} : mr b = 0 ↔ b = false := by cases b <;> decide
/-- what a name's signs are -/
theorem nm_asc {f : Nat → Int32} {n a : Nat} (h : isNm f n a = true) (hb : bt (f a)) : asc (f a) ∧ bn (f a) < 128 := by
  have h2 := ((Bool.and_eq_true _ _).mp h).2
  have h3 : bn (f a) < 128 := by
    unfold cL cU cD at h2
    simp only [Bool.or_eq_true, decide_eq_true_eq] at h2
    omega
  refine ⟨⟨bn (f a), h3, ?_⟩, h3⟩
  obtain ⟨b1, b2⟩ := hb
  have e : (ui (f a) : Int) = (f a).toInt % 4294967296 := ui_int (f a)
  have e2 : bn (f a) = ui (f a) % 256 := rfl
  have e3 : ((bn (f a) : Nat) : Int) = (f a).toInt := by omega
  rw [e3]
  exact (iw_of _).symm
theorem dcv_mono {f : Nat → Int32} {V a : Nat} : ∀ (j k : Nat), dcv f V a k ≤ dcv f V a (k + j)
  | 0, k => Nat.le_refl _
  | j + 1, k => by
    have := dcv_mono (f := f) (V := V) (a := a) j k
    show _ ≤ 10 * dcv f V a (k + j) + _
    omega
theorem dcv_lt {f : Nat → Int32} {V a m : Nat} (hV : V < 10 ^ m) : ∀ k : Nat, (∀ i, i < k → bn (f (a + i)) ≤ 57) → dcv f V a k < 10 ^ (m + k)
  | 0, _ => hV
  | k + 1, h => by
    have := dcv_lt hV k (fun i hi => h i (by omega))
    have h2 := h k (by omega)
    show 10 * dcv f V a k + _ < 10 ^ (m + (k + 1))
    rw [show m + (k + 1) = (m + k) + 1 by omega, Nat.pow_succ]
    omega
