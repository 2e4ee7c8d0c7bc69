/-! ===== FORMULAS, 22: expressions, read ===== -/
inductive Ex where
  | lit (p : Nat) (l : Int32) (b : Int64) : Ex
  | nam (p : Nat) (w : List Int32) : Ex
  | pre (p : Nat) (s : Int32) (e : Ex) : Ex
  | cst (p : Nat) (l : Int32) (e : Ex) : Ex
  | bin (p : Nat) (o : Int32) (a b : Ex) : Ex
  | cnd (p : Nat) (c a b : Ex) : Ex
  | cal (p : Nat) (w : List Int32) (r : Ex) : Ex
  | anl : Ex
  | acn (e r : Ex) : Ex
def Ex.ht : Ex → Nat
  | .lit _ _ _ => 1
  | .nam _ _ => 1
  | .pre _ _ e => e.ht + 1
  | .cst _ _ e => e.ht + 1
  | .bin _ _ a b => max a.ht b.ht + 1
  | .cnd _ c a b => max c.ht (max a.ht b.ht) + 1
  | .cal _ _ r => r.ht + 1
  | .anl => 0
  | .acn e r => max e.ht r.ht
/-- a row of arguments -/
def Ex.row : List Ex → Ex
  | [] => .anl
  | e :: es => .acn e (Ex.row es)
/-- what a sign does between operands; 0 nothing -/
def opS (s : Nat) : Int32 := if s = 32 then 1 else if s = 34 then 2 else if s = 31 then 3 else if s = 35 then 4 else if s = 25 then 5 else if s = 40 then 6 else if s = 46 then 7 else if s = 47 then 8 else if s = 39 then 9 else if s = 44 then 10 else if s = 41 then 11 else if s = 45 then 12 else if s = 43 then 13 else if s = 24 then 14 else if s = 26 then 15 else if s = 49 then 16 else if s = 62 then 17 else if s = 27 then 18 else if s = 63 then 19 else 0
/-- its level -/
def lvO (o : Int32) : Nat := if o = 19 then 0 else if o = 18 then 1 else if o = 17 then 2 else if o = 16 then 3 else if o = 15 then 4 else if o < 9 then (if o < 6 then (if o < 3 then 8 else 9) else 7) else if o < 13 then 6 else 5
def hdt (ts : List Tok) : Tok := ts.getD 0 tok0
def isS (t : Tok) (s : Nat) : Bool := decide (t.kd = 4 ∧ t.sg = s)
/-- whether a sign between operands of a level stands there -/
def isO (t : Tok) (l : Nat) : Bool := decide (t.kd = 4 ∧ opS t.sg ≠ 0 ∧ lvO (opS t.sg) = l)
/-- a lane's word -/
def isLn (t : Tok) : Bool := decide (t.kd = 2 ∧ 0 ≤ lnW t.wd)
abbrev PRs : Type := List Tok → Nat ⊕ (Ex × List Tok)
def pthen (x : Nat ⊕ (Ex × List Tok)) (k : Ex → List Tok → Nat ⊕ (Ex × List Tok)) : Nat ⊕ (Ex × List Tok) := match x with
  | .inl q => .inl q
  | .inr (e, r) => k e r
/-- arguments -/
def pAr (E : PRs) (p : Nat) (w : List Int32) : Nat → List Ex → PRs
  | 0, _, _ => .inl 0
  | m + 1, es, ts => pthen (E ts) fun e r => if isS (hdt r) 33 = true then pAr E p w m (es ++ [e]) r.tail else if isS (hdt r) 30 = true then .inr (.cal p w (Ex.row (es ++ [e])), r.tail) else .inl (hdt r).pl
def pPri (E : Option PRs) : PRs := fun ts =>
  let t := hdt ts
  if t.kd = 3 then .inr (.lit t.pl t.ln t.bt, ts.tail)
  else if t.kd = 2 ∧ ¬ 0 ≤ lnW t.wd then .inr (.lit t.pl 0 (if t.wd = (cty 61).1 then 1 else 0), ts.tail)
  else if t.kd = 1 then
    (if isS (hdt ts.tail) 28 = true then (match E with
      | none => .inl (hdt ts.tail).pl
      | some E => pAr E t.pl t.wd ts.length [] ts.tail.tail)
    else .inr (.nam t.pl t.wd, ts.tail))
  else .inl t.pl
/-- the character of a sign ahead of an operand -/
def chS (s : Nat) : Int32 := if s = 34 then 45 else if s = 23 then 33 else 126
def pUn (D : Option (PRs × PRs)) : PRs := fun ts =>
  let t := hdt ts
  if isS t 34 = true ∨ isS t 23 = true ∨ isS t 64 = true then (match D with
    | none => .inl t.pl
    | some (_, U) => pthen (U ts.tail) fun e r => .inr (.pre t.pl (chS t.sg) e, r))
  else if isS t 28 = true then (match D with
    | none => .inl t.pl
    | some (E, U) =>
      if isLn (hdt ts.tail) = true then (if isS (hdt ts.tail.tail) 30 = true then pthen (U ts.tail.tail.tail) fun e r => .inr (.cst t.pl (lnW (hdt ts.tail).wd) e, r) else .inl (hdt ts.tail.tail).pl)
      else pthen (E ts.tail) fun e r => if isS (hdt r) 30 = true then .inr (e, r.tail) else .inl (hdt r).pl)
  else pPri (D.map (fun q => q.1)) ts
/-- operands of a level, one after the other -/
def pBl (S : PRs) (l : Nat) : Nat → Ex → PRs
  | 0, _, _ => .inl 0
  | m + 1, a, ts => if isO (hdt ts) l = true then pthen (S ts.tail) fun b r => pBl S l m (.bin (hdt ts).pl (opS (hdt ts).sg) a b) r else .inr (a, ts)
/-- from a level on: j levels are left -/
def pBi (U : PRs) : Nat → PRs
  | 0 => U
  | j + 1 => fun ts => pthen (pBi U j ts) fun a r => pBl (pBi U j) (9 - j) (r.length + 1) a r
def pEx (E : Option PRs) (U : PRs) : PRs := fun ts => pthen (pBi U 10 ts) fun c r =>
  if isS (hdt r) 48 = true then (match E with
    | none => .inl (hdt r).pl
    | some E => pthen (E r.tail) fun a r2 => if isS (hdt r2) 37 = true then pthen (E r2.tail) fun b r3 => .inr (.cnd (hdt r).pl c a b, r3) else .inl (hdt r2).pl)
  else .inr (c, r)
/-- an expression, and what stands ahead of levels; so many depths are left -/
def prs : Nat → PRs × PRs
  | 0 => (pEx none (pUn none), pUn none)
  | d + 1 => (pEx (some (prs d).1) (pUn (some (prs d))), pUn (some (prs d)))
/-! tokens as a row -/
theorem tks_eq (f : Nat → Int32) {n k : Nat} (hk : k ≤ n) : tks f n k = if (tok f n k).kd = 0 ∨ (tok f n k).kd = 5 then [tok f n k] else tok f n k :: tks f n (tok f n k).to := by
  unfold tks
  obtain ⟨e, he⟩ : ∃ e, n + 1 - k = e + 1 := ⟨n - k, by omega⟩
  rw [he]
  show (if (tok f n k).kd = 0 ∨ (tok f n k).kd = 5 then [tok f n k] else tok f n k :: tksF f n e (tok f n k).to) = _
  by_cases q : (tok f n k).kd = 0 ∨ (tok f n k).kd = 5
  · rw [if_pos q, if_pos q]
  · rw [if_neg q, if_neg q]
    obtain ⟨r1, r2, r3, r4, r5⟩ := tok_rng f hk
    have r6 : k < (tok f n k).to := by
      rcases r5 with w | w | w
      · exact (q (Or.inl w)).elim
      · exact (q (Or.inr w)).elim
      · exact w
    have mono : ∀ (e1 e2 k : Nat), k ≤ n → n + 1 - k ≤ e1 → n + 1 - k ≤ e2 → tksF f n e1 k = tksF f n e2 k := by
      intro e1
      induction e1 with
      | zero => intro e2 k h1 h2 h3; omega
      | succ e1 ih =>
        intro e2 k h1 h2 h3
        obtain ⟨e3, rfl⟩ : ∃ e3, e2 = e3 + 1 := ⟨e2 - 1, by omega⟩
        unfold tksF
        by_cases q : (tok f n k).kd = 0 ∨ (tok f n k).kd = 5
        · rw [if_pos q, if_pos q]
        · rw [if_neg q, if_neg q]
          obtain ⟨r1, r2, r3, r4, r5⟩ := tok_rng f h1
          have r6 : k < (tok f n k).to := by
            rcases r5 with w | w | w
            · exact (q (Or.inl w)).elim
            · exact (q (Or.inr w)).elim
            · exact w
          rw [ih e3 (tok f n k).to r4 (by omega) (by omega)]
    rw [mono e (n + 1 - (tok f n k).to) (tok f n k).to r4 (by omega) (by omega)]
theorem hdt_tks (f : Nat → Int32) {n k : Nat} (hk : k ≤ n) : hdt (tks f n k) = tok f n k := by
  rw [tks_eq f hk]
  split <;> rfl
theorem tail_tks (f : Nat → Int32) {n k : Nat} (hk : k ≤ n) (h : (tok f n k).kd ≠ 0) (h5 : (tok f n k).kd ≠ 5) : (tks f n k).tail = tks f n (tok f n k).to ∧ (tok f n k).to ≤ n ∧ k < (tok f n k).to ∧ (tks f n k).length = (tks f n (tok f n k).to).length + 1 := by
  have q : ¬ ((tok f n k).kd = 0 ∨ (tok f n k).kd = 5) := fun w => w.elim h h5
  obtain ⟨r1, r2, r3, r4, r5⟩ := tok_rng f hk
  rw [tks_eq f hk, if_neg q]
  refine ⟨rfl, r4, ?_, rfl⟩
  rcases r5 with w | w | w
  · exact (h w).elim
  · exact (h5 w).elim
  · exact w
theorem isS_t {t : Tok} {s : Nat} : isS t s = true ↔ t.kd = 4 ∧ t.sg = s := by unfold isS; exact decide_eq_true_iff
theorem isO_t {t : Tok} {l : Nat} : isO t l = true ↔ t.kd = 4 ∧ opS t.sg ≠ 0 ∧ lvO (opS t.sg) = l := by unfold isO; exact decide_eq_true_iff
theorem isLn_t {t : Tok} : isLn t = true ↔ t.kd = 2 ∧ 0 ≤ lnW t.wd := by unfold isLn; exact decide_eq_true_iff
theorem pthen_l {q : Nat} {k : Ex → List Tok → Nat ⊕ (Ex × List Tok)} : pthen (.inl q) k = .inl q := rfl
theorem pthen_r {e : Ex} {r : List Tok} {k : Ex → List Tok → Nat ⊕ (Ex × List Tok)} : pthen (.inr (e, r)) k = k e r := rfl
