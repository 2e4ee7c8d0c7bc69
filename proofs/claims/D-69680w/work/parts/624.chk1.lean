/-! ===== FORMULAS, 49: expressions, checked (plain) ===== -/
/-- what names mean: functions, the parameters' names (none in a formula) and lanes, the operands' lanes -/
structure Sc where
  fs : List Fn
  nm : Option (List (List Int32))
  ps : List Int32
  op : Nat → Option Int32
abbrev CkR : Type := Nat ⊕ Tx
def cthen (x : CkR) (k : Tx → CkR) : CkR := match x with
  | .inl q => .inl q
  | .inr t => k t
def oft (p : Nat) (x : Option Tx) : CkR := match x with
  | some t => .inr t
  | none => .inl p
open Classical in
noncomputable def chb (fs : List Fn) (nm ls : List Int32) : Option Nat := if h : ∃ k, k < fs.length ∧ bst fs nm ls k then some h.choose else none
theorem chb_some {fs : List Fn} {nm ls : List Int32} {k : Nat} (h : chb fs nm ls = some k) : k < fs.length ∧ bst fs nm ls k := by
  unfold chb at h
  split at h
  · rename_i q
    cases h
    exact q.choose_spec
  · cases h
theorem chb_of {fs : List Fn} {nm ls : List Int32} {v : Int32} (g : Gf fs) (hl : fs.length ≤ 40) (h : Chs fs nm ls v) : (∃ k, chb fs nm ls = some k ∧ k < fs.length ∧ v = iw (k : Int)) ∨ (chb fs nm ls = none ∧ v < 0) := by
  rcases h with ⟨k, h1, h2, h3⟩ | ⟨h1, h2⟩
  · left
    have q : ∃ k, k < fs.length ∧ bst fs nm ls k := ⟨k, h1, h2⟩
    have e : chb fs nm ls = some q.choose := by unfold chb; rw [dif_pos q]
    have := bst_one g h1 q.choose_spec.1 h2 q.choose_spec.2
    exact ⟨k, by rw [e, this], h1, h3⟩
  · right
    refine ⟨?_, ?_⟩
    · unfold chb
      rw [dif_neg (fun q => by obtain ⟨k, q1, q2⟩ := q; exact h1 k q1 q2)]
    · rcases h2 with ⟨_, rfl⟩ | ⟨_, rfl⟩ <;> decide
/-- a name -/
def ckN (S : Sc) (w : List Int32) : Option Tx := match S.nm with
  | some ns => (match fdl w ns 0 with
    | some k => some (.par k (S.ps.getD k 0))
    | none => none)
  | none => if w.length = 1 then (if 105 ≤ (w.getD 0 0).toInt ∧ (w.getD 0 0).toInt ≤ 108 then some (.spt ((w.getD 0 0).toInt - 105).toNat)
      else if 97 ≤ (w.getD 0 0).toInt ∧ (w.getD 0 0).toInt ≤ 104 then (match S.op ((w.getD 0 0).toInt - 97).toNat with
        | some l => some (.opd ((w.getD 0 0).toInt - 97).toNat l)
        | none => none) else none) else none
def ckP (s : Int32) (e : Tx) : Option Tx := if s = 33 then (if e.ln = 0 then some (.pre 33 0 e) else none) else if s = 126 then (if isWk e.ln then some (.pre 126 (wdk e.ln 4) e) else none) else if isNk e.ln then some (.pre 45 (wdk e.ln 4) e) else none
def ckC (l : Int32) (e : Tx) : Option Tx := if e.ln = l ∨ (isNk e.ln ∧ isNk l) then some (.cst l e) else none
def ckB (o : Int32) (a b : Tx) : Option Tx :=
  if o = 18 ∨ o = 19 then (if a.ln = 0 ∧ b.ln = 0 then some (.sho o a b) else none)
  else if isSh o then (if isWk a.ln ∧ isWk b.ln then some (.bin o (wdk a.ln 4) (wdk a.ln 4) a b) else none)
  else if o ≤ 5 then (if isNk a.ln ∧ isNk b.ln then some (.bin o (wdk a.ln b.ln) (wdk a.ln b.ln) a b) else none)
  else if o ≤ 12 then (if isNk a.ln ∧ isNk b.ln then some (.bin o (wdk a.ln b.ln) 0 a b) else none)
  else if o ≤ 14 then (if isNk a.ln ∧ isNk b.ln then some (.bin o (wdk a.ln b.ln) 0 a b) else if a.ln = 0 ∧ b.ln = 0 then some (.bin o 0 0 a b) else none)
  else (if isWk a.ln ∧ isWk b.ln then some (.bin o (wdk a.ln b.ln) (wdk a.ln b.ln) a b) else if a.ln = 0 ∧ b.ln = 0 then some (.bin o 0 0 a b) else none)
def ckD (c a b : Tx) : Option Tx := if c.ln = 0 ∧ (a.ln = b.ln ∨ (isNk a.ln ∧ isNk b.ln)) then some (.cnd (if a.ln = b.ln then a.ln else wdk a.ln b.ln) c a b) else none
/-- arguments are taken in these lanes -/
def Tx.tk : Tx → List Int32 → Tx
  | .acn _ e r, ls => .acn (ls.getD 0 0) e (r.tk ls.tail)
  | t, _ => t
/-- their lanes -/
def Tx.lns : Tx → List Int32
  | .acn _ e r => e.ln :: r.lns
  | _ => []
/-- the lane in which a built-in function is worked out -/
def blkL (f : Nat) (ls : List Int32) : Option Int32 := if ls.length = (if 2 ≤ f ∧ f ≤ 8 then 2 else 1) ∧ (∀ l ∈ ls, if 4 ≤ f ∧ f ≤ 10 then isWk l else isNk l) then some (if 11 ≤ f then 7 else wdk (ls.getD 0 0) (ls.getD (ls.length - 1) 0)) else none
theorem blkL_some {f : Nat} {ls : List Int32} {i : Int32} (h : blkL f ls = some i) : (ls.length = (if 2 ≤ f ∧ f ≤ 8 then 2 else 1) ∧ (∀ l ∈ ls, if 4 ≤ f ∧ f ≤ 10 then isWk l else isNk l)) ∧ i = (if 11 ≤ f then 7 else wdk (ls.getD 0 0) (ls.getD (ls.length - 1) 0)) := by
  unfold blkL at h
  by_cases q : ls.length = (if 2 ≤ f ∧ f ≤ 8 then 2 else 1) ∧ (∀ l ∈ ls, if 4 ≤ f ∧ f ≤ 10 then isWk l else isNk l)
  · rw [if_pos q] at h
    exact ⟨q, (Option.some.inj h).symm⟩
  · rw [if_neg q] at h
    cases h
noncomputable def ckF (S : Sc) (w : List Int32) (r : Tx) : Option Tx := match fdl w (wds (cty 50).1 15 0) 0 with
  | some f => (match blkL f r.lns with
    | some i => some (.bui f i (r.tk (List.replicate r.lns.length i)))
    | none => none)
  | none => (match chb S.fs w r.lns with
    | some k => some (.cal k (S.fs.getD k fn0).ln (r.tk (S.fs.getD k fn0).ps))
    | none => none)
noncomputable def ck (S : Sc) : Ex → CkR
  | .lit _ l b => .inr (.lit l b)
  | .nam p w => oft p (ckN S w)
  | .pre p s e => cthen (ck S e) fun t => oft p (ckP s t)
  | .cst p l e => cthen (ck S e) fun t => oft p (ckC l t)
  | .bin p o a b => cthen (ck S a) fun x => cthen (ck S b) fun y => oft p (ckB o x y)
  | .cnd p c a b => cthen (ck S c) fun x => cthen (ck S a) fun y => cthen (ck S b) fun z => oft p (ckD x y z)
  | .cal p w r => cthen (ck S r) fun t => oft p (ckF S w t)
  | .anl => .inr .anl
  | .acn e r => cthen (ck S e) fun x => cthen (ck S r) fun y => .inr (.acn 0 x y)
/-- so many nodes -/
def Ex.nn : Ex → Nat
  | .lit _ _ _ => 1
  | .nam _ _ => 1
  | .pre _ _ e => e.nn + 1
  | .cst _ _ e => e.nn + 1
  | .bin _ _ a b => a.nn + b.nn + 1
  | .cnd _ c a b => c.nn + a.nn + b.nn + 1
  | .cal _ _ r => r.nn + 1
  | .anl => 0
  | .acn e r => e.nn + r.nn
def Tx.nn : Tx → Nat
  | .pre _ _ e => e.nn + 1
  | .cst _ e => e.nn + 1
  | .bin _ _ _ a b => a.nn + b.nn + 1
  | .sho _ a b => a.nn + b.nn + 1
  | .cnd _ c a b => c.nn + a.nn + b.nn + 1
  | .bui _ _ r => r.nn + 1
  | .cal _ _ r => r.nn + 1
  | .anl => 0
  | .acn _ e r => e.nn + r.nn
  | _ => 1
def Ex.isr : Ex → Prop
  | .anl => True
  | .acn _ r => r.isr
  | _ => False
def wok (w : List Int32) : Prop := ascs w ∧ w.length ≤ 12 ∧ 0 < w.length
/-- as the parser makes them -/
def Ex.gd : Ex → Prop
  | .lit _ l b => Lk l ∧ vb l b
  | .nam _ w => wok w
  | .pre _ s e => (s = 45 ∨ s = 33 ∨ s = 126) ∧ e.gd ∧ e.isx
  | .cst _ l e => Lk l ∧ e.gd ∧ e.isx
  | .bin _ o a b => (1 ≤ o ∧ o ≤ 19) ∧ (a.gd ∧ a.isx) ∧ b.gd ∧ b.isx
  | .cnd _ c a b => (c.gd ∧ c.isx) ∧ (a.gd ∧ a.isx) ∧ b.gd ∧ b.isx
  | .cal _ w r => wok w ∧ r.gd ∧ r.isr ∧ 1 ≤ r.cnt
  | .anl => True
  | .acn e r => (e.gd ∧ e.isx) ∧ r.gd ∧ r.isr
/-- a scope as it may be -/
def Sc.ok (S : Sc) : Prop := Gf S.fs ∧ S.fs.length ≤ 40 ∧ (∀ ns, S.nm = some ns → ns.length = S.ps.length) ∧ (∀ l ∈ S.ps, Lk l) ∧ ∀ n l, S.op n = some l → Lk l
theorem cthen_r {x : CkR} {k : Tx → CkR} {t : Tx} (h : cthen x k = .inr t) : ∃ u, x = .inr u ∧ k u = .inr t := by
  cases x with
  | inl q => cases h
  | inr u => exact ⟨u, rfl, h⟩
theorem oft_r {p : Nat} {x : Option Tx} {t : Tx} (h : oft p x = .inr t) : x = some t := by
  cases x with
  | none => cases h
  | some u => cases h; rfl
theorem Nk_Lk {k : Int32} (h : isNk k) : Lk k := by
  obtain ⟨h1, h2⟩ := h
  unfold Lk
  have i1 : (1 : Int) ≤ k.toInt := Int32.le_iff_toInt_le.mp h1
  have i2 : k.toInt ≤ 7 := Int32.le_iff_toInt_le.mp h2
  have e : ∀ j : Int, k.toInt = j → k = iw j := fun j q => by rw [← iw_of k, q]
  rcases (show k.toInt = 1 ∨ k.toInt = 2 ∨ k.toInt = 3 ∨ k.toInt = 4 ∨ k.toInt = 5 ∨ k.toInt = 6 ∨ k.toInt = 7 by omega) with q | q | q | q | q | q | q
  · exact Or.inr (Or.inl (e _ q))
  · exact Or.inr (Or.inr (Or.inl (e _ q)))
  · exact Or.inr (Or.inr (Or.inr (Or.inl (e _ q))))
  · exact Or.inr (Or.inr (Or.inr (Or.inr (Or.inl (e _ q)))))
  · exact Or.inr (Or.inr (Or.inr (Or.inr (Or.inr (Or.inl (e _ q))))))
  · exact Or.inr (Or.inr (Or.inr (Or.inr (Or.inr (Or.inr (Or.inl (e _ q)))))))
  · exact Or.inr (Or.inr (Or.inr (Or.inr (Or.inr (Or.inr (Or.inr (e _ q)))))))
theorem Lk_Nk {k : Int32} (h : Lk k) (h0 : k ≠ 0) : isNk k := by
  rcases h with rfl | rfl | rfl | rfl | rfl | rfl | rfl | rfl
  · exact (h0 rfl).elim
  all_goals decide
theorem Wk_Nk {k : Int32} (h : isWk k) : isNk k := ⟨h.1, Int32.le_trans h.2 (by decide)⟩
theorem wdk_Lk {k j : Int32} (h : Lk k) (h2 : Lk j) : Lk (wdk k j) := by
  rcases h with rfl | rfl | rfl | rfl | rfl | rfl | rfl | rfl <;> rcases h2 with rfl | rfl | rfl | rfl | rfl | rfl | rfl | rfl <;> (unfold Lk; decide)
theorem tyb_of {o k j i l : Int32} (h : tyb o k j i l) : Lk k ∧ Lk j → Lk l := fun hk => by
  rcases h with ⟨_, _, _, rfl, rfl⟩ | ⟨_, _, _, _, rfl, rfl⟩ | ⟨_, _, _, _, _, rfl⟩ | ⟨_, _, _, _, _, rfl⟩ | ⟨_, _, _, _, _, rfl⟩ | ⟨_, _, _, _, rfl, rfl⟩ | ⟨_, _, _, _, _, rfl⟩
  · exact wdk_Lk hk.1 (by unfold Lk; decide)
  · exact wdk_Lk hk.1 hk.2
  · exact Or.inl rfl
  · exact Or.inl rfl
  · exact Or.inl rfl
  · exact wdk_Lk hk.1 hk.2
  · exact Or.inl rfl
/-- the lane of what is right is a lane -/
theorem wt_Lk {fs : List Fn} {ps : List Int32} {op : Nat → Int32 → Prop} (hg : ∀ k, k < fs.length → Lk (fs.getD k fn0).ln) : ∀ t : Tx, wt fs ps op t → t.isx → Lk t.ln
  | .lit l b, h, _ => h.1
  | .par n l, h, _ => h.2.2
  | .opd n l, h, _ => h.2.2
  | .spt n, _, _ => show Lk 4 by unfold Lk; decide
  | .pre s l e, h, _ => by
    have E := wt_Lk hg e h.1 h.2.1
    rcases h.2.2 with ⟨_, _, rfl⟩ | ⟨_, _, rfl⟩ | ⟨_, _, rfl⟩
    · exact Or.inl rfl
    · exact wdk_Lk E (by unfold Lk; decide)
    · exact wdk_Lk E (by unfold Lk; decide)
  | .cst l e, h, _ => h.2.2.1
  | .bin o i l a b, h, _ => tyb_of h.2.2.2.2 ⟨wt_Lk hg a h.1 h.2.1, wt_Lk hg b h.2.2.1 h.2.2.2.1⟩
  | .sho o a b, _, _ => Or.inl rfl
  | .cnd l c a b, h, _ => by
    have A := wt_Lk hg a h.2.2.1 h.2.2.2.1
    have B := wt_Lk hg b h.2.2.2.2.1 h.2.2.2.2.2.1
    rcases h.2.2.2.2.2.2.2 with ⟨_, rfl⟩ | ⟨_, _, _, rfl⟩
    · exact A
    · exact wdk_Lk A B
  | .bui f i r, h, _ => by
    show Lk i
    obtain ⟨h1, h2, h3, h4⟩ := h.2.2
    rw [h4]
    split
    · unfold Lk; decide
    · have g : ∀ k, k < r.als.length → Lk (r.als.getD k (0, 0)).1 := fun k hk => by
        have := (h3 (r.als.getD k (0, 0)) (getD_in hk)).2
        split at this
        · exact Nk_Lk (Wk_Nk this)
        · exact Nk_Lk this
      have l1 : 1 ≤ r.als.length := by
        rw [h2]
        split <;> omega
      exact wdk_Lk (g 0 (by omega)) (g _ (by omega))
  | .cal f l r, h, _ => by
    show Lk l
    rw [h.2.2.2.1]
    exact hg f h.2.2.1
  | .anl, _, h => h.elim
  | .acn _ _ _, _, h => h.elim
