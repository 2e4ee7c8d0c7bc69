/-! ===== FORMULAS, 1: expressions with their lanes; the engine's words, the model's steps; functions ===== -/
inductive Tx where
  | lit (l : Int32) (b : Int64) : Tx
  | par (n : Nat) (l : Int32) : Tx
  | opd (n : Nat) (l : Int32) : Tx
  | spt (n : Nat) : Tx
  | pre (s l : Int32) (e : Tx) : Tx
  | cst (l : Int32) (e : Tx) : Tx
  | bin (o i l : Int32) (a b : Tx) : Tx
  | sho (o : Int32) (a b : Tx) : Tx
  | cnd (l : Int32) (c a b : Tx) : Tx
  | bui (f : Nat) (i : Int32) (r : Tx) : Tx
  | cal (f : Nat) (l : Int32) (r : Tx) : Tx
  | anl : Tx
  | acn (t : Int32) (e r : Tx) : Tx
/-- the lane -/
def Tx.ln : Tx → Int32
  | .lit l _ => l
  | .par _ l => l
  | .opd _ l => l
  | .spt _ => 4
  | .pre _ l _ => l
  | .cst l _ => l
  | .bin _ _ l _ _ => l
  | .sho _ _ _ => 0
  | .cnd l _ _ _ => l
  | .bui _ i _ => i
  | .cal _ l _ => l
  | .anl => 0
  | .acn _ _ _ => 0
/-- arguments: their lanes, and the lanes in which they are taken -/
def Tx.als : Tx → List (Int32 × Int32)
  | .acn t e r => (e.ln, t) :: r.als
  | _ => []
/-- an expression, no row of arguments -/
def Tx.isx : Tx → Prop
  | .anl => False
  | .acn _ _ _ => False
  | _ => True
/-- a row of arguments -/
def Tx.isr : Tx → Prop
  | .anl => True
  | .acn _ _ r => r.isr
  | _ => False
def cvw (f t : Int32) : List Int32 := if t = f then [] else [4, f, t]
def isSh (o : Int32) : Prop := o = 6 ∨ o = 7 ∨ o = 8
instance (o : Int32) : Decidable (isSh o) := by unfold isSh; exact inferInstance
/-- the engine's words, from a place on -/
def wE : Tx → Nat → List Int32
  | .lit _ b, _ => [0, b.toInt32, (j_lshr b 32).toInt32]
  | .par n _, _ => [3, iw (n : Int)]
  | .opd n _, _ => [1, iw (n : Int)]
  | .spt n, _ => [2, iw (n : Int)]
  | .pre s l e, p => wE e p ++ cvw e.ln l ++ (if s = 33 then [7] else if s = 126 then [6] else [5, l])
  | .cst l e, p => wE e p ++ [16, 4, e.ln, l]
  | .bin o i _ a b, p => (wE a p ++ cvw a.ln i) ++ (wE b (p + (wE a p ++ cvw a.ln i).length) ++ (if isSh o then [] else cvw b.ln i)) ++ [8, o, i]
  | .sho o a b, p => wE a p ++ [if o = 18 then 9 else 10, iw ((p + (wE a p).length + 2 + (wE b (p + (wE a p).length + 2)).length : Nat) : Int)] ++ wE b (p + (wE a p).length + 2)
  | .cnd l c a b, p =>
    let p1 := p + (wE c p).length + 2
    let y := wE a p1 ++ cvw a.ln l
    let p2 := p1 + y.length + 2
    let z := wE b p2 ++ cvw b.ln l
    wE c p ++ [11, iw (p2 : Int)] ++ y ++ [12, iw ((p2 + z.length : Nat) : Int)] ++ z
  | .bui f i r, p => wE r p ++ [14, iw (f : Int), i]
  | .cal f _ r, p => wE r p ++ [13, iw (f : Int)]
  | .anl, _ => []
  | .acn t e r, p => (wE e p ++ cvw e.ln t) ++ wE r (p + (wE e p ++ cvw e.ln t).length)
/-- a step of the model: fn is a function's number and 1, or 0 -/
structure Mo where
  op : Int32
  tx : Nat := 20
  k : Int32 := 0
  j : Int32 := 0
  to : Int32 := 0
  n : Int32 := 0
  jp : Int32 := 0
  bt : Int64 := 0
  fn : Nat := 0
def mo0 : Mo := { op := 0 }
def wdn (f t : Int32) : List Mo := if f = t then [] else [{ op := 5, k := f, to := t }]
/-- the text of a sign between operands, by its number -/
def sgT (o : Int32) : Nat := if o = 1 then 32 else if o = 2 then 34 else if o = 3 then 31 else if o = 4 then 35 else if o = 5 then 25 else if o = 6 then 40 else if o = 7 then 46 else if o = 8 then 47 else if o = 9 then 39 else if o = 10 then 44 else if o = 11 then 41 else if o = 12 then 45 else if o = 13 then 43 else if o = 14 then 24 else if o = 15 then 26 else if o = 16 then 49 else if o = 17 then 62 else if o = 18 then 27 else 63
/-- the model's steps, from a place on -/
def oM : Tx → Nat → List Mo
  | .lit _ b, _ => [{ op := 1, bt := b }]
  | .par n _, _ => [{ op := 2, n := iw (n : Int) }]
  | .opd n _, _ => [{ op := 3, n := iw (n : Int) }]
  | .spt n, _ => [{ op := 4, n := iw (n : Int) }]
  | .pre s l e, p => oM e p ++ wdn e.ln l ++ [if s = 33 then { op := 8 } else { op := if s = 45 then 7 else 9, k := l }]
  | .cst l e, p => oM e p ++ [{ op := 6, k := e.ln, to := l }]
  | .bin o i _ a b, p => oM a p ++ oM b (p + (oM a p).length) ++ [{ op := if o < 6 then 10 else if o < 9 then 11 else if o < 15 then 12 else 13, tx := sgT o, k := a.ln, j := b.ln, to := i }]
  | .sho o a b, p => oM a p ++ [{ op := 14, n := if o = 18 then 0 else 1, jp := iw ((p + (oM a p).length + 1 + (oM b (p + (oM a p).length + 1)).length : Nat) : Int) }] ++ oM b (p + (oM a p).length + 1)
  | .cnd l c a b, p =>
    let p1 := p + (oM c p).length + 1
    let y := oM a p1
    let p2 := p1 + y.length + 2
    let z := oM b p2 ++ wdn b.ln l
    oM c p ++ [{ op := 15, jp := iw (p2 : Int) }] ++ y ++ [{ op := 5, k := a.ln, to := l }, { op := 16, jp := iw ((p2 + z.length : Nat) : Int) }] ++ z
  | .bui f i r, p => oM r p ++ [{ op := 17, n := iw (f : Int), k := (r.als.getD 0 (0, 0)).1, j := (r.als.getD (r.als.length - 1) (0, 0)).1, to := i }]
  | .cal f _ r, p => oM r p ++ [{ op := 18, n := iw (r.als.length : Int), fn := f + 1 }] ++ r.als.map (fun q => { op := 5, k := q.1, to := q.2 })
  | .anl, _ => []
  | .acn _ e r, p => oM e p ++ oM r (p + (oM e p).length)
/-- the height -/
def Tx.ht : Tx → Nat
  | .pre _ _ e => e.ht + 1
  | .cst _ e => e.ht + 1
  | .bin _ _ _ a b => max a.ht b.ht + 1
  | .sho _ a b => max a.ht b.ht + 1
  | .cnd _ c a b => max c.ht (max a.ht b.ht) + 1
  | .bui _ _ r => r.ht + 1
  | .cal _ _ r => r.ht + 1
  | .anl => 0
  | .acn _ e r => max e.ht r.ht
  | _ => 1
/-- a function: name, lane, lanes of its parameters, body -/
structure Fn where
  nm : List Int32
  ln : Int32
  ps : List Int32
  bd : Tx
def fn0 : Fn := { nm := [], ln := 0, ps := [], bd := .anl }
def isNk (k : Int32) : Prop := 1 ≤ k ∧ k ≤ 7
def isWk (k : Int32) : Prop := 1 ≤ k ∧ k ≤ 5
instance (k : Int32) : Decidable (isNk k) := by unfold isNk; exact inferInstance
instance (k : Int32) : Decidable (isWk k) := by unfold isWk; exact inferInstance
def mx2 (a b : Int32) : Int32 := if a < b then b else a
/-- the lane in which two are worked with -/
def wdk (k j : Int32) : Int32 := mx2 4 (mx2 k j)
/-- lanes of what stands between operands -/
def tyb (o k j i l : Int32) : Prop :=
  (isSh o ∧ isWk k ∧ isWk j ∧ i = wdk k 4 ∧ l = i) ∨ (1 ≤ o ∧ o ≤ 5 ∧ isNk k ∧ isNk j ∧ i = wdk k j ∧ l = i) ∨ (9 ≤ o ∧ o ≤ 12 ∧ isNk k ∧ isNk j ∧ i = wdk k j ∧ l = 0) ∨
  (13 ≤ o ∧ o ≤ 14 ∧ isNk k ∧ isNk j ∧ i = wdk k j ∧ l = 0) ∨ (13 ≤ o ∧ o ≤ 14 ∧ k = 0 ∧ j = 0 ∧ i = 0 ∧ l = 0) ∨ (15 ≤ o ∧ o ≤ 17 ∧ isWk k ∧ isWk j ∧ i = wdk k j ∧ l = i) ∨ (15 ≤ o ∧ o ≤ 17 ∧ k = 0 ∧ j = 0 ∧ i = 0 ∧ l = 0)
/-- lanes of a built-in function -/
def tyf (f : Nat) (i : Int32) (ls : List (Int32 × Int32)) : Prop :=
  f < 15 ∧ ls.length = (if 2 ≤ f ∧ f ≤ 8 then 2 else 1) ∧ (∀ q ∈ ls, q.2 = i ∧ if 4 ≤ f ∧ f ≤ 10 then isWk q.1 else isNk q.1) ∧
  i = (if 11 ≤ f then 7 else wdk (ls.getD 0 (0, 0)).1 (ls.getD (ls.length - 1) (0, 0)).1)
/-- lanes as they must be: functions, parameters, operands -/
def wt (fs : List Fn) (ps : List Int32) (op : Nat → Int32 → Prop) : Tx → Prop
  | .lit l b => Lk l ∧ vb l b
  | .par n l => n < ps.length ∧ ps.getD n 0 = l ∧ Lk l
  | .opd n l => n < 8 ∧ op n l ∧ Lk l
  | .spt n => n < 4
  | .pre s l e => wt fs ps op e ∧ e.isx ∧ ((s = 33 ∧ e.ln = 0 ∧ l = 0) ∨ (s = 45 ∧ isNk e.ln ∧ l = wdk e.ln 4) ∨ (s = 126 ∧ isWk e.ln ∧ l = wdk e.ln 4))
  | .cst l e => wt fs ps op e ∧ e.isx ∧ Lk l ∧ (e.ln = l ∨ (isNk e.ln ∧ isNk l))
  | .bin o i l a b => wt fs ps op a ∧ a.isx ∧ wt fs ps op b ∧ b.isx ∧ tyb o a.ln b.ln i l
  | .sho o a b => wt fs ps op a ∧ a.isx ∧ wt fs ps op b ∧ b.isx ∧ (o = 18 ∨ o = 19) ∧ a.ln = 0 ∧ b.ln = 0
  | .cnd l c a b => wt fs ps op c ∧ c.isx ∧ wt fs ps op a ∧ a.isx ∧ wt fs ps op b ∧ b.isx ∧ c.ln = 0 ∧ ((a.ln = b.ln ∧ l = a.ln) ∨ (isNk a.ln ∧ isNk b.ln ∧ a.ln ≠ b.ln ∧ l = wdk a.ln b.ln))
  | .bui f i r => wt fs ps op r ∧ r.isr ∧ tyf f i r.als
  | .cal f l r => wt fs ps op r ∧ r.isr ∧ f < fs.length ∧ l = (fs.getD f fn0).ln ∧ r.als.map (fun q => q.2) = (fs.getD f fn0).ps ∧ ∀ q ∈ r.als, fit q.1 q.2
  | .anl => True
  | .acn _ e r => wt fs ps op e ∧ e.isx ∧ wt fs ps op r ∧ r.isr
/-- a function's words and steps -/
def fwE (f : Fn) : List Int32 := wE f.bd 0 ++ cvw f.bd.ln f.ln ++ [15]
def fwM (f : Fn) : List Mo := oM f.bd 0 ++ wdn f.bd.ln f.ln
/-- functions as they may be -/
def Gf (fs : List Fn) : Prop := (∀ k, k < fs.length → wt (fs.take k) (fs.getD k fn0).ps (fun _ _ => False) (fs.getD k fn0).bd ∧ (fs.getD k fn0).bd.isx ∧ (fs.getD k fn0).bd.ht ≤ 30 ∧ Lk (fs.getD k fn0).ln ∧ fit (fs.getD k fn0).bd.ln (fs.getD k fn0).ln ∧
    (fs.getD k fn0).nm.length ≤ 12 ∧ ascs (fs.getD k fn0).nm ∧ 1 ≤ (fs.getD k fn0).ps.length ∧ (fs.getD k fn0).ps.length ≤ 6 ∧ (∀ l ∈ (fs.getD k fn0).ps, Lk l) ∧ (fwE (fs.getD k fn0)).length ≤ 30000 ∧ (fwM (fs.getD k fn0)).length ≤ 30000) ∧
  ∀ i j, i < j → j < fs.length → ¬ ((fs.getD i fn0).nm = (fs.getD j fn0).nm ∧ (fs.getD i fn0).ps = (fs.getD j fn0).ps)
