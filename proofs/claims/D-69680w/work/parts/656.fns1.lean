/-! ===== FORMULAS, 81: functions of a text, plain; what the engine's reader of them comes to ===== -/
/-- a parameter: lane, name, place -/
structure Pa where
  ln : Int32
  nm : List Int32
  pl : Nat
def pa0 : Pa := { ln := 0, nm := [], pl := 0 }
/-- a function as the text has it -/
structure Dft where
  ln : Int32
  nm : List Int32
  pl : Nat
  ps : List Pa
  bd : Ex
def dft0 : Dft := { ln := 0, nm := [], pl := 0, ps := [], bd := .anl }
def sthen {α β : Type} (x : Nat ⊕ α) (k : α → Nat ⊕ β) : Nat ⊕ β := match x with
  | .inl q => .inl q
  | .inr a => k a
/-- behind the parameters -/
def pBd (acc : List Pa) (ts : List Tok) : Nat ⊕ ((List Pa × Ex) × List Tok) :=
  if isS (hdt ts) 42 = true then sthen ((prs 24).1 ts.tail) fun er => if isS (hdt er.2) 38 = true then .inr ((acc, er.1), er.2.tail) else .inl (hdt er.2).pl
  else .inl (hdt ts).pl
/-- parameters and what follows -/
def pPr : Nat → List Pa → List Tok → Nat ⊕ ((List Pa × Ex) × List Tok)
  | 0, _, _ => .inl 0
  | m + 1, acc, ts =>
    if acc.length = 6 then .inl (hdt ts).pl
    else if isLn (hdt ts) = true then
      (if (hdt ts.tail).kd = 1 then
        (if isS (hdt ts.tail.tail) 33 = true then pPr m (acc ++ [{ ln := lnW (hdt ts).wd, nm := (hdt ts.tail).wd, pl := (hdt ts.tail).pl }]) ts.tail.tail.tail
        else if isS (hdt ts.tail.tail) 30 = true then pBd (acc ++ [{ ln := lnW (hdt ts).wd, nm := (hdt ts.tail).wd, pl := (hdt ts.tail).pl }]) ts.tail.tail.tail
        else .inl (hdt ts.tail.tail).pl)
      else .inl (hdt ts.tail).pl)
    else .inl (hdt ts).pl
def pFn (ts : List Tok) : Nat ⊕ (Dft × List Tok) :=
  if isLn (hdt ts) = true then
    (if (hdt ts.tail).kd = 1 then
      (if isS (hdt ts.tail.tail) 28 = true then sthen (pPr 7 [] ts.tail.tail.tail) fun q => .inr ({ ln := lnW (hdt ts).wd, nm := (hdt ts.tail).wd, pl := (hdt ts.tail).pl, ps := q.1.1, bd := q.1.2 }, q.2)
      else .inl (hdt ts.tail.tail).pl)
    else .inl (hdt ts.tail).pl)
  else .inl (hdt ts).pl
/-- all functions; there is room for so many -/
def pFs (room : Nat) : Nat → List Dft → List Tok → Nat ⊕ List Dft
  | 0, _, _ => .inl 0
  | m + 1, acc, ts => if (hdt ts).kd = 0 then .inr acc else if acc.length = room then .inl (hdt ts).pl else sthen (pFn ts) fun q => pFs room m (acc ++ [q.1]) q.2
/-- what the engine's reader comes to -/
def RFx {α : Type} (M : Mem) (B v0 : Nat) (f : Nat → Int32) (n k : Nat) (G : α → Nat → Mem → Prop) (x : Option ((Nat × Mem) ⊕ (Nat × Mem))) : Nat ⊕ (α × List Tok) → Prop
  | .inl q => ∃ M', x = some (.inr (1003, eT M' 1 (iw (q : Int)))) ∧ Df pK qK rK M M' ∧ TBk M' f n ∧ m_nx M' ≤ m_nx M + 70 * LT f n k ∧ m_sl M' ≤ m_sl M + 300 * LT f n k
  | .inr (d, r) => ∃ k' M', r = tks f n k' ∧ k' ≤ n ∧ WB M M' f n k k' 0 ∧ TBk M' f n ∧ (((tok f n k').kd = 5 ∧ x = some (.inr (1003, eT M' 1 (iw ((tok f n k').pl : Int))))) ∨ ((tok f n k').kd ≠ 5 ∧ ∃ a, x = some (.inl (a, M')) ∧ SP M' B v0 f n k' ∧ WB M M' f n k k' 1 ∧ G d a M'))
section
variable {α : Type} {M M' : Mem} {B v0 n k k' s : Nat} {f : Nat → Int32} {G : α → Nat → Mem → Prop}
theorem RFx.err (w : WB M M' f n k k' s) (t : TBk M' f n) (hk : k' ≤ n) {q : Nat} {x : Option ((Nat × Mem) ⊕ (Nat × Mem))} (hx : x = some (.inr (1003, eT M' 1 (iw (q : Int))))) : RFx M B v0 f n k G x (.inl q) :=
  ⟨M', hx, w.1, t, by have := w.2.1; omega, by have := w.2.2; omega⟩
theorem RFx.none (w : WB M M' f n k k' s) (t : TBk M' f n) (hk : k' ≤ n) (h5 : (tok f n k').kd = 5) {x : Option ((Nat × Mem) ⊕ (Nat × Mem))} (hx : x = some (.inr (1003, eT M' 1 (iw ((tok f n k').pl : Int))))) {res : Nat ⊕ (α × List Tok)} (hr : res = .inl (tok f n k').pl ∨ ∃ d : α, res = .inr (d, tks f n k')) : RFx M B v0 f n k G x res := by
  rcases hr with rfl | ⟨d, rfl⟩
  · exact RFx.err w t hk hx
  · exact ⟨k', M', rfl, hk, w.w (Nat.zero_le _), t, Or.inl ⟨h5, hx⟩⟩
/-- the next token is read -/
theorem RFx.nx (w : WB M M' f n k k' s) (h : SP M' B v0 f n k') (h0 : (tok f n k').kd ≠ 0) {y : Mem → Option ((Nat × Mem) ⊕ (Nat × Mem))} {res : Nat ⊕ (α × List Tok)} (h5 : (tok f n (tok f n k').to).kd = 5 → res = .inl (tok f n (tok f n k').to).pl ∨ ∃ d : α, res = .inr (d, tks f n (tok f n k').to))
    (hg : ∀ N, WB M N f n k (tok f n k').to (s + 1) → WB M' N f n k' (tok f n k').to 1 → SP N B v0 f n (tok f n k').to → RFx M B v0 f n k G (y N) res) : RFx M B v0 f n k G (tb (F_X5_next M' 1012) y) res := by
  obtain ⟨N, d, t, b1, b2, c⟩ := E_stepN h h0
  obtain ⟨t1, t2, t3, t4⟩ := tail_tks f h.2.2.1 h0 h.2.1
  have wN : WB M N f n k (tok f n k').to (s + 1) := ⟨w.1.trans d, by have := w.2.1; unfold LT at *; omega, by have := w.2.2; unfold LT at *; omega⟩
  rcases c with ⟨c1, c2⟩ | ⟨c1, c2, c3⟩
  · exact RFx.none wN t t2 c1 (by rw [c2]; rfl) (h5 c1)
  · rw [c2]
    exact hg N wN ⟨d, by unfold LT at *; omega, by unfold LT at *; omega⟩ c3
theorem RFx.wr (w : WB M M' f n k k' s) (h : SP M' B v0 f n k') : RFx M B v0 f n k G ((vg M' 1012 6).bind fun _ => (F_X5_wrong M' 1012).bind fun z => (ie z.2 z.1).bind fun _ => some (.inr (z.1, z.2))) (.inl (tok f n k').pl) :=
  RFx.err w h.1.1 h.2.2.1 (by rw [E_wrongK h.st, h.1.2.2.1])
/-- a sign must stand there -/
theorem RFx.ex (w : WB M M' f n k k' s) (h : SP M' B v0 f n k') {c : Nat} (hc : c ∈ sgB) {y : Mem → Option ((Nat × Mem) ⊕ (Nat × Mem))} {res : Nat ⊕ (α × List Tok)} (hno : isS (tok f n k') c = false → res = .inl (tok f n k').pl) (h5 : isS (tok f n k') c = true → (tok f n (tok f n k').to).kd = 5 → res = .inl (tok f n (tok f n k').to).pl ∨ ∃ d : α, res = .inr (d, tks f n (tok f n k').to))
    (hg : ∀ N, isS (tok f n k') c = true → WB M N f n k (tok f n k').to (s + 1) → WB M' N f n k' (tok f n k').to 1 → SP N B v0 f n (tok f n k').to → RFx M B v0 f n k G (y N) res) : RFx M B v0 f n k G (tb (F_X5_expect M' 1012 c) y) res := by
  unfold F_X5_expect
  rw [v1012 h.st, Option.bind_some, E_isS h hc, Option.bind_some]
  cases q : isS (tok f n k') c with
  | false =>
    rw [if_pos (show mr false = 0 by decide), hno q]
    have e := E_wrongK (α := Mem) h.st
    rw [v1012 h.st] at e
    rw [e, h.1.2.2.1]
    exact RFx.err w h.1.1 h.2.2.1 rfl
  | true =>
    rw [if_neg (show ¬ mr true = 0 by decide), Option.bind_some]
    have kn0 : (tok f n k').kd ≠ 0 := by rw [(isS_t.mp q).1]; decide
    have eb : tb (tb (F_X5_next M' 1012) fun z => some (Sum.inl z)) y = tb (F_X5_next M' 1012) y := by
      cases F_X5_next M' 1012 with
      | none => rfl
      | some v => cases v <;> rfl
    rw [eb]
    exact RFx.nx w h kn0 (h5 q) (fun N a b c => hg N q a b c)
/-- a lane must stand there -/
theorem RFx.lane (w : WB M M' f n k k' s) (h : SP M' B v0 f n k') {y : Int32 × Mem → Option ((Nat × Mem) ⊕ (Nat × Mem))} {res : Nat ⊕ (α × List Tok)} (hno : isLn (tok f n k') = false → res = .inl (tok f n k').pl) (h5 : isLn (tok f n k') = true → (tok f n (tok f n k').to).kd = 5 → res = .inl (tok f n (tok f n k').to).pl)
    (hg : ∀ N, isLn (tok f n k') = true → WB M N f n k (tok f n k').to (s + 1) → WB M' N f n k' (tok f n k').to 1 → SP N B v0 f n (tok f n k').to → RFx M B v0 f n k G (y (lnW (tok f n k').wd, N)) res) : RFx M B v0 f n k G (tb (F_X26_lane M' v0) y) res := by
  have n4 := h.len
  unfold F_X26_lane
  simp only [h.g, v1012 h.st, Option.bind_some]
  by_cases q : isLn (tok f n k') = true
  · obtain ⟨l1, l2⟩ := isLn_t.mp q
    obtain ⟨x1, x2, x3⟩ := h.1.2.2.2.2.1 (Or.inr l1)
    have kn0 : (tok f n k').kd ≠ 0 := by rw [l1]; decide
    rw [E_laneW h.st rfl (by rw [h.1.2.1]; exact l1) h.k0 x1.1 x2 (by omega), Option.bind_some, if_neg (fun z => (lnW_neg _).mp z l2)]
    have eb : tb (tb (F_X5_next M' 1012) fun z => some (Sum.inl (lnW (tok f n k').wd, z))) y = tb (F_X5_next M' 1012) fun z => y (lnW (tok f n k').wd, z) := by
      cases F_X5_next M' 1012 with
      | none => rfl
      | some v => cases v <;> rfl
    rw [eb]
    exact RFx.nx w h kn0 (fun z => Or.inl (h5 q z)) (fun N a b c => hg N q a b c)
  · have ln : ∃ v, F_X5_laneWord M' 1012 = some v ∧ v < 0 := by
      by_cases l1 : (tok f n k').kd = 2
      · obtain ⟨x1, x2, x3⟩ := h.1.2.2.2.2.1 (Or.inr l1)
        refine ⟨_, E_laneW h.st rfl (by rw [h.1.2.1]; exact l1) h.k0 x1.1 x2 (by omega), ?_⟩
        exact (lnW_neg _).mpr (fun z => q (isLn_t.mpr ⟨l1, z⟩))
      · exact ⟨-1, E_laneN h.st (by rw [h.1.2.1]; exact l1), by decide⟩
    obtain ⟨v, v1, v2⟩ := ln
    have qf : isLn (tok f n k') = false := by cases z : isLn (tok f n k') with
      | false => rfl
      | true => exact (q z).elim
    rw [v1, Option.bind_some, if_pos v2, hno qf]
    have e := E_wrongK (α := Int32 × Mem) h.st
    rw [v1012 h.st, Option.bind_some] at e
    rw [e, h.1.2.2.1]
    exact RFx.err w h.1.1 h.2.2.1 rfl
/-- a name must stand there -/
theorem RFx.name (w : WB M M' f n k k' s) (h : SP M' B v0 f n k') {y : Nat × Mem → Option ((Nat × Mem) ⊕ (Nat × Mem))} {res : Nat ⊕ (α × List Tok)} (hno : (tok f n k').kd ≠ 1 → res = .inl (tok f n k').pl) (h5 : (tok f n k').kd = 1 → (tok f n (tok f n k').to).kd = 5 → res = .inl (tok f n (tok f n k').to).pl)
    (hg : ∀ N, (tok f n k').kd = 1 → WB M N f n k (tok f n k').to (s + 1) → WB M' N f n k' (tok f n k').to 1 → SP N B v0 f n (tok f n k').to → NmW N B (cR M' 1012 390) (tok f n k').wd → RFx M B v0 f n k G (y (cR M' 1012 390, N)) res) : RFx M B v0 f n k G (tb (F_X5_name M' 1012) y) res := by
  unfold F_X5_name
  rw [g1012_387 h.st, Option.bind_some, h.1.2.1]
  by_cases c1 : (tok f n k').kd = 1
  · have kn0 : (tok f n k').kd ≠ 0 := by rw [c1]; decide
    have hw : NmW M' B (cR M' 1012 390) (tok f n k').wd := h.1.2.2.2.2.1 (Or.inl c1)
    rw [if_pos c1, g1012_390 h.st, Option.bind_some, v1012 h.st, Option.bind_some]
    have eb : tb (tb (F_X5_next M' 1012) fun z => some (Sum.inl (cR M' 1012 390, z))) y = tb (F_X5_next M' 1012) fun z => y (cR M' 1012 390, z) := by
      cases F_X5_next M' 1012 with
      | none => rfl
      | some v => cases v <;> rfl
    rw [eb]
    exact RFx.nx w h kn0 (fun z => Or.inl (h5 c1 z)) (fun N a b c => hg N c1 a b c (hw.kk b.1 h.2.2.2.2.1.1))
  · rw [if_neg c1, hno c1]
    have e := E_wrongK (α := Nat × Mem) h.st
    rw [e, h.1.2.2.1]
    exact RFx.err w h.1.1 h.2.2.1 rfl
/-- a sign may stand there -/
theorem RFx.acc (w : WB M M' f n k k' s) (h : SP M' B v0 f n k') {c : Nat} (hc : c ∈ sgB) {y : Int32 × Mem → Option ((Nat × Mem) ⊕ (Nat × Mem))} {res : Nat ⊕ (α × List Tok)} (h5 : isS (tok f n k') c = true → (tok f n (tok f n k').to).kd = 5 → res = .inl (tok f n (tok f n k').to).pl) (hno : isS (tok f n k') c = false → RFx M B v0 f n k G (y (0, M')) res)
    (hg : ∀ N, isS (tok f n k') c = true → WB M N f n k (tok f n k').to (s + 1) → WB M' N f n k' (tok f n k').to 1 → SP N B v0 f n (tok f n k').to → RFx M B v0 f n k G (y (1, N)) res) : RFx M B v0 f n k G (tb (F_X5_accept M' 1012 c) y) res := by
  unfold F_X5_accept
  rw [v1012 h.st, Option.bind_some, E_isS h hc, Option.bind_some]
  cases q : isS (tok f n k') c with
  | false =>
    rw [if_pos (show mr false = 0 by decide)]
    exact hno q
  | true =>
    rw [if_neg (show ¬ mr true = 0 by decide), Option.bind_some]
    have kn0 : (tok f n k').kd ≠ 0 := by rw [(isS_t.mp q).1]; decide
    have eb : tb (tb (F_X5_next M' 1012) fun z => some (Sum.inl ((1 : Int32), z))) y = tb (F_X5_next M' 1012) fun z => y (1, z) := by
      cases F_X5_next M' 1012 with
      | none => rfl
      | some v => cases v <;> rfl
    rw [eb]
    exact RFx.nx w h kn0 (fun z => Or.inl (h5 q z)) (fun N a b c => hg N q a b c)
end
