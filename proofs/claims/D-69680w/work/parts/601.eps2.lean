/-! ===== FORMULAS, 26: what the engine's parser comes to ===== -/
def LT (f : Nat → Int32) (n k : Nat) : Nat := (tks f n k).length
theorem LT_pos (f : Nat → Int32) {n k : Nat} (hk : k ≤ n) : 1 ≤ LT f n k := by
  unfold LT
  rw [tks_eq f hk]
  split
  · exact Nat.le_refl _
  · rw [List.length_cons]; omega
theorem LT_le (f : Nat → Int32) (n k : Nat) : LT f n k ≤ n + 1 := by
  have := tksF_len f n (n + 1 - k) k
  unfold LT tks
  omega
/-- from M on; s tokens that were read leave room -/
def WB (M M' : Mem) (f : Nat → Int32) (n k k' s : Nat) : Prop := Df pK qK rK M M' ∧ m_nx M' + 70 * LT f n k' + 20 * s ≤ m_nx M + 70 * LT f n k ∧ m_sl M' + 300 * LT f n k' + 150 * s ≤ m_sl M + 300 * LT f n k
theorem WB.refl (M : Mem) (f : Nat → Int32) (n k : Nat) : WB M M f n k k 0 := ⟨Df.refl _ _ _ _, by omega, by omega⟩
theorem WB.w {M M' : Mem} {f : Nat → Int32} {n k k' s s' : Nat} (h : WB M M' f n k k' s) (hs : s' ≤ s) : WB M M' f n k k' s' := ⟨h.1, by have := h.2.1; omega, by have := h.2.2; omega⟩
theorem WB.trans {M M' M'' : Mem} {f : Nat → Int32} {n k k' k'' s s' : Nat} (h : WB M M' f n k k' s) (g : WB M' M'' f n k' k'' s') : WB M M'' f n k k'' (s + s') := ⟨h.1.trans g.1, by have := h.2.1; have := g.2.1; omega, by have := h.2.2; have := g.2.2; omega⟩
/-- cells were made -/
theorem WB.new {M M' N : Mem} {f : Nat → Int32} {n k k' s : Nat} (h : WB M M' f n k k' (s + 1)) (d : Df n2 n2 n2 M' N) (h1 : m_nx N ≤ m_nx M' + 20) (h2 : m_sl N ≤ m_sl M' + 150) : WB M N f n k k' s := ⟨h.1.then d (fun _ _ _ q => q.elim) (fun _ _ _ q => q.elim) (fun _ _ _ q => q.elim), by have := h.2.1; omega, by have := h.2.2; omega⟩
/-- what the engine's parser comes to -/
def RE (M : Mem) (B v0 : Nat) (f : Nat → Int32) (n k : Nat) (x : Option ((Nat × Mem) ⊕ (Nat × Mem))) : Nat ⊕ (Ex × List Tok) → Prop
  | .inl q => ∃ M', x = some (.inr (1003, eT M' 1 (iw (q : Int)))) ∧ Df pK qK rK M M' ∧ TBk M' f n ∧ m_nx M' ≤ m_nx M + 70 * LT f n k ∧ m_sl M' ≤ m_sl M + 300 * LT f n k
  | .inr (e, r) => e.isx ∧ ∃ k' M', r = tks f n k' ∧ k' ≤ n ∧ e.ht + LT f n k' ≤ LT f n k ∧ WB M M' f n k k' 0 ∧ TBk M' f n ∧ (((tok f n k').kd = 5 ∧ x = some (.inr (1003, eT M' 1 (iw ((tok f n k').pl : Int))))) ∨ ((tok f n k').kd ≠ 5 ∧ ∃ a, x = some (.inl (a, M')) ∧ SP M' B v0 f n k' ∧ NEx M' B e (m_nx M) (m_nx M') [a]))
section
variable {M M' : Mem} {B v0 n k k' s : Nat} {f : Nat → Int32}
theorem RE.err (w : WB M M' f n k k' s) (t : TBk M' f n) (hk : k' ≤ n) {q : Nat} {x : Option ((Nat × Mem) ⊕ (Nat × Mem))} (hx : x = some (.inr (1003, eT M' 1 (iw (q : Int))))) : RE M B v0 f n k x (.inl q) :=
  ⟨M', hx, w.1, t, by have := w.2.1; omega, by have := w.2.2; omega⟩
/-- a token that is none ends it -/
theorem RE.none (w : WB M M' f n k k' s) (t : TBk M' f n) (hk : k' ≤ n) (h5 : (tok f n k').kd = 5) {x : Option ((Nat × Mem) ⊕ (Nat × Mem))} (hx : x = some (.inr (1003, eT M' 1 (iw ((tok f n k').pl : Int))))) {res : Nat ⊕ (Ex × List Tok)} (hr : res = .inl (tok f n k').pl ∨ ∃ e : Ex, res = .inr (e, tks f n k') ∧ e.isx ∧ e.ht + LT f n k' ≤ LT f n k) : RE M B v0 f n k x res := by
  rcases hr with rfl | ⟨e, rfl, e1, e2⟩
  · exact RE.err w t hk hx
  · exact ⟨e1, k', M', rfl, hk, e2, w.w (Nat.zero_le _), t, Or.inl ⟨h5, hx⟩⟩
/-- the next token is read -/
theorem RE.nx (w : WB M M' f n k k' s) (h : SP M' B v0 f n k') (h0 : (tok f n k').kd ≠ 0) {y : Mem → Option ((Nat × Mem) ⊕ (Nat × Mem))} {res : Nat ⊕ (Ex × List Tok)} (h5 : (tok f n (tok f n k').to).kd = 5 → res = .inl (tok f n (tok f n k').to).pl ∨ ∃ e : Ex, res = .inr (e, tks f n (tok f n k').to) ∧ e.isx ∧ e.ht + LT f n (tok f n k').to ≤ LT f n k)
    (hg : ∀ N, WB M N f n k (tok f n k').to (s + 1) → WB M' N f n k' (tok f n k').to 1 → SP N B v0 f n (tok f n k').to → RE M B v0 f n k (y N) res) : RE M B v0 f n k (tb (F_X5_next M' 1012) y) res := by
  obtain ⟨N, d, t, b1, b2, c⟩ := E_stepN h h0
  obtain ⟨t1, t2, t3, t4⟩ := tail_tks f h.2.2.1 h0 h.2.1
  have wN : WB M N f n k (tok f n k').to (s + 1) := ⟨w.1.trans d, by have := w.2.1; unfold LT at *; omega, by have := w.2.2; unfold LT at *; omega⟩
  rcases c with ⟨c1, c2⟩ | ⟨c1, c2, c3⟩
  · exact RE.none wN t t2 c1 (by rw [c2]; rfl) (h5 c1)
  · rw [c2]
    exact hg N wN ⟨d, by unfold LT at *; omega, by unfold LT at *; omega⟩ c3
/-- a part was read -/
theorem RE.th {N : Mem} {x : Option ((Nat × Mem) ⊕ (Nat × Mem))} {res : Nat ⊕ (Ex × List Tok)} (w : WB M N f n k k' s) (h : RE N B v0 f n k' x res) {y : Nat × Mem → Option ((Nat × Mem) ⊕ (Nat × Mem))} {K : Ex → List Tok → Nat ⊕ (Ex × List Tok)}
    (h5 : ∀ (e : Ex) (j : Nat), res = .inr (e, tks f n j) → e.isx → j ≤ n → e.ht + LT f n j ≤ LT f n k' → (tok f n j).kd = 5 → K e (tks f n j) = .inl (tok f n j).pl ∨ ∃ e' : Ex, K e (tks f n j) = .inr (e', tks f n j) ∧ e'.isx ∧ e'.ht + LT f n j ≤ LT f n k)
    (hg : ∀ (e : Ex) (j a : Nat) (O : Mem), res = .inr (e, tks f n j) → e.isx → e.ht + LT f n j ≤ LT f n k' → WB M O f n k j s → WB N O f n k' j 0 → SP O B v0 f n j → NEx O B e (m_nx N) (m_nx O) [a] → RE M B v0 f n k (y (a, O)) (K e (tks f n j))) : RE M B v0 f n k (tb x y) (pthen res K) := by
  cases res with
  | inl q =>
    obtain ⟨O, o1, o2, o3, o4, o5⟩ := h
    refine ⟨O, by rw [o1]; rfl, w.1.trans o2, o3, ?_, ?_⟩
    · have := w.2.1; omega
    · have := w.2.2; omega
  | inr er =>
    obtain ⟨e, r⟩ := er
    obtain ⟨h1, j, O, rfl, j2, j3, j4, j5, j6⟩ := h
    have wO : WB M O f n k j s := by have := w.trans j4; rwa [Nat.add_zero] at this
    rw [pthen_r]
    rcases j6 with ⟨c1, c2⟩ | ⟨c1, a, c2, c3, c4⟩
    · exact RE.none wO j5 j2 c1 (by rw [c2]; rfl) (h5 e j rfl h1 j2 j3 c1)
    · rw [c2]
      exact hg e j a O rfl h1 j3 wO j4 c3 c4
/-- a fault at the present token -/
theorem RE.wr (w : WB M M' f n k k' s) (h : SP M' B v0 f n k') : RE M B v0 f n k ((vg M' 1012 6).bind fun _ => (F_X5_wrong M' 1012).bind fun z => (ie z.2 z.1).bind fun _ => (some (.inr (z.1, z.2)))) (.inl (tok f n k').pl) :=
  RE.err w h.1.1 h.2.2.1 (by rw [E_wrongK h.st, h.1.2.2.1])
/-- a sign that must stand there -/
theorem RE.ex (w : WB M M' f n k k' s) (h : SP M' B v0 f n k') {c : Nat} (hc : c ∈ sgB) {y : Mem → Option ((Nat × Mem) ⊕ (Nat × Mem))} {res : List Tok → Nat ⊕ (Ex × List Tok)} (h5 : isS (tok f n k') c = true → (tok f n (tok f n k').to).kd = 5 → res (tks f n (tok f n k').to) = .inl (tok f n (tok f n k').to).pl ∨ ∃ e : Ex, res (tks f n (tok f n k').to) = .inr (e, tks f n (tok f n k').to) ∧ e.isx ∧ e.ht + LT f n (tok f n k').to ≤ LT f n k)
    (hg : ∀ N, isS (tok f n k') c = true → WB M N f n k (tok f n k').to (s + 1) → WB M' N f n k' (tok f n k').to 1 → SP N B v0 f n (tok f n k').to → RE M B v0 f n k (y N) (res (tks f n (tok f n k').to))) : RE M B v0 f n k (tb (F_X5_expect M' 1012 c) y) (if isS (hdt (tks f n k')) c = true then res (tks f n k').tail else .inl (hdt (tks f n k')).pl) := by
  rw [hdt_tks f h.2.2.1]
  unfold F_X5_expect
  rw [v1012 h.st, Option.bind_some, E_isS h hc, Option.bind_some]
  cases q : isS (tok f n k') c with
  | false =>
    rw [if_pos (show mr false = 0 by decide), if_neg (by decide)]
    have R := RE.wr (B := B) (v0 := v0) w h
    rw [v1012 h.st] at R
    have e := E_wrongK (α := Mem) h.st
    rw [v1012 h.st] at e
    rw [e]
    have e2 := E_wrongK (α := Nat × Mem) h.st
    rw [v1012 h.st] at e2
    rw [e2] at R
    exact R
  | true =>
    have k4 := (isS_t.mp q).1
    have kn0 : (tok f n k').kd ≠ 0 := by rw [k4]; decide
    obtain ⟨t1, t2, t3, t4⟩ := tail_tks f h.2.2.1 kn0 h.2.1
    rw [if_neg (show ¬ mr true = 0 by decide), if_pos rfl, Option.bind_some, t1]
    have R := RE.nx (y := y) w h kn0 (h5 q) (fun N a b c => hg N q a b c)
    have eb : tb (tb (F_X5_next M' 1012) fun z6 => some (Sum.inl z6)) y = tb (F_X5_next M' 1012) y := by
      cases F_X5_next M' 1012 with
      | none => rfl
      | some v => cases v <;> rfl
    rw [eb]
    exact R
end
