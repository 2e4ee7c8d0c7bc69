/-! ===== FORMULAS, 25: the engine's parser, its steps ===== -/
def sgA : List Nat := [23, 24, 25, 26, 27, 28, 30, 31, 32, 33, 34, 35, 37, 38, 39, 40, 41, 42, 43, 44, 45, 46, 47, 48, 49, 62, 63, 64]
theorem sgl_A {c d e : Int32} (h : (sgl c d e).1 ≠ 0) : (sgl c d e).2 ∈ sgA := by
  have key : ∀ q : Nat × Nat, q = sgl c d e → q.1 ≠ 0 → q.2 ∈ sgA := by
    intro q hq h0
    unfold sgl at hq
    have ite : ∀ {p : Prop} [Decidable p] {a b : Nat × Nat}, (a.1 = 0 ∨ a.2 ∈ sgA) → (b.1 = 0 ∨ b.2 ∈ sgA) → ((if p then a else b).1 = 0 ∨ (if p then a else b).2 ∈ sgA) := by
      intro p _ a b h1 h2
      split
      · exact h1
      · exact h2
    have all : q.1 = 0 ∨ q.2 ∈ sgA := by
      rw [hq]
      repeat' apply ite
      all_goals first | exact Or.inr (by decide) | exact Or.inl rfl
    exact all.resolve_left h0
  exact key _ rfl h
/-- what a token is like -/
theorem tok_fact (f : Nat → Int32) (n k : Nat) : ((tok f n k).kd = 2 → isKy (tok f n k).wd = true) ∧ ((tok f n k).kd = 1 → isKy (tok f n k).wd = false) ∧ ((tok f n k).kd = 4 → (tok f n k).sg ∈ sgA) ∧ ((tok f n k).kd = 3 → Lk (tok f n k).ln ∧ vb (tok f n k).ln (tok f n k).bt) ∧ ((tok f n k).kd = 0 ∨ (tok f n k).kd = 1 ∨ (tok f n k).kd = 2 ∨ (tok f n k).kd = 3 ∨ (tok f n k).kd = 4 ∨ (tok f n k).kd = 5) := by
  have lit : ∀ (T : Tok) (c : Int32), T.kd = c → (c = 0 ∨ c = 5) → ((T.kd = 2 → isKy T.wd = true) ∧ (T.kd = 1 → isKy T.wd = false) ∧ (T.kd = 4 → T.sg ∈ sgA) ∧ (T.kd = 3 → Lk T.ln ∧ vb T.ln T.bt) ∧ (T.kd = 0 ∨ T.kd = 1 ∨ T.kd = 2 ∨ T.kd = 3 ∨ T.kd = 4 ∨ T.kd = 5)) := fun T c h hc => by
    rw [h]
    rcases hc with rfl | rfl
    · exact ⟨fun q => absurd q (by decide), fun q => absurd q (by decide), fun q => absurd q (by decide), fun q => absurd q (by decide), Or.inl rfl⟩
    · exact ⟨fun q => absurd q (by decide), fun q => absurd q (by decide), fun q => absurd q (by decide), fun q => absurd q (by decide), Or.inr (Or.inr (Or.inr (Or.inr (Or.inr rfl))))⟩
  have num : ∀ T : Tok, T.kd = 3 → Lk T.ln → vb T.ln T.bt → ((T.kd = 2 → isKy T.wd = true) ∧ (T.kd = 1 → isKy T.wd = false) ∧ (T.kd = 4 → T.sg ∈ sgA) ∧ (T.kd = 3 → Lk T.ln ∧ vb T.ln T.bt) ∧ (T.kd = 0 ∨ T.kd = 1 ∨ T.kd = 2 ∨ T.kd = 3 ∨ T.kd = 4 ∨ T.kd = 5)) := fun T h hl hv => by
    rw [h]
    exact ⟨fun q => absurd q (by decide), fun q => absurd q (by decide), fun q => absurd q (by decide), fun _ => ⟨hl, hv⟩, Or.inr (Or.inr (Or.inr (Or.inl rfl)))⟩
  have bad : ∀ a, ((tkX a).kd = 2 → isKy (tkX a).wd = true) ∧ ((tkX a).kd = 1 → isKy (tkX a).wd = false) ∧ ((tkX a).kd = 4 → (tkX a).sg ∈ sgA) ∧ ((tkX a).kd = 3 → Lk (tkX a).ln ∧ vb (tkX a).ln (tkX a).bt) ∧ ((tkX a).kd = 0 ∨ (tkX a).kd = 1 ∨ (tkX a).kd = 2 ∨ (tkX a).kd = 3 ∨ (tkX a).kd = 4 ∨ (tkX a).kd = 5) := fun a => lit _ 5 rfl (Or.inr rfl)
  unfold tok tok2
  obtain ⟨a, ha⟩ : ∃ a, a = sc (isBl f n) n k := ⟨_, rfl⟩
  rw [← ha]
  by_cases c1 : n ≤ a
  · rw [if_pos c1]
    exact lit _ 0 rfl (Or.inl rfl)
  rw [if_neg c1]
  by_cases c2 : isLo f n a = true
  · rw [if_pos c2]
    unfold tkW tkW2
    split
    · exact bad _
    · rename_i q
      obtain ⟨w, hw⟩ : ∃ w, w = sgs f a (sc (isNm f n) n a - a) := ⟨_, rfl⟩
      rw [← hw]
      show ((if isKy w = true then (2 : Int32) else 1) = 2 → isKy w = true) ∧ ((if isKy w = true then (2 : Int32) else 1) = 1 → isKy w = false) ∧ ((if isKy w = true then (2 : Int32) else 1) = 4 → 20 ∈ sgA) ∧ ((if isKy w = true then (2 : Int32) else 1) = 3 → Lk 0 ∧ vb 0 0) ∧ ((if isKy w = true then (2 : Int32) else 1) = 0 ∨ (if isKy w = true then (2 : Int32) else 1) = 1 ∨ (if isKy w = true then (2 : Int32) else 1) = 2 ∨ (if isKy w = true then (2 : Int32) else 1) = 3 ∨ (if isKy w = true then (2 : Int32) else 1) = 4 ∨ (if isKy w = true then (2 : Int32) else 1) = 5)
      cases isKy w with
      | true => exact ⟨fun _ => rfl, fun q => absurd q (by decide), fun q => absurd q (by decide), fun q => absurd q (by decide), Or.inr (Or.inr (Or.inl rfl))⟩
      | false => exact ⟨fun q => absurd q (by decide), fun _ => rfl, fun q => absurd q (by decide), fun q => absurd q (by decide), Or.inr (Or.inl rfl)⟩
  rw [if_neg c2]
  by_cases c3 : isD f n a = true
  · rw [if_pos c3]
    obtain ⟨u1, u2, u3, u4⟩ := sc_spec (p := isD f n) (n := n) (fun a h => isD_lt h) (n - a) a (by omega)
    unfold tkN
    obtain ⟨e, he⟩ : ∃ e, e = sc (isD f n) n a := ⟨_, rfl⟩
    rw [← he] at u1 u2 u3 u4 ⊢
    unfold tkN2
    split
    · rename_i w
      have := isD_lt w.2
      obtain ⟨x1, x2, x3, x4⟩ := sc_spec (p := isD f n) (n := n) (fun a h => isD_lt h) (n - (e + 1)) (e + 1) (by omega)
      obtain ⟨e2, he2⟩ : ∃ e2, e2 = sc (isD f n) n (e + 1) := ⟨_, rfl⟩
      rw [← he2] at x1 x2 x3 x4 ⊢
      have x5 : e + 1 < e2 := by
        rcases Nat.lt_or_ge (e + 1) e2 with y | y
        · exact y
        · have : e2 = e + 1 := by omega
          rw [this, w.2] at x3
          cases x3
      unfold tkR
      split
      · exact bad _
      · rename_i c15
        have hV := rdv_lt (f := f) u1 (show e < e2 by omega) (fun i i1 i2 => (dig_lk (u4 i i1 i2)).2.2.2) (fun i i1 i2 => (dig_lk (x4 i i1 i2)).2.2.2) (by omega)
        have er : rdv f a e e2 = dcv f (dcv f 0 a (e - a)) (e + 1) (e2 - (e + 1)) := by unfold rdv; rw [if_neg (by omega)]
        rw [er] at hV
        obtain ⟨q1, -⟩ := quo_ok (b := e2 - (e + 1)) hV (by omega)
        split
        · exact num _ rfl (by show Lk 6; unfold Lk; decide) (lnB_vb (Or.inl rfl) q1)
        · exact num _ rfl (by show Lk 7; unfold Lk; decide) (lnB_vb (Or.inr rfl) q1)
    · unfold tkI
      split
      · split
        · exact bad _
        · rename_i g
          refine num _ rfl (by show Lk 5; unfold Lk; decide) ?_
          show vb 5 (nl (dcv f 0 a (e - a)))
          rw [vb_rng (by decide), nl_int (by omega)]
          have h1 : lnLo 5 = -9223372036854775808 := rfl
          have h2 : lnHi 5 = 9223372036854775807 := rfl
          omega
      · split
        · exact bad _
        · rename_i g
          refine num _ rfl (by show Lk 4; unfold Lk; decide) ?_
          show vb 4 (nl (dcv f 0 a (e - a)))
          rw [vb_rng (by decide), nl_int (by omega)]
          have h1 : lnLo 4 = -2147483648 := rfl
          have h2 : lnHi 4 = 2147483647 := rfl
          omega
  rw [if_neg c3]
  unfold tkS tkS2
  split
  · exact bad _
  · rename_i q
    exact ⟨fun w => absurd w (show ¬ (4 : Int32) = 2 by decide), fun w => absurd w (show ¬ (4 : Int32) = 1 by decide), fun _ => sgl_A q, fun w => absurd w (show ¬ (4 : Int32) = 3 by decide), Or.inr (Or.inr (Or.inr (Or.inr (Or.inl rfl))))⟩
/-- the parser stands at a token -/
def SP (M : Mem) (B v0 : Nat) (f : Nat → Int32) (n k : Nat) : Prop := KT M B f n (tok f n k) ∧ (tok f n k).kd ≠ 5 ∧ k ≤ n ∧ (m_tg M v0 = 27 ∧ cR M v0 1728 = 1012 ∧ 1334 ≤ v0 ∧ v0 < m_nx M) ∧ (1334 ≤ B ∧ B ≤ m_nx M) ∧ (m_tg M 4 = 1091 ∧ m_ln M 4 = 0)
theorem KT.b {M : Mem} {B B' : Nat} {f : Nat → Int32} {n : Nat} {T : Tok} (h : KT M B f n T) (hb : B' ≤ B) : KT M B' f n T := ⟨h.1, h.2.1, h.2.2.1, h.2.2.2.1, fun q => ⟨(h.2.2.2.2.1 q).1.b hb, (h.2.2.2.2.1 q).2⟩, h.2.2.2.2.2⟩
section
variable {M : Mem} {B v0 n k : Nat} {f : Nat → Int32}
theorem SP.st (h : SP M B v0 f n k) : ST M := h.1.1.1
theorem SP.k0 (h : SP M B v0 f n k) : K0 M := h.1.1.2.1
theorem SP.g (h : SP M B v0 f n k) : gr M v0 1728 = some 1012 := by rw [gr_of h.2.2.2.1.1 (show x_fr 27 1728 = true by decide), h.2.2.2.1.2.1]
theorem SP.v (h : SP M B v0 f n k) : vg M v0 27 = some () := vg_of h.2.2.2.1.1 (show x_isa 27 27 = true by decide)
theorem SP.len (h : SP M B v0 f n k) : n ≤ 4000 := h.1.1.2.2.2.2.1
/-- the next token -/
theorem E_stepN (h : SP M B v0 f n k) (h0 : (tok f n k).kd ≠ 0) : ∃ M', Df pK qK rK M M' ∧ TBk M' f n ∧ m_nx M' ≤ m_nx M + 50 ∧ m_sl M' ≤ m_sl M + 150 ∧ (((tok f n (tok f n k).to).kd = 5 ∧ F_X5_next M 1012 = some (.inr (1003, eT M' 1 (iw ((tok f n (tok f n k).to).pl : Int))))) ∨ ((tok f n (tok f n k).to).kd ≠ 5 ∧ F_X5_next M 1012 = some (.inl M') ∧ SP M' B v0 f n (tok f n k).to)) := by
  obtain ⟨h1, h2, h3, ⟨h4, h5, h6, h7⟩, ⟨h8, h9⟩, h10⟩ := h
  obtain ⟨t1, t2, t3, t4⟩ := tail_tks f h3 h0 h2
  obtain ⟨M', r1, r2, r3, r4⟩ := E_next h1.1 h1.2.2.2.1 t2
  have nn := r2.1
  refine ⟨M', r2, h1.1.df r2, r3, r4, ?_⟩
  rcases r1 with ⟨w1, w2, w3⟩ | ⟨w1, w2, w3⟩
  · exact Or.inl ⟨w1, w2⟩
  · have u4 := r2.2.2 4 (by omega)
    refine Or.inr ⟨w1, w2, w3.b h9, w1, t2, ⟨(r2.2.2 v0 h7).1.trans h4, by rw [r2.cR h7 (fun q => by unfold rK at q; omega)]; exact h5, h6, by omega⟩, ⟨h8, by omega⟩, u4.1.trans h10.1, u4.2.1.trans h10.2⟩
theorem E_isG (h : SP M B v0 f n k) {s : Nat} (s1 : 20 ≤ s) (s2 : s < 65) : F_X5_is M 1012 s = some (mr (decide ((tok f n k).kd = 4 ∧ (tok f n k).sg = s) || decide ((tok f n k).kd = 2 ∧ (tok f n k).wd = (cty s).1))) := by
  have hS := h.st
  have k0 := h.k0
  obtain ⟨⟨t0, t1, t2, t3, t4, t5, t6⟩, h2, h3, h4, h5, h6⟩ := h
  unfold F_X5_is F_X5_is_b16 F_X5_is_b31 F_X5_is_b32
  simp only [g1012_387, g1012_390, hS, t1, Option.bind_some]
  by_cases c4 : (tok f n k).kd = 4
  · obtain ⟨r1, r2, r3⟩ := t5 c4
    rw [if_pos c4, r1, k0.vg r2 r3, Option.bind_some, k0.eq r2 r3 s1 s2, Option.bind_some, c4]
    by_cases q : (tok f n k).sg = s
    · rw [if_pos q, if_neg (by decide)]; simp [q]; rfl
    · rw [if_neg q, if_pos rfl]; simp [q]; rfl
  · rw [if_neg c4]
    by_cases c2 : (tok f n k).kd = 2
    · obtain ⟨r1, r2, r3⟩ := t4 (Or.inr c2)
      have hs := r1.2.2.1.1
      rw [if_pos c2, r1.1.vg, Option.bind_some, J_eqs r1.1 (k0.sb s1 s2) (ac_txt (by omega) s1 (by omega)) (by omega), Option.bind_some, c2]
      by_cases q : (tok f n k).wd = (cty s).1
      · rw [pif_pos q, if_neg (by decide)]; simp [q]; rfl
      · rw [pif_neg q, if_pos rfl]; simp [q]; rfl
    · rw [if_neg c2]; simp [c4, c2]; rfl
/-- signs are no words -/
def sgB : List Nat := [23, 28, 30, 33, 34, 37, 38, 42, 48, 64]
theorem sgB_no : sgB.all (fun s => (w8 ++ [(cty 61).1, (cty 56).1]).all (fun w => !decide (w = (cty s).1))) = true := by decide +kernel
theorem fdl_mem {w : List Int32} : ∀ (l : List (List Int32)) (k j : Nat), fdl w l k = some j → w ∈ l
  | [], k, j, h => by cases h
  | x :: xs, k, j, h => by
    unfold fdl at h
    by_cases q : x = w
    · rw [q]; exact List.mem_cons_self
    · rw [if_neg q] at h
      exact List.mem_cons_of_mem _ (fdl_mem xs (k + 1) j h)
theorem isKy_mem {w : List Int32} (h : isKy w = true) : w ∈ w8 ++ [(cty 61).1, (cty 56).1] := by
  rw [isKy_fd] at h
  cases q : fdl w (w8 ++ [(cty 61).1, (cty 56).1]) 0 with
  | none => rw [q] at h; cases h
  | some j => exact fdl_mem _ _ _ q
theorem E_isS (h : SP M B v0 f n k) {s : Nat} (hs : s ∈ sgB) : F_X5_is M 1012 s = some (mr (isS (tok f n k) s)) := by
  have rng : 20 ≤ s ∧ s < 65 := by
    have hh : sgB.all (fun s => decide (20 ≤ s) && decide (s < 65)) = true := by decide
    have := List.all_eq_true.mp hh s hs
    simp only [Bool.and_eq_true, decide_eq_true_eq] at this
    exact this
  rw [E_isG h rng.1 rng.2]
  have no : ¬ ((tok f n k).kd = 2 ∧ (tok f n k).wd = (cty s).1) := fun q => by
    have m := isKy_mem ((tok_fact f n k).1 q.1)
    have := List.all_eq_true.mp (List.all_eq_true.mp sgB_no s hs) _ m
    rw [q.2] at this
    simp at this
  rw [decide_eq_false no, Bool.or_false]
  rfl
end
