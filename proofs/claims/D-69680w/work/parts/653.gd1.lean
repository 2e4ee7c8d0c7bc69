/-! ===== FORMULAS, 78: what the parser makes is good ===== -/
def TGk (t : Tok) : Prop := (t.kd = 3 → Lk t.ln ∧ vb t.ln t.bt) ∧ (t.kd = 1 → wok t.wd) ∧ (t.kd = 4 → t.sg ∈ sgA)
def AllT (ts : List Tok) : Prop := ∀ t ∈ ts, TGk t
theorem hdt_c {ts : List Tok} (h : (hdt ts).kd ≠ 0) : ∃ tl, ts = hdt ts :: tl := by
  cases ts with
  | nil => exact absurd rfl h
  | cons t tl => exact ⟨tl, rfl⟩
theorem AllT.tl {ts : List Tok} (h : AllT ts) : AllT ts.tail := fun t ht => h t (List.mem_of_mem_tail ht)
theorem AllT.hd {ts : List Tok} (h : AllT ts) : TGk (hdt ts) := by
  cases ts with
  | nil => exact ⟨fun q => absurd q (by decide), fun q => absurd q (by decide), fun q => absurd q (by decide)⟩
  | cons t tl => exact h t (List.mem_cons_self ..)
theorem tl_len {ts : List Tok} (h : (hdt ts).kd ≠ 0) : ts.length = ts.tail.length + 1 := by
  obtain ⟨tl, e⟩ := hdt_c h
  rw [e]
  rfl
theorem isS_k {t : Tok} {s : Nat} (h : isS t s = true) : t.kd ≠ 0 := by rw [(isS_t.mp h).1]; decide
/-- a reader that makes good expressions -/
def GPr (p : PRs) : Prop := ∀ ts e r, AllT ts → p ts = .inr (e, r) → e.gd ∧ e.isx ∧ AllT r ∧ e.nn + r.length ≤ ts.length
theorem pthen_i {x : Nat ⊕ (Ex × List Tok)} {k : Ex → List Tok → Nat ⊕ (Ex × List Tok)} {e : Ex} {r : List Tok} (h : pthen x k = .inr (e, r)) : ∃ e1 r1, x = .inr (e1, r1) ∧ k e1 r1 = .inr (e, r) := by
  cases x with
  | inl q => cases h
  | inr er => obtain ⟨e1, r1⟩ := er; exact ⟨e1, r1, rfl, h⟩
theorem row_gd : ∀ es : List Ex, (∀ x ∈ es, x.gd ∧ x.isx) → (Ex.row es).gd ∧ (Ex.row es).isr ∧ (Ex.row es).cnt = es.length
  | [], _ => ⟨trivial, trivial, rfl⟩
  | x :: es, h => by
    obtain ⟨a1, a2, a3⟩ := row_gd es (fun y hy => h y (List.mem_cons_of_mem _ hy))
    exact ⟨⟨h x (List.mem_cons_self ..), a1, a2⟩, a2, by show (Ex.row es).cnt + 1 = _; rw [a3]; rfl⟩
theorem row_nn : ∀ (es : List Ex) (e : Ex), (Ex.row (es ++ [e])).nn = (Ex.row es).nn + e.nn
  | [], e => by show e.nn + 0 = 0 + e.nn; omega
  | x :: es, e => by show x.nn + (Ex.row (es ++ [e])).nn = x.nn + (Ex.row es).nn + e.nn; rw [row_nn es e]; omega
theorem pAr_gd {E : PRs} (hE : GPr E) {p : Nat} {w : List Int32} (hw : wok w) : ∀ (m : Nat) (es : List Ex) (ts : List Tok) (e : Ex) (r : List Tok), (∀ x ∈ es, x.gd ∧ x.isx) → AllT ts → pAr E p w m es ts = .inr (e, r) → e.gd ∧ e.isx ∧ AllT r ∧ e.nn + r.length ≤ (Ex.row es).nn + 1 + ts.length
  | 0, es, ts, e, r, _, _, h => by cases h
  | m + 1, es, ts, e, r, hes, hT, h => by
    obtain ⟨e1, r1, h1, h2⟩ := pthen_i (show pthen (E ts) _ = _ from h)
    obtain ⟨a1, a2, a3, a4⟩ := hE ts e1 r1 hT h1
    have hes' : ∀ x ∈ es ++ [e1], x.gd ∧ x.isx := fun x hx => by
      rcases List.mem_append.mp hx with q | q
      · exact hes x q
      · rw [List.mem_singleton.mp q]; exact ⟨a1, a2⟩
    have rn := row_nn es e1
    split at h2
    · rename_i q
      have tl := tl_len (isS_k q)
      obtain ⟨b1, b2, b3, b4⟩ := pAr_gd hE hw m (es ++ [e1]) r1.tail e r hes' a3.tl h2
      exact ⟨b1, b2, b3, by omega⟩
    · split at h2
      · rename_i q
        have tl := tl_len (isS_k q)
        cases h2
        obtain ⟨c1, c2, c3⟩ := row_gd (es ++ [e1]) hes'
        refine ⟨⟨hw, c1, c2, by rw [c3, List.length_append, List.length_singleton]; omega⟩, trivial, a3.tl, ?_⟩
        show (Ex.row (es ++ [e1])).nn + 1 + r1.tail.length ≤ _
        omega
      · cases h2
theorem pPri_gd {E : Option PRs} (hE : ∀ p, E = some p → GPr p) : GPr (pPri E) := by
  intro ts e r hT h
  unfold pPri at h
  dsimp only at h
  have th := hT.hd
  split at h
  · rename_i q
    have tl := tl_len (show (hdt ts).kd ≠ 0 by rw [q]; decide)
    cases h
    exact ⟨th.1 q, trivial, hT.tl, by show 1 + _ ≤ _; omega⟩
  · split at h
    · rename_i q
      have tl := tl_len (show (hdt ts).kd ≠ 0 by rw [q.1]; decide)
      cases h
      refine ⟨⟨by unfold Lk; decide, ?_⟩, trivial, hT.tl, by show 1 + _ ≤ _; omega⟩
      rw [vb_lo (by decide), if_pos rfl]
      split
      · exact Or.inr rfl
      · exact Or.inl rfl
    · split at h
      · rename_i q
        have tl := tl_len (show (hdt ts).kd ≠ 0 by rw [q]; decide)
        split at h
        · rename_i q2
          have tl2 := tl_len (isS_k q2)
          cases E with
          | none => cases h
          | some p =>
            obtain ⟨b1, b2, b3, b4⟩ := pAr_gd (hE p rfl) (th.2.1 q) ts.length [] ts.tail.tail e r (fun x hx => by cases hx) hT.tl.tl h
            refine ⟨b1, b2, b3, ?_⟩
            have : (Ex.row []).nn = 0 := rfl
            omega
        · cases h
          exact ⟨th.2.1 q, trivial, hT.tl, by show 1 + _ ≤ _; omega⟩
      · cases h
theorem chS_3 (s : Nat) : chS s = 45 ∨ chS s = 33 ∨ chS s = 126 := by
  unfold chS
  split
  · exact Or.inl rfl
  · split
    · exact Or.inr (Or.inl rfl)
    · exact Or.inr (Or.inr rfl)
theorem lnW_Lk {w : List Int32} (h : 0 ≤ lnW w) : Lk (lnW w) := by
  rcases lnW_rng w with q | ⟨j, j1, j2, -⟩
  · rw [q] at h; exact absurd h (by decide)
  · rw [j2]
    unfold Lk
    rcases (show j = 0 ∨ j = 1 ∨ j = 2 ∨ j = 3 ∨ j = 4 ∨ j = 5 ∨ j = 6 ∨ j = 7 by omega) with rfl | rfl | rfl | rfl | rfl | rfl | rfl | rfl <;> decide
theorem pUn_gd {D : Option (PRs × PRs)} (hD : ∀ E U, D = some (E, U) → GPr E ∧ GPr U) : GPr (pUn D) := by
  intro ts e r hT h
  unfold pUn at h
  dsimp only at h
  split at h
  · rename_i q
    have k0 : (hdt ts).kd ≠ 0 := by rcases q with q | q | q <;> exact isS_k q
    have tl := tl_len k0
    cases D with
    | none => cases h
    | some eu =>
      obtain ⟨E, U⟩ := eu
      obtain ⟨e1, r1, h1, h2⟩ := pthen_i h
      obtain ⟨a1, a2, a3, a4⟩ := (hD E U rfl).2 _ _ _ hT.tl h1
      cases h2
      exact ⟨⟨chS_3 _, a1, a2⟩, trivial, a3, by show e1.nn + 1 + _ ≤ _; omega⟩
  · split at h
    · rename_i q
      have tl := tl_len (isS_k q)
      cases D with
      | none => cases h
      | some eu =>
        obtain ⟨E, U⟩ := eu
        dsimp only at h
        split at h
        · rename_i q2
          obtain ⟨l1, l2⟩ := isLn_t.mp q2
          have tl2 := tl_len (show (hdt ts.tail).kd ≠ 0 by rw [l1]; decide)
          split at h
          · rename_i q3
            have tl3 := tl_len (isS_k q3)
            obtain ⟨e1, r1, h1, h2⟩ := pthen_i h
            obtain ⟨a1, a2, a3, a4⟩ := (hD E U rfl).2 _ _ _ hT.tl.tl.tl h1
            cases h2
            exact ⟨⟨lnW_Lk l2, a1, a2⟩, trivial, a3, by show e1.nn + 1 + _ ≤ _; omega⟩
          · cases h
        · obtain ⟨e1, r1, h1, h2⟩ := pthen_i h
          obtain ⟨a1, a2, a3, a4⟩ := (hD E U rfl).1 _ _ _ hT.tl h1
          split at h2
          · rename_i q3
            have tl3 := tl_len (isS_k q3)
            cases h2
            exact ⟨a1, a2, a3.tl, by omega⟩
          · cases h2
    · exact pPri_gd (fun p hp => by
        cases D with
        | none => cases hp
        | some eu => obtain ⟨E, U⟩ := eu; cases hp; exact (hD E U rfl).1) ts e r hT h
theorem opS_19 : sgA.all (fun s => decide (opS s = 0) || (decide (1 ≤ opS s) && decide (opS s ≤ 19))) = true := by decide
theorem pBl_gd {S : PRs} (hS : GPr S) (l : Nat) : ∀ (m : Nat) (a : Ex) (ts : List Tok) (e : Ex) (r : List Tok), a.gd → a.isx → AllT ts → pBl S l m a ts = .inr (e, r) → e.gd ∧ e.isx ∧ AllT r ∧ e.nn + r.length ≤ a.nn + ts.length
  | 0, a, ts, e, r, _, _, _, h => by cases h
  | m + 1, a, ts, e, r, ga, xa, hT, h => by
    have h' : (if isO (hdt ts) l = true then pthen (S ts.tail) fun b r => pBl S l m (.bin (hdt ts).pl (opS (hdt ts).sg) a b) r else .inr (a, ts)) = .inr (e, r) := h
    split at h'
    · rename_i q
      obtain ⟨k4, o1, o2⟩ := isO_t.mp q
      have tl := tl_len (show (hdt ts).kd ≠ 0 by rw [k4]; decide)
      obtain ⟨e1, r1, h1, h2⟩ := pthen_i h'
      obtain ⟨a1, a2, a3, a4⟩ := hS _ _ _ hT.tl h1
      have o19 : 1 ≤ opS (hdt ts).sg ∧ opS (hdt ts).sg ≤ 19 := by
        have := List.all_eq_true.mp opS_19 _ (hT.hd.2.2 k4)
        simp only [Bool.or_eq_true, Bool.and_eq_true, decide_eq_true_eq] at this
        exact this.resolve_left o1
      obtain ⟨b1, b2, b3, b4⟩ := pBl_gd hS l m _ r1 e r (show (Ex.bin (hdt ts).pl (opS (hdt ts).sg) a e1).gd from ⟨o19, ⟨ga, xa⟩, a1, a2⟩) trivial a3 h2
      have : (Ex.bin (hdt ts).pl (opS (hdt ts).sg) a e1).nn = a.nn + e1.nn + 1 := rfl
      exact ⟨b1, b2, b3, by omega⟩
    · cases h'
      exact ⟨ga, xa, hT, Nat.le_refl _⟩
theorem pBi_gd {U : PRs} (hU : GPr U) : ∀ j, GPr (pBi U j)
  | 0 => hU
  | j + 1 => fun ts e r hT h => by
    obtain ⟨e1, r1, h1, h2⟩ := pthen_i (show pthen (pBi U j ts) _ = _ from h)
    obtain ⟨a1, a2, a3, a4⟩ := pBi_gd hU j ts e1 r1 hT h1
    obtain ⟨b1, b2, b3, b4⟩ := pBl_gd (pBi_gd hU j) (9 - j) _ e1 r1 e r a1 a2 a3 h2
    exact ⟨b1, b2, b3, by omega⟩
theorem pEx_gd {E : Option PRs} {U : PRs} (hE : ∀ p, E = some p → GPr p) (hU : GPr U) : GPr (pEx E U) := by
  intro ts e r hT h
  obtain ⟨c, r1, h1, h2⟩ := pthen_i (show pthen (pBi U 10 ts) _ = _ from h)
  obtain ⟨a1, a2, a3, a4⟩ := pBi_gd hU 10 ts c r1 hT h1
  split at h2
  · rename_i q
    have tl := tl_len (isS_k q)
    cases E with
    | none => cases h2
    | some p =>
      obtain ⟨x, r2, h3, h4⟩ := pthen_i h2
      obtain ⟨b1, b2, b3, b4⟩ := hE p rfl _ _ _ a3.tl h3
      split at h4
      · rename_i q2
        have tl2 := tl_len (isS_k q2)
        obtain ⟨y, r3, h5, h6⟩ := pthen_i h4
        obtain ⟨c1, c2, c3, c4⟩ := hE p rfl _ _ _ b3.tl h5
        cases h6
        exact ⟨⟨⟨a1, a2⟩, ⟨b1, b2⟩, c1, c2⟩, trivial, c3, by show c.nn + x.nn + y.nn + 1 + _ ≤ _; omega⟩
      · cases h4
  · cases h2
    exact ⟨a1, a2, a3, a4⟩
theorem prs_gd : ∀ d, GPr (prs d).1 ∧ GPr (prs d).2
  | 0 => by
    have u : GPr (pUn none) := pUn_gd (fun E U q => by cases q)
    exact ⟨(pEx_gd (E := none) (fun p q => by cases q) u : GPr (pEx none (pUn none))), u⟩
  | d + 1 => by
    obtain ⟨i1, i2⟩ := prs_gd d
    have u : GPr (pUn (some (prs d))) := pUn_gd (fun E U q => by have q' := Option.some.inj q; rw [q'] at i1 i2; exact ⟨i1, i2⟩)
    exact ⟨(pEx_gd (E := some (prs d).1) (fun p q => by cases q; exact i1) u : GPr (pEx (some (prs d).1) (pUn (some (prs d))))), u⟩

/-- tokens of a text are good -/
theorem tok_TG {f : Nat → Int32} {n k : Nat} (hk : k ≤ n) (hb : ∀ i, i < n → bt (f i)) : TGk (tok f n k) := by
  have tf := tok_fact f n k
  refine ⟨tf.2.2.2.1, fun h1 => ?_, tf.2.2.1⟩
  obtain ⟨a, ha⟩ : ∃ a, a = sc (isBl f n) n k := ⟨_, rfl⟩
  have et : tok f n k = tok2 f n a := by rw [ha]; rfl
  rw [et] at h1 ⊢
  unfold tok2 at h1 ⊢
  by_cases c1 : n ≤ a
  · rw [if_pos c1] at h1; exact absurd h1 (show ¬ (0 : Int32) = 1 by decide)
  rw [if_neg c1] at h1 ⊢
  by_cases c2 : isLo f n a = true
  · rw [if_pos c2] at h1 ⊢
    unfold tkW tkW2 at h1 ⊢
    obtain ⟨s1, s2, s3, s4⟩ := sc_spec (p := isNm f n) (n := n) (fun a h => isNm_lt h) (n - a) a (by omega)
    obtain ⟨e, he⟩ : ∃ e, e = sc (isNm f n) n a := ⟨_, rfl⟩
    rw [← he] at s1 s2 s3 s4 h1 ⊢
    by_cases c12 : 12 < e - a
    · rw [if_pos c12] at h1; exact absurd h1 (show ¬ (5 : Int32) = 1 by decide)
    · rw [if_neg c12]
      have ea : a < e := by
        rcases Nat.lt_or_ge a e with q | q
        · exact q
        · have e1 : e = a := by omega
          rw [e1] at s3
          unfold isLo at c2
          unfold isNm at s3
          rw [Bool.and_eq_true] at c2
          rw [c2.1, c2.2] at s3
          cases s3
      refine ⟨fun i hi => ?_, by rw [sgs_len]; omega, by rw [sgs_len]; omega⟩
      rw [sgs_len] at hi
      unfold wf
      rw [sgs_bsl, bsl_get (by omega)]
      have q := s4 (a + i) (by omega) (by omega)
      exact (nm_asc q (hb _ (isNm_lt q))).1
  rw [if_neg c2] at h1
  exfalso
  have nn : ∀ c : Int32, c ≠ 1 → (∀ T : Tok, T.kd = c → T.kd = 1 → False) := fun c hc T h2 h3 => hc (h2.symm.trans h3)
  by_cases c3 : isD f n a = true
  · rw [if_pos c3] at h1
    unfold tkN tkN2 at h1
    revert h1
    split
    · unfold tkR
      split
      · exact nn 5 (by decide) _ rfl
      · split
        · exact nn 3 (by decide) _ rfl
        · exact nn 3 (by decide) _ rfl
    · unfold tkI
      split
      · split
        · exact nn 5 (by decide) _ rfl
        · exact nn 3 (by decide) _ rfl
      · split
        · exact nn 5 (by decide) _ rfl
        · exact nn 3 (by decide) _ rfl
  · rw [if_neg c3] at h1
    unfold tkS tkS2 at h1
    revert h1
    split
    · exact nn 5 (by decide) _ rfl
    · exact nn 4 (by decide) _ rfl
theorem tks_TG {f : Nat → Int32} {n : Nat} (hb : ∀ i, i < n → bt (f i)) : ∀ m k, n - k ≤ m → k ≤ n → AllT (tks f n k) := by
  intro m
  induction m with
  | zero =>
    intro k hm hk t ht
    rw [tks_eq f hk] at ht
    split at ht
    · rw [List.mem_singleton.mp ht]; exact tok_TG hk hb
    · rename_i c
      have := tail_tks f hk (fun q => c (Or.inl q)) (fun q => c (Or.inr q))
      omega
  | succ m ih =>
    intro k hm hk t ht
    rw [tks_eq f hk] at ht
    split at ht
    · rw [List.mem_singleton.mp ht]; exact tok_TG hk hb
    · rename_i c
      have tt := tail_tks f hk (fun q => c (Or.inl q)) (fun q => c (Or.inr q))
      rcases List.mem_cons.mp ht with rfl | ht
      · exact tok_TG hk hb
      · exact ih _ (by omega) tt.2.1 t ht
theorem tks_TG0 {f : Nat → Int32} {n k : Nat} (hb : ∀ i, i < n → bt (f i)) (hk : k ≤ n) : AllT (tks f n k) := tks_TG hb (n - k) k (Nat.le_refl _) hk
