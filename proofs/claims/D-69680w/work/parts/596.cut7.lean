/-! ===== FORMULAS, 21: the model cuts a text into tokens ===== -/
/-- the tokens from a place on, the last one the end or none -/
def tksF (f : Nat → Int32) (n : Nat) : Nat → Nat → List Tok
  | 0, _ => []
  | e + 1, k => if (tok f n k).kd = 0 ∨ (tok f n k).kd = 5 then [tok f n k] else tok f n k :: tksF f n e (tok f n k).to
def tks (f : Nat → Int32) (n k : Nat) : List Tok := tksF f n (n + 1 - k) k
theorem tksF_len (f : Nat → Int32) (n : Nat) : ∀ e k, (tksF f n e k).length ≤ e
  | 0, _ => Nat.le_refl _
  | e + 1, k => by
    unfold tksF
    split
    · show 1 ≤ e + 1; omega
    · have := tksF_len f n e (tok f n k).to
      rw [List.length_cons]
      omega
section
variable {B0 M : Mem} {o lt lw n dt dw : Nat} {f : Nat → Int32} {et ew : List Nat} {ts : List Tok} {ws : List (List Int32)}
theorem M_oneK (h : CU B0 M o lt lw f n dt et dw ew ts ws) (hl : ts.length ≤ 50000) (hl2 : ws.length ≤ 50000) {k : Nat} (hk : k ≤ n) : ON B0 M o lt lw f n dt dw ts ws (F_X41_one M o (iw (k : Int))) (tok f n k) := by
  have n4 := h.2.2.1.2.2.1
  have hxN : xN = 1099511627776 := rfl
  obtain ⟨a, he⟩ : ∃ a, a = sc (isBl f n) n k := ⟨_, rfl⟩
  obtain ⟨s1, s2, s3, s4⟩ := sc_spec (p := isBl f n) (n := n) (fun a h => isBl_lt h) (n - k) k (by omega)
  rw [← he] at s1 s2 s3 s4
  have l9 : ∀ i, lk f n i = 9 ↔ isC f n i 9 = true := fun i => lk_c (by decide)
  have l10 : ∀ i, lk f n i = 10 ↔ isC f n i 10 = true := fun i => lk_c (by decide)
  have l13 : ∀ i, lk f n i = 13 ↔ isC f n i 13 = true := fun i => lk_c (by decide)
  have l32 : ∀ i, lk f n i = 32 ↔ isC f n i 32 = true := fun i => lk_c (by decide)
  have bl : ∀ i, isBl f n i = true ↔ (lk f n i = 9 ∨ lk f n i = 10 ∨ lk f n i = 13 ∨ lk f n i = 32) := fun i => by
    rw [l9, l10, l13, l32]
    unfold isBl cB isC
    rw [Bool.and_eq_true, decide_eq_true_iff, decide_eq_true_iff, decide_eq_true_iff, decide_eq_true_iff, decide_eq_true_iff, decide_eq_true_iff]
    omega
  have stp : ∀ (N i : Nat), i ≤ n → isBl f n i = true → F_X41_one_b2 (N + 1) M o (iw (i : Int)) = F_X41_one_b2 N M o (iw ((i + 1 : Nat) : Int)) := by
    intro N i hi hb
    show F_X41_one_b2_st (F_X41_one_b2 N) M o _ = _
    unfold F_X41_one_b2_st F_X41_one_b42
    simp only [h.vg, M_code h (show i ≤ 100000 by omega), Option.bind_some, iw_succ]
    by_cases q1 : lk f n i = 9
    · rw [if_pos q1]
    · rw [if_neg q1]
      by_cases q2 : lk f n i = 10
      · rw [if_pos q2]
      · rw [if_neg q2]
        by_cases q3 : lk f n i = 13
        · rw [if_pos q3]
        · rw [if_neg q3]
          have q4 : lk f n i = 32 := by
            rcases (bl i).mp hb with w | w | w | w
            · exact (q1 w).elim
            · exact (q2 w).elim
            · exact (q3 w).elim
            · exact w
          rw [if_pos q4]
  have loop : ∀ (m N i : Nat), i + m = a → k ≤ i → m + 1 ≤ N → F_X41_one_b2 N M o (iw (i : Int)) = F_X41_one_b2 (N - m) M o (iw (a : Int)) := by
    intro m
    induction m with
    | zero => intro N i hi ha hN; rw [show i = a by omega, Nat.sub_zero]
    | succ m ih =>
      intro N i hi hai hN
      obtain ⟨N', rfl⟩ : ∃ N', N = N' + 1 := ⟨N - 1, by omega⟩
      rw [stp N' i (by omega) (s4 i hai (by omega)), ih N' (i + 1) (by omega) (by omega) (by omega), show N' + 1 - (m + 1) = N' - m by omega]
  have nb : ¬ (lk f n a = 9 ∨ lk f n a = 10 ∨ lk f n a = 13 ∨ lk f n a = 32) := fun q => by rw [(bl a).mpr q] at s3; cases s3
  unfold F_X41_one tok
  rw [loop (a - k) xN k (by omega) (Nat.le_refl _) (by omega), ← he]
  obtain ⟨N2, hN2⟩ : ∃ N2, xN - (a - k) = N2 + 1 := ⟨xN - (a - k) - 1, by omega⟩
  rw [hN2]
  show ON B0 M o lt lw f n dt dw ts ws (F_X41_one_b2_st (F_X41_one_b2 N2) M o _) (tok2 f n a)
  unfold F_X41_one_b2_st
  simp only [h.vg, M_code h (show a ≤ 100000 by omega), Option.bind_some, k_letM, k_digit.2, iw_succ, show iw (a : Int) + (2 : Int32) = iw ((a + 2 : Nat) : Int) from iw_nad _ _, M_code h (show a + 1 ≤ 100000 by omega), M_code h (show a + 2 ≤ 100000 by omega)]
  rw [if_neg (fun q => nb (Or.inl q)), if_neg (fun q => nb (Or.inr (Or.inl q))), if_neg (fun q => nb (Or.inr (Or.inr (Or.inl q)))), if_neg (fun q => nb (Or.inr (Or.inr (Or.inr q))))]
  unfold tok2
  by_cases c : n ≤ a
  · rw [if_pos (lk_neg.mpr c), if_pos c]
    have A := ON.add (T := { kd := 0, pl := a, to := a }) (s := 20) (r := -1) h ⟨fun q => ?_, fun q => absurd q (show ¬ (0 : Int32) = 4 by decide), fun _ => rfl⟩ hl (if_pos (Or.inl rfl)).symm
    · exact A.b rfl
    · rcases q with q | q
      · exact absurd q (show ¬ (0 : Int32) = 1 by decide)
      · exact absurd q (show ¬ (0 : Int32) = 2 by decide)
  · rw [if_neg (fun q => c (lk_neg.mp q)), if_neg c]
    cases q : isLo f n a with
    | true =>
      rw [if_neg (show ¬ mr true = 0 by decide), if_pos rfl]
      exact M_oneW h hl hl2 s2
    | false =>
      rw [if_pos (show mr false = 0 by decide), if_neg (show ¬ false = true by decide)]
      cases d : isD f n a with
      | true =>
        rw [if_neg (show ¬ mr true = 0 by decide), if_pos rfl]
        exact (M_numberK h hl s2).b rfl
      | false =>
        rw [if_pos (show mr false = 0 by decide), if_neg (show ¬ false = true by decide)]
        obtain ⟨m1, m2, m3⟩ := M_sgn (lk f n a) (lk f n (a + 1)) (lk f n (a + 2))
        rw [m1, Option.bind_some]
        have hin := sgl_in (f := f) (n := n) (a := a) (by omega)
        unfold tkS tkS2
        obtain ⟨k1, hk1⟩ : ∃ k1, k1 = (sgl (lk f n a) (lk f n (a + 1)) (lk f n (a + 2))).1 := ⟨_, rfl⟩
        rw [← hk1] at m1 m2 m3 hin ⊢
        have fin : k1 ≠ 0 → ∀ s, s = (sgl (lk f n a) (lk f n (a + 1)) (lk f n (a + 2))).2 → ON B0 M o lt lw f n dt dw ts ws (F_X41_one_b280 M o 4 (iw (a : Int)) (iw (a : Int) + iw (k1 : Int)) s) { kd := 4, pl := a, to := a + k1, sg := (sgl (lk f n a) (lk f n (a + 1)) (lk f n (a + 2))).2 } := fun hk0 s hs => by
          unfold F_X41_one_b280 F_X41_one_b285
          rw [show iw (a : Int) + iw (k1 : Int) = iw ((a + k1 : Nat) : Int) from iw_nad _ _]
          have A := ON.add (T := { kd := 4, pl := a, to := a + k1, sg := (sgl (lk f n a) (lk f n (a + 1)) (lk f n (a + 2))).2 }) (s := s) (r := iw ((a + k1 : Nat) : Int)) h ⟨fun q => ?_, fun _ => hs, fun q => ?_⟩ hl (if_neg (show ¬ ((4 : Int32) = 0 ∨ (4 : Int32) = 5) by decide)).symm
          · exact A.b (by rw [h.vg, Option.bind_some])
          · rcases q with q | q
            · exact absurd q (show ¬ (4 : Int32) = 1 by decide)
            · exact absurd q (show ¬ (4 : Int32) = 2 by decide)
          · rcases q with q | q | q
            · exact absurd q (show ¬ (4 : Int32) = 0 by decide)
            · exact absurd q (show ¬ (4 : Int32) = 3 by decide)
            · exact absurd q (show ¬ (4 : Int32) = 5 by decide)
        by_cases z0 : k1 = 0
        · rw [z0, if_pos (show iw ((0 : Nat) : Int) = 0 from rfl), if_pos rfl]
          exact (ON.none h hl a).b rfl
        · rw [if_neg (by rw [iw_eq0 (by omega) (by omega)]; omega), if_neg z0]
          by_cases z1 : k1 = 1
          · rw [if_pos (by rw [z1]; rfl), m2 z1, Option.bind_some]
            exact fin z0 _ rfl
          · rw [if_neg (by rw [show (1 : Int32) = iw ((1 : Nat) : Int) from rfl, iw_eq (by omega) (by omega) (by omega) (by omega)]; omega), m3 z0 z1, Option.bind_some]
            exact fin z0 _ rfl
/-- all tokens -/
theorem M_cut38 : ∀ (e N k : Nat) (M : Mem) (dt : Nat) (et : List Nat) (dw : Nat) (ew : List Nat) (ts : List Tok) (ws : List (List Int32)), CU B0 M o lt lw f n dt et dw ew ts ws → k ≤ n → n + 1 - k ≤ e → e + 2 ≤ N → ts.length + e ≤ 50000 → ws.length + e ≤ 50000 → ∃ M' dt' et' dw' ew' ws', F_X41_init_b38 N M o (iw (k : Int)) = some M' ∧ CU B0 M' o lt lw f n dt' et' dw' ew' (ts ++ tksF f n e k) ws' ∧ ws'.length ≤ ws.length + e ∧ m_nx M' ≤ m_nx M + 70 * e ∧ m_sl M' + rcs M dt + rcs M dw ≤ m_sl M + 200 * e + rcs M' dt' + rcs M' dw'
  | 0, N, k, M, dt, et, dw, ew, ts, ws, h, hk, he, hN, h1, h2 => by omega
  | e + 1, N, k, M, dt, et, dw, ew, ts, ws, h, hk, he, hN, h1, h2 => by
    have n4 := h.2.2.1.2.2.1
    obtain ⟨N', rfl⟩ : ∃ N', N = N' + 1 := ⟨N - 1, by omega⟩
    obtain ⟨M1, dt1, et1, dw1, ew1, ws1, e1, e2, e3, e4, e5⟩ := M_oneK h (by omega) (by omega) hk
    have st : F_X41_init_b38 (N' + 1) M o (iw (k : Int)) = F_X41_init_b38 N' M1 o (if (tok f n k).kd = 0 ∨ (tok f n k).kd = 5 then -1 else iw ((tok f n k).to : Int)) := by
      show F_X41_init_b38_st (F_X41_init_b38 N') M o _ = _
      unfold F_X41_init_b38_st
      rw [if_neg (by rw [iw_lt0 (by omega) (by omega)]; omega), h.vg, Option.bind_some, e1, Option.bind_some]
    obtain ⟨r1, r2, r3, r4, r5⟩ := tok_rng f hk
    rw [st]
    unfold tksF
    by_cases q : (tok f n k).kd = 0 ∨ (tok f n k).kd = 5
    · rw [if_pos q, if_pos q]
      obtain ⟨N2, rfl⟩ : ∃ N2, N' = N2 + 1 := ⟨N' - 1, by omega⟩
      refine ⟨M1, dt1, et1, dw1, ew1, ws1, rfl, e2, by omega, by omega, by omega⟩
    · rw [if_neg q, if_neg q]
      have lt1 : k < (tok f n k).to := by
        rcases r5 with w | w | w
        · exact (q (Or.inl w)).elim
        · exact (q (Or.inr w)).elim
        · exact w
      obtain ⟨M', dt', et', dw', ew', ws', i1, i2, i3, i4, i5⟩ := M_cut38 e N' (tok f n k).to M1 dt1 et1 dw1 ew1 _ _ e2 r4 (by omega) (by omega) (by rw [List.length_append, List.length_singleton]; omega) (by omega)
      refine ⟨M', dt', et', dw', ew', ws', i1, ?_, by omega, by omega, by omega⟩
      rw [List.append_assoc] at i2
      exact i2
theorem M_cutter (hS : ST M) (k0 : K0 M) (k4 : m_tg M 4 = 1091 ∧ m_ln M 4 = 0) (hn : n ≤ 4000) (ht : ∀ i, i < n → cI M 1069 i = f i ∧ bt (f i)) : ∃ M' lt lw dt et dw ew ws, F_X41_init (mo M 42) (m_nx M) 1069 (iw (n : Int)) = some M' ∧ CU M M' (m_nx M) lt lw f n dt et dw ew (tks f n 0) ws ∧ m_nx M' ≤ m_nx M + 70 * n + 80 ∧ m_sl M' ≤ m_sl M + 212 * n + 400 := by
  have h0 := hS.1
  have hxN : xN = 1099511627776 := rfl
  obtain ⟨A, hA⟩ : ∃ A, A = mo M 42 := ⟨_, rfl⟩
  have dA : Df n2 n2 n2 M A := by rw [hA]; exact Df.new _ _
  have tA : m_tg A (m_nx M) = 42 := by rw [hA]; show m_tg (m_new M 42 _) _ = _; rw [tg_new, if_pos rfl]
  have nA : m_nx A = m_nx M + 1 ∧ m_sl A = m_sl M + 4 := by rw [hA]; exact ⟨rfl, rfl⟩
  obtain ⟨B, hB⟩ : ∃ B, B = mo A 67 := ⟨_, rfl⟩
  have dB : Df n2 n2 n2 A B := by rw [hB]; exact Df.new _ _
  have tB : m_tg B (m_nx A) = 67 := by rw [hB]; show m_tg (m_new A 67 _) _ = _; rw [tg_new, if_pos rfl]
  have iB : cI B (m_nx A) 4289 = 0 := by rw [hB]; show cI (m_new A 67 _) _ _ = _; rw [cI_new, if_pos rfl]
  have nB : m_nx B = m_nx A + 1 ∧ m_sl B = m_sl A + 3 := by rw [hB]; exact ⟨rfl, rfl⟩
  obtain ⟨C, c1, c2, c3, c4, c5⟩ := AL.init (by omega) tB iB
  obtain ⟨D, hD⟩ : ∃ D, D = wR C (m_nx M) 2690 (m_nx A) := ⟨_, rfl⟩
  have dAD : Df n2 n2 (at1 (m_nx M)) A D := by
    rw [hD]
    refine Df.trans ((dB.then c3 (fun x i hx q => (show False by unfold at1 at q; omega)) (fun _ _ _ q => q) (fun x i hx q => (show False by unfold at1 at q; omega))).mono (fun _ _ q => q) (fun _ _ q => q) (fun _ _ q => q.elim)) (Df.wR _ rfl)
  have tC : m_tg C (m_nx M) = 42 := by rw [(c3.2.2 _ (by omega)).1, (dB.2.2 _ (by omega)).1]; exact tA
  have tD : m_tg D (m_nx M) = 42 := by rw [hD]; exact tC
  have nD : m_nx D = m_nx M + 2 ∧ m_sl D = m_sl M + 7 := by rw [hD]; exact ⟨by show m_nx C = _; omega, by show m_sl C = _; omega⟩
  obtain ⟨E, hE⟩ : ∃ E, E = mo D 67 := ⟨_, rfl⟩
  have dE : Df n2 n2 n2 D E := by rw [hE]; exact Df.new _ _
  have tE : m_tg E (m_nx D) = 67 := by rw [hE]; show m_tg (m_new D 67 _) _ = _; rw [tg_new, if_pos rfl]
  have iE : cI E (m_nx D) 4289 = 0 := by rw [hE]; show cI (m_new D 67 _) _ _ = _; rw [cI_new, if_pos rfl]
  have nE : m_nx E = m_nx D + 1 ∧ m_sl E = m_sl D + 3 := by rw [hE]; exact ⟨rfl, rfl⟩
  obtain ⟨F, f1, f2, f3, f4, f5⟩ := AL.init (by omega) tE iE
  have tF : m_tg F (m_nx M) = 42 := by rw [(f3.2.2 _ (by omega)).1, (dE.2.2 _ (by omega)).1]; exact tD
  obtain ⟨G, hG⟩ : ∃ G, G = wR F (m_nx M) 2691 (m_nx D) := ⟨_, rfl⟩
  have tG : m_tg G (m_nx M) = 42 := by rw [hG]; exact tF
  obtain ⟨H, hH⟩ : ∃ H, H = wR G (m_nx M) 2688 1069 := ⟨_, rfl⟩
  have tH : m_tg H (m_nx M) = 42 := by rw [hH]; exact tG
  obtain ⟨I, hI⟩ : ∃ I, I = wI H (m_nx M) 2689 (iw (n : Int)) := ⟨_, rfl⟩
  have tI : m_tg I (m_nx M) = 42 := by rw [hI]; exact tH
  have a0 : at1 (m_nx M) (m_nx M) 2691 := rfl
  have a1 : at1 (m_nx M) (m_nx M) 2688 := rfl
  have a2 : at1 (m_nx M) (m_nx M) 2689 := rfl
  have k1 : Df (at1 (m_nx M)) n2 (at1 (m_nx M)) F G := by rw [hG]; exact Df.wR _ a0
  have k2 : Df (at1 (m_nx M)) n2 (at1 (m_nx M)) G H := by rw [hH]; exact Df.wR _ a1
  have k3 : Df (at1 (m_nx M)) n2 (at1 (m_nx M)) H I := by rw [hI]; exact Df.wI _ a2
  have dDF : Df n2 n2 n2 D F := dE.then f3 (fun x i hx q => (show False by unfold at1 at q; omega)) (fun _ _ _ q => q) (fun x i hx q => (show False by unfold at1 at q; omega))
  have dFI : Df (at1 (m_nx M)) n2 (at1 (m_nx M)) F I := (k1.trans k2).trans k3
  have dDI : Df (at1 (m_nx M)) n2 (at1 (m_nx M)) D I := (dDF.mono (fun _ _ q => q.elim) (fun _ _ q => q) (fun _ _ q => q.elim)).trans dFI
  have dMI : Df n2 n2 n2 M I := (dA.then dAD (fun _ _ _ q => q) (fun _ _ _ q => q) (fun x i hx q => (show False by unfold at1 at q; omega))).then dDI (fun x i hx q => (show False by unfold at1 at q; omega)) (fun _ _ _ q => q) (fun x i hx q => (show False by unfold at1 at q; omega))
  have nI : m_nx I = m_nx M + 3 ∧ m_sl I = m_sl M + 10 := by rw [hI, hH, hG]; exact ⟨by show m_nx F = _; omega, by show m_sl F = _; omega⟩
  have alt : AL I (m_nx A) 4 [] := ((by rw [hD]; exact c2.df (Df.wR (P := n2) (Q := n2) (R := at1 (m_nx M)) (m_nx A) rfl) (fun q => q) (fun q => by unfold at1 at q; omega) (fun i q => by omega) : AL D (m_nx A) 4 [])).df dDI (fun q => by unfold at1 at q; omega) (fun q => by unfold at1 at q; omega) (fun i q => by omega)
  have alw : AL I (m_nx D) 4 [] := f2.df dFI (fun q => by unfold at1 at q; omega) (fun q => by unfold at1 at q; omega) (fun i q => by omega)
  have tg4 := dMI.2.2 4 (by omega)
  have c90 : cR I (m_nx M) 2690 = m_nx A := by
    rw [hI]; show cR H _ _ = _; rw [hH, cR_wR, if_neg (by omega), hG, cR_wR, if_neg (by omega), dDF.cR (by omega) (fun q => q), hD, cR_wR, if_pos ⟨rfl, rfl⟩]
  have c91 : cR I (m_nx M) 2691 = m_nx D := by
    rw [hI]; show cR H _ _ = _; rw [hH, cR_wR, if_neg (by omega), hG, cR_wR, if_pos ⟨rfl, rfl⟩]
  have c88 : cR I (m_nx M) 2688 = 1069 := by
    rw [hI]; show cR H _ _ = _; rw [hH, cR_wR, if_pos ⟨rfl, rfl⟩]
  have c89 : cI I (m_nx M) 2689 = iw (n : Int) := by rw [hI, cI_wI, if_pos ⟨rfl, rfl⟩]
  have cu : CU M I (m_nx M) (m_nx A) (m_nx D) f n 4 [] 4 [] [] [] :=
    ⟨⟨h0, dMI, hS.df dMI (fun _ _ q => q), k0.df hS dMI (fun _ _ _ q => q) (fun _ _ _ q => q), tg4.1.trans k4.1, tg4.2.1.trans k4.2⟩, ⟨Nat.le_refl _, by omega, tI⟩, ⟨c88, c89, hn, fun i hi => by rw [dMI.cI (by omega) (fun q => q)]; exact ht i hi⟩, ⟨c90, c91⟩, ⟨⟨alt, Or.inl rfl⟩, by omega, fun q => by omega⟩, ⟨⟨alw, Or.inl rfl⟩, by omega, fun q => by omega⟩, by omega, fun _ => rfl, ⟨rfl, fun i hi => by cases hi⟩, rfl, fun i hi => by cases hi⟩
  obtain ⟨M', dt', et', dw', ew', ws', i1, i2, i3, i4, i5⟩ := M_cut38 (n + 1) xN 0 I 4 [] 4 [] [] [] cu (Nat.zero_le _) (by omega) (by omega) (by show 0 + (n + 1) ≤ 50000; omega) (by show 0 + (n + 1) ≤ 50000; omega)
  rw [List.nil_append] at i2
  have r1 := i2.2.2.2.2.1.1.rcb
  have r2 := i2.2.2.2.2.2.1.1.rcb
  have l1 := i2.2.2.2.2.2.2.2.2.1.1
  have l2 := i2.2.2.2.2.2.2.2.2.2.1
  have l3 := tksF_len f n (n + 1) 0
  have i3' : ws'.length ≤ n + 1 := by have : ([] : List (List Int32)).length = 0 := rfl; omega
  refine ⟨M', m_nx A, m_nx D, dt', et', dw', ew', ws', ?_, i2, by omega, by omega⟩
  rw [← hA]
  unfold F_X41_init
  simp only [ng_of tA (show (42 : Nat) ≠ 0 by decide), ← hB, ng_of tB (show (67 : Nat) ≠ 0 by decide), c1, pr_of _ tC (show x_wr 42 2690 = true by decide), ← hD, ← hE, ng_of tE (show (67 : Nat) ≠ 0 by decide), f1, pr_of _ tF (show x_wr 42 2691 = true by decide), ← hG, pr_of _ tG (show x_wr 42 2688 = true by decide), ← hH, pi_of _ tH (show x_wi 42 2689 = true by decide) rfl, ← hI, Option.bind_some]
  exact i1
end
