/-! ===== EXACT SOLUTIONS, 19: the model's fractions ===== -/
theorem nl_lt0 {v : Nat} (h : v < 2 ^ 64) : nl v < 0 ↔ 2 ^ 63 ≤ v := by
  have h1 := un_int (nl v)
  rw [un_nl' h] at h1
  have r := i64_rng (nl v)
  have z0 : (0 : Int64).toInt = 0 := by decide
  rw [Int64.lt_iff_toInt_lt, z0]
  omega
theorem nl_min {v : Nat} (h : v < 2 ^ 64) : nl v = -9223372036854775808 ↔ v = 2 ^ 63 := by
  have h1 := un_int (nl v)
  rw [un_nl' h] at h1
  have r := i64_rng (nl v)
  rw [i64_eq, i64_min]
  omega
theorem M_isLong {M : Mem} (h : ST M) {g : Nat} {x : Int} (e : MG M g x) : F_X18_isLong M g = some (if -9223372036854775808 ≤ x ∧ x ≤ 9223372036854775807 then (1, wJ M g 1219 (Int64.ofInt x)) else (0, M)) := by
  obtain ⟨⟨ig, n, D, h1, h2, h3, h4, h5⟩, s⟩ := e
  have no : ¬ (-9223372036854775808 ≤ x ∧ x ≤ 9223372036854775807) → F_X18_isLong_b28 M = some (if -9223372036854775808 ≤ x ∧ x ≤ 9223372036854775807 then (1, wJ M g 1219 (Int64.ofInt x)) else (0, M)) := fun q => by rw [if_neg q]; rfl
  simp only [F_X18_isLong, ig.gn h, h2, Option.bind_some]
  by_cases c1 : 3 < n
  · rw [if_pos (by rw [show (3 : Int32) = iw ((3 : Nat) : Int) from rfl, iw_le4 (by omega) (by omega)]; exact c1)]
    refine no ?_
    have ge := Vl_ge (B := 268435456) (show 0 < n by omega) (h5 (by omega))
    rw [h4] at ge
    have : 268435456 ^ 3 ≤ 268435456 ^ (n - 1) := Nat.pow_le_pow_right (by decide) (by omega)
    have e3 : (268435456 : Nat) ^ 3 = 19342813113834066795298816 := by decide
    omega
  · rw [if_neg (by rw [show (3 : Int32) = iw ((3 : Nat) : Int) from rfl, iw_le4 (by omega) (by omega)]; exact c1)]
    -- small enough to be read
    have small : x.natAbs < 2 ^ 64 → F_X18_isLong_b30 M g = some (if -9223372036854775808 ≤ x ∧ x ≤ 9223372036854775807 then (1, wJ M g 1219 (Int64.ofInt x)) else (0, M)) := fun hx => by
      have lp : ∀ (i N acc : Nat), i ≤ n → acc * 268435456 ^ i + Vl 268435456 D i = x.natAbs → F_X18_isLong_b39 (N + 1 + i) M g (nl acc) (iw ((i : Int) - 1)) = some (if -9223372036854775808 ≤ x ∧ x ≤ 9223372036854775807 then (1, wJ M g 1219 (Int64.ofInt x)) else (0, M)) := by
        intro i
        induction i with
        | zero =>
          intro N acc _ ev
          have ev : acc * 268435456 ^ 0 + 0 = x.natAbs := ev
          have ea : acc = x.natAbs := by omega
          subst ea
          show F_X18_isLong_b39_st (F_X18_isLong_b39 N) M g _ _ = _
          unfold F_X18_isLong_b39_st
          rw [if_pos (by decide), ig.gs h, Option.bind_some, s]
          have pj : ∀ v : Int64, F_X18_isLong_b99 M g v = some (1, wJ M g 1219 v) := fun v => by
            unfold F_X18_isLong_b99 pj
            rw [if_pos (by rw [ig.tg h]; decide)]
            rfl
          have b85 : F_X18_isLong_b85 M g (nl x.natAbs) = some (1, wJ M g 1219 (Int64.ofInt x)) := by
            unfold F_X18_isLong_b85
            rw [ig.gs h, Option.bind_some, s]
            by_cases c : x < 0
            · rw [if_pos c, if_neg (by decide), pj, nl_neg (by omega), show -((x.natAbs : Nat) : Int) = x by omega]
            · rw [if_neg c, if_pos rfl, pj, nl_ofInt, show ((x.natAbs : Nat) : Int) = x by omega]
          by_cases c : 2 ^ 63 ≤ x.natAbs
          · rw [if_pos ((nl_lt0 hx).mpr c)]
            by_cases c2 : x < 0
            · rw [if_pos c2, if_neg (by decide)]
              by_cases c3 : x.natAbs = 2 ^ 63
              · rw [if_pos ((nl_min hx).mpr c3), b85, if_pos (by omega)]
              · rw [if_neg (fun z => c3 ((nl_min hx).mp z)), if_neg (by omega)]
                rfl
            · rw [if_neg c2, if_pos rfl, if_neg (by omega)]
              rfl
          · rw [if_neg (fun z => c ((nl_lt0 hx).mp z)), b85, if_pos (by omega)]
        | succ i ih =>
          intro N acc hi ev
          have x1 := (h3 i (by omega)).2
          have ev' : (acc * 268435456 + D i) * 268435456 ^ i + Vl 268435456 D i = x.natAbs := by
            have : acc * 268435456 ^ (i + 1) + (Vl 268435456 D i + D i * 268435456 ^ i) = x.natAbs := ev
            rw [Nat.pow_succ, Nat.mul_comm (268435456 ^ i), ← Nat.mul_assoc] at this
            rw [Nat.add_mul]
            omega
          have big : acc * 268435456 + D i < 2 ^ 64 := by
            have : (acc * 268435456 + D i) * 1 ≤ (acc * 268435456 + D i) * 268435456 ^ i := Nat.mul_le_mul_left _ (Nat.pow_pos (by decide))
            omega
          show F_X18_isLong_b39_st (F_X18_isLong_b39 (N + 1 + i)) M g _ _ = _
          unfold F_X18_isLong_b39_st
          rw [if_neg (by rw [iw_lt0 (by omega) (by omega)]; omega), show (((i + 1 : Nat) : Int) - 1) = (i : Int) by omega]
          have sh : j_lshl (nl acc) 28 ||| (iw (D i : Nat)).toInt64 = nl (acc * 268435456 + D i) := by
            rw [show j_lshl (nl acc) 28 = nl (acc * 2 ^ 28) from nl_shl (k := 28) (by decide), i64_iw (by omega), nl_or (by omega) (by omega)]
          simp only [ig.gr h, ig.ai h (show i < 40 by omega), (h3 i (by omega)).1, sh, iw_p1, Option.bind_some]
          exact ih N _ (by omega) ev'
      have hxN : xN = 1099511627776 := rfl
      obtain ⟨N, hN⟩ : ∃ N, N + 1 + n = xN := ⟨xN - 1 - n, by omega⟩
      have := lp n N 0 (Nat.le_refl _) (by omega)
      rw [hN] at this
      unfold F_X18_isLong_b30
      rw [ig.gn h, Option.bind_some, h2]
      simp only []
      rw [show (1 : Int32) = iw 1 from rfl, iw_sub]
      exact this
    have lt := Vl_lt (B := 268435456) (fun k hk => (h3 k hk).2)
    rw [h4] at lt
    by_cases c2 : n = 3
    · subst c2
      have d2 := h3 2 (by omega)
      have v : x.natAbs = Vl 268435456 D 2 + D 2 * 72057594037927936 := by
        rw [← h4]
        show Vl 268435456 D 2 + D 2 * 268435456 ^ 2 = _
        rw [show (268435456 : Nat) ^ 2 = 72057594037927936 by decide]
      have l2 := Vl_lt (B := 268435456) (D := D) (n := 2) (fun k hk => (h3 k (by omega)).2)
      rw [show (268435456 : Nat) ^ 2 = 72057594037927936 by decide] at l2
      have a2 : ai M (g + 1) 2 = some (iw (D 2 : Nat)) := by
        have := ig.ai h (j := 2) (by decide)
        rw [d2.1] at this
        exact this
      rw [if_pos (show iw ((3 : Nat) : Int) = 3 from rfl), ig.gr h, Option.bind_some, a2, Option.bind_some]
      by_cases c3 : 255 < D 2
      · rw [if_pos (by rw [show (255 : Int32) = iw ((255 : Nat) : Int) from rfl, iw_le4 (by omega) (by omega)]; exact c3)]
        exact no (by omega)
      · rw [if_neg (by rw [show (255 : Int32) = iw ((255 : Nat) : Int) from rfl, iw_le4 (by omega) (by omega)]; exact c3)]
        exact small (by omega)
    · rw [if_neg (fun z => c2 (by have := (iw_eq (a := (n : Int)) (b := 3) (by omega) (by omega) (by omega) (by omega)).mp z; omega))]
      refine small ?_
      have : 268435456 ^ n ≤ 268435456 ^ 2 := Nat.pow_le_pow_right (by decide) (by omega)
      rw [show (268435456 : Nat) ^ 2 = 72057594037927936 by decide] at this
      omega
def pSm : Nat → Nat → Prop := fun a _ => 1308 ≤ a ∧ a ≤ 1323
def qSm : Nat → Nat → Prop := fun a _ => a = 1073 ∨ a = 1074 ∨ (1308 ≤ a ∧ a ≤ 1323)
def Ds (M M' : Mem) : Prop := Df pSm qSm n2 M M' ∧ m_nx M' = m_nx M ∧ m_sl M' = m_sl M
theorem Ds.trans {M A B : Mem} (h : Ds M A) (k : Ds A B) : Ds M B := ⟨h.1.trans k.1, k.2.1.trans h.2.1, k.2.2.trans h.2.2⟩
theorem pU_Sm {S : Nat → Prop} (hs : ∀ g, S g → 1308 ≤ g) : ∀ a c, pU S a c → pSm a c := fun a c q => by
  obtain ⟨g, i, s, p⟩ := q
  have := hs g s
  unfold isG at i
  unfold pG at p
  unfold pSm
  omega
def sFr : Nat → Prop := fun g => 1310 ≤ g ∧ g ≤ 1322
/-- rests, until nothing is left -/
theorem M_gcd {gx gd : Nat} {ii : Int32} : ∀ (L N : Nat) (a b : Int) (M : Mem), b.natAbs < 2 ^ L → b.natAbs < 268435456 ^ 39 → ST M → SoM M → MG M 1310 a → MG M 1312 b → ∃ (K : Nat) (M' : Mem) (c : Int), F_X16_fraction_b28 (N + 1 + 2 * L) M 1068 gx gd ii 1310 1312 = F_X16_fraction_b28 (K + 1) M' 1068 gx gd ii 1310 1312 ∧ MG M' 1310 c ∧ c.natAbs = Nat.gcd a.natAbs b.natAbs ∧ MG M' 1312 0 ∧ Dw (pU sFr) M M' := by
  have i1 : isG 1310 := by unfold isG; omega
  have i2 : isG 1312 := by unfold isG; omega
  have i3 : isG 1314 := by unfold isG; omega
  have i4 : isG 1316 := by unfold isG; omega
  have one : ∀ (N : Nat) (a b : Int) (M : Mem), b ≠ 0 → b.natAbs < 268435456 ^ 39 → ST M → SoM M → MG M 1310 a → MG M 1312 b → ∃ M', F_X16_fraction_b28 (N + 1) M 1068 gx gd ii 1310 1312 = F_X16_fraction_b28 N M' 1068 gx gd ii 1310 1312 ∧ MG M' 1310 b ∧ MG M' 1312 ((a.natAbs % b.natAbs : Nat) : Int) ∧ Dw (pU sFr) M M' := fun N a b M hb hbl h sm e f => by
    obtain ⟨A, a1, -, a3, a4⟩ := M_quo (to := 1314) (rs := 1316) h e f hb hbl i3 i4 (by decide) (by decide) (by decide) (by decide) (by decide)
    have sA := a4.st h
    have dA : Dw (pU sFr) M A := a4.mono (fun x c z => z.elim (pG_U i3 (by unfold sFr; omega) x c) (pG_U i4 (by unfold sFr; omega) x c))
    have fA : MG A 1312 b := f.dw h a4 (by unfold pG; omega) (by unfold pG; omega) (fun k => by unfold pG; omega)
    obtain ⟨B, b1, b2, b3⟩ := M_cpg sA fA i1 (by decide)
    have sB := b3.st sA
    obtain ⟨C, c1, c2, c3⟩ := M_cpg sB (a3.dg sA i1 b3 (by decide)) i2 (by decide)
    have dB := dA.trans (b3.mono (pG_U (S := sFr) i1 (by unfold sFr; omega)))
    refine ⟨C, ?_, b2.dg sB i2 c3 (by decide), c2, dB.trans (c3.mono (pG_U i2 (by unfold sFr; omega)))⟩
    show F_X16_fraction_b28_st (F_X16_fraction_b28 N) M 1068 _ _ _ _ _ = _
    unfold F_X16_fraction_b28_st
    have iz := M_isZero h f.1
    rw [if_neg (show ¬ b.natAbs = 0 by omega)] at iz
    have q3 : ar M 1307 3 = some 1314 := sm.ar (u := 3) h (by decide)
    have q4 : ar M 1307 4 = some 1316 := sm.ar (u := 4) h (by decide)
    have q4B : ar B 1307 4 = some 1316 := (sm.dw h dB).ar (u := 4) sB (by decide)
    simp only [i2.vg h, iz, g1068_1121, h, q3, q4, i3.vg h, a1, i1.vg sA, b1, sB, q4B, i2.vg sB, c1, Option.bind_some, if_true]
  intro L
  induction L with
  | zero =>
    intro N a b M hb _ h sm e f
    have : b = 0 := by rw [Nat.pow_zero] at hb; omega
    subst this
    exact ⟨N, M, a, rfl, e, by rw [show (0 : Int).natAbs = 0 from rfl, Nat.gcd_zero_right], f, Dw.refl _ _⟩
  | succ L ih =>
    intro N a b M hb hbl h sm e f
    by_cases c : b = 0
    · subst c
      exact ⟨N + 2 * (L + 1), M, a, by rw [show N + 1 + 2 * (L + 1) = N + 2 * (L + 1) + 1 by omega], e, by rw [show (0 : Int).natAbs = 0 from rfl, Nat.gcd_zero_right], f, Dw.refl _ _⟩
    · obtain ⟨A, a1, a2, a3, a4⟩ := one (N + 1 + 2 * L + 1) a b M c hbl h sm e f
      have sA := a4.st h
      have l1 := Nat.mod_lt a.natAbs (show 0 < b.natAbs by omega)
      have g0 : Nat.gcd a.natAbs b.natAbs = Nat.gcd b.natAbs (a.natAbs % b.natAbs) := by
        rw [Nat.gcd_comm, Nat.gcd_rec, Nat.gcd_comm]
      by_cases c2 : a.natAbs % b.natAbs = 0
      · rw [c2] at a3 g0
        refine ⟨N + 1 + 2 * L, A, b, by rw [show N + 1 + 2 * (L + 1) = N + 1 + 2 * L + 1 + 1 by omega, a1], a2, by rw [g0, Nat.gcd_zero_right], a3, a4⟩
      · obtain ⟨w, hw⟩ : ∃ w, w = a.natAbs % b.natAbs := ⟨_, rfl⟩
        rw [← hw] at a3 g0 l1 c2
        obtain ⟨B, b1, b2, b3, b4⟩ := one (N + 1 + 2 * L) b (w : Int) A (by omega) (by omega) sA (sm.dw h a4) a2 a3
        have l2 := Nat.mod_lt b.natAbs (show 0 < w by omega)
        have ew : ((w : Nat) : Int).natAbs = w := rfl
        rw [ew] at b3
        have half : b.natAbs % w < 2 ^ L := by
          rw [Nat.pow_succ] at hb
          by_cases c3 : w ≤ b.natAbs / 2
          · omega
          · have : b.natAbs % w = b.natAbs - w := by
              rw [Nat.mod_eq_sub_mod (by omega), Nat.mod_eq_of_lt (by omega)]
            omega
        obtain ⟨K, C, c', c1, c2', c3, c4, c5⟩ := ih N (w : Int) ((b.natAbs % w : Nat) : Int) B half (by rw [show (((b.natAbs % w : Nat) : Int)).natAbs = b.natAbs % w from rfl]; omega) (b4.st sA) ((sm.dw h a4).dw sA b4) b2 b3
        refine ⟨K, C, c', ?_, c2', ?_, c4, (a4.trans b4).trans c5⟩
        · rw [show N + 1 + 2 * (L + 1) = N + 1 + 2 * L + 1 + 1 by omega, a1, b1]
          exact c1
        · rw [c3, g0, show (((b.natAbs % w : Nat) : Int)).natAbs = b.natAbs % w from rfl, ew, Nat.gcd_comm b.natAbs, Nat.gcd_rec w b.natAbs, Nat.gcd_comm]
theorem M_frac {M : Mem} (h : ST M) (sm : SoM M) {gx gd i : Nat} {x d : Int} (ex : MG M gx x) (ed : MG M gd d) (d0 : d ≠ 0) (hd : d.natAbs < 2 ^ 336) (l1 : gx ≤ 1305) (l2 : gd ≤ 1305) (hi : i < 10) :
    ∃ M', Ds M M' ∧ ((gdf x d ∧ F_X16_fraction M 1068 gx gd (iw (i : Int)) = some (1, M') ∧ cJ M' 1073 i = Int64.ofInt (nmr x d) ∧ cJ M' 1074 i = Int64.ofInt (dnm x d) ∧ (∀ c, c ≠ i → cJ M' 1073 c = cJ M 1073 c ∧ cJ M' 1074 c = cJ M 1074 c)) ∨ (¬ gdf x d ∧ F_X16_fraction M 1068 gx gd (iw (i : Int)) = some (0, M'))) := by
  have hxN : xN = 1099511627776 := rfl
  have h0 := h.1
  have i1 : isG 1310 := by unfold isG; omega
  have i2 : isG 1312 := by unfold isG; omega
  have i3 : isG 1314 := by unfold isG; omega
  have i5 : isG 1318 := by unfold isG; omega
  have i6 : isG 1320 := by unfold isG; omega
  have ix := ex.1.1
  have id' := ed.1.1
  have d39 : d.natAbs < 268435456 ^ 39 := by
    have p39 := p28_39
    have : (2 : Nat) ^ 336 ≤ 2 ^ 672 := Nat.pow_le_pow_right (by decide) (by decide)
    omega
  obtain ⟨A, a1, a2, a3⟩ := M_cpg h ex i1 (by omega)
  have sA := a3.st h
  obtain ⟨B, b1, b2, b3⟩ := M_cpg sA (ed.dg h i1 a3 (by omega)) i2 (by omega)
  have sB := b3.st sA
  have dB : Dw (pU sFr) M B := (a3.mono (pG_U i1 (by unfold sFr; omega))).trans (b3.mono (pG_U i2 (by unfold sFr; omega)))
  obtain ⟨L, hL⟩ : ∃ L, L = 336 := ⟨_, rfl⟩
  rw [← hL] at hd
  obtain ⟨N, hN⟩ : ∃ N, N + 1 + 2 * L = xN := ⟨xN - 1 - 2 * L, by omega⟩
  obtain ⟨K, C, c, c1, c2, c3, c4, c5⟩ := M_gcd (gx := gx) (gd := gd) (ii := iw (i : Int)) L N x d B hd d39 sB (sm.dw h dB) (a2.dg sA i2 b3 (by decide)) b2
  rw [hN] at c1
  have sC := c5.st sB
  have dC : Dw (pU sFr) M C := dB.trans c5
  obtain ⟨g, hg⟩ : ∃ g, g = Nat.gcd x.natAbs d.natAbs := ⟨_, rfl⟩
  rw [← hg] at c3
  have g0 : 0 < g := by rw [hg]; exact Nat.gcd_pos_of_pos_right _ (by omega)
  have gle : g ≤ d.natAbs := by rw [hg]; exact Nat.le_of_dvd (by omega) (Nat.gcd_dvd_right _ _)
  have nf : ∀ {t : Nat}, t ≤ 1305 → ¬ sFr t := fun h z => by unfold sFr at z; omega
  have exC := ex.du h dC (nf l1)
  have edC := ed.du h dC (nf l2)
  obtain ⟨E, e1, e2, -, e4⟩ := M_quo (to := 1314) (rs := 1318) sC exC c2 (by omega) (by omega) i3 i5 (by omega) (by decide) (by omega) (by decide) (by decide)
  have sE := e4.st sC
  have dE : Dw (pU sFr) M E := dC.trans (e4.mono (fun x c z => z.elim (pG_U i3 (by unfold sFr; omega) x c) (pG_U i5 (by unfold sFr; omega) x c)))
  have c2E : MG E 1310 c := c2.dw sC e4 (by unfold pG; omega) (by unfold pG; omega) (fun k => by unfold pG; omega)
  obtain ⟨G, g1, g2, -, g4⟩ := M_quo (to := 1320) (rs := 1318) sE (ed.du h dE (nf l2)) c2E (by omega) (by omega) i6 i5 (by omega) (by decide) (by omega) (by decide) (by decide)
  have sG := g4.st sE
  have dG : Dw (pU sFr) M G := dE.trans (g4.mono (fun x c z => z.elim (pG_U i6 (by unfold sFr; omega) x c) (pG_U i5 (by unfold sFr; omega) x c)))
  have e2G : MG G 1314 (x.tdiv c) := e2.dw sE g4 (by unfold pG; omega) (by unfold pG; omega) (fun k => by unfold pG; omega)
  have nx : (x.tdiv c).natAbs = x.natAbs / g := by rw [Int.natAbs_tdiv, c3]; rfl
  have nd : (d.tdiv c).natAbs = d.natAbs / g := by rw [Int.natAbs_tdiv, c3]; rfl
  have nnx : (nmr x d).natAbs = x.natAbs / g := by
    unfold nmr
    rw [← hg, Int.natAbs_tdiv, Int.natAbs_natCast]
    split
    · rw [Int.natAbs_neg]; rfl
    · rfl
  have sgx : cI G gx 1218 = (if x < 0 then 1 else 0) := (ex.du h dG (nf l1)).2
  have sgd : cI G gd 1218 = (if d < 0 then 1 else 0) := (ed.du h dG (nf l2)).2
  have n10 : ¬ (1 : Int32) = 0 := by decide
  obtain ⟨s, hs⟩ : ∃ s : Int32, s = if nmr x d < 0 then 1 else 0 := ⟨_, rfl⟩
  have hs1 : s = 0 ∨ s = 1 := by rw [hs]; split <;> simp
  -- the signs
  obtain ⟨P, hP⟩ : ∃ P, P = wI (wI G 1314 1218 s) 1320 1218 0 := ⟨_, rfl⟩
  have dP : Dw (fun a i => (a = 1314 ∨ a = 1320) ∧ i = 1218) G P := by
    rw [hP]
    exact (Dw.w (P := fun a i => (a = 1314 ∨ a = 1320) ∧ i = 1218) (a := 1314) s ⟨Or.inl rfl, rfl⟩).trans (Dw.w (P := fun a i => (a = 1314 ∨ a = 1320) ∧ i = 1218) (a := 1320) 0 ⟨Or.inr rfl, rfl⟩)
  have sP := dP.st sG
  have mx : MG P 1314 (nmr x d) := ⟨by rw [nnx, ← nx]; exact e2G.1.dw sG dP (by omega) (fun k => by omega), by rw [hP, cI_wI, if_neg (by omega), cI_wI, if_pos ⟨rfl, rfl⟩, hs]⟩
  have md : MG P 1320 (dnm x d) := ⟨by
    rw [show (dnm x d).natAbs = d.natAbs / g by unfold dnm; rw [← hg]; rfl, ← nd]
    exact g2.1.dw sG dP (by omega) (fun k => by omega), by rw [hP, cI_wI, if_pos ⟨rfl, rfl⟩, if_neg (show ¬ dnm x d < 0 from Int.not_lt.mpr (Int.natCast_nonneg _))]⟩
  have smG := sm.dw h dG
  have dsP : Ds M P := ⟨(dG.1.mono (pU_Sm (fun g z => by unfold sFr at z; omega)) (fun _ _ q => q.elim) (fun _ _ q => q)).trans (dP.1.mono (fun a i q => by unfold pSm; omega) (fun _ _ q => q.elim) (fun _ _ q => q)), dP.2.1.trans dG.2.1, dP.2.2.trans dG.2.2⟩
  have smP : SoM P := smG.dw sG dP
  have q3P : ar P 1307 3 = some 1314 := smP.ar (u := 3) sP (by decide)
  have q6W : ar (wI G 1314 1218 s) 1307 6 = some 1320 := smG.ar (u := 6) sG (by decide)
  have sW : ST (wI G 1314 1218 s) := sG
  have hd1 : F_X16_fraction M 1068 gx gd (iw (i : Int)) = F_X16_fraction_b147 G 1314 s 1068 (iw (i : Int)) := by
    unfold F_X16_fraction
    have q1 : ar M 1307 1 = some 1310 := sm.ar (u := 1) h (by decide)
    have q2 : ar M 1307 2 = some 1312 := sm.ar (u := 2) h (by decide)
    simp only [g1068_1121, h, q1, q2, i1.vg h, a1, i2.vg sA, b1, Option.bind_some]
    refine Eq.trans c1 ?_
    show F_X16_fraction_b28_st (F_X16_fraction_b28 K) C 1068 _ _ _ _ _ = _
    unfold F_X16_fraction_b28_st
    have iz := M_isZero sC c4.1
    have iz' : F_X18_isZero C 1312 = some 1 := iz
    have smC := sm.dw h dC
    have smE := sm.dw h dE
    have q3 : ar C 1307 3 = some 1314 := smC.ar (u := 3) sC (by decide)
    have q5 : ar C 1307 5 = some 1318 := smC.ar (u := 5) sC (by decide)
    have q6 : ar E 1307 6 = some 1320 := smE.ar (u := 6) sE (by decide)
    have q5E : ar E 1307 5 = some 1318 := smE.ar (u := 5) sE (by decide)
    have q3G : ar G 1307 3 = some 1314 := smG.ar (u := 3) sG (by decide)
    have iz3 := M_isZero sG e2G.1
    rw [nx] at iz3
    simp only [i2.vg sC, iz', Option.bind_some]
    rw [if_neg n10]
    simp only [g1068_1121, sC, q3, q5, i3.vg sC, e1, sE, q6, q5E, i6.vg sE, g1, sG, q3G, i3.vg sG, iz3, ix.gs sG, id'.gs sG, sgx, sgd, Option.bind_some, F_X16_fraction_b146]
    by_cases c0 : x.natAbs / g = 0
    · rw [if_pos c0, if_neg n10, hs, if_neg (by omega)]
    · rw [if_neg c0, if_pos rfl, hs]
      have hx0 : x ≠ 0 := fun z => c0 (by rw [z]; exact Nat.zero_div g)
      have xg : g ≤ x.natAbs := Decidable.byContradiction (fun z => c0 (Nat.div_eq_of_lt (by omega)))
      have sgn : nmr x d < 0 ↔ (if d < 0 then -x else x) < 0 := by
        have t := (tsg (x := if d < 0 then -x else x) (y := ((g : Nat) : Int)) (by omega)).2
        have : nmr x d = (if d < 0 then -x else x).tdiv ((g : Nat) : Int) := by unfold nmr; rw [← hg]
        rw [← this] at t
        rw [t (by omega)]
        constructor
        · intro z
          exact Decidable.byContradiction (fun w => z ⟨fun q => absurd q w, fun q => by omega⟩)
        · intro z w
          have := w.mp z
          omega
      by_cases c1 : x < 0 <;> by_cases c2 : d < 0
      · rw [if_pos c1, if_pos c2, if_pos rfl, if_neg (by rw [sgn, if_pos c2]; omega)]
      · rw [if_pos c1, if_neg c2, if_neg n10, if_pos (by rw [sgn, if_neg c2]; omega)]
      · rw [if_neg c1, if_pos c2, if_neg (fun z => n10 z.symm), if_pos (by rw [sgn, if_pos c2]; omega)]
      · rw [if_neg c1, if_neg c2, if_pos rfl, if_neg (by rw [sgn, if_neg c2]; omega)]
  have li := M_isLong sP mx
  -- the end
  have hd2 : F_X16_fraction M 1068 gx gd (iw (i : Int)) = ((F_X18_isLong P 1314).bind fun z8 => if z8.1 = 0 then F_X16_fraction_b186 z8.2 else (gr z8.2 1068 1121).bind fun t9 => (ar z8.2 t9 6).bind fun t10 => (vg z8.2 t10 19).bind fun _ => (F_X18_isLong z8.2 t10).bind fun z12 => if z12.1 = 0 then F_X16_fraction_b186 z12.2 else (gr z12.2 1068 1100).bind fun t13 => (gr z12.2 1068 1121).bind fun t14 => (ar z12.2 t14 3).bind fun t15 => (gl z12.2 t15 1219).bind fun t16 => (sj z12.2 t13 (iw (i : Int)) t16).bind fun M17 => (gr M17 1068 1101).bind fun t18 => (gr M17 1068 1121).bind fun t19 => (ar M17 t19 6).bind fun t20 => (gl M17 t20 1219).bind fun t21 => (sj M17 t18 (iw (i : Int)) t21).bind fun M22 => some (1, M22)) := by
    rw [hd1]
    unfold F_X16_fraction_b147
    simp only [i3.ps sG hs1, g1068_1121, sW, q6W, i6.ps sW (Or.inl rfl), ← hP, sP, q3P, i3.vg sP, Option.bind_some]
  rw [li] at hd2
  simp only [Option.bind_some] at hd2
  by_cases k1 : -9223372036854775808 ≤ nmr x d ∧ nmr x d ≤ 9223372036854775807
  · rw [if_pos k1] at hd2
    obtain ⟨P1, hP1⟩ : ∃ P1, P1 = wJ P 1314 1219 (Int64.ofInt (nmr x d)) := ⟨_, rfl⟩
    have sP1 : ST P1 := hP1 ▸ sP
    have md1 : MG P1 1320 (dnm x d) := hP1 ▸ md
    have q6P1 : ar P1 1307 6 = some 1320 := by rw [hP1]; exact smP.ar (u := 6) sP (by decide)
    have li2 := M_isLong sP1 md1
    simp only [← hP1, g1068_1121, sP1, q6P1, i6.vg sP1, li2, Option.bind_some] at hd2
    rw [if_neg n10] at hd2
    have ds1 : Ds M P1 := dsP.trans (by rw [hP1]; exact ⟨Df.wJ _ (Or.inr (Or.inr ⟨by decide, by decide⟩)), rfl, rfl⟩)
    by_cases k2 : -9223372036854775808 ≤ dnm x d ∧ dnm x d ≤ 9223372036854775807
    · rw [if_pos k2] at hd2
      obtain ⟨P2, hP2⟩ : ∃ P2, P2 = wJ P1 1320 1219 (Int64.ofInt (dnm x d)) := ⟨_, rfl⟩
      have sP2 : ST P2 := hP2 ▸ sP1
      have q3P2 : ar P2 1307 3 = some 1314 := by rw [hP2, hP1]; exact q3P
      have gl3 : gl P2 1314 1219 = some (Int64.ofInt (nmr x d)) := by
        unfold gl
        rw [if_pos (by rw [i3.tg sP2]; decide), hP2, cJ_wJ, if_neg (by omega), hP1, cJ_wJ, if_pos ⟨rfl, rfl⟩]
      obtain ⟨P3, hP3⟩ : ∃ P3, P3 = wJ P2 1073 i (Int64.ofInt (nmr x d)) := ⟨_, rfl⟩
      have sP3 : ST P3 := hP3 ▸ sP2
      have q6P3 : ar P3 1307 6 = some 1320 := by rw [hP3, hP2]; exact q6P1
      have gl6 : gl P3 1320 1219 = some (Int64.ofInt (dnm x d)) := by
        unfold gl
        rw [if_pos (by rw [i6.tg sP3]; decide), hP3, cJ_wJ, if_neg (by omega), hP2, cJ_wJ, if_pos ⟨rfl, rfl⟩]
      obtain ⟨P4, hP4⟩ : ∃ P4, P4 = wJ P3 1074 i (Int64.ofInt (dnm x d)) := ⟨_, rfl⟩
      simp only [← hP2, g1068_1121, g1068_1100, g1068_1101, sP2, q3P2, gl3, sj_of (Int64.ofInt (nmr x d)) (t1073 sP2) (l1073 sP2) (show i < 100000 by omega) (by decide), ← hP3, sP3, q6P3, gl6, sj_of (Int64.ofInt (dnm x d)) (t1074 sP3) (l1074 sP3) (show i < 100000 by omega) (by decide), ← hP4, Option.bind_some] at hd2
      rw [if_neg n10] at hd2
      have d24 : Ds P1 P4 := by
        rw [hP4, hP3, hP2]
        exact ⟨((Df.wJ _ (Or.inr (Or.inr ⟨by decide, by decide⟩))).trans (Df.wJ _ (Or.inl rfl))).trans (Df.wJ _ (Or.inr (Or.inl rfl))), rfl, rfl⟩
      refine ⟨P4, ds1.trans d24, Or.inl ⟨⟨k1, k2⟩, hd2, ?_, ?_, fun c hc => ?_⟩⟩
      · rw [hP4, cJ_wJ, if_neg (by omega), hP3, cJ_wJ, if_pos ⟨rfl, rfl⟩]
      · rw [hP4, cJ_wJ, if_pos ⟨rfl, rfl⟩]
      · have r1 : cJ P4 1073 c = cJ P 1073 c := by rw [hP4, cJ_wJ, if_neg (by omega), hP3, cJ_wJ, if_neg (by omega), hP2, cJ_wJ, if_neg (by omega), hP1, cJ_wJ, if_neg (by omega)]
        have r2 : cJ P4 1074 c = cJ P 1074 c := by rw [hP4, cJ_wJ, if_neg (by omega), hP3, cJ_wJ, if_neg (by omega), hP2, cJ_wJ, if_neg (by omega), hP1, cJ_wJ, if_neg (by omega)]
        have nG := dG.1.1
        rw [r1, r2, dP.1.cJ (by omega) (fun q => q), dP.1.cJ (by omega) (fun q => q), dG.1.cJ (by omega) (fun q => q), dG.1.cJ (by omega) (fun q => q)]
        exact ⟨rfl, rfl⟩
    · rw [if_neg k2] at hd2
      exact ⟨P1, ds1, Or.inr ⟨fun z => k2 z.2, hd2⟩⟩
  · rw [if_neg k1] at hd2
    exact ⟨P, dsP, Or.inr ⟨fun z => k1 z.1, hd2⟩⟩
