/-! ===== EXACT SOLUTIONS, 17: the model's elimination ===== -/
def pU (S : Nat → Prop) : Nat → Nat → Prop := fun a c => ∃ g, isG g ∧ S g ∧ pG g a c
theorem pG_U {S : Nat → Prop} {g : Nat} (i : isG g) (h : S g) : ∀ a c, pG g a c → pU S a c := fun a c q => ⟨g, i, h, q⟩
theorem pU_mono {S S' : Nat → Prop} (h : ∀ t, S t → S' t) : ∀ a c, pU S a c → pU S' a c := fun a c q => by
  obtain ⟨g, i, s, p⟩ := q
  exact ⟨g, i, h g s, p⟩
theorem MG.du {S : Nat → Prop} {M A : Mem} {b : Nat} {x : Int} (e : MG M b x) (h : ST M) (d : Dw (pU S) M A) (hs : ¬ S b) : MG A b x := by
  have n := fun g (i : isG g) (s : S g) => pG_no i e.1.1 (fun z => hs (z ▸ s))
  exact e.dw h d (fun q => by obtain ⟨g, i, s, p⟩ := q; exact (n g i s).1 p) (fun q => by obtain ⟨g, i, s, p⟩ := q; exact (n g i s).2.1 p) (fun k q => by obtain ⟨g, i, s, p⟩ := q; exact (n g i s).2.2 k p)
theorem isG_8 {u : Nat} (h : u < 8) : isG (1308 + 2 * u) := by unfold isG; omega
/-- the model's helpers -/
def SoM (M : Mem) : Prop := ∀ u, u < 8 → cR M 1307 u = 1308 + 2 * u
theorem SoM.ar {M : Mem} (s : SoM M) (h : ST M) {u : Nat} (hu : u < 8) : ar M 1307 (iw (u : Int)) = some (1308 + 2 * u) := by rw [ar_of (by rw [t1307 h]; decide) (l1307 h) hu (by decide), s u hu]
theorem SoM.dw {P : Nat → Nat → Prop} {M A : Mem} (s : SoM M) (h : ST M) (d : Dw P M A) : SoM A := fun u hu => by
  rw [d.1.cR (by have := h.1; omega) (fun q => q)]
  exact s u hu
/-- where the model's numbers lie -/
def MRr (M : Mem) (n : Nat) (γ : Nat → Nat → Nat) : Prop := n ≤ 10 ∧ (∀ i, i < n → ∀ j, j ≤ n → cR M 1086 ((n + 1) * i + j) = γ i j ∧ isG (γ i j) ∧ γ i j ≤ 1305) ∧ (∀ i j i' j', i < n → j ≤ n → i' < n → j' ≤ n → γ i j = γ i' j' → i = i' ∧ j = j')
theorem MRr.dw {P : Nat → Nat → Prop} {M A : Mem} {n : Nat} {γ : Nat → Nat → Nat} (r : MRr M n γ) (h : ST M) (d : Dw P M A) : MRr A n γ := ⟨r.1, fun i hi j hj => by
  rw [d.1.cR (by have := h.1; omega) (fun q => q)]
  exact r.2.1 i hi j hj, r.2.2⟩
theorem ix_lt {n i j : Nat} (hn : n ≤ 10) (hi : i < n) (hj : j ≤ n) : (n + 1) * i + j < 110 := by
  have h1 : (n + 1) * i ≤ (n + 1) * (n - 1) := Nat.mul_le_mul_left _ (by omega)
  have h2 : (n + 1) * (n - 1) ≤ 11 * (n - 1) := Nat.mul_le_mul_right _ (by omega)
  omega
theorem ix_e {n : Nat} (i j : Nat) : iw ((n + 1 : Nat) : Int) * iw (i : Int) + iw (j : Int) = iw (((n + 1) * i + j : Nat) : Int) := by
  rw [iw_mul, iw_add]
  congr 1
theorem MRr.ar {M : Mem} {n : Nat} {γ : Nat → Nat → Nat} (r : MRr M n γ) (h : ST M) {i j : Nat} (hi : i < n) (hj : j ≤ n) : ar M 1086 (iw ((n + 1 : Nat) : Int) * iw (i : Int) + iw (j : Int)) = some (γ i j) := by
  rw [ix_e, ar_of (by rw [t1086 h]; decide) (l1086 h) (ix_lt r.1 hi hj) (by decide), (r.2.1 i hi j hj).1]
def sEl (n : Nat) (γ : Nat → Nat → Nat) (i : Nat) : Nat → Prop := fun g => (∃ j, j ≤ n ∧ g = γ i j) ∨ (1310 ≤ g ∧ g ≤ 1322)
theorem M_elim {M : Mem} (h : ST M) (sm : SoM M) {n k i : Nat} {γ : Nat → Nat → Nat} {A A0 : Nat → Vc} {q : Int} (mr : MRr M n γ) (mi : ∀ j, j ≤ n → MG M (γ i j) (A i j)) (mk : ∀ j, j ≤ n → MG M (γ k j) (A k j)) (e5 : MG M 1308 q) (ba : Ba n 2147483648 k q A A0) (hk : k < n) (hq : q.natAbs < 2 ^ 336) (hi : i < n) (hik : i ≠ k) :
    ∃ M', F_X16_eliminate M 1068 (iw (i : Int)) (iw (k : Int)) (iw ((n + 1 : Nat) : Int)) 1308 = some M' ∧ (∀ j, j ≤ n → MG M' (γ i j) ((A k k * A i j - A i k * A k j).tdiv q)) ∧ Dw (pU (sEl n γ i)) M M' := by
  have q0 := ba.q0
  have n10 := mr.1
  have B336 : ∀ x y, x < n → y ≤ n → (A x y).natAbs < 2 ^ 336 := fun x y hx hy => Nat.lt_of_le_of_lt (ba.cc x hx y hy) (fct10 n10)
  have gl : ∀ x y, x < n → y ≤ n → isG (γ x y) ∧ γ x y ≤ 1305 := fun x y hx hy => (mr.2.1 x hx y hy).2
  have i1 : isG 1310 := by unfold isG; omega
  have i2 : isG 1312 := by unfold isG; omega
  have i3 : isG 1314 := by unfold isG; omega
  have i4 : isG 1316 := by unfold isG; omega
  have i5 : isG 1318 := by unfold isG; omega
  have i0 : isG 1308 := by unfold isG; omega
  -- the factor is kept
  obtain ⟨A1, a1, a2, a3⟩ := M_cpg h (mi k (by omega)) i1 (by have := (gl i k hi (by omega)).2; omega)
  have sA1 := a3.st h
  have d1 : Dw (pU (sEl n γ i)) M A1 := a3.mono (pG_U i1 (Or.inr (by omega)))
  have nk : ∀ j, j ≤ n → ¬ sEl n γ i (γ k j) := fun j hj z => by
    rcases z with ⟨j', h1, h2⟩ | z
    · exact hik (mr.2.2 k j i j' hk hj hi h1 h2).1.symm
    · have := (gl k j hk hj).2; omega
  have n8 : ¬ sEl n γ i 1308 := fun z => by
    rcases z with ⟨j', h1, h2⟩ | z
    · have := (gl i j' hi h1).2; omega
    · omega
  obtain ⟨K, B, -, f1, dB, fB, vB⟩ := upl0 (σ := Unit) (fun N M _ j => F_X16_eliminate_b26 N M 1068 (iw (i : Int)) (iw (k : Int)) (iw ((n + 1 : Nat) : Int)) 1308 1310 j) (n := n + 1) (by omega) (fun c B _ => Dw (pU (sEl n γ i)) M B ∧ MG B 1310 (A i k) ∧ ∀ j, j ≤ n → MG B (γ i j) (if j < c then (A k k * A i j - A i k * A k j).tdiv q else A i j))
    (fun N B _ j hj hJ => by
      obtain ⟨dB, fB, vB⟩ := hJ
      have sB := dB.st h
      have hj' : j ≤ n := by omega
      have gij := gl i j hi hj'
      have vj := vB j hj'
      rw [if_neg (Nat.lt_irrefl j)] at vj
      have kk := (mk k (by omega)).du h dB (nk k (by omega))
      have kj := (mk j hj').du h dB (nk j hj')
      have bq := e5.du h dB n8
      have gkk := gl k k hk (by omega)
      have gkj := gl k j hk hj'
      obtain ⟨C, c1, c2, c3⟩ := M_prod (to := 1312) (a := 12) (b := 12) sB kk vj (bnd21 (B336 k k hk (by omega))).2 (bnd21 (B336 i j hi hj')).2 (by decide) i2 (by omega) (by omega)
      have sC := c3.st sB
      obtain ⟨E, e1, e2, e3⟩ := M_prod (to := 1314) (a := 12) (b := 12) sC (fB.dg sB i2 c3 (by decide)) (kj.dg sB i2 c3 (by omega)) (bnd21 (B336 i k hi (by omega))).2 (bnd21 (B336 k j hk hj')).2 (by decide) i3 (by decide) (by omega)
      have sE := e3.st sC
      have n1 : (A k k * A i j).natAbs < 2 ^ 672 := by rw [Int.natAbs_mul]; exact mul336 (B336 k k hk (by omega)) (B336 i j hi hj')
      have n2 : (A i k * A k j).natAbs < 2 ^ 672 := by rw [Int.natAbs_mul]; exact mul336 (B336 i k hi (by omega)) (B336 k j hk hj')
      have p39 := p28_39
      obtain ⟨G, g1, g2, g3⟩ := M_take sE (c2.dg sC i3 e3 (by decide)) e2 (by omega) (by omega) (by decide)
      have sG := g3.st sE
      have q39 : q.natAbs < 268435456 ^ 39 := by
        have : (2 : Nat) ^ 336 ≤ 2 ^ 672 := Nat.pow_le_pow_right (by decide) (by decide)
        omega
      obtain ⟨H, h1, h2, h3, h4⟩ := M_quo (to := 1316) (rs := 1318) sG g2 (((bq.dg sB i2 c3 (by decide)).dg sC i3 e3 (by decide)).dg sE i2 g3 (by decide)) q0 q39 i4 i5 (by decide) (by decide) (by decide) (by decide) (by decide)
      have sH := h4.st sG
      obtain ⟨L, l1, l2, l3⟩ := M_cpg sH h2 gij.1 (by omega)
      have sL := l3.st sH
      have dL : Dw (pU (fun g => g = γ i j ∨ (1312 ≤ g ∧ g ≤ 1318))) B L := ((((c3.mono (pG_U i2 (Or.inr (by omega)))).trans (e3.mono (pG_U i3 (Or.inr (by omega))))).trans (g3.mono (pG_U i2 (Or.inr (by omega))))).trans (h4.mono (fun a c z => z.elim (pG_U i4 (Or.inr (by omega)) a c) (pG_U i5 (Or.inr (by omega)) a c)))).trans (l3.mono (pG_U gij.1 (Or.inl rfl)))
      refine ⟨L, (), ?_, dB.trans (dL.mono (pU_mono (fun t z => z.elim (fun z => Or.inl ⟨j, hj', z⟩) (fun z => Or.inr (by omega))))), fB.du sB dL (by omega), fun x hx => ?_⟩
      · show F_X16_eliminate_b26_st (F_X16_eliminate_b26 N) B 1068 _ _ _ _ _ _ = _
        unfold F_X16_eliminate_b26_st
        have sm' : ∀ {X : Mem} {P : Nat → Nat → Prop}, Dw P M X → SoM X := fun d => sm.dw h d
        have rB := mr.dw h dB
        have dC := dB.trans (c3.mono (pG_U (S := sEl n γ i) i2 (Or.inr (by omega))))
        have dE := dC.trans (e3.mono (pG_U (S := sEl n γ i) i3 (Or.inr (by omega))))
        have dG := dE.trans (g3.mono (pG_U (S := sEl n γ i) i2 (Or.inr (by omega))))
        have dH := dG.trans (h4.mono (fun a c z => z.elim (pG_U (S := sEl n γ i) i4 (Or.inr (by omega)) a c) (pG_U i5 (Or.inr (by omega)) a c)))
        have aB2 : ar B 1307 2 = some 1312 := (sm' dB).ar (u := 2) sB (by decide)
        have aC3 : ar C 1307 3 = some 1314 := (sm' dC).ar (u := 3) sC (by decide)
        have aE2 : ar E 1307 2 = some 1312 := (sm' dE).ar (u := 2) sE (by decide)
        have aE3 : ar E 1307 3 = some 1314 := (sm' dE).ar (u := 3) sE (by decide)
        have aG2 : ar G 1307 2 = some 1312 := (sm' dG).ar (u := 2) sG (by decide)
        have aG4 : ar G 1307 4 = some 1316 := (sm' dG).ar (u := 4) sG (by decide)
        have aG5 : ar G 1307 5 = some 1318 := (sm' dG).ar (u := 5) sG (by decide)
        have aH4 : ar H 1307 4 = some 1316 := (sm' dH).ar (u := 4) sH (by decide)
        have mB1 := rB.ar sB hk (show k ≤ n by omega)
        have mB2 := rB.ar sB hi hj'
        have mC := (mr.dw h dC).ar sC hk hj'
        have mH := (mr.dw h dH).ar sH hi hj'
        rw [if_pos (by rw [iw_le4 (by omega) (by omega)]; omega)]
        simp only [g1068_1121, g1068_1120, sB, aB2, mB1, mB2, i2.vg sB, c1, sC, aC3, mC, i3.vg sC, e1, sE, aE2, aE3, i2.vg sE, g1, sG, aG2, aG4, aG5, i4.vg sG, h1, sH, mH, aH4, gij.1.vg sH, l1, Option.bind_some, iw_succ]
      · by_cases c : x = j
        · subst c
          rw [if_pos (by omega)]
          exact l2
        · have ne : γ i x ≠ γ i j := fun z => c (mr.2.2 i x i j hi hx hi hj' z).2
          have := (vB x hx).du sB dL (by have := (gl i x hi hx).2; omega)
          by_cases c2 : x < j
          · rw [if_pos c2] at this
            rw [if_pos (by omega)]; exact this
          · rw [if_neg c2] at this
            rw [if_neg (by omega)]; exact this) (M := A1) (s := ()) ⟨d1, a2, fun j hj => by rw [if_neg (by omega)]; exact (mi j hj).dg h i1 a3 (by have := (gl i j hi hj).2; omega)⟩
  have sB := dB.st h
  refine ⟨B, ?_, fun j hj => ?_, dB⟩
  · unfold F_X16_eliminate
    have aM1 : ar M 1307 1 = some 1310 := sm.ar (u := 1) h (by decide)
    simp only [g1068_1121, g1068_1120, h, aM1, mr.ar h hi (show k ≤ n by omega), i1.vg h, a1, Option.bind_some]
    refine Eq.trans f1 ?_
    show F_X16_eliminate_b26_st (F_X16_eliminate_b26 K) B 1068 _ _ _ _ _ _ = _
    unfold F_X16_eliminate_b26_st
    rw [if_neg (by rw [iw_le4 (by omega) (by omega)]; omega)]
  · have := vB j hj
    rw [if_pos (by omega)] at this
    exact this
