/-! ===== EXACT SOLUTIONS, 9: the model's great numbers ===== -/
def isG (g : Nat) : Prop := (1087 ≤ g ∧ g ≤ 1305 ∧ g % 2 = 1) ∨ (1308 ≤ g ∧ g ≤ 1322 ∧ g % 2 = 0)
theorem isG_stb : ((List.range 1334).all fun g => !(decide ((1087 ≤ g ∧ g ≤ 1305 ∧ g % 2 = 1) ∨ (1308 ≤ g ∧ g ≤ 1322 ∧ g % 2 = 0))) || (stT.contains (g, 19, 0) && stT.contains (g + 1, 1005, 40) && stR.contains (g, 1216, g + 1))) = true := by decide +kernel
theorem isG_st (g : Nat) (hg : g < 1334) (h : (1087 ≤ g ∧ g ≤ 1305 ∧ g % 2 = 1) ∨ (1308 ≤ g ∧ g ≤ 1322 ∧ g % 2 = 0)) : (g, 19, 0) ∈ stT ∧ (g + 1, 1005, 40) ∈ stT ∧ (g, 1216, g + 1) ∈ stR := by
  have := List.all_eq_true.mp isG_stb g (List.mem_range.mpr hg)
  rw [decide_eq_true h] at this
  simp only [Bool.not_true, Bool.false_or, Bool.and_eq_true, List.contains_iff_mem] at this
  exact ⟨this.1.1, this.1.2, this.2⟩
theorem isG.lt {g : Nat} (h : isG g) : g < 1323 := by unfold isG at h; omega
theorem isG.tg {M : Mem} {g : Nat} (i : isG g) (h : ST M) : m_tg M g = 19 := (h.2.1 _ (isG_st g (by have := i.lt; omega) i).1).1
theorem isG.tp {M : Mem} {g : Nat} (i : isG g) (h : ST M) : m_tg M (g + 1) = 1005 := (h.2.1 _ (isG_st g (by have := i.lt; omega) i).2.1).1
theorem isG.ln {M : Mem} {g : Nat} (i : isG g) (h : ST M) : m_ln M (g + 1) = 40 := (h.2.1 _ (isG_st g (by have := i.lt; omega) i).2.1).2 (show 1001 ≤ 1005 by decide)
theorem isG.rf {M : Mem} {g : Nat} (i : isG g) (h : ST M) : cR M g 1216 = g + 1 := h.2.2 _ (isG_st g (by have := i.lt; omega) i).2.2
theorem isG.gr {M : Mem} {g : Nat} (i : isG g) (h : ST M) : gr M g 1216 = some (g + 1) := by rw [gr_of (i.tg h) (show x_fr 19 1216 = true by decide), i.rf h]
theorem isG.gn {M : Mem} {g : Nat} (i : isG g) (h : ST M) : gi M g 1217 = some (cI M g 1217) := gi_of (i.tg h) (by decide)
theorem isG.gs {M : Mem} {g : Nat} (i : isG g) (h : ST M) : gi M g 1218 = some (cI M g 1218) := gi_of (i.tg h) (by decide)
theorem isG.pn {M : Mem} {g : Nat} (i : isG g) (h : ST M) (v : Int32) : pi M g 1217 v = some (wI M g 1217 v) := pi_of v (i.tg h) (by decide) rfl
theorem isG.ps {M : Mem} {g : Nat} (i : isG g) (h : ST M) {v : Int32} (hv : v = 0 ∨ v = 1) : pi M g 1218 v = some (wI M g 1218 v) := pi_of v (i.tg h) (by decide) (by rcases hv with rfl | rfl <;> decide)
theorem isG.vg {M : Mem} {g : Nat} (i : isG g) (h : ST M) : vg M g 19 = some () := vg_of (i.tg h) (by decide)
theorem isG.ai {M : Mem} {g : Nat} (i : isG g) (h : ST M) {j : Nat} (hj : j < 40) : ai M (g + 1) (iw (j : Int)) = some (cI M (g + 1) j) := ai_of (i.tp h) (i.ln h) hj (by decide)
theorem isG.si {M : Mem} {g : Nat} (i : isG g) (h : ST M) {j : Nat} (hj : j < 40) (v : Int32) : si M (g + 1) (iw (j : Int)) v = some (wI M (g + 1) j v) := si_of v (i.tp h) (i.ln h) hj (by decide)
theorem isG.ne {a b : Nat} (i : isG a) (j : isG b) : a + 1 ≠ b ∧ b + 1 ≠ a := by unfold isG at *; omega
/-- digits of 28 bits -/
def GR (M : Mem) (g n : Nat) (D : Nat → Nat) : Prop := ∀ k, k < n → cI M (g + 1) k = iw (D k : Nat) ∧ D k < 268435456
def MA (M : Mem) (g v : Nat) : Prop := isG g ∧ ∃ (n : Nat) (D : Nat → Nat), n ≤ 40 ∧ cI M g 1217 = iw (n : Int) ∧ GR M g n D ∧ Vl 268435456 D n = v ∧ (0 < n → D (n - 1) ≠ 0)
def MG (M : Mem) (g : Nat) (x : Int) : Prop := MA M g x.natAbs ∧ cI M g 1218 = (if x < 0 then 1 else 0)
def pG (g : Nat) : Nat → Nat → Prop := fun a i => (a = g ∧ (i = 1217 ∨ i = 1218)) ∨ a = g + 1
theorem GR.dw {P : Nat → Nat → Prop} {M A : Mem} {g n : Nat} {D : Nat → Nat} (r : GR M g n D) (i : isG g) (h : ST M) (d : Dw P M A) (hP : ∀ k, k < n → ¬ P (g + 1) k) : GR A g n D := fun k hk => by
  rw [d.ci h (by have := i.lt; omega) (hP k hk)]
  exact r k hk
theorem MA.dw {P : Nat → Nat → Prop} {M A : Mem} {g v : Nat} (e : MA M g v) (h : ST M) (d : Dw P M A) (h1 : ¬ P g 1217) (hP : ∀ k, ¬ P (g + 1) k) : MA A g v := by
  obtain ⟨i, n, D, a1, a2, a3, a4, a5⟩ := e
  exact ⟨i, n, D, a1, by rw [d.ci h (by have := i.lt; omega) h1]; exact a2, a3.dw i h d (fun k _ => hP k), a4, a5⟩
theorem MG.dw {P : Nat → Nat → Prop} {M A : Mem} {g : Nat} {x : Int} (e : MG M g x) (h : ST M) (d : Dw P M A) (h1 : ¬ P g 1217) (h2 : ¬ P g 1218) (hP : ∀ k, ¬ P (g + 1) k) : MG A g x :=
  ⟨e.1.dw h d h1 hP, by rw [d.ci h (by have := e.1.1.lt; omega) h2]; exact e.2⟩
theorem pG_no {a b : Nat} (i : isG a) (j : isG b) (hab : a ≠ b) : ¬ pG a b 1217 ∧ ¬ pG a b 1218 ∧ ∀ k, ¬ pG a (b + 1) k := by
  have := i.ne j
  refine ⟨?_, ?_, fun k => ?_⟩ <;> unfold pG <;> omega
theorem MG.dg {M A : Mem} {a b : Nat} {x : Int} (e : MG M b x) (h : ST M) (i : isG a) (d : Dw (pG a) M A) (hab : a ≠ b) : MG A b x :=
  have q := pG_no i e.1.1 hab
  e.dw h d q.1 q.2.1 q.2.2
theorem MA.dg {M A : Mem} {a b v : Nat} (e : MA M b v) (h : ST M) (i : isG a) (d : Dw (pG a) M A) (hab : a ≠ b) : MA A b v :=
  have q := pG_no i e.1 hab
  e.dw h d q.1 q.2.2
theorem GR.put {M : Mem} {g n : Nat} {T : Nat → Nat} {i v : Nat} (r : GR M g i T) (hv : v < 268435456) (hn : n = i + 1) : GR (wI M (g + 1) i (iw (v : Nat))) g n (fun k => if k = i then v else T k) := fun k hk => by
  show cI (wI M (g + 1) i (iw (v : Nat))) (g + 1) k = iw ((if k = i then v else T k : Nat) : Int) ∧ (if k = i then v else T k) < 268435456
  by_cases c : k = i
  · subst c
    rw [if_pos rfl]
    exact ⟨by rw [cI_wI, if_pos ⟨rfl, rfl⟩], hv⟩
  · rw [if_neg c, cI_wI, if_neg (by omega)]
    exact r k (by omega)
theorem GR.set {M : Mem} {g n : Nat} {T : Nat → Nat} {i v : Nat} (r : GR M g n T) (hv : v < 268435456) : GR (wI M (g + 1) i (iw (v : Nat))) g n (fun k => if k = i then v else T k) := fun k hk => by
  show cI (wI M (g + 1) i (iw (v : Nat))) (g + 1) k = iw ((if k = i then v else T k : Nat) : Int) ∧ (if k = i then v else T k) < 268435456
  by_cases c : k = i
  · subst c
    rw [if_pos rfl]
    exact ⟨by rw [cI_wI, if_pos ⟨rfl, rfl⟩], hv⟩
  · rw [if_neg c, cI_wI, if_neg (by omega)]
    exact r k hk
theorem M_trim {M : Mem} (h : ST M) {g n : Nat} {D : Nat → Nat} (i : isG g) (hn : n ≤ 40) (hd : GR M g n D) : ∃ M', F_X18_trim M g (iw (n : Int)) = some M' ∧ MA M' g (Vl 268435456 D n) ∧ cI M' g 1218 = (if Vl 268435456 D n = 0 then 0 else cI M g 1218) ∧ Dw (fun a i => a = g ∧ (i = 1217 ∨ i = 1218)) M M' := by
  have gl := i.lt
  have fin : ∀ (A : Mem) (n : Nat), ST A → n ≤ 40 → cI A g 1217 = iw (n : Int) → GR A g n D → (0 < n → D (n - 1) ≠ 0) → ∃ M', F_X18_trim_b39 A g = some M' ∧ MA M' g (Vl 268435456 D n) ∧ cI M' g 1218 = (if Vl 268435456 D n = 0 then 0 else cI A g 1218) ∧ Dw (fun a i => a = g ∧ (i = 1217 ∨ i = 1218)) A M' := by
    intro A n sA hn c1 r top
    unfold F_X18_trim_b39 F_X18_trim_b51
    rw [i.gn sA, Option.bind_some, c1]
    by_cases c : n = 0
    · subst c
      rw [if_pos (show iw ((0 : Nat) : Int) = 0 from rfl), i.ps sA (Or.inl rfl)]
      exact ⟨_, rfl, ⟨i, 0, D, by omega, by rw [cI_wI, if_neg (by omega)]; exact c1, fun k hk => absurd hk (by omega), rfl, top⟩, by rw [cI_wI, if_pos ⟨rfl, rfl⟩]; rfl, Dw.w _ ⟨rfl, Or.inr rfl⟩⟩
    · have := Vl_ge (B := 268435456) (show 0 < n by omega) (top (by omega))
      have : 0 < 268435456 ^ (n - 1) := Nat.pow_pos (by decide)
      rw [if_neg (by rw [iw_eq0 (by omega) (by omega)]; omega)]
      exact ⟨A, rfl, ⟨i, n, D, hn, c1, r, rfl, top⟩, by rw [if_neg (by omega)], Dw.refl _ _⟩
  have lp : ∀ (n N : Nat) (A : Mem), ST A → n ≤ 40 → cI A g 1217 = iw (n : Int) → GR A g n D → ∃ M', F_X18_trim_b5 (N + 1 + n) A g = some M' ∧ MA M' g (Vl 268435456 D n) ∧ cI M' g 1218 = (if Vl 268435456 D n = 0 then 0 else cI A g 1218) ∧ Dw (fun a i => a = g ∧ (i = 1217 ∨ i = 1218)) A M' := by
    intro n
    induction n with
    | zero =>
      intro N A sA hn c1 r
      obtain ⟨M', f1, f2, f3, f4⟩ := fin A 0 sA hn c1 r (fun q => absurd q (by omega))
      refine ⟨M', ?_, f2, f3, f4⟩
      show F_X18_trim_b5_st (F_X18_trim_b5 N) A g = _
      unfold F_X18_trim_b5_st
      rw [i.gn sA, Option.bind_some, c1, if_neg (by rw [iw_0lt (by omega) (by omega)]; omega)]
      exact f1
    | succ n ih =>
      intro N A sA hn c1 r
      have r1 := r n (by omega)
      have hd : F_X18_trim_b5 (N + 1 + (n + 1)) A g = if iw (D n : Nat) = 0 then F_X18_trim_b5 (N + 1 + n) (wI A g 1217 (iw (n : Int))) g else F_X18_trim_b39 A g := by
        show F_X18_trim_b5_st (F_X18_trim_b5 (N + 1 + n)) A g = _
        unfold F_X18_trim_b5_st
        simp only [i.gn sA, Option.bind_some, c1, i.gr sA, iw_m1]
        rw [if_pos (by rw [iw_0lt (by omega) (by omega)]; omega), i.ai sA (by omega), Option.bind_some, r1.1]
        simp only [i.pn sA, Option.bind_some]
      by_cases c : D n = 0
      · obtain ⟨M', f1, f2, f3, f4⟩ := ih N (wI A g 1217 (iw (n : Int))) sA (by omega) (by rw [cI_wI, if_pos ⟨rfl, rfl⟩]) (fun k hk => by rw [cI_wI, if_neg (by omega)]; exact r k (by omega))
        have e : Vl 268435456 D (n + 1) = Vl 268435456 D n := by
          show Vl 268435456 D n + D n * _ = _
          rw [c]; omega
        rw [e]
        refine ⟨M', ?_, f2, ?_, (Dw.w _ ⟨rfl, Or.inl rfl⟩).trans f4⟩
        · rw [hd, if_pos (by rw [iw_eq0 (by omega) (by omega)]; omega), f1]
        · rw [f3, show cI (wI A g 1217 (iw (n : Int))) g 1218 = cI A g 1218 from by rw [cI_wI, if_neg (by omega)]]
      · obtain ⟨M', f1, f2, f3, f4⟩ := fin A (n + 1) sA hn c1 r (fun _ => by rw [Nat.add_sub_cancel]; exact c)
        exact ⟨M', by rw [hd, if_neg (by rw [iw_eq0 (by omega) (by omega)]; omega)]; exact f1, f2, f3, f4⟩
  have hxN : xN = 1099511627776 := rfl
  obtain ⟨N, hN⟩ : ∃ N, N + 1 + n = xN := ⟨xN - 1 - n, by omega⟩
  obtain ⟨M', f1, f2, f3, f4⟩ := lp n N (wI M g 1217 (iw (n : Int))) h hn (by rw [cI_wI, if_pos ⟨rfl, rfl⟩]) (fun k hk => by rw [cI_wI, if_neg (by omega)]; exact hd k hk)
  refine ⟨M', ?_, f2, by rw [f3, show cI (wI M g 1217 (iw (n : Int))) g 1218 = cI M g 1218 from by rw [cI_wI, if_neg (by omega)]], (Dw.w _ ⟨rfl, Or.inl rfl⟩).trans f4⟩
  unfold F_X18_trim
  rw [i.pn h, Option.bind_some, ← hN]
  exact f1
theorem pG_t {g : Nat} : ∀ a i, (a = g ∧ (i = 1217 ∨ i = 1218)) → pG g a i := fun _ _ q => Or.inl q
theorem M_isZero {M : Mem} (h : ST M) {g v : Nat} (e : MA M g v) : F_X18_isZero M g = some (if v = 0 then 1 else 0) := by
  obtain ⟨i, n, D, h1, h2, h3, h4, h5⟩ := e
  simp only [F_X18_isZero, i.gn h, h2, Option.bind_some, F_X18_isZero_b12]
  by_cases c : n = 0
  · subst c
    have hv : v = 0 := h4.symm
    rw [if_pos (by rw [iw_eq0 (by omega) (by omega)]; rfl), if_pos hv]
    rfl
  · have : v ≠ 0 := by
      have := Vl_ge (B := 268435456) (show 0 < n by omega) (h5 (by omega))
      have : 0 < 268435456 ^ (n - 1) := Nat.pow_pos (by decide)
      omega
    rw [if_neg (by rw [iw_eq0 (by omega) (by omega)]; omega), if_neg this]
    rfl
theorem M_cmp {M : Mem} (h : ST M) {p q u v : Nat} (e : MA M p u) (f : MA M q v) : F_X18_compare M p q = some (iw (cmn u v)) := by
  obtain ⟨ip, n, D, h1, h2, h3, h4, h5⟩ := e
  obtain ⟨iq, m, E, k1, k2, k3, k4, k5⟩ := f
  simp only [F_X18_compare, ip.gn h, iq.gn h, h2, k2, Option.bind_some, F_X18_compare_b27]
  by_cases c : n = m
  · subst c
    rw [if_pos rfl]
    have lp : ∀ (i N : Nat), i ≤ n → F_X18_compare_b35 (N + 1 + i) M p q (iw ((i : Int) - 1)) = some (iw (cmpd D E i)) := by
      intro i
      induction i with
      | zero =>
        intro N _
        show F_X18_compare_b35_st (F_X18_compare_b35 N) M p q _ = _
        unfold F_X18_compare_b35_st
        rw [if_pos (by rw [iw_lt0 (by omega) (by omega)]; omega)]
        rfl
      | succ i ih =>
        intro N hi
        show F_X18_compare_b35_st (F_X18_compare_b35 (N + 1 + i)) M p q _ = _
        unfold F_X18_compare_b35_st
        have l1 := (h3 i (by omega)).2
        have l2 := (k3 i (by omega)).2
        rw [if_neg (by rw [iw_lt0 (by omega) (by omega)]; omega), show (((i + 1 : Nat) : Int) - 1) = (i : Int) by omega]
        simp only [ip.gr h, iq.gr h, ip.ai h (show i < 40 by omega), iq.ai h (show i < 40 by omega), (h3 i (by omega)).1, (k3 i (by omega)).1, Option.bind_some, F_X18_compare_b74, iw_p1]
        unfold cmpd
        by_cases c1 : D i = E i
        · rw [if_pos (by rw [c1]), if_pos c1, ih N (by omega)]
        · rw [if_neg (fun z => c1 (by have := (iw_eq (by omega) (by omega) (by omega) (by omega)).mp z; omega)), if_neg c1]
          by_cases c2 : D i < E i
          · rw [if_pos (by rw [iw_le4 (by omega) (by omega)]; exact c2), if_pos c2]; rfl
          · rw [if_neg (by rw [iw_le4 (by omega) (by omega)]; exact c2), if_neg c2]; rfl
    have hxN : xN = 1099511627776 := rfl
    obtain ⟨N, hN⟩ : ∃ N, N + 1 + n = xN := ⟨xN - 1 - n, by omega⟩
    have := lp n N (Nat.le_refl _)
    rw [hN, cmpd_ok (B := 268435456) (fun k hk => (h3 k hk).2) (fun k hk => (k3 k hk).2), h4, k4] at this
    rw [show (1 : Int32) = iw 1 from rfl, iw_sub]
    exact this
  · rw [if_neg (fun z => c (by have := (iw_eq (by omega) (by omega) (by omega) (by omega)).mp z; omega))]
    unfold cmn
    by_cases c1 : n < m
    · have := Vl_more (B := 268435456) (fun k hk => (h3 k hk).2) k5 c1 (by decide)
      rw [h4, k4] at this
      rw [if_pos (by rw [iw_le4 (by omega) (by omega)]; exact c1), if_pos this]
      rfl
    · have := Vl_more (B := 268435456) (fun k hk => (k3 k hk).2) h5 (show m < n by omega) (by decide)
      rw [h4, k4] at this
      rw [if_neg (by rw [iw_le4 (by omega) (by omega)]; exact c1), if_neg (by omega), if_neg (by omega)]
      rfl
theorem M_cpg {M : Mem} (h : ST M) {p q : Nat} {x : Int} (e : MG M p x) (iq : isG q) (hpq : p ≠ q) : ∃ M', F_X18_set_2 M q p = some M' ∧ MG M' q x ∧ Dw (pG q) M M' := by
  obtain ⟨⟨ip, n, D, h1, h2, h3, h4, h5⟩, s⟩ := e
  have np := ip.ne iq
  have lp' := ip.lt
  have lq := iq.lt
  have s01 : cI M p 1218 = 0 ∨ cI M p 1218 = 1 := by rw [s]; split <;> simp
  obtain ⟨A0, hA0⟩ : ∃ A0, A0 = wI (wI M q 1218 (cI M p 1218)) q 1217 (iw (n : Int)) := ⟨_, rfl⟩
  have sA0 : ST A0 := hA0 ▸ h
  have d0 : Dw (pG q) M A0 := hA0 ▸ (Dw.w _ (Or.inl ⟨rfl, Or.inr rfl⟩)).trans (Dw.w _ (Or.inl ⟨rfl, Or.inl rfl⟩))
  have a1 : cI A0 q 1217 = iw (n : Int) := by rw [hA0, cI_wI, if_pos ⟨rfl, rfl⟩]
  have a2 : cI A0 q 1218 = cI M p 1218 := by rw [hA0, cI_wI, if_neg (by omega), cI_wI, if_pos ⟨rfl, rfl⟩]
  have r0 : GR A0 p n D := h3.dw ip h d0 (fun k _ => (pG_no iq ip (fun z => hpq z.symm)).2.2 k)
  obtain ⟨K, A, -, e1, d1, r1⟩ := upl0 (σ := Unit) (fun N M _ i => F_X18_set_2_b18 N M q p i) (n := n) (by omega) (fun i A _ => Dw (at1 (q + 1)) A0 A ∧ GR A q i D)
    (fun N A _ i hi hJ => by
      obtain ⟨d, r⟩ := hJ
      have sA := d.st sA0
      refine ⟨wI A (q + 1) i (iw (D i : Nat)), (), ?_, d.trans (Dw.w _ rfl), fun k hk => ?_⟩
      · show F_X18_set_2_b18_st (F_X18_set_2_b18 N) A q p _ = _
        unfold F_X18_set_2_b18_st
        have l1 : cI A q 1217 = iw (n : Int) := by rw [d.ci sA0 (by omega) (by unfold at1; omega)]; exact a1
        have l2 : cI A (p + 1) i = iw (D i : Nat) := by rw [d.ci sA0 (by omega) (by unfold at1; omega)]; exact (r0 i hi).1
        rw [iq.gn sA, Option.bind_some, l1, if_pos (by rw [iw_le4 (by omega) (by omega)]; exact hi)]
        simp only [iq.gr sA, ip.gr sA, ip.ai sA (show i < 40 by omega), l2, iq.si sA (show i < 40 by omega), Option.bind_some, iw_succ]
      · by_cases c : k = i
        · subst c
          exact ⟨by rw [cI_wI, if_pos ⟨rfl, rfl⟩], (h3 k hi).2⟩
        · rw [cI_wI, if_neg (by omega)]
          exact r k (by omega)) (M := A0) (s := ()) ⟨Dw.refl _ _, fun k hk => absurd hk (by omega)⟩
  have sA := d1.st sA0
  have l1 : cI A q 1217 = iw (n : Int) := by rw [d1.ci sA0 (by omega) (by unfold at1; omega)]; exact a1
  refine ⟨A, ?_, ⟨⟨iq, n, D, h1, l1, r1, h4, h5⟩, ?_⟩, d0.trans (d1.mono (fun a i q' => Or.inr q'))⟩
  · unfold F_X18_set_2
    have sB : ST (wI M q 1218 (cI M p 1218)) := h
    have b1 : cI (wI M q 1218 (cI M p 1218)) p 1217 = iw (n : Int) := by rw [cI_wI, if_neg (by omega)]; exact h2
    simp only [ip.gs h, iq.ps h s01, ip.gn sB, b1, iq.pn sB, ← hA0, Option.bind_some]
    refine Eq.trans e1 ?_
    show F_X18_set_2_b18_st (F_X18_set_2_b18 K) A q p _ = _
    unfold F_X18_set_2_b18_st
    rw [iq.gn sA, Option.bind_some, l1, if_neg (by rw [iw_le4 (by omega) (by omega)]; omega)]
  · rw [d1.ci sA0 (by omega) (by unfold at1; omega), a2, s]
theorem k28 : (268435456 : Int64) = nl 268435456 := nl_lit 268435456
theorem n28 : ¬ nl 268435456 = 0 := fun z => absurd ((nl_eq (m := 268435456) (n := 0) (by decide) (by decide)).mp z) (by decide)
theorem M_set_l {g : Nat} (i : isG g) : ∀ (e N k : Nat) (M : Mem) (v : Int64), v.toInt.natAbs < 268435456 ^ e → k + e ≤ 40 → ST M → cI M g 1217 = iw (k : Int) → ∃ (M' : Mem) (n : Nat) (D : Nat → Nat), F_X18_set_b22 (N + 1 + e) M g v = some M' ∧ n ≤ e ∧ Vl 268435456 D n = v.toInt.natAbs ∧ (0 < n → D (n - 1) ≠ 0) ∧ (∀ i, i < n → cI M' (g + 1) (k + i) = iw (D i : Nat) ∧ D i < 268435456) ∧ cI M' g 1217 = iw ((k + n : Nat) : Int) ∧ (∀ i, i < k → cI M' (g + 1) i = cI M (g + 1) i) ∧ Dw (fun a i => (a = g ∧ i = 1217) ∨ a = g + 1) M M' := by
  have gl := i.lt
  intro e
  induction e with
  | zero =>
    intro N k M v hv hk h hc
    have hv0 : v = 0 := by
      rw [i64_eq]
      have : (0 : Int64).toInt = 0 := by decide
      rw [Nat.pow_zero] at hv
      omega
    subst hv0
    refine ⟨M, 0, fun _ => 0, ?_, Nat.le_refl _, rfl, fun q => absurd q (Nat.lt_irrefl 0), fun i hi => absurd hi (by omega), hc, fun i hi => rfl, Dw.refl _ _⟩
    show F_X18_set_b22_st (F_X18_set_b22 N) M g _ = _
    unfold F_X18_set_b22_st
    rw [if_pos rfl]
  | succ e ih =>
    intro N k M v hv hk h hc
    by_cases hv0 : v = 0
    · subst hv0
      refine ⟨M, 0, fun _ => 0, ?_, by omega, rfl, fun q => absurd q (Nat.lt_irrefl 0), fun i hi => absurd hi (by omega), hc, fun i hi => rfl, Dw.refl _ _⟩
      show F_X18_set_b22_st (F_X18_set_b22 (N + 1 + e)) M g _ = _
      unfold F_X18_set_b22_st
      rw [if_pos rfl]
    · have z0 : v.toInt ≠ 0 := fun q => hv0 (i64_eq.mpr (q.trans (by decide)))
      obtain ⟨a1, a2⟩ := dgs v (p := 268435456) (by decide) (by decide)
      obtain ⟨v', hv'⟩ : ∃ v', v' = v / nl 268435456 := ⟨_, rfl⟩
      obtain ⟨w, hw⟩ : ∃ w, w = j_lrem v (nl 268435456) := ⟨_, rfl⟩
      rw [← hv'] at a1
      rw [← hw] at a2
      obtain ⟨d, hd⟩ : ∃ d, d = v.toInt.natAbs % 268435456 := ⟨_, rfl⟩
      have dlt : d < 268435456 := by rw [hd]; exact Nat.mod_lt _ (by decide)
      obtain ⟨M0, hM0⟩ : ∃ M0, M0 = wI M (g + 1) k (iw (d : Nat)) := ⟨_, rfl⟩
      have s0 : ST M0 := hM0 ▸ h
      have c0 : cI M0 g 1217 = iw (k : Int) := by rw [hM0, cI_wI, if_neg (by omega)]; exact hc
      obtain ⟨M1, hM1⟩ : ∃ M1, M1 = wI M0 g 1217 (iw ((k + 1 : Nat) : Int)) := ⟨_, rfl⟩
      have s1 : ST M1 := hM1 ▸ s0
      obtain ⟨M', n, D, r1, r2, r3, r4, r5, r6, r7, r8⟩ := ih N (k + 1) M1 v' (by
        rw [a1]
        rw [Nat.pow_succ] at hv
        exact Nat.div_lt_of_lt_mul (by rw [Nat.mul_comm]; exact hv)) (by omega) s1 (by rw [hM1, cI_wI, if_pos ⟨rfl, rfl⟩])
      have dw1 : Dw (fun a i => (a = g ∧ i = 1217) ∨ a = g + 1) M M1 := (hM0 ▸ Dw.w _ (Or.inr rfl) : Dw (fun a i => (a = g ∧ i = 1217) ∨ a = g + 1) M M0).trans (hM1 ▸ Dw.w _ (Or.inl ⟨rfl, rfl⟩))
      refine ⟨M', n + 1, fun i => if i = 0 then d else D (i - 1), ?_, by omega, ?_, ?_, ?_, by rw [r6]; congr 2; omega, ?_, dw1.trans r8⟩
      · rw [← r1]
        show F_X18_set_b22_st (F_X18_set_b22 (N + 1 + e)) M g _ = _
        unfold F_X18_set_b22_st
        simp only [k28, ← hw]
        rw [if_neg hv0, if_neg n28]
        have a2' : w.toInt.natAbs = d := a2.trans hd.symm
        have zz : (0 : Int64).toInt = 0 := by decide
        have i32 : ∀ w : Int64, w.toInt = (d : Int) → w.toInt32 = iw (d : Nat) := fun w hw => by
          apply ui_inj
          rw [un_i32]
          have h1 := un_int w
          have h2 := ui_iw (d : Int)
          omega
        simp only [i.gr h, i.gn h, hc, Option.bind_some, F_X18_set_b58, k28, ← hv']
        by_cases c : w < 0
        · have c' : w.toInt < 0 := by rw [Int64.lt_iff_toInt_lt, zz] at c; exact c
          rw [if_pos c, i32 (-w) (by rw [Int64.toInt_neg, bw64 (by omega) (by omega)]; omega), i.si h (by omega), ← hM0]
          simp only [Option.bind_some, i.gn s0, c0, iw_succ, i.pn s0, ← hM1]
          rw [if_neg n28]
        · have c' : ¬ w.toInt < 0 := by rw [Int64.lt_iff_toInt_lt, zz] at c; exact c
          rw [if_neg c, i32 w (by omega), i.si h (by omega), ← hM0]
          simp only [Option.bind_some, i.gn s0, c0, iw_succ, i.pn s0, ← hM1]
          rw [if_neg n28]
      · rw [Vl_head]
        have : Vl 268435456 (fun k => if k + 1 = 0 then d else D (k + 1 - 1)) n = Vl 268435456 D n := Vl_congr (fun k _ => by rw [if_neg (by omega)]; rfl)
        show (if 0 = 0 then d else D (0 - 1)) + 268435456 * Vl 268435456 (fun k => if k + 1 = 0 then d else D (k + 1 - 1)) n = _
        rw [this, r3, a1, if_pos rfl, hd]
        omega
      · intro _
        show (if n + 1 - 1 = 0 then d else D (n + 1 - 1 - 1)) ≠ 0
        by_cases c : n = 0
        · subst c
          rw [if_pos rfl]
          have r3' : 0 = v'.toInt.natAbs := r3
          rw [a1] at r3'
          omega
        · rw [if_neg (by omega)]
          exact r4 (by omega)
      · intro i hi
        show cI M' (g + 1) (k + i) = iw ((if i = 0 then d else D (i - 1) : Nat) : Int) ∧ (if i = 0 then d else D (i - 1)) < 268435456
        by_cases c : i = 0
        · subst c
          rw [if_pos rfl]
          refine ⟨?_, dlt⟩
          have := r7 k (by omega)
          show cI M' (g + 1) k = _
          rw [this, hM1, cI_wI, if_neg (by omega), hM0, cI_wI, if_pos ⟨rfl, rfl⟩]
        · rw [if_neg c]
          have := r5 (i - 1) (by omega)
          rw [show k + 1 + (i - 1) = k + i by omega] at this
          exact this
      · intro i hi
        rw [r7 i (by omega), hM1, cI_wI, if_neg (by omega), hM0, cI_wI, if_neg (by omega)]
theorem M_set {M : Mem} (h : ST M) {g : Nat} (i : isG g) (v : Int64) : ∃ M', F_X18_set M g v = some M' ∧ MG M' g v.toInt ∧ Dw (pG g) M M' := by
  have hxN : xN = 1099511627776 := rfl
  have gl := i.lt
  have r := i64_rng v
  have z0 : (0 : Int64).toInt = 0 := by decide
  obtain ⟨b, hb⟩ : ∃ b : Int32, b = if v < 0 then 1 else 0 := ⟨_, rfl⟩
  have vl : v < 0 ↔ v.toInt < 0 := by rw [Int64.lt_iff_toInt_lt, z0]
  obtain ⟨A, hA⟩ : ∃ A, A = wI (wI M g 1218 b) g 1217 0 := ⟨_, rfl⟩
  have sA : ST A := hA ▸ h
  obtain ⟨N, hN⟩ : ∃ N, N + 1 + 3 = xN := ⟨xN - 4, by omega⟩
  obtain ⟨M', n, D, r1, r2, r3, r4, r5, r6, r7, r8⟩ := M_set_l i 3 N 0 A v (by
    have : (268435456 : Nat) ^ 3 = 19342813113834066795298816 := by decide
    omega) (by omega) sA (by rw [hA, cI_wI, if_pos ⟨rfl, rfl⟩]; rfl)
  rw [hN] at r1
  refine ⟨M', ?_, ⟨⟨i, n, D, by omega, by rw [r6, Nat.zero_add], fun k hk => by have := r5 k hk; rw [Nat.zero_add] at this; exact this, r3, r4⟩, ?_⟩, (hA ▸ (Dw.w b (Or.inl ⟨rfl, Or.inr rfl⟩)).trans (Dw.w 0 (Or.inl ⟨rfl, Or.inl rfl⟩)) : Dw (pG g) M A).trans (r8.mono (fun a j q => q.elim (fun q => Or.inl ⟨q.1, Or.inl q.2⟩) Or.inr))⟩
  · unfold F_X18_set F_X18_set_b12
    have sB : ∀ b : Int32, ST (wI M g 1218 b) := fun _ => h
    split
    · rename_i c
      rw [if_pos c] at hb
      subst hb
      rw [i.ps h (Or.inr rfl), Option.bind_some, i.pn (sB 1), Option.bind_some, ← hA]
      exact r1
    · rename_i c
      rw [if_neg c] at hb
      subst hb
      rw [i.ps h (Or.inl rfl), Option.bind_some, i.pn (sB 0), Option.bind_some, ← hA]
      exact r1
  · rw [r8.ci sA (by omega) (by omega), hA, cI_wI, if_neg (by omega), cI_wI, if_pos ⟨rfl, rfl⟩, hb]
    by_cases c : v < 0
    · rw [if_pos c, if_pos (vl.mp c)]
    · rw [if_neg c, if_neg (fun q => c (vl.mpr q))]
