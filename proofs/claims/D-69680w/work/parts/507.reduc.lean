/-! ===== EXACT SOLUTIONS, 18: the model's elimination, whole ===== -/
def GMx (M : Mem) : Prop := (∀ i, i < 110 → 1087 ≤ cR M 1086 i ∧ cR M 1086 i ≤ 1305 ∧ cR M 1086 i % 2 = 1) ∧ (∀ i j, i < 110 → j < 110 → cR M 1086 i = cR M 1086 j → i = j) ∧ SoM M
def gam (M : Mem) (n i j : Nat) : Nat := cR M 1086 ((n + 1) * i + j)
theorem ix_inj {n i j i' j' : Nat} (hj : j ≤ n) (hj' : j' ≤ n) (h : (n + 1) * i + j = (n + 1) * i' + j') : i = i' ∧ j = j' := by
  have h1 : ((n + 1) * i + j) / (n + 1) = i := by rw [Nat.mul_add_div (by omega), Nat.div_eq_of_lt (by omega), Nat.add_zero]
  have h2 : ((n + 1) * i' + j') / (n + 1) = i' := by rw [Nat.mul_add_div (by omega), Nat.div_eq_of_lt (by omega), Nat.add_zero]
  have e : i = i' := by rw [← h1, h, h2]
  subst e
  exact ⟨rfl, by omega⟩
theorem GMx.mr {M : Mem} (g : GMx M) {n : Nat} (hn : n ≤ 10) : MRr M n (gam M n) := by
  refine ⟨hn, fun i hi j hj => ?_, fun i j i' j' hi hj hi' hj' e => ix_inj hj hj' (g.2.1 _ _ (ix_lt hn hi hj) (ix_lt hn hi' hj') e)⟩
  have := g.1 _ (ix_lt hn hi hj)
  exact ⟨rfl, Or.inl this, this.2.1⟩
theorem GMx.dw {P : Nat → Nat → Prop} {M A : Mem} (g : GMx M) (h : ST M) (d : Dw P M A) : GMx A := by
  have e : ∀ i, cR A 1086 i = cR M 1086 i := fun i => d.1.cR (by have := h.1; omega) (fun q => q)
  refine ⟨fun i hi => by rw [e]; exact g.1 i hi, fun i j hi hj => by rw [e, e]; exact g.2.1 i j hi hj, g.2.2.dw h d⟩
theorem st86 : ∀ p ∈ stR, ¬ p.1 = 1086 := by decide +kernel
theorem ST.r86 {P Q : Nat → Nat → Prop} {M A : Mem} (h : ST M) (d : Df P Q (at1 1086) M A) : ST A := h.df d (fun p hp q => st86 p hp q)
theorem GMx.swap {M : Mem} (g : GMx M) {a b : Nat} (ha : a < 110) (hb : b < 110) : GMx (wR (wR M 1086 a (cR M 1086 b)) 1086 b (cR M 1086 a)) := by
  have e : ∀ i, cR (wR (wR M 1086 a (cR M 1086 b)) 1086 b (cR M 1086 a)) 1086 i = cR M 1086 (swr a b i) := fun i => by
    rw [cR_wR, cR_wR]
    unfold swr
    by_cases c2 : i = b
    · rw [if_pos ⟨rfl, c2⟩]
      by_cases c1 : i = a
      · rw [if_pos c1, ← c2, c1]
      · rw [if_neg c1, if_pos c2]
    · rw [if_neg (fun z => c2 z.2)]
      by_cases c1 : i = a
      · rw [if_pos ⟨rfl, c1⟩, if_pos c1]
      · rw [if_neg (fun z => c1 z.2), if_neg c1, if_neg c2]
  refine ⟨fun i hi => by rw [e]; exact g.1 _ (swr_lt ha hb hi), fun i j hi hj z => ?_, fun u hu => ?_⟩
  · rw [e, e] at z
    have := g.2.1 _ _ (swr_lt ha hb hi) (swr_lt ha hb hj) z
    rw [← swr_swr a b i, this, swr_swr]
  · rw [cR_wR, if_neg (by omega), cR_wR, if_neg (by omega)]
    exact g.2.2 u hu
theorem MG.ci {M B : Mem} {g : Nat} {x : Int} (e : MG M g x) (hc : ∀ a i, cI B a i = cI M a i) : MG B g x := by
  obtain ⟨⟨i, n, D, a1, a2, a3, a4, a5⟩, s⟩ := e
  exact ⟨⟨i, n, D, a1, by rw [hc]; exact a2, fun k hk => by rw [hc]; exact a3 k hk, a4, a5⟩, by rw [hc]; exact s⟩
theorem M_pvt {M : Mem} (h : ST M) {n k : Nat} {γ : Nat → Nat → Nat} {A : Nat → Vc} (mr : MRr M n γ) (mat : ∀ i, i < n → ∀ j, j ≤ n → MG M (γ i j) (A i j)) (hk : k < n) {k19 : Mem → Nat → Int32 → Int32 → Nat → Int32 → Option (Int32 × Mem)} : ∀ (e N : Nat), e ≤ n → F_X16_isReduced_b29 k19 (N + 1 + e) M 1068 (iw (n : Int)) (iw ((n + 1 : Nat) : Int)) 1308 (iw (k : Int)) (iw ((n - e : Nat) : Int)) = F_X16_isReduced_b59 k19 M 1068 (iw (n : Int)) (iw ((n + 1 : Nat) : Int)) 1308 (iw (k : Int)) (iw (pvt A n k e : Nat)) := by
  have n10 := mr.1
  intro e
  induction e with
  | zero =>
    intro N _
    show F_X16_isReduced_b29_st k19 (F_X16_isReduced_b29 k19 N) M 1068 _ _ _ _ _ = _
    unfold F_X16_isReduced_b29_st
    rw [if_neg (by rw [iw_le4 (by omega) (by omega)]; omega)]
    rfl
  | succ e ih =>
    intro N he
    show F_X16_isReduced_b29_st k19 (F_X16_isReduced_b29 k19 (N + 1 + e)) M 1068 _ _ _ _ _ = _
    unfold F_X16_isReduced_b29_st
    have hi : n - (e + 1) < n := by omega
    have m := mat (n - (e + 1)) hi k (by omega)
    have iz := M_isZero h m.1
    rw [if_pos (by rw [iw_le4 (by omega) (by omega)]; omega)]
    simp only [g1068_1120, h, mr.ar h hi (show k ≤ n by omega), m.1.1.vg h, iz, Option.bind_some]
    unfold pvt
    by_cases c : A (n - (e + 1)) k = 0
    · rw [if_pos (show (A (n - (e + 1)) k).natAbs = 0 by omega), if_neg (by decide), if_pos c, iw_succ, show n - (e + 1) + 1 = n - e by omega]
      exact ih N (by omega)
    · rw [if_neg (show ¬ (A (n - (e + 1)) k).natAbs = 0 by omega), if_pos rfl, if_neg c]
def pMo : Nat → Nat → Prop := fun a _ => 1087 ≤ a ∧ a ≤ 1323
def Dr (M M' : Mem) : Prop := Df pMo n2 (at1 1086) M M' ∧ m_nx M' = m_nx M ∧ m_sl M' = m_sl M
theorem Dr.refl (M : Mem) : Dr M M := ⟨Df.refl _ _ _ _, rfl, rfl⟩
theorem Dr.trans {M A B : Mem} (h : Dr M A) (k : Dr A B) : Dr M B := ⟨h.1.trans k.1, k.2.1.trans h.2.1, k.2.2.trans h.2.2⟩
theorem pU_Mo {S : Nat → Prop} : ∀ a c, pU S a c → pMo a c := fun a c q => by
  obtain ⟨g, i, -, p⟩ := q
  unfold isG at i
  unfold pG at p
  unfold pMo
  omega
theorem Dw.r {S : Nat → Prop} {M A : Mem} (d : Dw (pU S) M A) : Dr M A := ⟨d.1.mono pU_Mo (fun _ _ q => q) (fun _ _ q => q.elim), d.2.1, d.2.2⟩
/-- rows k and p change places -/
theorem M_swap {M : Mem} (h : ST M) (gm : GMx M) {n k p : Nat} (n10 : n ≤ 10) (hk : k < n) (hp : p < n) (hkp : k ≤ p) {k19 : Mem → Nat → Int32 → Int32 → Nat → Int32 → Option (Int32 × Mem)} :
    ∃ B, F_X16_isReduced_b59 k19 M 1068 (iw (n : Int)) (iw ((n + 1 : Nat) : Int)) 1308 (iw (k : Int)) (iw (p : Int)) = F_X16_isReduced_b141 k19 B 1068 (iw (n : Int)) (iw ((n + 1 : Nat) : Int)) 1308 (iw (k : Int)) ∧ Dr M B ∧ ST B ∧ GMx B ∧ (∀ a i, cI B a i = cI M a i) ∧ ∀ i, i < n → ∀ j, j ≤ n → gam B n i j = gam M n (swr k p i) j := by
  have hpn : ¬ iw (p : Int) = iw (n : Int) := fun z => by have := (iw_eq (by omega) (by omega) (by omega) (by omega)).mp z; omega
  by_cases c : p = k
  · subst c
    refine ⟨M, ?_, Dr.refl M, h, gm, fun _ _ => rfl, fun i _ j _ => ?_⟩
    · unfold F_X16_isReduced_b59
      rw [if_neg hpn]
      have hxN : ∃ K, xN = K + 1 := ⟨1099511627775, rfl⟩
      obtain ⟨K, hK⟩ := hxN
      rw [hK]
      show F_X16_isReduced_b70_st k19 (F_X16_isReduced_b70 k19 K) M 1068 _ _ _ _ _ _ = _
      unfold F_X16_isReduced_b70_st
      rw [if_pos (by rw [show (0 : Int32) = iw ((0 : Nat) : Int) from rfl, iw_le4 (by omega) (by omega)]; omega), if_pos rfl]
    · unfold swr
      by_cases c : i = p
      · rw [if_pos c, c]
      · rw [if_neg c, if_neg c]
  · have npk : ¬ iw (p : Int) = iw (k : Int) := fun z => c (by have := (iw_eq (by omega) (by omega) (by omega) (by omega)).mp z; omega)
    obtain ⟨K, B, -, f1, d1, s1, g1, ci1, v1⟩ := upl0 (σ := Unit) (fun N M _ j => F_X16_isReduced_b70 k19 N M 1068 (iw (n : Int)) (iw ((n + 1 : Nat) : Int)) 1308 (iw (k : Int)) (iw (p : Int)) j) (n := n + 1) (by omega) (fun c B _ => Dr M B ∧ ST B ∧ GMx B ∧ (∀ a i, cI B a i = cI M a i) ∧ ∀ i, i < n → ∀ j, j ≤ n → gam B n i j = gam M n (if j < c then swr k p i else i) j)
      (fun N B _ j hj hJ => by
        obtain ⟨d, sB, g, ci, v⟩ := hJ
        have hj' : j ≤ n := by omega
        have mr := g.mr n10
        have l1 := ix_lt n10 hp hj'
        have l2 := ix_lt n10 hk hj'
        obtain ⟨C, hC⟩ : ∃ C, C = wR (wR B 1086 ((n + 1) * p + j) (cR B 1086 ((n + 1) * k + j))) 1086 ((n + 1) * k + j) (cR B 1086 ((n + 1) * p + j)) := ⟨_, rfl⟩
        have dBC : Df pMo n2 (at1 1086) B C := by
          rw [hC]
          exact (Df.wR (R := at1 1086) (a := 1086) _ rfl).trans (Df.wR (R := at1 1086) (a := 1086) _ rfl)
        have sC : ST C := sB.r86 dBC
        have sW : ST (wR B 1086 ((n + 1) * p + j) (cR B 1086 ((n + 1) * k + j))) := sB.r86 (P := n2) (Q := n2) (Df.wR (R := at1 1086) (a := 1086) _ rfl)
        refine ⟨C, (), ?_, d.trans ⟨dBC, by rw [hC]; rfl, by rw [hC]; rfl⟩, sC, by rw [hC]; exact g.swap l1 l2, fun a i => by rw [hC]; exact ci a i, fun i hi x hx => ?_⟩
        · show F_X16_isReduced_b70_st k19 (F_X16_isReduced_b70 k19 N) B 1068 _ _ _ _ _ _ = _
          unfold F_X16_isReduced_b70_st
          rw [if_pos (by rw [iw_le4 (by omega) (by omega)]; omega), if_neg npk]
          have gk := (mr.2.1 k hk j hj').2.1
          have gp := (mr.2.1 p hp j hj').2.1
          have w1 : sr B 1086 (iw (((n + 1) * p + j : Nat) : Int)) (gam B n k j) = some (wR B 1086 ((n + 1) * p + j) (cR B 1086 ((n + 1) * k + j))) := sr_of (by rw [t1086 sB]; decide) (l1086 sB) l1 (by decide) (Or.inr (by rw [gk.tg sB, t1086 sB]; decide))
          have w2 : sr (wR B 1086 ((n + 1) * p + j) (cR B 1086 ((n + 1) * k + j))) 1086 (iw (((n + 1) * k + j : Nat) : Int)) (gam B n p j) = some C := by
            rw [hC]
            exact sr_of (by rw [t1086 sW]; decide) (l1086 sW) l2 (by decide) (Or.inr (by rw [gp.tg sW, t1086 sW]; decide))
          have a1 := mr.ar sB hp hj'
          have a2 := mr.ar sB hk hj'
          rw [ix_e] at a1 a2
          simp only [g1068_1120, sB, ix_e, a1, a2, w1, sW, w2, Option.bind_some, iw_succ]
        · show cR C 1086 ((n + 1) * i + x) = _
          rw [hC, cR_wR, cR_wR]
          have vi := v i hi x hx
          by_cases cx : x = j
          · subst cx
            rw [show (if x < x + 1 then swr k p i else i) = swr k p i from if_pos (Nat.lt_succ_self x)]
            unfold swr
            by_cases c1 : i = k
            · subst c1
              rw [if_pos ⟨rfl, rfl⟩, if_pos rfl]
              have := v p hp x hx
              rw [if_neg (Nat.lt_irrefl x)] at this
              exact this
            · rw [if_neg (fun z => c1 (ix_inj hx hx z.2).1), if_neg c1]
              by_cases c2 : i = p
              · subst c2
                rw [if_pos ⟨rfl, rfl⟩, if_pos rfl]
                have := v k hk x hx
                rw [if_neg (Nat.lt_irrefl x)] at this
                exact this
              · rw [if_neg (fun z => c2 (ix_inj hx hx z.2).1), if_neg c2]
                rw [if_neg (Nat.lt_irrefl x)] at vi
                exact vi
          · rw [if_neg (fun z => cx (ix_inj hx hj' z.2).2), if_neg (fun z => cx (ix_inj hx hj' z.2).2)]
            by_cases c2 : x < j
            · rw [if_pos c2] at vi
              rw [if_pos (by omega)]; exact vi
            · rw [if_neg c2] at vi
              rw [if_neg (by omega)]; exact vi) (M := M) (s := ()) ⟨Dr.refl M, h, gm, fun _ _ => rfl, fun i _ j _ => by rw [if_neg (by omega)]⟩
    refine ⟨B, ?_, d1, s1, g1, ci1, fun i hi j hj => by have := v1 i hi j hj; rw [if_pos (by omega)] at this; exact this⟩
    unfold F_X16_isReduced_b59
    rw [if_neg hpn]
    refine Eq.trans f1 ?_
    show F_X16_isReduced_b70_st k19 (F_X16_isReduced_b70 k19 K) B 1068 _ _ _ _ _ _ = _
    unfold F_X16_isReduced_b70_st
    rw [if_neg (by rw [iw_le4 (by omega) (by omega)]; omega)]
theorem M_red_l {n : Nat} (n10 : n ≤ 10) : ∀ (e N k : Nat) (M : Mem) (A A0 : Nat → Vc) (q : Int), k + e = n → ST M → GMx M → (∀ i, i < n → ∀ j, j ≤ n → MG M (gam M n i j) (A i j)) → MG M 1308 q → Ba n 2147483648 k q A A0 → q.natAbs < 2 ^ 336 →
    (red n e k q A = none ∧ ∃ M', F_X16_isReduced_b19 (N + 1 + e) M 1068 (iw (n : Int)) (iw ((n + 1 : Nat) : Int)) 1308 (iw (k : Int)) = some (0, M') ∧ Dr M M' ∧ GMx M') ∨ (∃ q' A' M', red n e k q A = some (q', A') ∧ F_X16_isReduced_b19 (N + 1 + e) M 1068 (iw (n : Int)) (iw ((n + 1 : Nat) : Int)) 1308 (iw (k : Int)) = some (1, M') ∧ Dr M M' ∧ ST M' ∧ GMx M' ∧ (∀ i, i < n → ∀ j, j ≤ n → MG M' (gam M' n i j) (A' i j))) := by
  have hxN : xN = 1099511627776 := rfl
  intro e
  induction e with
  | zero =>
    intro N k M A A0 q hk h gm mat e5 ba hq
    have : k = n := by omega
    subst this
    right
    refine ⟨q, A, M, rfl, ?_, Dr.refl M, h, gm, mat⟩
    show F_X16_isReduced_b19_st (F_X16_isReduced_b19 N) M 1068 _ _ _ _ = _
    unfold F_X16_isReduced_b19_st
    rw [if_neg (by rw [iw_le4 (by omega) (by omega)]; omega)]
  | succ e ih =>
    intro N k M A A0 q hk h gm mat e5 ba hq
    have mr := gm.mr n10
    obtain ⟨p1, p2, p3⟩ := pvt_ge (A := A) (k := k) (n := n) (n - k) (by omega)
    obtain ⟨r, hr⟩ : ∃ r, r = pvt A n k (n - k) := ⟨_, rfl⟩
    have hd : F_X16_isReduced_b19 (N + 1 + (e + 1)) M 1068 (iw (n : Int)) (iw ((n + 1 : Nat) : Int)) 1308 (iw (k : Int)) = F_X16_isReduced_b59 (F_X16_isReduced_b19 (N + 1 + e)) M 1068 (iw (n : Int)) (iw ((n + 1 : Nat) : Int)) 1308 (iw (k : Int)) (iw (r : Nat)) := by
      show F_X16_isReduced_b19_st (F_X16_isReduced_b19 (N + 1 + e)) M 1068 _ _ _ _ = _
      unfold F_X16_isReduced_b19_st
      rw [if_pos (by rw [iw_le4 (by omega) (by omega)]; omega)]
      obtain ⟨K, hK⟩ : ∃ K, K + 1 + (n - k) = xN := ⟨xN - 1 - (n - k), by omega⟩
      have := M_pvt h mr mat (show k < n by omega) (k19 := F_X16_isReduced_b19 (N + 1 + e)) (n - k) K (by omega)
      rw [hK, show n - (n - k) = k by omega, ← hr] at this
      exact this
    rw [← hr] at p1 p2 p3
    by_cases cr : r = n
    · left
      refine ⟨?_, M, ?_, Dr.refl M, gm⟩
      · unfold red
        rw [if_pos (by rw [← hr]; exact cr)]
      · rw [hd]
        unfold F_X16_isReduced_b59
        rw [if_pos (by rw [cr])]
    · have hrn : r < n := by omega
      obtain ⟨A0', ba', bs⟩ := ba.stp (by decide) (show k < n by omega) (by rw [← hr]; exact cr)
      rw [← hr] at ba' bs
      have hred : red n (e + 1) k q A = red n e (k + 1) (A r k) (stp A k r q) := by
        conv => lhs; unfold red
        rw [if_neg (by rw [← hr]; exact cr), ← hr]
      obtain ⟨M1, w1, w2, s1, g1, w5, w6⟩ := M_swap h gm n10 (show k < n by omega) hrn (by omega) (k19 := F_X16_isReduced_b19 (N + 1 + e))
      obtain ⟨S, hS⟩ : ∃ S : Nat → Vc, S = fun i => A (swr k r i) := ⟨_, rfl⟩
      rw [← hS] at bs
      have mr1 := g1.mr n10
      have mat1 : ∀ i, i < n → ∀ j, j ≤ n → MG M1 (gam M1 n i j) (S i j) := fun i hi j hj => by
        rw [w6 i hi j hj, hS]
        exact (mat _ (swr_lt (by omega) hrn hi) j hj).ci w5
      have e51 : MG M1 1308 q := e5.ci w5
      have skk : S k = A r := by rw [hS]; show A (swr k r k) = A r; unfold swr; rw [if_pos rfl]
      have hst : ∀ i, i ≠ k → stp A k r q i = fun j => (S k k * S i j - S i k * S k j).tdiv q := fun i hi => by
        funext j
        unfold stp
        rw [if_neg hi, hS]
      have hstk : stp A k r q k = S k := by
        funext j
        unfold stp
        rw [if_pos rfl, hS]
      have gl : ∀ x y, x < n → y ≤ n → isG (gam M1 n x y) ∧ gam M1 n x y ≤ 1305 := fun x y hx hy => (mr1.2.1 x hx y hy).2
      have gB : ∀ {S : Nat → Prop} {B : Mem}, Dw (pU S) M1 B → ∀ x y, gam B n x y = gam M1 n x y := fun d x y => d.1.cR (by have := s1.1; omega) (fun q => q)
      obtain ⟨K, B, -, f1, dB, e5B, matB⟩ := upl0 (σ := Unit) (fun N' M _ i => F_X16_isReduced_b144 (F_X16_isReduced_b19 (N + 1 + e)) N' M 1068 (iw (n : Int)) (iw ((n + 1 : Nat) : Int)) 1308 (iw (k : Int)) i) (n := n) (by omega) (fun i B _ => Dw (pU (fun g => g ≠ 1308)) M1 B ∧ MG B 1308 q ∧ ∀ x, x < n → ∀ j, j ≤ n → MG B (gam M1 n x j) (if x < i then stp A k r q x j else S x j))
        (fun N' B _ i hi hJ => by
          obtain ⟨dB, e5B, mB⟩ := hJ
          have sB := dB.st s1
          by_cases c : i = k
          · refine ⟨B, (), ?_, dB, e5B, fun x hx j hj => ?_⟩
            · show F_X16_isReduced_b144_st (F_X16_isReduced_b19 (N + 1 + e)) (F_X16_isReduced_b144 (F_X16_isReduced_b19 (N + 1 + e)) N') B 1068 _ _ _ _ _ = _
              unfold F_X16_isReduced_b144_st F_X16_isReduced_b167
              rw [if_pos (by rw [iw_le4 (by omega) (by omega)]; exact hi), if_pos (by rw [c]), iw_succ]
            · have := mB x hx j hj
              by_cases c2 : x < i + 1
              · rw [if_pos c2]
                by_cases c3 : x < i
                · rw [if_pos c3] at this; exact this
                · rw [if_neg c3] at this
                  have hxk : x = k := by omega
                  rw [hxk] at this ⊢
                  rw [hstk]; exact this
              · rw [if_neg c2]
                rw [if_neg (by omega)] at this; exact this
          · have mi : ∀ j, j ≤ n → MG B (gam M1 n i j) (S i j) := fun j hj => by have := mB i hi j hj; rw [if_neg (Nat.lt_irrefl i)] at this; exact this
            have mk' : ∀ j, j ≤ n → MG B (gam M1 n k j) (S k j) := fun j hj => by
              have := mB k (by omega) j hj
              split at this
              · rw [hstk] at this; exact this
              · exact this
            obtain ⟨C, g1', g2, g3⟩ := M_elim sB (g1.2.2.dw s1 dB) (mr1.dw s1 dB) mi mk' e5B bs (by omega) hq hi c
            have n8 : ∀ t, sEl n (gam M1 n) i t → t ≠ 1308 := fun t z => by
              rcases z with ⟨j', h1, h2⟩ | z
              · have := (gl i j' hi h1).2; omega
              · omega
            refine ⟨C, (), ?_, dB.trans (g3.mono (pU_mono n8)), e5B.du sB g3 (fun z => n8 _ z rfl), fun x hx j hj => ?_⟩
            · show F_X16_isReduced_b144_st (F_X16_isReduced_b19 (N + 1 + e)) (F_X16_isReduced_b144 (F_X16_isReduced_b19 (N + 1 + e)) N') B 1068 _ _ _ _ _ = _
              unfold F_X16_isReduced_b144_st F_X16_isReduced_b167
              rw [if_pos (by rw [iw_le4 (by omega) (by omega)]; exact hi), if_neg (fun z => c (by have := (iw_eq (by omega) (by omega) (by omega) (by omega)).mp z; omega)), v1068 sB, Option.bind_some, g1', Option.bind_some, iw_succ]
            · by_cases c2 : x = i
              · subst c2
                rw [if_pos (by omega), hst x c]
                exact g2 j hj
              · have nx : ¬ sEl n (gam M1 n) i (gam M1 n x j) := fun z => by
                  rcases z with ⟨j', h1, h2⟩ | z
                  · exact c2 (mr1.2.2 x j i j' hx hj hi h1 h2).1
                  · have := (gl x j hx hj).2; omega
                have := (mB x hx j hj).du sB g3 nx
                by_cases c3 : x < i
                · rw [if_pos c3] at this
                  rw [if_pos (by omega)]; exact this
                · rw [if_neg c3] at this
                  rw [if_neg (by omega)]; exact this) (M := M1) (s := ()) ⟨Dw.refl _ _, e51, fun x hx j hj => by rw [if_neg (by omega)]; exact mat1 x hx j hj⟩
      have sB := dB.st s1
      have matB' : ∀ x, x < n → ∀ j, j ≤ n → MG B (gam M1 n x j) (stp A k r q x j) := fun x hx j hj => by
        have := matB x hx j hj
        rw [if_pos hx] at this
        exact this
      have ekk := matB' k (by omega) k (by omega)
      rw [hstk, skk] at ekk
      have i0 : isG 1308 := by unfold isG; omega
      obtain ⟨C, c1, c2, c3⟩ := M_cpg sB ekk i0 (by have := (gl k k (by omega) (by omega)).2; omega)
      have sC := c3.st sB
      have dC : Dw (pU (fun _ => True)) M1 C := (dB.mono (pU_mono (fun _ _ => trivial))).trans (c3.mono (pG_U i0 trivial))
      have hd2 : F_X16_isReduced_b19 (N + 1 + (e + 1)) M 1068 (iw (n : Int)) (iw ((n + 1 : Nat) : Int)) 1308 (iw (k : Int)) = F_X16_isReduced_b19 (N + 1 + e) C 1068 (iw (n : Int)) (iw ((n + 1 : Nat) : Int)) 1308 (iw ((k + 1 : Nat) : Int)) := by
        rw [hd, w1]
        unfold F_X16_isReduced_b141
        refine Eq.trans f1 ?_
        show F_X16_isReduced_b144_st (F_X16_isReduced_b19 (N + 1 + e)) (F_X16_isReduced_b144 (F_X16_isReduced_b19 (N + 1 + e)) K) B 1068 _ _ _ _ _ = _
        unfold F_X16_isReduced_b144_st
        rw [if_neg (by rw [iw_le4 (by omega) (by omega)]; omega)]
        simp only [g1068_1120, sB, (mr1.dw s1 dB).ar sB (show k < n by omega) (show k ≤ n by omega), i0.vg sB, c1, Option.bind_some, iw_succ]
      rw [hred, hd2]
      have ark : (A r k).natAbs < 2 ^ 336 := Nat.lt_of_le_of_lt (ba.cc r hrn k (by omega)) (fct10 n10)
      have dMC : Dr M C := w2.trans dC.r
      rcases ih N (k + 1) C (stp A k r q) A0' (A r k) (by omega) sC (g1.dw s1 dC) (fun x hx j hj => by
        rw [gB dC]
        exact (matB' x hx j hj).dg sB i0 c3 (by have := (gl x j hx hj).2; omega)) c2 ba' ark with ⟨r1, M', r2, r3, r4⟩ | ⟨q', A', M', r1, r2, r3, r4, r5, r6⟩
      · exact Or.inl ⟨r1, M', r2, dMC.trans r3, r4⟩
      · exact Or.inr ⟨q', A', M', r1, r2, dMC.trans r3, r4, r5, r6⟩
