/-! ===== NUMBERS, 18: residues of values, both sides ===== -/
theorem lrem_i (v : Int64) {p : Nat} (h2 : 2 ≤ p) (hp : p ≤ 1000000007) : (j_lrem v (nl p)).toInt = v.toInt.tmod (p : Int) := by
  have r := i64_rng v
  have ep : (nl p).toInt = (p : Int) := nl_int (by omega)
  have hq : (v.toInt.tdiv (p : Int)).natAbs ≤ v.toInt.natAbs / 2 := by
    rw [Int.natAbs_tdiv]
    exact Nat.div_le_div_left (by omega) (by decide)
  have e0 : (v / nl p).toInt = v.toInt.tdiv (p : Int) := by
    rw [Int64.toInt_div, ep]
    exact bw64 (by omega) (by omega)
  have n1 : (v.toInt.tmod (p : Int)).natAbs ≤ v.toInt.natAbs := by
    rw [Int.natAbs_tmod]
    exact Nat.mod_le _ _
  have n2 : 0 ≤ v.toInt → 0 ≤ v.toInt.tmod (p : Int) := fun q => Int.tmod_nonneg _ q
  have n4 : v.toInt ≤ 0 → v.toInt.tmod (p : Int) ≤ 0 := fun q => by have := Int.tmod_nonneg (p : Int) (a := -v.toInt) (by omega); rw [Int.neg_tmod] at this; omega
  have n3 := Int.tmod_add_mul_tdiv v.toInt (p : Int)
  rw [Int.mul_comm] at n3
  unfold j_lrem
  rw [Int64.toInt_sub, Int64.toInt_mul, e0, ep]
  generalize v.toInt.tdiv (p : Int) * (p : Int) = z at *
  rw [bw64 (x := z) (by omega) (by omega), bw64 (by omega) (by omega)]
  omega
def rsd (p : Nat) (v : Int64) : Nat := (v.toInt % (p : Int)).toNat
theorem rsd_lt {p : Nat} (h : 0 < p) (v : Int64) : rsd p v < p := by
  unfold rsd
  have h1 := Int.emod_nonneg v.toInt (show (p : Int) ≠ 0 by omega)
  have h2 := Int.emod_lt_of_pos v.toInt (show (0 : Int) < p by omega)
  omega
theorem tm_em (a : Int) {p : Nat} (h : 0 < p) : a % (p : Int) = (if a.tmod (p : Int) < 0 then a.tmod (p : Int) + p else a.tmod (p : Int)) ∧ -(p : Int) < a.tmod p ∧ a.tmod p < p := by
  have h3 := Int.tmod_add_mul_tdiv a (p : Int)
  have l1 : (a.tmod (p : Int)).natAbs < p := by
    rw [Int.natAbs_tmod]
    exact Nat.mod_lt _ (by simpa using h)
  refine ⟨?_, by omega, by omega⟩
  split
  · next c =>
    have e : a = (a.tmod (p : Int) + p) + (p : Int) * (a.tdiv p - 1) := by
      rw [Int.mul_sub]
      omega
    have : a % (p : Int) = (a.tmod (p : Int) + p) % (p : Int) := by
      conv => lhs; rw [e]
      rw [Int.add_mul_emod_self_left]
    rw [this, Int.emod_eq_of_lt (by omega) (by omega)]
  · next c =>
    have : a % (p : Int) = (a.tmod (p : Int)) % (p : Int) := by
      conv => lhs; rw [← h3]
      rw [Int.add_mul_emod_self_left]
    rw [this, Int.emod_eq_of_lt (by omega) (by omega)]
theorem res_e (v : Int64) {p : Nat} (h2 : 2 ≤ p) (hp : p ≤ 1000000007) : (if j_lrem v (nl p) < 0 then j_lrem v (nl p) + nl p else j_lrem v (nl p)) = nl (rsd p v) := by
  have e := lrem_i v h2 hp
  obtain ⟨t1, t2, t3⟩ := tm_em v.toInt (show 0 < p by omega)
  have ep : (nl p).toInt = (p : Int) := nl_int (by omega)
  have r0 := rsd_lt (show 0 < p by omega) v
  have er : ((rsd p v : Nat) : Int) = v.toInt % (p : Int) := by
    unfold rsd
    have h1 := Int.emod_nonneg v.toInt (show (p : Int) ≠ 0 by omega)
    omega
  have z0 : (0 : Int64).toInt = 0 := by decide
  rw [i64_eq, nl_int (show rsd p v < 2 ^ 63 by omega), er, t1]
  have c : j_lrem v (nl p) < 0 ↔ v.toInt.tmod (p : Int) < 0 := by
    rw [Int64.lt_iff_toInt_lt, e, z0]
  by_cases c1 : v.toInt.tmod (p : Int) < 0
  · rw [if_pos (c.mpr c1), if_pos c1, Int64.toInt_add, e, ep, bw64 (by omega) (by omega)]
  · rw [if_neg (fun q => c1 (c.mp q)), if_neg c1, e]
theorem res_m (v : Int64) {p : Nat} (h2 : 2 ≤ p) (hp : p ≤ 1000000007) : j_lrem (j_lrem v (nl p) + nl p) (nl p) = nl (rsd p v) := by
  have e := lrem_i v h2 hp
  obtain ⟨t1, t2, t3⟩ := tm_em v.toInt (show 0 < p by omega)
  have ep : (nl p).toInt = (p : Int) := nl_int (by omega)
  have r0 := rsd_lt (show 0 < p by omega) v
  have er : ((rsd p v : Nat) : Int) = v.toInt % (p : Int) := by
    unfold rsd
    have h1 := Int.emod_nonneg v.toInt (show (p : Int) ≠ 0 by omega)
    omega
  have es : j_lrem v (nl p) + nl p = nl ((v.toInt.tmod (p : Int) + p).toNat) := by
    rw [i64_eq, Int64.toInt_add, e, ep, bw64 (by omega) (by omega), nl_int (by omega)]
    omega
  rw [es, nl_rem (by omega) (by omega)]
  congr 1
  have : (((v.toInt.tmod (p : Int) + p).toNat % p : Nat) : Int) = ((rsd p v : Nat) : Int) := by
    rw [Int.natCast_emod, er, t1, show (((v.toInt.tmod (p : Int) + p).toNat : Nat) : Int) = v.toInt.tmod (p : Int) + p by omega]
    split
    · exact Int.emod_eq_of_lt (by omega) (by omega)
    · rw [Int.add_emod_right, Int.emod_eq_of_lt (by omega) (by omega)]
  omega
theorem E_res120 {A : Mem} {a b : Nat} {k : Int32} {n' : Nat} {z : Nat → Nat} {s t : Nat → Int32} {x y : Int32} {c d L : Nat} {pp' : Int32} (g : GP A a b k n' z s t x y c d L pp') {n p : Nat} {v3 : Int32} (hpn : prd z n' = n) (h : ST A) (hn : n ≤ 1024) (h2 : 2 ≤ p) (hp : p ≤ 1000000007) (N0 : Nat) (hN : N0 + 1 + n = xN) :
    ∃ A', F_X0_residues_b120 xN A 1000 (iw (p : Int)) v3 a (iw (n : Int)) 0 = F_X0_residues_b120 (N0 + 1) A' 1000 (iw (p : Int)) v3 a (iw (n : Int)) (iw (n : Int)) ∧ m_nx A' = m_nx A ∧ m_sl A' = m_sl A ∧ Df n2 (fun a _ => a = 1036) n2 A A' ∧ ∀ i, i < n → cJ A' 1036 i = nl (rsd p (cJ A c (gpos n' z s x i))) := by
  have e64 : (iw (p : Int)).toInt64 = nl p := i64_iw (by omega)
  have np : ¬ nl p = 0 := fun hh => by
    have := (nl_eq (m := p) (n := 0) (by omega) (by omega)).mp hh
    omega
  have lw := wloop (fun N U i => F_X0_residues_b120 N U 1000 (iw (p : Int)) v3 a (iw (n : Int)) i) (fun _ _ => none) 1036 n (fun i => some (nl (rsd p (cJ A c (gpos n' z s x i))))) (fun U => Df n2 (fun a _ => a = 1036) n2 A U ∧ m_nx U = m_nx A ∧ m_sl U = m_sl A) (fun _ => True)
    (fun N U i w hJ hi hw => by
      obtain ⟨dd, e1, e2⟩ := hJ
      have sU : ST U := h.n dd
      have h0 := h.1
      injection hw with hw
      have gU := g.df dd qt_n2 (fun a i q1 q2 => by have q2 : a = 1036 := q2; omega) qt_n2
      have gt := (gU.get (j := i) (by omega)).2.1
      have cc := g.2.2.2.2.2.2.2.1
      rw [dd.cJ cc.2.1 (fun q => by have q : c = 1036 := q; have := cc.1; omega)] at gt
      refine ⟨wJ U 1036 i w, ?_, ⟨dd.trans (Df.wJ _ rfl), e1, e2⟩, by rw [cJ_wJ, if_pos ⟨rfl, rfl⟩], fun x hx => by rw [cJ_wJ, if_neg (fun q => by omega)]⟩
      show F_X0_residues_b120_st (F_X0_residues_b120 N) U _ _ _ _ _ _ = _
      unfold F_X0_residues_b120_st
      rw [if_pos (by rw [iw_le4 (by omega) (by omega)]; exact hi), e64]
      have re := res_e (cJ A c (gpos n' z s x i)) h2 hp
      rw [hw] at re
      have sjx := sj_of (M := U) (a := 1036) (j := i) w (t1036 sU) (l1036 sU) (show i < 1024 by omega) (by decide)
      simp only [vg_of gU.1.2.2.1 (show x_isa 22 22 = true by decide), gt, np, if_false, g1000_76, g1035_704, sU, Option.bind_some, F_X0_residues_b165]
      by_cases c1 : j_lrem (cJ A c (gpos n' z s x i)) (nl p) < 0
      · rw [if_pos c1] at re
        rw [if_pos c1, re, sjx]
        simp only [iw_succ, Option.bind_some]
      · rw [if_neg c1] at re
        rw [if_neg c1, re, sjx]
        simp only [iw_succ, Option.bind_some])
    (fun N U i hJ hi hw => by simp at hw) n (N0 + 1) 0 A (by omega) ⟨Df.refl _ _ _ _, rfl, rfl⟩ (fun x hx => by omega)
  rw [hN] at lw
  rcases lw with ⟨-, A', ⟨d, e1, e2⟩, run, row⟩ | ⟨q, A', -, -, rq, -⟩
  · exact ⟨A', run, e1, e2, d, row⟩
  · simp at rq
theorem M_res148 {A : Mem} {a b : Nat} {k : Int32} {n' : Nat} {z : Nat → Nat} {s t : Nat → Int32} {x y : Int32} {c d L : Nat} {pp' : Int32} (g : GP A a b k n' z s t x y c d L pp') {n p : Nat} {v3 : Int32} {W : Int64} (hpn : prd z n' = n) (h : ST A) (hn : n ≤ 1024) (h2 : 2 ≤ p) (hp : p ≤ 1000000007) (N0 : Nat) (hN : N0 + 1 + n = xN) :
    ∃ A', F_X16_residues_b148 xN A 1068 (iw (p : Int)) v3 b (iw (n : Int)) W 0 = F_X16_residues_b148 (N0 + 1) A' 1068 (iw (p : Int)) v3 b (iw (n : Int)) W (iw (n : Int)) ∧ m_nx A' = m_nx A ∧ m_sl A' = m_sl A ∧ Df n2 (fun a _ => a = 1074) n2 A A' ∧ ∀ i, i < n → cJ A' 1074 i = nl (rsd p (cJ A c (gpos n' z s x i))) := by
  have e64 : (iw (p : Int)).toInt64 = nl p := i64_iw (by omega)
  have np : ¬ nl p = 0 := fun hh => by
    have := (nl_eq (m := p) (n := 0) (by omega) (by omega)).mp hh
    omega
  have lw := wloop (fun N U i => F_X16_residues_b148 N U 1068 (iw (p : Int)) v3 b (iw (n : Int)) W i) (fun _ _ => none) 1074 n (fun i => some (nl (rsd p (cJ A c (gpos n' z s x i))))) (fun U => Df n2 (fun a _ => a = 1074) n2 A U ∧ m_nx U = m_nx A ∧ m_sl U = m_sl A) (fun _ => True)
    (fun N U i w hJ hi hw => by
      obtain ⟨dd, e1, e2⟩ := hJ
      have sU : ST U := h.n dd
      have h0 := h.1
      injection hw with hw
      have gU := g.df dd qt_n2 (fun a i q1 q2 => by have q2 : a = 1074 := q2; omega) qt_n2
      have gt := (gU.get (j := i) (by omega)).2.2
      have cc := g.2.2.2.2.2.2.2.1
      rw [dd.cJ cc.2.1 (fun q => by have q : c = 1074 := q; have := cc.1; omega)] at gt
      refine ⟨wJ U 1074 i w, ?_, ⟨dd.trans (Df.wJ _ rfl), e1, e2⟩, by rw [cJ_wJ, if_pos ⟨rfl, rfl⟩], fun x hx => by rw [cJ_wJ, if_neg (fun q => by omega)]⟩
      show F_X16_residues_b148_st (F_X16_residues_b148 N) U _ _ _ _ _ _ _ = _
      unfold F_X16_residues_b148_st
      rw [if_pos (by rw [iw_le4 (by omega) (by omega)]; exact hi), e64]
      have re := res_m (cJ A c (gpos n' z s x i)) h2 hp
      rw [hw] at re
      simp only [vg_of gU.2.1.2.2.1 (show x_isa 23 23 = true by decide), gt, np, if_false, g1068_1101, sU, Option.bind_some, re, sj_of (M := U) (a := 1074) (j := i) w (t1074 sU) (l1074 sU) (show i < 100000 by omega) (by decide), iw_succ])
    (fun N U i hJ hi hw => by simp at hw) n (N0 + 1) 0 A (by omega) ⟨Df.refl _ _ _ _, rfl, rfl⟩ (fun x hx => by omega)
  rw [hN] at lw
  rcases lw with ⟨-, A', ⟨d, e1, e2⟩, run, row⟩ | ⟨q, A', -, -, rq, -⟩
  · exact ⟨A', run, e1, e2, d, row⟩
  · simp at rq
