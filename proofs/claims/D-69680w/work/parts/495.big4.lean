/-! ===== EXACT SOLUTIONS, 6: the engine's division, its parts ===== -/
theorem sh_or {t c s : Nat} (hc : c < 2 ^ s) (h : t * 2 ^ s + c < 2147483648) : iw ((t * 2 ^ s : Nat) : Int) ||| iw (c : Int) = iw ((t * 2 ^ s + c : Nat) : Int) := by
  rw [iw_nor (by omega) (by omega)]
  congr 2
  have := Nat.two_pow_add_eq_or_of_lt hc t
  rw [Nat.mul_comm t, this]
theorem ishl_n {t s : Nat} (ht : t < 65536) (hs : s < 32) (h : t * 2 ^ s < 2147483648) : j_ishl (iw (t : Int)) (iw (s : Int)) = iw ((t * 2 ^ s : Nat) : Int) := by
  have e1 : ui (iw (s : Int)) = s := by have := ui_iw (s : Int); omega
  have e2 : ui (iw (t : Int)) = t := by have := ui_iw (t : Int); omega
  rw [ish_l, e1, e2, Nat.mod_eq_of_lt hs, iw_ni]
/-- digits of another row -/
def RR (M : Mem) (arr j n : Nat) (R : Nat → Nat) : Prop := ∀ k, k < n → cI M arr (j + k) = iw (R k : Nat) ∧ R k < 65536
theorem RR.dw {P : Nat → Nat → Prop} {M A : Mem} {arr j n : Nat} {R : Nat → Nat} (r : RR M arr j n R) (h : ST M) (d : Dw P M A) (ha : arr < 1334) (hP : ∀ i, j ≤ i → i < j + n → ¬ P arr i) : RR A arr j n R := fun k hk => by
  rw [d.ci h ha (hP _ (by omega) (by omega))]
  exact r k hk
theorem RR.put {M : Mem} {arr j n : Nat} {T : Nat → Nat} {i v : Nat} (r : RR M arr j n T) (hv : v < 65536) : RR (wI M arr (j + i) (iw (v : Nat))) arr j n (fun k => if k = i then v else T k) := fun k hk => by
  show cI (wI M arr (j + i) (iw (v : Nat))) arr (j + k) = iw ((if k = i then v else T k : Nat) : Int) ∧ (if k = i then v else T k) < 65536
  by_cases c : k = i
  · subst c
    rw [if_pos rfl]
    exact ⟨by rw [cI_wI, if_pos ⟨rfl, rfl⟩], hv⟩
  · rw [if_neg c, cI_wI, if_neg (by omega)]
    exact r k hk
theorem RR.put' {M : Mem} {arr j : Nat} {T : Nat → Nat} {i v n : Nat} (r : RR M arr j i T) (hv : v < 65536) (hn : n = i + 1) : RR (wI M arr (j + i) (iw (v : Nat))) arr j n (fun k => if k = i then v else T k) := fun k hk => by
  show cI (wI M arr (j + i) (iw (v : Nat))) arr (j + k) = iw ((if k = i then v else T k : Nat) : Int) ∧ (if k = i then v else T k) < 65536
  by_cases c : k = i
  · subst c
    rw [if_pos rfl]
    exact ⟨by rw [cI_wI, if_pos ⟨rfl, rfl⟩], hv⟩
  · rw [if_neg c, cI_wI, if_neg (by omega)]
    exact r k (by omega)
theorem ai30 {M : Mem} (h : ST M) {j : Nat} (hj : j < 120) : ai M 1030 (iw (j : Int)) = some (cI M 1030 j) := ai_of (t1030 h) (l1030 h) hj (by decide)
theorem si30 {M : Mem} (h : ST M) {j : Nat} (hj : j < 120) (v : Int32) : si M 1030 (iw (j : Int)) v = some (wI M 1030 j v) := si_of v (t1030 h) (l1030 h) hj (by decide)
theorem ai31 {M : Mem} (h : ST M) {j : Nat} (hj : j < 60) : ai M 1031 (iw (j : Int)) = some (cI M 1031 j) := ai_of (t1031 h) (l1031 h) hj (by decide)
/-- shifted -/
theorem E_shl {M : Mem} (h : ST M) {p n s arr : Nat} {D : Nat → Nat} (hp : p < 130) (hn : n ≤ 60) (h2 : cI M 1028 p = iw (n : Int)) (h3 : DR M p n D) (hs : s ≤ 15) (ha : arr = 1030 ∨ arr = 1031) :
    ∃ K A cc R, F_X9_shifted M 1026 (iw (p : Int)) (iw (s : Int)) arr = F_X9_shifted_b6 (K + 1) A 1026 (iw (p : Int)) (iw (s : Int)) arr (iw (cc : Nat)) (iw (n : Int)) ∧ Dw (at1 arr) M A ∧ RR A arr 0 n R ∧ cc < 2 ^ s ∧ Vl 65536 R n + cc * 65536 ^ n = Vl 65536 D n * 2 ^ s := by
  have ps : 2 ^ s ≤ 2 ^ 15 := Nat.pow_le_pow_right (by decide) hs
  have p0 : 0 < 2 ^ s := Nat.pow_pos (by decide)
  obtain ⟨K, A, c, e1, d1, R, cc, hc, hcl, r1, v1⟩ := upl0 (σ := Int32) (fun N M c i => F_X9_shifted_b6 N M 1026 (iw (p : Int)) (iw (s : Int)) arr c i) (n := n) (by omega) (fun i A c => Dw (at1 arr) M A ∧ ∃ (R : Nat → Nat) (cc : Nat), c = iw (cc : Nat) ∧ cc < 2 ^ s ∧ RR A arr 0 i R ∧ Vl 65536 R i + cc * 65536 ^ i = Vl 65536 D i * 2 ^ s)
    (fun N A c i hi hJ => by
      obtain ⟨d, R, cc, hc, hcl, r, v⟩ := hJ
      have sA := d.st h
      have x1 := (h3 i hi).2
      have hm : (D i + 1) * 2 ^ s ≤ 65536 * 2 ^ s := Nat.mul_le_mul_right _ x1
      rw [Nat.add_mul, Nat.one_mul] at hm
      obtain ⟨vv, hvv⟩ : ∃ vv, vv = D i * 2 ^ s + cc := ⟨_, rfl⟩
      have hq : vv / 65536 < 2 ^ s := Nat.div_lt_of_lt_mul (by omega)
      have l1 : cI A 1028 p = iw (n : Int) := by rw [d.ci h (by decide) (by unfold at1; omega)]; exact h2
      have l2 : cI A 1027 (60 * p + i) = iw (D i : Nat) := by rw [d.ci h (by decide) (by unfold at1; omega)]; exact (h3 i hi).1
      refine ⟨wI A arr (0 + i) (iw ((vv % 65536 : Nat) : Int)), iw ((vv / 65536 : Nat) : Int), ?_, d.trans (Dw.w _ rfl), _, vv / 65536, rfl, hq, r.put' (Nat.mod_lt _ (by decide)) rfl, ?_⟩
      · show F_X9_shifted_b6_st (F_X9_shifted_b6 N) A 1026 _ _ _ _ _ = _
        unfold F_X9_shifted_b6_st
        simp only [g1026_641, g1026_640, sA, ai28 sA hp, l1, Option.bind_some]
        rw [if_pos (by rw [iw_le4 (by omega) (by omega)]; exact hi), i60, ai27 sA (by omega), Option.bind_some, l2, ishl_n x1 (by omega) (by omega), hc, sh_or hcl (by omega), ← hvv, im16, ishr16 (by omega) (by omega), show ((vv : Int) % 65536) = ((vv % 65536 : Nat) : Int) from rfl, Nat.zero_add]
        have ss : si A arr (iw (i : Int)) (iw ((vv % 65536 : Nat) : Int)) = some (wI A arr i (iw ((vv % 65536 : Nat) : Int))) := by
          rcases ha with rfl | rfl
          · exact si30 sA (by omega) _
          · exact si_of _ (t1031 sA) (l1031 sA) (by omega) (by decide)
        rw [ss, Option.bind_some, iw_succ]
        rfl
      · rw [Vl_put]
        show _ = (Vl 65536 D i + D i * 65536 ^ i) * 2 ^ s
        have := mul1 (B := 65536) (P := 65536 ^ i) (v := vv) (t := 0) (a := D i) (d := 2 ^ s) (c := cc) (Vt := Vl 65536 R i) (Vt' := Vl 65536 R i + vv % 65536 * 65536 ^ i) (by decide) (by omega) (by omega) v
        rw [Nat.pow_succ, this, Nat.add_mul, Nat.mul_right_comm]) (M := M) (s := 0) ⟨Dw.refl _ _, fun _ => 0, 0, rfl, p0, fun k hk => absurd hk (by omega), by show 0 + 0 * _ = 0 * _; omega⟩
  rw [hc] at e1
  exact ⟨K, A, cc, R, e1, d1, r1, hcl, v1⟩
/-- times -/
theorem tt1 {B P : Int} {v Vt Vt' r g d c R S : Int} (hv : v = r - g * d + c) (e1 : Vt' = Vt + v % B * P) (e2 : Vt + c * P = R - g * S) : Vt' + v / B * (P * B) = R + r * P - g * (S + d * P) := by
  have e3 : v % B * P + v / B * (P * B) = v * P := by
    have := Int.emod_add_mul_ediv v B
    calc v % B * P + v / B * (P * B) = v % B * P + (B * (v / B)) * P := by rw [Int.mul_comm P B, ← Int.mul_assoc, Int.mul_comm (v / B) B]
      _ = v * P := by rw [← Int.add_mul, this]
  rw [hv, Int.add_mul, Int.sub_mul, ← hv] at e3
  rw [Int.mul_add, show g * (d * P) = g * d * P from (Int.mul_assoc _ _ _).symm]
  omega
theorem E_tt {M : Mem} (h : ST M) {g j n : Nat} {R E : Nat → Nat} (hg : g ≤ 65535) (hj : j + n < 120) (hn : n ≤ 60) (hR : RR M 1030 j (n + 1) R) (hE : RR M 1031 0 n E) :
    ∃ (A : Mem) (R' : Nat → Nat) (b : Int), F_X9_takeTimes M 1026 (nl g) (iw (j : Int)) (iw (n : Int)) = some (iw b, A) ∧ Dw (fun a i => a = 1030 ∧ j ≤ i ∧ i ≤ j + n) M A ∧ RR A 1030 j (n + 1) R' ∧ -1 ≤ b ∧ b ≤ 0 ∧ ((Vl 65536 R' (n + 1) : Nat) : Int) + b * ((65536 ^ (n + 1) : Nat) : Int) = ((Vl 65536 R (n + 1) : Nat) : Int) - (g : Int) * ((Vl 65536 E n : Nat) : Int) := by
  obtain ⟨K, A, c, e1, d1, R1, c1, c2, r1, ru, v1⟩ := upl0 (σ := Int64) (fun N M c i => F_X9_takeTimes_b6 N M 1026 (nl g) (iw (j : Int)) (iw (n : Int)) c i) (n := n) (by omega) (fun i A c => Dw (fun a i => a = 1030 ∧ j ≤ i ∧ i ≤ j + n) M A ∧ ∃ (R' : Nat → Nat), -65536 ≤ c.toInt ∧ c.toInt ≤ 0 ∧ RR A 1030 j (n + 1) R' ∧ (∀ k, i ≤ k → R' k = R k) ∧ ((Vl 65536 R' i : Nat) : Int) + c.toInt * ((65536 ^ i : Nat) : Int) = ((Vl 65536 R i : Nat) : Int) - (g : Int) * ((Vl 65536 E i : Nat) : Int))
    (fun N A c i hi hJ => by
      obtain ⟨d, R', c1, c2, r, ru, v⟩ := hJ
      have sA := d.st h
      have x1 := (hE i hi).2
      have x2 := (hR i (by omega)).2
      have hm : g * E i ≤ 65535 * 65535 := Nat.mul_le_mul (by omega) (by omega)
      obtain ⟨vv, hvv⟩ : ∃ vv : Int, vv = (R i : Int) - (g : Int) * (E i : Int) + c.toInt := ⟨_, rfl⟩
      have hm' : (g : Int) * (E i : Int) = ((g * E i : Nat) : Int) := by rw [Int.natCast_mul]
      have b1 : -4294901761 ≤ vv ∧ vv ≤ 65535 := by rw [hvv, hm']; omega
      obtain ⟨t, ht'⟩ : ∃ t : Nat, (t : Int) = vv % 65536 := ⟨(vv % 65536).toNat, by have := Int.emod_nonneg vv (show (65536 : Int) ≠ 0 by decide); omega⟩
      have tl : t < 65536 := by omega
      obtain ⟨w, hw⟩ : ∃ w : Int64, w = (iw (R i : Nat)).toInt64 - nl g * (iw (E i : Nat)).toInt64 + c := ⟨_, rfl⟩
      have ew : w.toInt = vv := by
        rw [hw, i64_iw (by omega), i64_iw (by omega), nl_mul, Int64.toInt_add, Int64.toInt_sub, nl_int (by omega), nl_int (by omega), bw64 (x := (R i : Int) - ((g * E i : Nat) : Int)) (by omega) (by omega), bw64 (by omega) (by omega), hvv, hm']
      have l1 : cI A 1030 (j + i) = iw (R i : Nat) := by rw [(r i (by omega)).1, ru i (Nat.le_refl _)]
      have l2 : cI A 1031 i = iw (E i : Nat) := by
        rw [d.ci h (by decide) (by omega)]
        have := (hE i hi).1
        rw [Nat.zero_add] at this
        exact this
      refine ⟨wI A 1030 (j + i) (iw (t : Nat)), j_lshr w 16, ?_, d.trans (Dw.w _ ⟨rfl, by omega, by omega⟩), (fun k => if k = i then t else R' k), ?_, ?_, r.put tl, fun k hk => ?_, ?_⟩
      · show F_X9_takeTimes_b6_st (F_X9_takeTimes_b6 N) A 1026 _ _ _ _ _ = _
        unfold F_X9_takeTimes_b6_st
        rw [if_pos (by rw [iw_le4 (by omega) (by omega)]; exact hi)]
        simp only [g1026_643, g1026_644, sA, iw_nadd, ai30 sA (show j + i < 120 by omega), ai31 sA (show i < 60 by omega), l1, l2, Option.bind_some]
        rw [← hw, lm16, ew, ← ht', si30 sA (by omega), Option.bind_some, iw_succ]
      · rw [lsh16, ew]; omega
      · rw [lsh16, ew]; omega
      · show (if k = i then t else R' k) = R k
        rw [if_neg (by omega)]
        exact ru k (by omega)
      · rw [lsh16, ew, Vl_put]
        show _ = ((Vl 65536 R i + R i * 65536 ^ i : Nat) : Int) - (g : Int) * ((Vl 65536 E i + E i * 65536 ^ i : Nat) : Int)
        simp only [Nat.pow_succ, Int.natCast_add, Int.natCast_mul]
        exact tt1 hvv (by rw [ht']) v) (M := M) (s := 0) ⟨Dw.refl _ _, R, by decide, by decide, hR, fun _ _ => rfl, by rw [show (0 : Int64).toInt = 0 by decide]; show ((0 : Nat) : Int) + 0 * _ = ((0 : Nat) : Int) - _ * ((0 : Nat) : Int); omega⟩
  have sA := d1.st h
  have x2 := (hR n (by omega)).2
  obtain ⟨vv, hvv⟩ : ∃ vv : Int, vv = (R n : Int) + c.toInt := ⟨_, rfl⟩
  obtain ⟨t, ht'⟩ : ∃ t : Nat, (t : Int) = vv % 65536 := ⟨(vv % 65536).toNat, by have := Int.emod_nonneg vv (show (65536 : Int) ≠ 0 by decide); omega⟩
  have tl : t < 65536 := by omega
  obtain ⟨w, hw⟩ : ∃ w : Int64, w = (iw (R n : Nat)).toInt64 + c := ⟨_, rfl⟩
  have ew : w.toInt = vv := by
    rw [hw, i64_iw (by omega), Int64.toInt_add, nl_int (by omega), bw64 (by omega) (by omega), hvv]
  have l1 : cI A 1030 (j + n) = iw (R n : Nat) := by rw [(r1 n (by omega)).1, ru n (Nat.le_refl _)]
  have i32 : (j_lshr w 16).toInt32 = iw (vv / 65536) := by
    apply ui_inj
    rw [un_i32]
    have h1 := un_int (j_lshr w 16)
    rw [lsh16, ew] at h1
    have h2 := ui_iw (vv / 65536)
    omega
  refine ⟨wI A 1030 (j + n) (iw (t : Nat)), (fun k => if k = n then t else R1 k), vv / 65536, ?_, d1.trans (Dw.w _ ⟨rfl, by omega, by omega⟩), r1.put tl, by omega, by omega, ?_⟩
  · unfold F_X9_takeTimes
    refine Eq.trans e1 ?_
    show F_X9_takeTimes_b6_st (F_X9_takeTimes_b6 K) A 1026 _ _ _ _ _ = _
    unfold F_X9_takeTimes_b6_st
    rw [if_neg (by rw [iw_le4 (by omega) (by omega)]; omega)]
    simp only [g1026_643, sA, iw_nadd, ai30 sA (show j + n < 120 by omega), l1, Option.bind_some]
    rw [← hw, lm16, ew, ← ht', si30 sA (by omega), Option.bind_some, i32]
  · rw [Vl_put]
    show _ = ((Vl 65536 R n + R n * 65536 ^ n : Nat) : Int) - (g : Int) * ((Vl 65536 E n : Nat) : Int)
    simp only [Nat.pow_succ, Int.natCast_add, Int.natCast_mul] at v1 ⊢
    have := tt1 (B := 65536) (P := ((65536 ^ n : Nat) : Int)) (v := vv) (r := (R n : Int)) (g := 0) (d := 0) (c := c.toInt) (Vt := ((Vl 65536 R1 n : Nat) : Int)) (Vt' := ((Vl 65536 R1 n : Nat) : Int) + (t : Int) * ((65536 ^ n : Nat) : Int)) (R := ((Vl 65536 R n : Nat) : Int) - (g : Int) * ((Vl 65536 E n : Nat) : Int)) (S := 0) (by omega) (by rw [ht']) (by omega)
    rw [Int.zero_mul, Int.sub_zero] at this
    have e : ((65536 : Nat) : Int) = 65536 := rfl
    rw [e]
    omega
theorem E_ab {M : Mem} (h : ST M) {j n : Nat} {R E : Nat → Nat} (hj : j + n < 120) (hn : n ≤ 60) (hR : RR M 1030 j (n + 1) R) (hE : RR M 1031 0 n E) :
    ∃ (A : Mem) (R' : Nat → Nat) (b : Nat), F_X9_addBack M 1026 (iw (j : Int)) (iw (n : Int)) = some (iw (b : Nat), A) ∧ Dw (fun a i => a = 1030 ∧ j ≤ i ∧ i ≤ j + n) M A ∧ RR A 1030 j (n + 1) R' ∧ b ≤ 1 ∧ Vl 65536 R' (n + 1) + b * 65536 ^ (n + 1) = Vl 65536 R (n + 1) + Vl 65536 E n := by
  obtain ⟨K, A, c, e1, d1, R1, cc, hc, hcl, r1, ru, v1⟩ := upl0 (σ := Int32) (fun N M c i => F_X9_addBack_b5 N M 1026 (iw (j : Int)) (iw (n : Int)) c i) (n := n) (by omega) (fun i A c => Dw (fun a i => a = 1030 ∧ j ≤ i ∧ i ≤ j + n) M A ∧ ∃ (R' : Nat → Nat) (cc : Nat), c = iw (cc : Nat) ∧ cc ≤ 1 ∧ RR A 1030 j (n + 1) R' ∧ (∀ k, i ≤ k → R' k = R k) ∧ Vl 65536 R' i + cc * 65536 ^ i = Vl 65536 R i + Vl 65536 E i)
    (fun N A c i hi hJ => by
      obtain ⟨d, R', cc, hc, hcl, r, ru, v⟩ := hJ
      have sA := d.st h
      have x1 := (hE i hi).2
      have x2 := (hR i (by omega)).2
      obtain ⟨vv, hvv⟩ : ∃ vv, vv = R i + E i + cc := ⟨_, rfl⟩
      have l1 : cI A 1030 (j + i) = iw (R i : Nat) := by rw [(r i (by omega)).1, ru i (Nat.le_refl _)]
      have l2 : cI A 1031 i = iw (E i : Nat) := by
        rw [d.ci h (by decide) (by omega)]
        have := (hE i hi).1
        rw [Nat.zero_add] at this
        exact this
      refine ⟨wI A 1030 (j + i) (iw ((vv % 65536 : Nat) : Int)), iw ((vv / 65536 : Nat) : Int), ?_, d.trans (Dw.w _ ⟨rfl, by omega, by omega⟩), (fun k => if k = i then vv % 65536 else R' k), vv / 65536, rfl, by omega, r.put (Nat.mod_lt _ (by decide)), fun k hk => ?_, ?_⟩
      · show F_X9_addBack_b5_st (F_X9_addBack_b5 N) A 1026 _ _ _ _ = _
        unfold F_X9_addBack_b5_st
        rw [if_pos (by rw [iw_le4 (by omega) (by omega)]; exact hi)]
        simp only [g1026_643, g1026_644, sA, iw_nadd, ai30 sA (show j + i < 120 by omega), ai31 sA (show i < 60 by omega), l1, l2, hc, Option.bind_some]
        rw [← hvv, im16, ishr16 (by omega) (by omega), show ((vv : Int) % 65536) = ((vv % 65536 : Nat) : Int) from rfl, si30 sA (by omega), Option.bind_some, iw_succ]
        rfl
      · show (if k = i then vv % 65536 else R' k) = R k
        rw [if_neg (by omega)]
        exact ru k (by omega)
      · rw [Vl_put]
        show _ = Vl 65536 R i + R i * 65536 ^ i + (Vl 65536 E i + E i * 65536 ^ i)
        have := mul1 (B := 65536) (P := 65536 ^ i) (v := vv) (t := R i) (a := E i) (d := 1) (c := cc) (Vt := Vl 65536 R' i + R i * 65536 ^ i) (Vt' := Vl 65536 R' i + vv % 65536 * 65536 ^ i) (R := Vl 65536 R' i + R i * 65536 ^ i + cc * 65536 ^ i) (by decide) (by omega) (by omega) rfl
        rw [Nat.mul_one] at this
        rw [Nat.pow_succ]
        omega) (M := M) (s := 0) ⟨Dw.refl _ _, R, 0, rfl, by decide, hR, fun _ _ => rfl, rfl⟩
  have sA := d1.st h
  have x2 := (hR n (by omega)).2
  obtain ⟨vv, hvv⟩ : ∃ vv, vv = R n + cc := ⟨_, rfl⟩
  have l1 : cI A 1030 (j + n) = iw (R n : Nat) := by rw [(r1 n (by omega)).1, ru n (Nat.le_refl _)]
  refine ⟨wI A 1030 (j + n) (iw ((vv % 65536 : Nat) : Int)), (fun k => if k = n then vv % 65536 else R1 k), vv / 65536, ?_, d1.trans (Dw.w _ ⟨rfl, by omega, by omega⟩), r1.put (Nat.mod_lt _ (by decide)), by omega, ?_⟩
  · unfold F_X9_addBack
    refine Eq.trans e1 ?_
    show F_X9_addBack_b5_st (F_X9_addBack_b5 K) A 1026 _ _ _ _ = _
    unfold F_X9_addBack_b5_st
    rw [if_neg (by rw [iw_le4 (by omega) (by omega)]; omega)]
    simp only [g1026_643, sA, iw_nadd, ai30 sA (show j + n < 120 by omega), l1, hc, Option.bind_some]
    rw [← hvv, im16, ishr16 (by omega) (by omega), show ((vv : Int) % 65536) = ((vv % 65536 : Nat) : Int) from rfl, si30 sA (by omega), Option.bind_some]
    rfl
  · rw [Vl_put]
    show _ = Vl 65536 R n + R n * 65536 ^ n + Vl 65536 E n
    have := mul1 (B := 65536) (P := 65536 ^ n) (v := vv) (t := R n) (a := 0) (d := 1) (c := cc) (Vt := Vl 65536 R1 n + R n * 65536 ^ n) (Vt' := Vl 65536 R1 n + vv % 65536 * 65536 ^ n) (R := Vl 65536 R1 n + R n * 65536 ^ n + cc * 65536 ^ n) (by decide) (by omega) (by omega) rfl
    rw [Nat.zero_mul] at this
    rw [Nat.pow_succ]
    omega
