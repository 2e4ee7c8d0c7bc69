/-! ===== READING, 7: the model reads the cells ===== -/
theorem M_chain {k29 : Mem → Nat → Nat → Int32 → Int32 → Int64 → Int32 → Int64 → Option (Mem ⊕ (Nat × Mem))} {M : Mem} {k : Int32} {r : Nat} {v3 v4 v7 : Int32} {v5 v8 v : Int64} (h : ST M) (hk : cI M 1068 1127 = k) : (if k = 1 then F_X16_cellsOf_b107 k29 M 1068 r v3 v4 v5 v7 v8 (j_i2b v.toInt32).toInt64 else F_X16_cellsOf_b107 k29 M 1068 r v3 v4 v5 v7 v8 v) = F_X16_cellsOf_b136 k29 M 1068 r v3 v4 v5 v7 v8 (cvk k v) := by
  have a : ∀ v, F_X16_cellsOf_b122 k29 M 1068 r v3 v4 v5 v7 v8 v = if k = 4 then F_X16_cellsOf_b136 k29 M 1068 r v3 v4 v5 v7 v8 v.toInt32.toInt64 else F_X16_cellsOf_b136 k29 M 1068 r v3 v4 v5 v7 v8 v := fun v => by
    unfold F_X16_cellsOf_b122
    simp only [g1068_1127, h, hk, Option.bind_some]
  have b : ∀ v, F_X16_cellsOf_b107 k29 M 1068 r v3 v4 v5 v7 v8 v = if k = 2 then F_X16_cellsOf_b122 k29 M 1068 r v3 v4 v5 v7 v8 (j_i2s v.toInt32).toInt64 else F_X16_cellsOf_b122 k29 M 1068 r v3 v4 v5 v7 v8 v := fun v => by
    unfold F_X16_cellsOf_b107
    simp only [g1068_1127, h, hk, Option.bind_some]
  unfold cvk
  by_cases c1 : k = 1
  · rw [if_pos c1, if_pos c1, b, if_neg (by rw [c1]; decide), a, if_neg (by rw [c1]; decide)]
  · rw [if_neg c1, if_neg c1]
    by_cases c2 : k = 2
    · rw [if_pos c2, b, if_pos c2, a, if_neg (by rw [c2]; decide)]
    · rw [if_neg c2, b, if_neg c2, a]
      by_cases c4 : k = 4
      · rw [if_pos c4, if_pos c4]
      · rw [if_neg c4, if_neg c4]
theorem M_c59 {k29 : Mem → Nat → Nat → Int32 → Int32 → Int64 → Int32 → Int64 → Option (Mem ⊕ (Nat × Mem))} {M0 M : Mem} {r cap ax a : Nat} {k v3 : Int32} {v5 v8 : Int64} (h : Mdr M0 M ax k) (b : Mrow M0 r cap) (hk : Lk k) (hc : a + wdt k ≤ cap) : ∀ (m N j x : Nat), j + m = wdt k → m + 1 ≤ N → x < 256 ^ j →
    F_X16_cellsOf_b59 k29 N M 1068 r v3 (iw (wdt k : Nat)) v5 (iw (a : Int)) v8 (nl x) (iw (j : Int)) = F_X16_cellsOf_b136 k29 M 1068 r v3 (iw (wdt k : Nat)) v5 (iw (a : Int)) v8 (cvk k (nl (x * 256 ^ m + bev (cI M0 r) (a + j) m))) := by
  obtain ⟨-, -, w3, w4⟩ := wdt_eq hk
  have b6 := b.2.2.2.2.2
  intro m
  induction m with
  | zero =>
    intro N j x hj hN hx
    obtain ⟨N, rfl⟩ : ∃ y, N = y + 1 := ⟨N - 1, by omega⟩
    show F_X16_cellsOf_b59_st k29 (F_X16_cellsOf_b59 k29 N) M 1068 r _ _ _ _ _ _ _ = _
    unfold F_X16_cellsOf_b59_st
    rw [if_neg (by rw [iw_le4 (by omega) (by omega)]; omega)]
    simp only [g1068_1127, h.1, h.2.2.2.2.1, Option.bind_some]
    rw [M_chain h.1 h.2.2.2.2.1, Nat.pow_zero, Nat.mul_one]
    rfl
  | succ m ih =>
    intro N j x hj hN hx
    obtain ⟨N, rfl⟩ : ∃ y, N = y + 1 := ⟨N - 1, by omega⟩
    have hx56 : x < 2 ^ 56 := by
      have : 256 ^ j ≤ 256 ^ 7 := Nat.pow_le_pow_right (by decide) (by omega)
      omega
    have hb := bn_lt (cI M0 r (a + j))
    have ih' := ih N (j + 1) (x * 256 + bn (cI M0 r (a + j))) (by omega) (by omega) (by rw [Nat.pow_succ]; omega)
    have hd : F_X16_cellsOf_b59 k29 (N + 1) M 1068 r v3 (iw (wdt k : Nat)) v5 (iw (a : Int)) v8 (nl x) (iw (j : Int)) = F_X16_cellsOf_b59 k29 N M 1068 r v3 (iw (wdt k : Nat)) v5 (iw (a : Int)) v8 (nl (x * 256 + bn (cI M0 r (a + j)))) (iw ((j + 1 : Nat) : Int)) := by
      show F_X16_cellsOf_b59_st k29 (F_X16_cellsOf_b59 k29 N) M 1068 r _ _ _ _ _ _ _ = _
      unfold F_X16_cellsOf_b59_st
      rw [if_pos (by rw [iw_le4 (by omega) (by omega)]; omega), iw_nad, h.byte b (by omega)]
      simp only [Option.bind_some]
      rw [nl_byte _ hx56, show iw (j : Int) + 1 = iw ((j + 1 : Nat) : Int) from iw_nad j 1]
    have : (x * 256 + bn (cI M0 r (a + j))) * 256 ^ m + bev (cI M0 r) (a + (j + 1)) m = x * 256 ^ (m + 1) + bev (cI M0 r) (a + j) (m + 1) := by
      show _ = _ + (bn (cI M0 r (a + j)) * 256 ^ m + bev (cI M0 r) (a + j + 1) m)
      rw [Nat.pow_succ, Nat.add_mul, show a + (j + 1) = a + j + 1 by omega, Nat.mul_assoc, Nat.mul_comm 256 (256 ^ m), Nat.add_assoc]
    rw [hd, ih', this]
theorem M_cl {M0 : Mem} {r cap e a0 ax : Nat} {k : Int32} {T : Nat} {g : Nat → Int32} (hg : g = cI M0 r) (b : Mrow M0 r cap) (hc : e ≤ cap) (he : e ≤ 30000) (hk : Lk k) (hT : T < 2 ^ 62) (hs0 : 1334 ≤ m_nx M0) : ∀ (m N i : Nat) (M : Mem), e + 1 ≤ a0 + i * wdt k + m → m ≤ N → Mdr M0 M ax k → a0 + i * wdt k ≤ e → i ≤ T → i < a0 + i * wdt k → (∀ q, q < i → cJ M 1073 q = cRd g k (a0 + q * wdt k)) →
    (∀ p, clE g e k T m i (a0 + i * wdt k) = some p → ∃ x M', F_X16_cellsOf_b29 N M 1068 r (iw (e : Int)) (iw (wdt k : Nat)) (nl T) (iw ((a0 + i * wdt k : Nat) : Int)) (nl i) = some (.inr (x, M')) ∧ MdF M0 M' p) ∧
    (clE g e k T m i (a0 + i * wdt k) = none → ∃ M', F_X16_cellsOf_b29 N M 1068 r (iw (e : Int)) (iw (wdt k : Nat)) (nl T) (iw ((a0 + i * wdt k : Nat) : Int)) (nl i) = some (.inl M') ∧ Mdr M0 M' ax k ∧ (∀ x, cI M' (m_nx M0) x = cI M (m_nx M0) x) ∧ ∀ q, q < T → cJ M' 1073 q = cRd g k (a0 + q * wdt k)) := by
  have b6 := b.2.2.2.2.2
  obtain ⟨-, -, w3, w4⟩ := wdt_eq hk
  have xx : xN = 1099511627776 := rfl
  intro m
  induction m with
  | zero => intro N i M h1 h2 h3 h4; omega
  | succ m ih =>
    intro N i M hm hN hr ha hi hia hz
    obtain ⟨N, rfl⟩ : ∃ y, N = y + 1 := ⟨N - 1, by omega⟩
    obtain ⟨h1, h2, h3, h4, h5, h6, h7, h8, h9⟩ := id hr
    have e0 : clE g e k T (m + 1) i (a0 + i * wdt k) = if i < T then (if e < a0 + i * wdt k + wdt k then some (a0 + i * wdt k) else if F_X23_isBits k (cRd g k (a0 + i * wdt k)) = some 0 then some (a0 + i * wdt k) else clE g e k T m (i + 1) (a0 + i * wdt k + wdt k)) else if a0 + i * wdt k < e then some (a0 + i * wdt k) else none := rfl
    obtain ⟨a, hA⟩ : ∃ a, a = a0 + i * wdt k := ⟨_, rfl⟩
    have a1 : a0 + (i + 1) * wdt k = a + wdt k := by rw [hA, Nat.succ_mul]; omega
    rw [← hA] at hm ha hia e0 ⊢
    have st0 : ∀ x, F_X16_cellsOf_b29 (N + 1) M 1068 r (iw (e : Int)) (iw (wdt k : Nat)) (nl T) (iw (a : Int)) (nl i) = x ↔ F_X16_cellsOf_b29_st (F_X16_cellsOf_b29 N) M 1068 r (iw (e : Int)) (iw (wdt k : Nat)) (nl T) (iw (a : Int)) (nl i) = x := fun x => Iff.rfl
    have qi : nl i < nl T ↔ i < T := nl_lt (by omega) (by omega)
    by_cases c : i < T
    · rw [if_pos c] at e0
      have qw : iw (e : Int) - iw (a : Int) < iw (wdt k : Nat) ↔ e < a + wdt k := by
        rw [iw_nsub ha, iw_le4 (by omega) (by omega)]
        omega
      by_cases c1 : e < a + wdt k
      · rw [if_pos c1] at e0
        refine ⟨fun p hp => ⟨m_nx M, mT M 20 (iw (a : Int)), ?_, ?_⟩, fun hn => by rw [e0] at hn; cases hn⟩
        · rw [st0]
          unfold F_X16_cellsOf_b29_st
          rw [if_pos (qi.mpr c), if_pos (qw.mpr c1)]
          simp only [v1068, h1, Option.bind_some]
          exact M_bad h1
        · rw [e0] at hp
          cases hp
          exact hr.fail _
      · rw [if_neg c1] at e0
        have hd : F_X16_cellsOf_b29 (N + 1) M 1068 r (iw (e : Int)) (iw (wdt k : Nat)) (nl T) (iw (a : Int)) (nl i) = F_X16_cellsOf_b136 (F_X16_cellsOf_b29 N) M 1068 r (iw (e : Int)) (iw (wdt k : Nat)) (nl T) (iw (a : Int)) (nl i) (cRd g k a) := by
          rw [st0]
          unfold F_X16_cellsOf_b29_st
          rw [if_pos (qi.mpr c), if_neg (fun hh => c1 (qw.mp hh))]
          have := M_c59 (k29 := F_X16_cellsOf_b29 N) (v3 := iw (e : Int)) (v5 := nl T) (v8 := nl i) hr b hk (show a + wdt k ≤ cap by omega) (wdt k) xN 0 0 (by omega) (by omega) (by decide)
          rw [Nat.zero_mul, Nat.zero_add, Nat.add_zero, ← hg] at this
          exact this
        obtain ⟨z, z1, z2, z3, z4⟩ := bits_eq hk (cRd g k a)
        by_cases c2 : F_X23_isBits k (cRd g k a) = some 0
        · rw [if_pos c2] at e0
          have zz : z = 0 := by rw [z1] at c2; exact Option.some.inj c2
          refine ⟨fun p hp => ⟨m_nx M, mT M 20 (iw (a : Int)), ?_, ?_⟩, fun hn => by rw [e0] at hn; cases hn⟩
          · rw [hd]
            unfold F_X16_cellsOf_b136
            simp only [g1068_1127, h1, h5, z2, zz, Option.bind_some, if_true]
            simp only [v1068, h1, Option.bind_some]
            exact M_bad h1
          · rw [e0] at hp
            cases hp
            exact hr.fail _
        · rw [if_neg c2] at e0
          have zz : ¬ z = 0 := fun hh => c2 (by rw [z1, hh])
          obtain ⟨B, hB⟩ : ∃ B, B = wJ M 1073 i (cRd g k a) := ⟨_, rfl⟩
          have rB : Mdr M0 B ax k := by
            rw [hB]
            exact ⟨h1, h2.trans (Df.wJ _ rfl), h3, h4, h5, h6, h7, h8, h9⟩
          have hd2 : F_X16_cellsOf_b29 (N + 1) M 1068 r (iw (e : Int)) (iw (wdt k : Nat)) (nl T) (iw (a : Int)) (nl i) = F_X16_cellsOf_b29 N B 1068 r (iw (e : Int)) (iw (wdt k : Nat)) (nl T) (iw ((a + wdt k : Nat) : Int)) (nl (i + 1)) := by
            rw [hd]
            unfold F_X16_cellsOf_b136
            simp only [g1068_1127, h1, h5, z2, zz, Option.bind_some, if_false]
            simp only [g1068_1100, h1, nl_i32', sj_of _ (t1073 h1) (l1073 h1) (show i < 100000 by omega) (show (100000 : Nat) < 2147483648 by decide), Option.bind_some, iw_nad, ← hB]
            rw [show nl i + (1 : Int64) = nl (i + 1) from nl_add i 1]
          have ih' := ih N (i + 1) B (by rw [a1]; omega) (by omega) rB (by rw [a1]; omega) (by omega) (by rw [a1]; omega) (fun q hq => by
            by_cases cq : q = i
            · subst cq
              rw [hB, cJ_wJ, if_pos ⟨rfl, rfl⟩, ← hA]
            · rw [hB, cJ_wJ, if_neg (by omega)]
              exact hz q (by omega))
          rw [a1] at ih'
          rw [e0, hd2]
          refine ⟨ih'.1, fun hn => ?_⟩
          obtain ⟨M', f1, f2, f3, f4⟩ := ih'.2 hn
          exact ⟨M', f1, f2, fun x => by rw [f3, hB]; rfl, f4⟩
    · rw [if_neg c] at e0
      have : i = T := by omega
      subst this
      have hd : F_X16_cellsOf_b29 (N + 1) M 1068 r (iw (e : Int)) (iw (wdt k : Nat)) (nl i) (iw (a : Int)) (nl i) = if a < e then some (.inr (m_nx M, mT M 20 (iw (a : Int)))) else some (.inl M) := by
        rw [st0]
        unfold F_X16_cellsOf_b29_st
        rw [if_neg (fun hh => c (qi.mp hh))]
        have q : iw (a : Int) < iw (e : Int) ↔ a < e := iw_le4 (by omega) (by omega)
        by_cases ce : a < e
        · rw [if_pos (q.mpr ce), if_pos ce]
          simp only [v1068, h1, Option.bind_some]
          exact M_bad h1
        · rw [if_neg (fun hh => ce (q.mp hh)), if_neg ce]
      by_cases ce : a < e
      · rw [if_pos ce] at e0 hd
        exact ⟨fun p hp => ⟨_, _, hd, by rw [e0] at hp; cases hp; exact hr.fail _⟩, fun hn => by rw [e0] at hn; cases hn⟩
      · rw [if_neg ce] at e0 hd
        exact ⟨fun p hp => (by rw [e0] at hp; cases hp), fun _ => ⟨M, hd, hr, fun _ => rfl, hz⟩⟩
