/-! ===== READING, 6: the model reads the head and the cells ===== -/
theorem Mdr.byte {M0 M : Mem} {r cap ax : Nat} {k : Int32} (h : Mdr M0 M ax k) (b : Mrow M0 r cap) {i : Nat} (hi : i < cap) : ab M r (iw (i : Int)) = some (cI M0 r i) := by
  obtain ⟨b1, b2, b3, b4, b5, b6⟩ := b
  have dr := h.2.1.2.2 r b1
  rw [ab_of (Or.inr (Or.inl (dr.1.trans b4))) (dr.2.1.trans b5) hi (by omega), h.2.1.cI b1 (by unfold pMd; omega)]
theorem M_hd4 {M : Mem} {r cap e : Nat} (h : ST M) (b : Mrow M r cap) (hc : e + 4 ≤ cap) : ∀ (m N j x : Nat), j + m = 4 → m + 1 ≤ N → x < 256 ^ j →
    ∃ kk, F_X16_headOf_b26 N M 1068 r (iw (e : Int)) (nl x) (iw (j : Int)) = F_X16_headOf_b26_st kk M 1068 r (iw (e : Int)) (nl (x * 256 ^ m + bev (cI M r) (e + j) m)) (iw ((4 : Nat) : Int)) := by
  obtain ⟨b1, b2, b3, b4, b5, b6⟩ := b
  intro m
  induction m with
  | zero =>
    intro N j x hj hN hx
    obtain ⟨N, rfl⟩ : ∃ y, N = y + 1 := ⟨N - 1, by omega⟩
    have : j = 4 := by omega
    subst this
    rw [Nat.pow_zero, Nat.mul_one]
    exact ⟨F_X16_headOf_b26 N, rfl⟩
  | succ m ih =>
    intro N j x hj hN hx
    obtain ⟨N, rfl⟩ : ∃ y, N = y + 1 := ⟨N - 1, by omega⟩
    have hx56 : x < 2 ^ 56 := by
      have : 256 ^ j ≤ 256 ^ 7 := Nat.pow_le_pow_right (by decide) (by omega)
      omega
    have hb := bn_lt (cI M r (e + j))
    obtain ⟨kk, ih'⟩ := ih N (j + 1) (x * 256 + bn (cI M r (e + j))) (by omega) (by omega) (by rw [Nat.pow_succ]; omega)
    have hd : F_X16_headOf_b26 (N + 1) M 1068 r (iw (e : Int)) (nl x) (iw (j : Int)) = F_X16_headOf_b26 N M 1068 r (iw (e : Int)) (nl (x * 256 + bn (cI M r (e + j)))) (iw ((j + 1 : Nat) : Int)) := by
      show F_X16_headOf_b26_st (F_X16_headOf_b26 N) M 1068 r _ _ _ = _
      unfold F_X16_headOf_b26_st
      rw [if_pos (by rw [show (4 : Int32) = iw ((4 : Nat) : Int) from rfl, iw_le4 (by omega) (by omega)]; omega), iw_nad, ab_of (Or.inr (Or.inl b4)) b5 (by omega) (by omega)]
      simp only [Option.bind_some]
      rw [nl_byte _ hx56, show iw (j : Int) + 1 = iw ((j + 1 : Nat) : Int) from iw_nad j 1]
    have : (x * 256 + bn (cI M r (e + j))) * 256 ^ m + bev (cI M r) (e + (j + 1)) m = x * 256 ^ (m + 1) + bev (cI M r) (e + j) (m + 1) := by
      show _ = _ + (bn (cI M r (e + j)) * 256 ^ m + bev (cI M r) (e + j + 1) m)
      rw [Nat.pow_succ, Nat.add_mul, show e + (j + 1) = e + j + 1 by omega, Nat.mul_assoc, Nat.mul_comm 256 (256 ^ m), Nat.add_assoc]
    exact ⟨kk, by rw [hd, ih', this]⟩
theorem M_hdst {M : Mem} {r cap n : Nat} (h : ST M) (b : Mrow M r cap) (hc : n ≤ cap) (c8 : ¬ n < 8) : ∃ kk, F_X16_headOf M 1068 r (iw (n : Int)) = F_X16_headOf_b26_st kk M 1068 r (iw ((n - 4 : Nat) : Int)) (nl (bev (cI M r) (n - 4) 4)) (iw ((4 : Nat) : Int)) := by
  have b6 := b.2.2.2.2.2
  have q8 : iw (n : Int) < 8 ↔ n < 8 := by rw [show (8 : Int32) = iw ((8 : Nat) : Int) from rfl, iw_le4 (by omega) (by omega)]
  have e4 : iw (n : Int) - 4 = iw ((n - 4 : Nat) : Int) := by rw [show (4 : Int32) = iw ((4 : Nat) : Int) from rfl, iw_nsub (by omega)]
  obtain ⟨kk, this⟩ := M_hd4 (e := n - 4) h b (by omega) 4 xN 0 0 (by omega) (by have : xN = 1099511627776 := rfl; omega) (by decide)
  rw [Nat.zero_mul, Nat.zero_add, Nat.add_zero] at this
  refine ⟨kk, ?_⟩
  rw [← this]
  unfold F_X16_headOf
  rw [if_neg (fun hh => c8 (q8.mp hh)), e4]
  rfl
theorem M_hdtl {M : Mem} {r cap ax : Nat} {k e4 v4 v0 : Int32} (h : ST M) (b : Mrow M r cap) (hc : 3 < cap) (g3 : cI M r 3 = iw (ax : Int)) (hax : ax ≤ 4) : ∃ A, ((pi M 1068 1127 k).bind fun M30 =>
                  (ab M30 r (3 : Int32)).bind fun t31 =>
                  (mk M30 1005 t31).bind fun M32 =>
                  (pr M32 1068 1128 (m_nx M30)).bind fun M33 =>
                  F_X16_headOf_b163 xN M33 1068 r e4 v4 v0) = F_X16_headOf_b163 xN A 1068 r e4 v4 v0 ∧ Mdr M A ax k := by
  obtain ⟨b1, b2, b3, b4, b5, b6⟩ := id b
  have h0 := h.1
  obtain ⟨B, hB⟩ : ∃ B, B = wI M 1068 1127 k := ⟨_, rfl⟩
  have sB : ST B := hB ▸ h
  have nB : m_nx B = m_nx M := by rw [hB]; rfl
  have dB : Df pMd qMd rMd M B := hB ▸ Df.wI _ (Or.inl ⟨rfl, rfl⟩)
  have dr := dB.2.2 r b1
  have a3' : ab B r 3 = some (iw (ax : Int)) := by
    have : ab B r (iw ((3 : Nat) : Int)) = some (cI B r 3) := ab_of (Or.inr (Or.inl (dr.1.trans b4))) (dr.2.1.trans b5) (by omega) (by omega)
    rw [dB.cI b1 (by unfold pMd; omega), g3] at this
    exact this
  obtain ⟨C, hC⟩ : ∃ C, C = m_new B 1005 ax := ⟨_, rfl⟩
  have dC : Df pMd qMd rMd M C := dB.trans (hC ▸ Df.new _ _)
  have sC : ST C := h.df dC rMd_st
  obtain ⟨A, hA⟩ : ∃ A, A = wR C 1068 1128 (m_nx M) := ⟨_, rfl⟩
  have dA : Df pMd qMd rMd M A := dC.trans (hA ▸ Df.wR _ ⟨rfl, rfl⟩)
  have mkB : mk B 1005 (iw (ax : Int)) = some C := by rw [mk_of (by omega), hC]
  refine ⟨A, ?_, h.df dA rMd_st, dA, ?_, ?_, ?_, ?_, ?_, ?_, hax⟩
  · rw [p1068_1127 h, ← hB, Option.bind_some, a3', Option.bind_some, mkB, Option.bind_some, nB, p1068_1128 sC, ← hA, Option.bind_some]
  · rw [hA, hC]
    show m_nx B + 1 = _
    rw [nB]
  · rw [hA, hC]
    show m_sl B + ax = _
    rw [hB]
    rfl
  · rw [hA]
    show cI C 1068 1127 = _
    rw [hC, cI_new, if_neg (by rw [nB]; omega), hB, cI_wI, if_pos ⟨rfl, rfl⟩]
  · rw [hA, cR_wR, if_pos ⟨rfl, rfl⟩]
  · rw [hA]
    show m_tg C _ = _
    rw [hC, tg_new, if_pos nB.symm]
  · rw [hA]
    show m_ln C _ = _
    rw [hC, ln_new, if_pos nB.symm]
theorem M_mx4 {n : Nat} (hn : n ≤ 60000) : F_J7_max 0 (iw (n : Int) - 4) = some (iw ((n - 4 : Nat) : Int)) := by
  have e : iw (n : Int) - 4 = iw ((n : Int) - 4) := by rw [show (4 : Int32) = iw 4 from rfl, iw_sub]
  unfold F_J7_max F_J7_max_b10
  rw [e]
  have q : (0 : Int32) < iw ((n : Int) - 4) ↔ 4 < n := by rw [show (0 : Int32) = iw 0 from rfl, iw_lt (by omega) (by omega) (by omega) (by omega)]; omega
  by_cases c : 4 < n
  · rw [if_pos (q.mpr c), show (n : Int) - 4 = ((n - 4 : Nat) : Int) by omega]
  · rw [if_neg (fun hh => c (q.mp hh)), show n - 4 = 0 by omega]
    rfl
theorem M_hdsm {M : Mem} {r n : Nat} (h : ST M) (c8 : n < 8) : F_X16_headOf M 1068 r (iw (n : Int)) = some (.inr (m_nx M, mT M 20 (iw ((n - 4 : Nat) : Int)))) := by
  have q8 : iw (n : Int) < 8 ↔ n < 8 := by rw [show (8 : Int32) = iw ((8 : Nat) : Int) from rfl, iw_le4 (by omega) (by omega)]
  unfold F_X16_headOf
  rw [if_pos (q8.mpr c8)]
  show ((F_J7_max 0 (iw (n : Int) - 4)).bind fun z => (vg M 1068 17).bind fun _ => (F_X16_bad M 1068 z).bind fun z => (ie z.2 z.1).bind fun _ => (some (Sum.inr (z.1, z.2)) : Option ((Int32 × Mem) ⊕ (Nat × Mem)))) = _
  rw [M_mx4 (by omega), Option.bind_some, v1068 h, Option.bind_some]
  exact M_bad h
theorem M_f4 : ¬ iw ((4 : Nat) : Int) < (4 : Int32) := by decide
theorem M_a0 {M : Mem} {r cap : Nat} (b4 : m_tg M r = 1002) (b5 : m_ln M r = cap) (hc : 8 ≤ cap) (h6 : cap ≤ 60000) : ab M r 0 = some (cI M r 0) ∧ ab M r 1 = some (cI M r 1) ∧ ab M r 2 = some (cI M r 2) ∧ ab M r 3 = some (cI M r 3) := by
  have ab1 : ∀ i, i < cap → ab M r (iw (i : Int)) = some (cI M r i) := fun i hi => ab_of (Or.inr (Or.inl b4)) b5 hi (by omega)
  exact ⟨ab1 0 (by omega), ab1 1 (by omega), ab1 2 (by omega), ab1 3 (by omega)⟩
theorem M_hdc {kk : Mem → Nat → Nat → Int32 → Int64 → Int32 → Option ((Int32 × Mem) ⊕ (Nat × Mem))} {M : Mem} {r : Nat} {e c : Int32} {x : Int64} (h : ST M) (ck : F_X16_crc M r e = some c) (c1 : ¬ x.toInt32 = c) : F_X16_headOf_b26_st kk M 1068 r e x (iw ((4 : Nat) : Int)) = some (.inr (m_nx M, mT M 20 e)) := by
  unfold F_X16_headOf_b26_st
  rw [if_neg M_f4, ck, Option.bind_some, if_neg c1, v1068 h, Option.bind_some]
  exact M_bad h
theorem M_hdc' {kk : Mem → Nat → Nat → Int32 → Int64 → Int32 → Option ((Int32 × Mem) ⊕ (Nat × Mem))} {M : Mem} {r : Nat} {e c : Int32} {x : Int64} (ck : F_X16_crc M r e = some c) (c1 : x.toInt32 = c) : F_X16_headOf_b26_st kk M 1068 r e x (iw ((4 : Nat) : Int)) = (ab M r 0).bind fun t23 =>
      if t23 = (71 : Int32) then
        (ab M r (1 : Int32)).bind fun t24 =>
        if t24 = (82 : Int32) then
          (ab M r (2 : Int32)).bind fun t25 =>
          if t25 < 0 then
            F_X16_headOf_b116 M 1068
          else
            (ab M r (2 : Int32)).bind fun t26 =>
            if (7 : Int32) < t26 then
              F_X16_headOf_b116 M 1068
            else
              (ab M r (3 : Int32)).bind fun t27 =>
              if t27 < 0 then
                F_X16_headOf_b135 M 1068
              else
                (ab M r (3 : Int32)).bind fun t28 =>
                if (4 : Int32) < t28 then
                  F_X16_headOf_b135 M 1068
                else
                  (ab M r (2 : Int32)).bind fun t29 =>
                  (pi M 1068 1127 t29).bind fun M30 =>
                  (ab M30 r (3 : Int32)).bind fun t31 =>
                  (mk M30 1005 t31).bind fun M32 =>
                  (pr M32 1068 1128 (m_nx M30)).bind fun M33 =>
                  F_X16_headOf_b163 xN M33 1068 r e (4 : Int32) (0 : Int32)
        else
          (vg M 1068 17).bind fun _ =>
          (F_X16_bad M 1068 (1 : Int32)).bind fun z35 =>
          (ie z35.2 z35.1).bind fun _ => some (.inr (z35.1, z35.2))
      else
        (vg M 1068 17).bind fun _ =>
        (F_X16_bad M 1068 (0 : Int32)).bind fun z37 =>
        (ie z37.2 z37.1).bind fun _ => some (.inr (z37.1, z37.2)) := by
  unfold F_X16_headOf_b26_st
  rw [if_neg M_f4, ck, Option.bind_some, if_pos c1]
theorem M_head {M : Mem} {r cap n : Nat} {g : Nat → Int32} (hg : g = cI M r) (h : ST M) (b : Mrow M r cap) (hc : n ≤ cap) (hb : ∀ i, i < n → bt (g i)) :
    (∀ p, hdE g n = some p → ∃ x M', F_X16_headOf M 1068 r (iw (n : Int)) = some (.inr (x, M')) ∧ MdF M M' p) ∧
    (hdE g n = none → ∃ A, F_X16_headOf M 1068 r (iw (n : Int)) = F_X16_headOf_b163 xN A 1068 r (iw ((n - 4 : Nat) : Int)) 4 0 ∧ Mdr M A (bn (g 3)) (iw (bn (g 2) : Nat)) ∧ 8 ≤ n ∧ bn (g 2) ≤ 7) := by
  obtain ⟨b1, b2, b3, b4, b5, b6⟩ := id b
  have h0 := h.1
  have fin : ∀ x, F_X16_headOf M 1068 r (iw (n : Int)) = some (.inr (m_nx M, mT M 20 (iw (x : Nat)))) → hdE g n = some x → (∀ p, hdE g n = some p → ∃ x M', F_X16_headOf M 1068 r (iw (n : Int)) = some (.inr (x, M')) ∧ MdF M M' p) ∧ (hdE g n = none → ∃ A, F_X16_headOf M 1068 r (iw (n : Int)) = F_X16_headOf_b163 xN A 1068 r (iw ((n - 4 : Nat) : Int)) 4 0 ∧ Mdr M A (bn (g 3)) (iw (bn (g 2) : Nat)) ∧ 8 ≤ n ∧ bn (g 2) ≤ 7) := fun x hF hx => by
    rw [hx]
    exact ⟨fun p hp => by cases hp; exact ⟨_, _, hF, MdF.of h x⟩, fun hn => by cases hn⟩
  have q8 : iw (n : Int) < 8 ↔ n < 8 := by rw [show (8 : Int32) = iw ((8 : Nat) : Int) from rfl, iw_le4 (by omega) (by omega)]
  by_cases c8 : n < 8
  · refine fin (n - 4) ?_ (by unfold hdE; rw [if_pos c8])
    exact M_hdsm h (by omega)
  obtain ⟨a0, a1, a2, a3⟩ := M_a0 b4 b5 (by omega) b6
  rw [← hg] at a0 a1 a2 a3
  obtain ⟨kk, hd⟩ := M_hdst h b hc c8
  rw [← hg] at hd
  have ck := M_crc (M := M) (a := r) (cap := cap) (to := n - 4) b4 b5 (by omega) b6
  rw [← hg] at ck
  have ck5 : (nl (bev g (n - 4) 4)).toInt32 = ni (bev g (n - 4) 4) := by rw [nl_i32', iw_ni]
  by_cases c1 : ¬ ni (bev g (n - 4) 4) = crr g (n - 4) 0 (-1)
  · refine fin (n - 4) ?_ (by unfold hdE; rw [if_neg c8, if_pos c1])
    rw [hd]
    exact M_hdc h ck (by rw [ck5]; exact c1)
  have c1' : (nl (bev g (n - 4) 4)).toInt32 = crr g (n - 4) 0 (-1) := by rw [ck5]; exact Classical.not_not.mp c1
  rw [M_hdc' ck c1', a0, Option.bind_some, a1, Option.bind_some, a2, Option.bind_some, Option.bind_some, a3, Option.bind_some, Option.bind_some, Option.bind_some] at hd
  have q0 : g 0 = 71 ↔ bn (g 0) = 71 := bt_is (hb 0 (by omega)) (c := 71) (by decide)
  have q1 : g 1 = 82 ↔ bn (g 1) = 82 := bt_is (hb 1 (by omega)) (c := 82) (by decide)
  have q2 : (g 2 < 0 ∨ (7 : Int32) < g 2) ↔ 7 < bn (g 2) := bt_gt (hb 2 (by omega)) (c := 7) (by decide)
  have q3 : (g 3 < 0 ∨ (4 : Int32) < g 3) ↔ 4 < bn (g 3) := bt_gt (hb 3 (by omega)) (c := 4) (by decide)
  by_cases c2 : ¬ bn (g 0) = 71
  · refine fin 0 ?_ (by unfold hdE; rw [if_neg c8, if_neg c1, if_pos c2])
    rw [hd, if_neg (fun hh => c2 (q0.mp hh)), v1068 h, Option.bind_some]
    exact M_bad h
  have c2' := q0.mpr (Classical.not_not.mp c2)
  rw [if_pos c2'] at hd
  by_cases c3 : ¬ bn (g 1) = 82
  · refine fin 1 ?_ (by unfold hdE; rw [if_neg c8, if_neg c1, if_neg c2, if_pos c3])
    rw [hd, if_neg (fun hh => c3 (q1.mp hh)), v1068 h, Option.bind_some]
    exact M_bad h
  have c3' := q1.mpr (Classical.not_not.mp c3)
  rw [if_pos c3'] at hd
  have hd3 := hd
  by_cases c4 : 7 < bn (g 2)
  · refine fin 2 ?_ (by unfold hdE; rw [if_neg c8, if_neg c1, if_neg c2, if_neg c3, if_pos c4])
    have f : F_X16_headOf_b116 M 1068 = some (.inr (m_nx M, mT M 20 (iw ((2 : Nat) : Int)))) := by
      unfold F_X16_headOf_b116
      simp only [v1068, h, Option.bind_some]
      exact M_bad h
    rw [hd3]
    by_cases d1 : g 2 < 0
    · rw [if_pos d1, f]
    · rw [if_neg d1, if_pos ((q2.mpr c4).resolve_left d1), f]
  have c4' : ¬ g 2 < 0 ∧ ¬ (7 : Int32) < g 2 := ⟨fun hh => c4 (q2.mp (Or.inl hh)), fun hh => c4 (q2.mp (Or.inr hh))⟩
  rw [if_neg c4'.1, if_neg c4'.2] at hd3
  by_cases c5 : 4 < bn (g 3)
  · refine fin 3 ?_ (by unfold hdE; rw [if_neg c8, if_neg c1, if_neg c2, if_neg c3, if_neg c4, if_pos c5])
    have f : F_X16_headOf_b135 M 1068 = some (.inr (m_nx M, mT M 20 (iw ((3 : Nat) : Int)))) := by
      unfold F_X16_headOf_b135
      simp only [v1068, h, Option.bind_some]
      exact M_bad h
    rw [hd3]
    by_cases d1 : g 3 < 0
    · rw [if_pos d1, f]
    · rw [if_neg d1, if_pos ((q3.mpr c5).resolve_left d1), f]
  have c5' : ¬ g 3 < 0 ∧ ¬ (4 : Int32) < g 3 := ⟨fun hh => c5 (q3.mp (Or.inl hh)), fun hh => c5 (q3.mp (Or.inr hh))⟩
  rw [if_neg c5'.1, if_neg c5'.2] at hd3
  have hH : hdE g n = none := by unfold hdE; rw [if_neg c8, if_neg c1, if_neg c2, if_neg c3, if_neg c4, if_neg c5]
  refine ⟨fun p hp => (by rw [hH] at hp; cases hp), fun _ => ?_⟩
  have g2 := bt_eq (hb 2 (by omega)) (by omega)
  have g3 := bt_eq (hb 3 (by omega)) (by omega)
  obtain ⟨A, f1, f2⟩ := M_hdtl (k := g 2) (ax := bn (g 3)) (e4 := iw ((n - 4 : Nat) : Int)) (v4 := 4) (v0 := 0) h b (by omega) (by rw [← hg]; exact g3) (by omega)
  refine ⟨A, by rw [hd3, f1], ?_, by omega, by omega⟩
  rw [← g2]
  exact f2
