/-! ===== READING, 3: the engine reads a grid's bytes ===== -/
theorem E_cl {M0 : Mem} {r cap fr e a0 : Nat} {k : Int32} {T : Nat} {V : Int32} (b : Brow M0 r cap) (hc : fr + e ≤ cap) (he : e ≤ 30000) (hk : Lk k) (hV : (V < 0 ∧ 100000 < T) ∨ (T ≤ 100000 ∧ V = iw (T : Int))) : ∀ (m N i : Nat) (M : Mem), e + 1 ≤ a0 + i * wdt k + m → m ≤ N → Rdr M0 M r fr e (a0 + i * wdt k) → a0 + i * wdt k ≤ e → i ≤ T → i < a0 + i * wdt k → cI M 1048 902 = k → (∀ q, q < i → cJ M 1050 q = cRd (fun p => cI M0 r (fr + p)) k (a0 + q * wdt k) ∧ vb k (cRd (fun p => cI M0 r (fr + p)) k (a0 + q * wdt k))) →
    (∀ p, clE (fun p => cI M0 r (fr + p)) e k T m i (a0 + i * wdt k) = some p → ∃ M', F_X13_read_b315 N M 1048 (iw (fr : Int)) V (iw (wdt k : Nat)) (iw (i : Int)) = some (.inr (1003, M')) ∧ RdF M0 M' p) ∧
    (clE (fun p => cI M0 r (fr + p)) e k T m i (a0 + i * wdt k) = none → ∃ M', F_X13_read_b315 N M 1048 (iw (fr : Int)) V (iw (wdt k : Nat)) (iw (i : Int)) = some (.inl (V, M')) ∧ ¬ V < 0 ∧ a0 + T * wdt k ≤ e ∧ Rdr M0 M' r fr e (a0 + T * wdt k) ∧ cI M' 1048 901 = cI M 1048 901 ∧ cI M' 1048 902 = k ∧ (∀ i, cI M' 1049 i = cI M 1049 i) ∧ ∀ q, q < T → cJ M' 1050 q = cRd (fun p => cI M0 r (fr + p)) k (a0 + q * wdt k) ∧ vb k (cRd (fun p => cI M0 r (fr + p)) k (a0 + q * wdt k))) := by
  obtain ⟨g, hg⟩ : ∃ g : Nat → Int32, g = fun p => cI M0 r (fr + p) := ⟨_, rfl⟩
  rw [← hg]
  have hcap := b.2.2.2.2
  obtain ⟨-, -, w3, w4⟩ := wdt_eq hk
  intro m
  induction m with
  | zero => intro N i M h1 h2 h3 h4; omega
  | succ m ih =>
    intro N i M hm hN hr ha hi hia h2 hz
    obtain ⟨N, rfl⟩ : ∃ y, N = y + 1 := ⟨N - 1, by omega⟩
    have st0 : ∀ x, F_X13_read_b315 (N + 1) M 1048 (iw (fr : Int)) V (iw (wdt k : Nat)) (iw (i : Int)) = x ↔ F_X13_read_b315_st (F_X13_read_b315 N) M 1048 (iw (fr : Int)) V (iw (wdt k : Nat)) (iw (i : Int)) = x := fun x => Iff.rfl
    have e0 : clE g e k T (m + 1) i (a0 + i * wdt k) = if i < T then (if e < a0 + i * wdt k + wdt k then some (a0 + i * wdt k) else if F_X23_isBits k (cRd g k (a0 + i * wdt k)) = some 0 then some (a0 + i * wdt k) else clE g e k T m (i + 1) (a0 + i * wdt k + wdt k)) else if a0 + i * wdt k < e then some (a0 + i * wdt k) else none := rfl
    obtain ⟨a, hA⟩ : ∃ a, a = a0 + i * wdt k := ⟨_, rfl⟩
    have a1 : a0 + (i + 1) * wdt k = a + wdt k := by rw [hA, Nat.succ_mul]; omega
    rw [← hA] at hm hr ha hia e0 ⊢
    by_cases c : i < T
    · rw [if_pos c] at e0
      have hd : F_X13_read_b315 (N + 1) M 1048 (iw (fr : Int)) V (iw (wdt k : Nat)) (iw (i : Int)) = F_X13_read_b327 (F_X13_read_b315 N) M 1048 (iw (fr : Int)) V (iw (wdt k : Nat)) (iw (i : Int)) := by
        rw [st0]
        unfold F_X13_read_b315_st
        rcases hV with ⟨q, -⟩ | ⟨q1, q2⟩
        · rw [if_pos q]
        · by_cases cv : V < 0
          · rw [if_pos cv]
          · rw [if_neg cv, if_pos (by rw [q2, iw_le4 (by omega) (by omega)]; exact c)]
      obtain ⟨ec1, ec2, ec3⟩ := E_cellR (i := i) hr b hc ha hk h2 (by omega)
      rw [← hg] at ec2 ec3
      by_cases c1 : e < a + wdt k
      · rw [if_pos c1] at e0
        refine ⟨fun p hp => ⟨eT M 20 (iw (a : Int)), ?_, ?_⟩, fun hn => by rw [e0] at hn; cases hn⟩
        · rw [hd]
          unfold F_X13_read_b327
          simp only [v1048, hr.1, Option.bind_some]
          rw [ec1 c1, tb_r]
        · rw [e0] at hp
          cases hp
          exact hr.fail _
      · rw [if_neg c1] at e0
        by_cases c2 : F_X23_isBits k (cRd g k a) = some 0
        · rw [if_pos c2] at e0
          obtain ⟨M', f1, f2⟩ := ec2 (by omega) c2
          refine ⟨fun p hp => ⟨M', ?_, ?_⟩, fun hn => by rw [e0] at hn; cases hn⟩
          · rw [hd]
            unfold F_X13_read_b327
            simp only [v1048, hr.1, Option.bind_some]
            rw [f1, tb_r]
          · rw [e0] at hp
            cases hp
            exact f2
        · rw [if_neg c2] at e0
          obtain ⟨B, hB⟩ : ∃ B, B = wJ (wI M 1048 899 (iw ((fr + (a + wdt k) : Nat) : Int))) 1050 i (cRd g k a) := ⟨_, rfl⟩
          have rB : Rdr M0 B r fr e (a + wdt k) := hB ▸ (hr.go _).w50 _ _
          have hd2 : F_X13_read_b315 (N + 1) M 1048 (iw (fr : Int)) V (iw (wdt k : Nat)) (iw (i : Int)) = F_X13_read_b315 N B 1048 (iw (fr : Int)) V (iw (wdt k : Nat)) (iw ((i + 1 : Nat) : Int)) := by
            rw [hd]
            unfold F_X13_read_b327
            simp only [v1048, hr.1, Option.bind_some]
            rw [ec3 (by omega) c2, ← hB, tb_l, ← show iw (i : Int) + 1 = iw ((i + 1 : Nat) : Int) from iw_nad i 1]
          obtain ⟨z, z1, -, z3, z4⟩ := bits_eq hk (cRd g k a)
          have hvb : vb k (cRd g k a) := z4.mp (by
            rcases z3 with q | q
            · rw [z1, q] at c2
              exact absurd rfl c2
            · exact q)
          have ih' := ih N (i + 1) B (by rw [a1]; omega) (by omega) (by rw [a1]; exact rB) (by rw [a1]; omega) (by omega) (by rw [a1]; omega) (by rw [hB, cI_wJ, cI_wI, if_neg (by decide)]; exact h2) (fun q hq => by
            by_cases cq : q = i
            · subst cq
              rw [hB, cJ_wJ, if_pos ⟨rfl, rfl⟩, ← hA]
              exact ⟨rfl, hvb⟩
            · rw [hB, cJ_wJ, if_neg (by omega), cJ_wI]
              exact hz q (by omega))
          rw [a1] at ih'
          rw [e0, hd2]
          refine ⟨ih'.1, fun hn => ?_⟩
          obtain ⟨M', f1, f2, f3, f4, f5, f6, f7, f8⟩ := ih'.2 hn
          exact ⟨M', f1, f2, f3, f4, by rw [f5, hB, cI_wJ, cI_wI, if_neg (by decide)], f6, fun i => by rw [f7, hB, cI_wJ, cI_wI, if_neg (by omega)], f8⟩
    · rw [if_neg c] at e0
      have : i = T := by omega
      subst this
      have hV2 : V = iw (i : Int) := by
        rcases hV with ⟨-, q⟩ | ⟨-, q⟩
        · omega
        · exact q
      have hV3 : ¬ V < 0 := by rw [hV2, iw_lt0 (by omega) (by omega)]; omega
      have hd : F_X13_read_b315 (N + 1) M 1048 (iw (fr : Int)) V (iw (wdt k : Nat)) (iw (i : Int)) = if a < e then some (.inr (1003, eT M 20 (iw (a : Int)))) else some (.inl (V, M)) := by
        rw [st0]
        unfold F_X13_read_b315_st
        rw [if_neg hV3, if_neg (by rw [hV2, iw_le4 (by omega) (by omega)]; omega)]
        obtain ⟨k1, k2, k3, k4, k5, k6, k7⟩ := id hr
        simp only [g1048_899, g1048_898, k1, k6, k7, Option.bind_some]
        have q : iw ((fr + a : Nat) : Int) < iw ((fr + e : Nat) : Int) ↔ a < e := by rw [iw_le4 (by omega) (by omega)]; omega
        by_cases ce : a < e
        · rw [if_pos (q.mpr ce), if_pos ce]
          simp only [v1048, k1, Option.bind_some]
          exact E_wrong k1 rfl
        · rw [if_neg (fun hh => ce (q.mp hh)), if_neg ce]
      by_cases ce : a < e
      · rw [if_pos ce] at e0 hd
        exact ⟨fun p hp => ⟨_, hd, by rw [e0] at hp; cases hp; exact hr.fail _⟩, fun hn => by rw [e0] at hn; cases hn⟩
      · rw [if_neg ce] at e0 hd
        exact ⟨fun p hp => (by rw [e0] at hp; cases hp), fun _ => ⟨M, hd, hV3, by omega, by rw [← hA]; exact hr, rfl, h2, fun _ => rfl, hz⟩⟩
/-- what a good read leaves -/
def RdG (M0 M : Mem) (g : Nat → Int32) : Prop := ST M ∧ Df pRd qRd rRd M0 M ∧ m_nx M = m_nx M0 ∧ m_sl M = m_sl M0 ∧ bn (g 2) ≤ 7 ∧ bn (g 3) ≤ 4 ∧ cI M 1048 901 = iw (bn (g 3) : Nat) ∧ cI M 1048 902 = iw (bn (g 2) : Nat) ∧ (∀ i, i < bn (g 3) → cI M 1049 i = iw (zRd g i : Nat) ∧ zRd g i ≤ 4096) ∧ prd (zRd g) (bn (g 3)) ≤ 30000 ∧
  ∀ q, q < prd (zRd g) (bn (g 3)) → cJ M 1050 q = cRd g (iw (bn (g 2) : Nat)) (4 + 2 * bn (g 3) + q * wdt (iw (bn (g 2) : Nat))) ∧ vb (iw (bn (g 2) : Nat)) (cRd g (iw (bn (g 2) : Nat)) (4 + 2 * bn (g 3) + q * wdt (iw (bn (g 2) : Nat))))
theorem bev_1 (g : Nat → Int32) (a : Nat) : bev g a 1 = bn (g a) := by
  show bn (g a) * 256 ^ 0 + 0 = _
  rw [Nat.pow_zero, Nat.mul_one, Nat.add_zero]
theorem E_num1 {M0 M : Mem} {r cap fr e a : Nat} {g : Nat → Int32} (hg : g = fun p => cI M0 r (fr + p)) (h : Rdr M0 M r fr e a) (b : Brow M0 r cap) (hc : fr + e ≤ cap) (ha : a < e) : F_X13_number M 1048 1 (iw (fr : Int)) = some (.inl (nl (bn (g a)), wI M 1048 899 (iw ((fr + (a + 1) : Nat) : Int)))) := by
  have := (E_numR (w := 1) h b hc (by omega) (by decide)).1 (by omega)
  rw [← hg, bev_1] at this
  exact this
