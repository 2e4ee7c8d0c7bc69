/-! ===== TABLES, 63: how many words come before ===== -/
/-- the cell of a row in a column -/
def ccl (d : TD) (c k : Nat) : List Int32 × Bool := cl d.2.2.2 (d.1 * k + c)
def kyc (d : TD) (c k : Nat) : Nat := key (ccl d c k).1
/-- the engine counts all words, the model unlike ones -/
def befE (d : TD) (c x : Nat) (k : Nat) : Prop := ¬ msg (ccl d c k) ∧ kyc d c k < x
def befM (d : TD) (c x : Nat) (k : Nat) : Prop := befE d c x k ∧ ∀ q, q < k → msg (ccl d c q) ∨ kyc d c q ≠ kyc d c k
noncomputable def rkv (d : TD) (c r : Nat) : Int64 := pif (msg (ccl d c r)) (-1) (nl (ct (befE d c (kyc d c r)) d.2.1))
theorem M_bef {M : Mem} {T c a C R ln dn lc dc : Nat} {en ec : List Nat} {d : TD} {u : List Int32} (hd : C = d.1 ∧ R = d.2.1) (gd : GT d) (tc : TMc M T C R ln dn en lc dc ec d.2.2.2) (hc : c < C) (su : SB M a u) (hu : ascs u) (hul : u.length ≤ 40) : F_X16_before M T (iw (c : Int)) a = some (iw (ct (befM d c (key u)) R : Nat)) := by
  obtain ⟨rfl, rfl⟩ := hd
  have g2 := gd.2.1
  have g3 := gd.2.2.1
  obtain ⟨q1, q2, q3, q4, q5, q6, q7⟩ := tc.g
  have n1 : ¬ (1 : Int32) = 0 := by decide
  have loop : ∀ (m N k : Nat), k + m = d.2.1 → F_X16_before_b5 (N + 1 + m) M T (iw (c : Int)) a (iw (ct (befM d c (key u)) k : Nat)) (iw (k : Int)) = some (iw (ct (befM d c (key u)) d.2.1 : Nat)) := by
    intro m
    induction m with
    | zero =>
      intro N k hk
      show F_X16_before_b5_st (F_X16_before_b5 N) M T (iw (c : Int)) a (iw (ct (befM d c (key u)) k : Nat)) (iw (k : Int)) = _
      unfold F_X16_before_b5_st
      rw [q7, Option.bind_some, M_rows tc, Option.bind_some, if_neg (show ¬ iw (k : Int) < iw (d.2.1 : Int) by rw [iw_le4 (by omega) (by omega)]; omega), show k = d.2.1 by omega]
    | succ m ih =>
      intro N k hk
      obtain ⟨a1, a2⟩ := M_atT tc (show k < d.2.1 by omega) hc
      have i1 := ih N (k + 1) (by omega)
      have cle := ct_le (befM d c (key u)) k
      have b120 : ∀ b : Bool, (b = true ↔ befM d c (key u) k) → F_X16_before_b112 (F_X16_before_b5 (N + 1 + m)) M T (iw (c : Int)) a (iw (ct (befM d c (key u)) k : Nat)) (iw (k : Int)) (mr b) = some (iw (ct (befM d c (key u)) d.2.1 : Nat)) := fun b hb => by
        unfold F_X16_before_b112 F_X16_before_b120
        simp only [iw_succ]
        rw [← i1]
        cases b with
        | false =>
          have nb : ¬ befM d c (key u) k := fun q => by have := hb.mpr q; cases this
          rw [if_pos (show mr false = 0 from rfl)]
          show _ = F_X16_before_b5 (N + 1 + m) M T (iw (c : Int)) a (iw ((ct (befM d c (key u)) k + pif (befM d c (key u) k) 1 0 : Nat) : Int)) _
          rw [fpif nb]
          rfl
        | true =>
          rw [if_neg (show ¬ mr true = 0 by decide)]
          show _ = F_X16_before_b5 (N + 1 + m) M T (iw (c : Int)) a (iw ((ct (befM d c (key u)) k + pif (befM d c (key u) k) 1 0 : Nat) : Int)) _
          rw [tpif (hb.mp rfl)]
      -- the inner loop
      have inner : ∀ (m2 N2 q : Nat) (b : Bool), q + m2 = k → (b = true ↔ (befE d c (key u) k ∧ ∀ p, p < q → msg (ccl d c p) ∨ kyc d c p ≠ kyc d c k)) → F_X16_before_b53 (F_X16_before_b5 (N + 1 + m)) (N2 + 1 + m2) M T (iw (c : Int)) a (iw (ct (befM d c (key u)) k : Nat)) (iw (k : Int)) (ec.getD (d.1 * k + c) 0) (mr b) (iw (q : Int)) = some (iw (ct (befM d c (key u)) d.2.1 : Nat)) := by
        intro m2
        induction m2 with
        | zero =>
          intro N2 q b hq hb
          show F_X16_before_b53_st (F_X16_before_b5 (N + 1 + m)) (F_X16_before_b53 (F_X16_before_b5 (N + 1 + m)) N2) M T (iw (c : Int)) a (iw (ct (befM d c (key u)) k : Nat)) (iw (k : Int)) (ec.getD (d.1 * k + c) 0) (mr b) (iw (q : Int)) = _
          unfold F_X16_before_b53_st
          rw [if_neg (show ¬ iw (q : Int) < iw (k : Int) by rw [iw_le4 (by omega) (by omega)]; omega)]
          exact b120 b (by rw [hb, show q = k by omega]; exact Iff.rfl)
        | succ m2 ih2 =>
          intro N2 q b hq hb
          obtain ⟨p1, p2⟩ := M_atT tc (show q < d.2.1 by omega) hc
          show F_X16_before_b53_st (F_X16_before_b5 (N + 1 + m)) (F_X16_before_b53 (F_X16_before_b5 (N + 1 + m)) (N2 + 1 + m2)) M T (iw (c : Int)) a (iw (ct (befM d c (key u)) k : Nat)) (iw (k : Int)) (ec.getD (d.1 * k + c) 0) (mr b) (iw (q : Int)) = _
          unfold F_X16_before_b53_st F_X16_before_b99 F_X16_before_b104
          rw [if_pos (show iw (q : Int) < iw (k : Int) by rw [iw_le4 (by omega) (by omega)]; omega)]
          cases b with
          | false =>
            rw [if_pos (show mr false = 0 from rfl)]
            have := b120 false ⟨fun z => (by cases z), fun z => by have := hb.mpr ⟨z.1, fun p hp => z.2 p (by omega)⟩; cases this⟩
            exact this
          | true =>
            rw [if_neg (show ¬ mr true = 0 by decide)]
            obtain ⟨hb1, hb2⟩ := hb.mp rfl
            simp only [q7, p1, p2.g.2.2.1, M_cmiss p2, p2.g.2.1, a2.g.2.1, iw_succ, Option.bind_some]
            obtain ⟨-, -, s1, -, s2, s3⟩ := p2
            obtain ⟨-, -, t1, -, t2, t3⟩ := a2
            have next : ∀ b' : Bool, (b' = true ↔ (msg (ccl d c q) ∨ kyc d c q ≠ kyc d c k)) → F_X16_before_b53 (F_X16_before_b5 (N + 1 + m)) (N2 + 1 + m2) M T (iw (c : Int)) a (iw (ct (befM d c (key u)) k : Nat)) (iw (k : Int)) (ec.getD (d.1 * k + c) 0) (mr b') (iw ((q + 1 : Nat) : Int)) = some (iw (ct (befM d c (key u)) d.2.1 : Nat)) := fun b' hb' => ih2 N2 (q + 1) b' (by omega) (by
              rw [hb']
              refine ⟨fun z => ⟨hb1, fun p hp => ?_⟩, fun z => z.2 q (by omega)⟩
              by_cases e : p = q
              · rw [e]; exact z
              · exact hb2 p (by omega))
            by_cases cm : msg (cl d.2.2.2 (d.1 * q + c))
            · rw [tpif cm, if_neg n1]
              exact next true ⟨fun _ => Or.inl cm, fun _ => rfl⟩
            · rw [fpif cm, if_pos rfl, M_cmpW s1 t1 s2 t2 s3 t3, Option.bind_some]
              by_cases ce : key (cl d.2.2.2 (d.1 * q + c)).1 = key (cl d.2.2.2 (d.1 * k + c)).1
              · rw [if_pos (sgc_n.2.mpr ce)]
                exact next false ⟨fun z => (by cases z), fun z => z.elim (fun z => absurd z cm) (fun z => absurd ce z)⟩
              · rw [if_neg (fun z => ce (sgc_n.2.mp z))]
                exact next true ⟨fun _ => Or.inr ce, fun _ => rfl⟩
      obtain ⟨K2, hK2⟩ : ∃ K, K + 1 + k = xN := ⟨xN - 1 - k, by have : xN = 1099511627776 := rfl; omega⟩
      have b48 : ∀ b : Bool, (b = true ↔ befE d c (key u) k) → F_X16_before_b48 (F_X16_before_b5 (N + 1 + m)) M (mr b) T (iw (c : Int)) a (iw (ct (befM d c (key u)) k : Nat)) (iw (k : Int)) (ec.getD (d.1 * k + c) 0) = some (iw (ct (befM d c (key u)) d.2.1 : Nat)) := fun b hb => by
        have := inner k K2 0 b (by omega) (hb.trans ⟨fun z => ⟨z, fun p hp => by omega⟩, fun z => z.1⟩)
        rw [hK2] at this
        exact this
      show F_X16_before_b5_st (F_X16_before_b5 (N + 1 + m)) M T (iw (c : Int)) a (iw (ct (befM d c (key u)) k : Nat)) (iw (k : Int)) = _
      unfold F_X16_before_b5_st F_X16_before_b47
      rw [q7, Option.bind_some, M_rows tc, Option.bind_some, if_pos (show iw (k : Int) < iw (d.2.1 : Int) by rw [iw_le4 (by omega) (by omega)]; omega), Option.bind_some, a1, Option.bind_some, a2.g.2.2.1, Option.bind_some, M_cmiss a2, Option.bind_some]
      by_cases cm : msg (cl d.2.2.2 (d.1 * k + c))
      · rw [tpif cm, if_neg n1]
        exact b48 false ⟨fun z => (by cases z), fun z => absurd cm z.1⟩
      · rw [fpif cm, if_pos rfl, a2.g.2.1, Option.bind_some]
        obtain ⟨-, -, t1, -, t2, t3⟩ := a2
        rw [M_cmpW t1 su t2 hu t3 hul, Option.bind_some]
        by_cases cl' : key (cl d.2.2.2 (d.1 * k + c)).1 < key u
        · rw [if_pos (sgc_n.1.mpr cl')]
          exact b48 true ⟨fun _ => ⟨cm, cl'⟩, fun _ => rfl⟩
        · rw [if_neg (fun z => cl' (sgc_n.1.mp z))]
          exact b48 false ⟨fun z => (by cases z), fun z => absurd z.2 cl'⟩
  obtain ⟨K, hK⟩ : ∃ K, K + 1 + d.2.1 = xN := ⟨xN - 1 - d.2.1, by have : xN = 1099511627776 := rfl; omega⟩
  have lp := loop d.2.1 K 0 (by omega)
  have e0 : ct (befM d c (key u)) 0 = 0 := rfl
  rw [hK, e0, show iw ((0 : Nat) : Int) = 0 from rfl] at lp
  exact lp
