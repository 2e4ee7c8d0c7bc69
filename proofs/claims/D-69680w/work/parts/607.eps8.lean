/-! ===== FORMULAS, 32: the engine reads expressions ===== -/
section
variable {B v0 n : Nat} {f : Nat → Int32} {re rp ru : Mem → Nat → Int32 → Option ((Nat × Mem) ⊕ (Nat × Mem))} {rb : Mem → Nat → Int32 → Int32 → Option ((Nat × Mem) ⊕ (Nat × Mem))}
theorem isO_5 {T : Tok} {l : Nat} (h : T.kd = 5) : isO T l = false := by unfold isO; rw [h]; simp
theorem pBl_5 {S : PRs} {l m : Nat} {x : Ex} {k : Nat} (hk : k ≤ n) (h5 : (tok f n k).kd = 5) : pBl S l (m + 1) x (tks f n k) = .inr (x, tks f n k) := by
  show (if isO (hdt (tks f n k)) l = true then _ else Sum.inr (x, tks f n k)) = _
  rw [hdt_tks f hk, isO_5 h5, if_neg (by decide)]
theorem E_bl {S : PRs} {l : Nat} (hl : l ≤ 9) {dep : Int32} (hS : SimX (fun M => rb M v0 (iw ((l + 1 : Nat) : Int)) dep) S B v0 f n) {M0 : Mem} {k0 : Nat} (h1334 : 1334 ≤ m_nx M0) (hB : 1334 ≤ B) :
    ∀ (m N : Nat) (x : Ex) (a : Nat) (M : Mem) (k : Nat), SP M B v0 f n k → LT f n k ≤ m → m + 1 ≤ N → WB M0 M f n k0 k 0 → NEx M B x (m_nx M0) (m_nx M) [a] → x.isx → x.ht + LT f n k ≤ LT f n k0 → RE M0 B v0 f n k0 (F_X26_binary_b27 rp ru rb re N M v0 (iw (l : Int)) dep a (opT (tok f n k))) (pBl S l m x (tks f n k)) := by
  intro m
  induction m with
  | zero =>
    intro N x a M k h hm
    have := LT_pos f h.2.2.1
    omega
  | succ m ih =>
    intro N x a M k h hm hN w0 hx ix hht
    obtain ⟨N', rfl⟩ : ∃ N', N = N' + 1 := ⟨N - 1, by omega⟩
    have hk := h.2.2.1
    have n4 := h.len
    have L0 := LT_le f n k0
    have nM := w0.1.1
    show RE M0 B v0 f n k0 (F_X26_binary_b27_st rp ru rb re (F_X26_binary_b27 rp ru rb re N') M v0 (iw (l : Int)) dep a (opT (tok f n k))) (if isO (hdt (tks f n k)) l = true then pthen (S (tks f n k).tail) fun b r => pBl S l m (.bin (hdt (tks f n k)).pl (opS (hdt (tks f n k)).sg) x b) r else .inr (x, tks f n k))
    rw [hdt_tks f hk]
    unfold F_X26_binary_b27_st F_X26_binary_b100
    obtain ⟨o1, o2⟩ := opT_lv (f := f) (n := n) (k := k) hl
    cases c : isO (tok f n k) l with
    | false =>
      rw [if_neg (show ¬ false = true by decide)]
      have done : RE M0 B v0 f n k0 (some (.inl (a, M))) (.inr (x, tks f n k)) := ⟨ix, k, M, rfl, hk, hht, w0, h.1.1, Or.inr ⟨h.2.1, a, rfl, h, hx⟩⟩
      rcases o2 c with q | ⟨z, q1, q2⟩
      · rw [if_neg q]; exact done
      · by_cases q : 0 < opT (tok f n k)
        · rw [if_pos q, q1, Option.bind_some, if_neg q2]; exact done
        · rw [if_neg q]; exact done
    | true =>
      obtain ⟨p1, p2, p3⟩ := o1 c
      have kn0 : (tok f n k).kd ≠ 0 := by rw [(isO_t.mp c).1]; decide
      obtain ⟨t1, t2, t3, t4⟩ := tail_tks f hk kn0 h.2.1
      have t4' : LT f n k = LT f n (tok f n k).to + 1 := t4
      rw [if_pos rfl, if_pos p1, p2, Option.bind_some, if_pos rfl, t1]
      simp only [h.g, g1012_388, h.st, v1012, h.1.2.2.1, Option.bind_some]
      refine RE.nx w0 h kn0 (fun h5 => ?_) (fun O wO wMO hO => ?_)
      · left
        rw [hS.1 _ t2 h5]
        rfl
      · have nO := wMO.1.1
        rw [hO.v, Option.bind_some, iw_succ]
        refine RE.th wO (hS.2 O _ hO) (fun e j q1 q2 q3 q4 q5 => ?_) (fun e j b P q1 q2 q3 q4 q5 hP hNe => ?_)
        · obtain ⟨m', rfl⟩ : ∃ m', m = m' + 1 := ⟨m - 1, by have := LT_pos f t2; omega⟩
          rw [pBl_5 q3 q5]
          exact Or.inr ⟨_, rfl, trivial, by show max x.ht e.ht + 1 + _ ≤ _; omega⟩
        · have nP := q5.1.1
          have xP : NEx P B x (m_nx M0) (m_nx O) [a] := NEx.mono _ ((hx.kk wMO.1 hB h1334).kk q5.1 hB h1334) (Nat.le_refl _) nO
          obtain ⟨N1, N2, N3, m1, m2, m3, m4, m5, m6, m7⟩ := E_mkBin (M := P) (B := B) (tok f n k).pl (opS (tok f n k).sg) xP hNe ix q2 (by omega) (by omega) (by omega) nP
          have x35 : x_cn 35 = 7 := by decide
          have g1 := m6.2.1
          have g2 := m6.2.2.1
          have hN3 := hP.n2 m6.1
          rw [p3]
          simp only [ng_of (NCl.start P 35).2.2.2 (show (35 : Nat) ≠ 0 by decide), m1, m2, m3, m4, m5, hN3.v, E_signK hN3, Option.bind_some]
          exact ih N' _ (m_nx P) N3 j hN3 (by omega) (by omega) (q4.new m6.1 (by omega) (by omega)) m7 trivial (by show max x.ht e.ht + 1 + _ ≤ _; omega)
theorem pBi_5 {U : PRs} (hU : ∀ k, k ≤ n → (tok f n k).kd = 5 → U (tks f n k) = .inl (tok f n k).pl) : ∀ (j k : Nat), k ≤ n → (tok f n k).kd = 5 → pBi U j (tks f n k) = .inl (tok f n k).pl
  | 0, k, hk, h5 => hU k hk h5
  | j + 1, k, hk, h5 => by
    show pthen (pBi U j (tks f n k)) _ = _
    rw [pBi_5 hU j k hk h5]
    rfl
/-- a level out of the next one -/
theorem E_bi {U : PRs} {j : Nat} (hj : j ≤ 9) {dep : Int32} (hS : SimX (fun M => rb M v0 (iw ((10 - j : Nat) : Int)) dep) (pBi U j) B v0 f n) : SimX (fun M => F_X26_binary_o rp ru rb re M v0 (iw ((9 - j : Nat) : Int)) dep) (pBi U (j + 1)) B v0 f n := by
  refine ⟨fun k hk h5 => ?_, fun M k h => ?_⟩
  · show pthen (pBi U j (tks f n k)) _ = _
    rw [hS.1 k hk h5]
    rfl
  · have n4 := h.len
    have h0 := h.st.1
    show RE M B v0 f n k (F_X26_binary_o rp ru rb re M v0 (iw ((9 - j : Nat) : Int)) dep) (pthen (pBi U j (tks f n k)) fun a r => pBl (pBi U j) (9 - j) (r.length + 1) a r)
    have e10 : (9 - j) + 1 = 10 - j := by omega
    have hS' : SimX (fun M => rb M v0 (iw (((9 - j) + 1 : Nat) : Int)) dep) (pBi U j) B v0 f n := by rw [e10]; exact hS
    unfold F_X26_binary_o
    rw [if_neg (by rw [show (9 : Int32) = iw ((9 : Nat) : Int) from rfl, iw_le4 (by omega) (by omega)]; omega), h.v, Option.bind_some, iw_succ]
    refine RE.th (WB.refl M f n k) (hS'.2 M k h) (fun e i q1 q2 q3 q4 q5 => ?_) (fun e i a O q1 q2 q3 q4 q5 hO hNe => ?_)
    · rw [pBl_5 q3 q5]
      exact Or.inr ⟨e, rfl, q2, q4⟩
    · have L := LT_le f n i
      have nO := q5.1.1
      simp only [hO.v, E_signK hO, Option.bind_some]
      exact E_bl (by omega) hS' (by omega) h.2.2.2.2.1.1 (LT f n i + 1) xN e a O i hO (by omega) (by have : xN = 1099511627776 := rfl; omega) q4 hNe q2 q3
theorem E_bi0 {U : PRs} {dep : Int32} (hU : SimX (fun M => ru M v0 dep) U B v0 f n) : SimX (fun M => F_X26_binary_o rp ru rb re M v0 (iw ((10 : Nat) : Int)) dep) (pBi U 0) B v0 f n := by
  refine ⟨hU.1, fun M k h => ?_⟩
  show RE M B v0 f n k (F_X26_binary_o rp ru rb re M v0 (iw ((10 : Nat) : Int)) dep) (U (tks f n k))
  unfold F_X26_binary_o
  rw [if_pos (by decide), h.v, Option.bind_some]
  have eb : (tb (ru M v0 dep) fun z20 => some (Sum.inl (z20.1, z20.2))) = ru M v0 dep := by
    cases ru M v0 dep with
    | none => rfl
    | some v => cases v <;> rfl
  rw [eb]
  exact hU.2 M k h
end
