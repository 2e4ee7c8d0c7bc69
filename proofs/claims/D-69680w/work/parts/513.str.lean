/-! ===== TEXTS: lengths, characters; texts that grow ===== -/
/-- a sign of a text -/
def asc (c : Int32) : Prop := ∃ k : Nat, k < 128 ∧ c = iw (k : Int)
theorem asc_all : (List.range 128).all (fun k => decide (iw (k : Int) &&& 255 = iw (k : Int)) && decide (j_i2c (iw (k : Int)) = iw (k : Int)) && decide ((iw (k : Int)).toUInt32.toUInt16.toUInt32.toInt32 = iw (k : Int)) && decide (j_i2b (iw (k : Int)) = iw (k : Int))) = true := by decide +kernel
theorem asc.ok {c : Int32} (h : asc c) : c &&& 255 = c ∧ j_i2c c = c ∧ c.toUInt32.toUInt16.toUInt32.toInt32 = c ∧ j_i2b c = c := by
  obtain ⟨k, hk, rfl⟩ := h
  have q := List.all_eq_true.mp asc_all k (List.mem_range.mpr hk)
  obtain ⟨q1, q4⟩ := (Bool.and_eq_true _ _).mp q
  obtain ⟨q2, q3⟩ := (Bool.and_eq_true _ _).mp q1
  obtain ⟨q5, q6⟩ := (Bool.and_eq_true _ _).mp q2
  exact ⟨of_decide_eq_true q5, of_decide_eq_true q6, of_decide_eq_true q3, of_decide_eq_true q4⟩
theorem asc.gt {c : Int32} (h : asc c) : ¬ (255 : Int32) < c := by
  obtain ⟨k, hk, rfl⟩ := h
  rw [show (255 : Int32) = iw ((255 : Nat) : Int) from rfl, iw_le4 (by omega) (by omega)]
  omega
theorem ishr0 {L : Nat} (h : L < 2147483648) : j_ishr (iw (L : Int)) 0 = iw (L : Int) := by
  refine Int32.toInt_inj.mp ?_
  rw [ish_r, iw_toInt (by omega) (by omega)]
  show (L : Int) / 1 = _
  omega
theorem SB.gr {M : Mem} {a : Nat} {x : List Int32} (s : SB M a x) : gr M a 4864 = some (cR M a 4864) := by
  rcases s.1 with t | t
  · exact gr_of t (by decide)
  · exact gr_of t (by decide)
theorem SB.gi {M : Mem} {a : Nat} {x : List Int32} (s : SB M a x) : gi M a 4865 = some 0 := by
  rw [← s.2.1]
  rcases s.1 with t | t
  · exact gi_of t (by decide)
  · exact gi_of t (by decide)
theorem SB.vg {M : Mem} {a : Nat} {x : List Int32} (s : SB M a x) : vg M a 76 = some () := by
  rcases s.1 with t | t
  · exact vg_of t (by decide)
  · exact vg_of t (by decide)
theorem SB.an {M : Mem} {a : Nat} {x : List Int32} (s : SB M a x) : an M (cR M a 4864) = some (iw (x.length : Nat)) := by
  rcases s.2.2.1 with t | t
  · exact an_of t (by decide) s.2.2.2.1
  · exact an_of t (by decide) s.2.2.2.1
theorem J_len {M : Mem} {a : Nat} {x : List Int32} (s : SB M a x) : F_J15_length M a = some (iw (x.length : Nat)) := by
  have hl := s.2.2.2.2.1
  have e1 : ¬ (1 : Int32) = 0 := by decide
  have e0 : (0 : Int32).toInt8.toInt32 = 0 := by decide
  unfold F_J15_length F_J15_coder F_J15_coder_b14
  simp only [s.gr, s.an, s.vg, s.gi, e1, if_false, e0, Option.bind_some]
  rw [ishr0 (by omega)]
theorem J_charAt {M : Mem} {a i : Nat} {x : List Int32} (s : SB M a x) (hi : i < x.length) (hc : asc (x.getD i 0)) : F_J15_charAt M a (iw (i : Int)) = some (x.getD i 0) := by
  have hl := s.2.2.2.2.1
  have e1 : ¬ (1 : Int32) = 0 := by decide
  have e2 : ¬ (1 : Int32) &&& 1 = 0 := by decide
  obtain ⟨c1, c2, c3, c4⟩ := hc.ok
  have hab : ab M (cR M a 4864) (iw (i : Int)) = some (x.getD i 0) := by
    rw [← s.2.2.2.2.2 i hi]
    exact ab_of (by rcases s.2.2.1 with t | t <;> simp [t]) s.2.2.2.1 hi (by omega)
  have hck : F_J15_checkIndex (iw (i : Int)) (iw (x.length : Nat)) = some () := by
    unfold F_J15_checkIndex F_J12_checkIndex
    rw [if_neg (by rw [iw_lt0 (by omega) (by omega)]; omega), if_pos (by rw [iw_le4 (by omega) (by omega)]; exact hi)]
    rfl
  unfold F_J15_charAt F_J15_isLatin1 F_J15_isLatin1_b18 F_J17_charAt
  simp only [s.vg, s.gi, s.gr, s.an, e1, e2, if_true, if_false, hck, hab, c1, c2, c3, Option.bind_some]
theorem J_empty {M : Mem} {a : Nat} {x : List Int32} (s : SB M a x) : F_J15_isEmpty M a = some (if x.length = 0 then 1 else 0) := by
  have hl := s.2.2.2.2.1
  unfold F_J15_isEmpty F_J15_isEmpty_b13
  simp only [s.gr, s.an, Option.bind_some]
  by_cases c : x.length = 0
  · rw [if_pos (by rw [c]; rfl), if_pos c]
    rfl
  · rw [if_neg (fun q => c (by rw [show (0 : Int32) = iw ((0 : Nat) : Int) from rfl, iw_eq (by omega) (by omega) (by omega) (by omega)] at q; omega)), if_neg c]
    rfl
/-- a text's bytes copied: what is made -/
theorem uIn {M G : Mem} {n : Nat} {c : Nat → Int32} (h : G = uI (m_new M 1002 n) (m_nx M) c) : Df n2 n2 n2 M G ∧ m_nx G = m_nx M + 1 ∧ m_sl G = m_sl M + n ∧ m_tg G (m_nx M) = 1002 ∧ m_ln G (m_nx M) = n ∧ ∀ i, cI G (m_nx M) i = c i := by
  obtain ⟨G0, hG0⟩ : ∃ G0, G0 = m_new M 1002 n := ⟨_, rfl⟩
  rw [← hG0] at h
  have tG : ∀ x, m_tg G x = m_tg G0 x := fun x => by rw [h]; rfl
  have lG : ∀ x, m_ln G x = m_ln G0 x := fun x => by rw [h]; rfl
  refine ⟨⟨by rw [h, hG0]; show m_nx M ≤ m_nx M + 1; omega, by rw [h, hG0]; show m_sl M ≤ m_sl M + n; omega, fun x hx => ⟨?_, ?_, fun i => ⟨fun _ => ?_, fun _ => ?_, fun _ => ?_⟩⟩⟩, by rw [h, hG0]; rfl, by rw [h, hG0]; rfl, by rw [tG, hG0, tg_new, if_pos rfl], by rw [lG, hG0, ln_new, if_pos rfl], fun i => ?_⟩
  · rw [tG, hG0, tg_new, if_neg (by omega)]
  · rw [lG, hG0, ln_new, if_neg (by omega)]
  · have : cI G x i = cI G0 x i := by
      rw [h]
      show (if x = m_nx M then _ else cI G0 x) i = _
      rw [if_neg (by omega)]
    rw [this, hG0, cI_new, if_neg (by omega)]
  · have : cJ G x i = cJ G0 x i := by rw [h]; rfl
    rw [this, hG0]
    exact (Df.new (P := n2) (Q := n2) (R := n2) (M := M) 1002 n).cJ hx (fun q => q)
  · have : cR G x i = cR G0 x i := by rw [h]; rfl
    rw [this, hG0, cR_new, if_neg (by omega)]
  · rw [h]
    show (if m_nx M = m_nx M then c else _) i = _
    rw [if_pos rfl]
/-- bytes copied into a new row -/
def cpd (M G : Mem) (s n : Nat) : Prop := Df n2 n2 n2 M G ∧ m_nx G = m_nx M + 1 ∧ m_sl G = m_sl M + n ∧ m_tg G (m_nx M) = 1002 ∧ m_ln G (m_nx M) = n ∧ ∀ i, i < n → i < m_ln M s → cI G (m_nx M) i = cI M s i
theorem cpd_cl {M : Mem} {s : Nat} (ht : m_tg M s = 1002) : ∃ G, mcl M s = some G ∧ cc G (m_nx M) 1002 = some () ∧ cpd M G s (m_ln M s) := by
  obtain ⟨G, hG⟩ : ∃ G, G = uI (m_new M 1002 (m_ln M s)) (m_nx M) (cI M s) := ⟨_, rfl⟩
  obtain ⟨u1, u2, u3, u4, u5, u6⟩ := uIn hG
  refine ⟨G, by unfold mcl; rw [if_pos ht, ← hG], ?_, u1, u2, u3, u4, u5, fun i _ _ => u6 i⟩
  unfold cc
  rw [if_pos (Or.inr (by rw [u4]; decide))]
theorem cpd_cp {M : Mem} {s n k : Nat} (ht : m_tg M s = 1002) (hs : s < m_nx M) (hn : n ≤ 200000) (hk : k = min (m_ln M s) n) : ∃ G, m_copy (m_new M 1002 n) s 0 (m_nx M) 0 (iw (k : Int)) = some G ∧ cpd M G s n := by
  obtain ⟨G0, hG0⟩ : ∃ G0, G0 = m_new M 1002 n := ⟨_, rfl⟩
  obtain ⟨G, hG⟩ : ∃ G, G = uI G0 (m_nx M) (va_cpy (cI G0 s) (cI G0 (m_nx M)) 0 0 k) := ⟨_, rfl⟩
  have hG' := hG
  rw [hG0] at hG'
  obtain ⟨u1, u2, u3, u4, u5, u6⟩ := uIn hG'
  have tS : m_tg G0 s = 1002 := by rw [hG0, tg_new, if_neg (by omega)]; exact ht
  have lS : m_ln G0 s = m_ln M s := by rw [hG0, ln_new, if_neg (by omega)]
  have tN : m_tg G0 (m_nx M) = 1002 := by rw [hG0, tg_new, if_pos rfl]
  have lN : m_ln G0 (m_nx M) = n := by rw [hG0, ln_new, if_pos rfl]
  have e0 : (0 : Int32).toNatClampNeg = 0 := rfl
  have eN : (iw (k : Int)).toNatClampNeg = k := by rw [iw_clamp (by omega) (by omega)]; rfl
  refine ⟨G, ?_, u1, u2, u3, u4, u5, fun i h1 h2 => ?_⟩
  · rw [← hG0]
    unfold m_copy
    rw [e0, eN, if_pos ⟨by omega, by decide, by decide, by rw [iw_lt0 (by omega) (by omega)]; omega, by omega, by omega⟩, if_pos ⟨Or.inl tS, tN⟩, ← hG]
  · rw [u6 i]
    unfold va_cpy
    rw [if_pos ⟨Nat.zero_le _, by omega⟩, Nat.zero_add, Nat.sub_zero, cI_new, if_neg (by omega)]
theorem J_copyOf {M : Mem} {s n : Nat} (ht : m_tg M s = 1002) (hs : s < m_nx M) (hn : n ≤ 200000) (hL : m_ln M s ≤ 200000) : ∃ G, F_J10_copyOf M s (iw (n : Int)) = some (m_nx M, G) ∧ cpd M G s n := by
  have a1 : an M s = some (iw (m_ln M s : Nat)) := an_of ht (by decide) rfl
  unfold F_J10_copyOf
  rw [a1]
  simp only [Option.bind_some]
  by_cases c : n = m_ln M s
  · obtain ⟨G, g1, g2, g3⟩ := cpd_cl ht
    refine ⟨G, ?_, by rw [c]; exact g3⟩
    rw [if_pos (by rw [c]), vg_of ht (by decide), g1]
    simp only [Option.bind_some, g2]
  · obtain ⟨G, g1, g2⟩ := cpd_cp (k := min (m_ln M s) n) ht hs hn rfl
    refine ⟨G, ?_, g2⟩
    have a2 : an (m_new M 1002 n) s = some (iw (m_ln M s : Nat)) := an_of (t := 1002) (by rw [tg_new, if_neg (by omega)]; exact ht) (by decide) (by rw [ln_new, if_neg (by omega)])
    rw [if_neg (by rw [iw_eq (by omega) (by omega) (by omega) (by omega)]; omega), mk_of (by omega)]
    simp only [Option.bind_some, a2]
    rw [J_min2 (by omega) (by omega)]
    simp only [Option.bind_some, g1]
theorem J_copyR {M : Mem} {s n : Nat} (ht : m_tg M s = 1002) (hs : s < m_nx M) (hn : n ≤ m_ln M s) (hL : m_ln M s ≤ 200000) : ∃ G, F_J10_copyOfRange M s 0 (iw (n : Int)) = some (m_nx M, G) ∧ cpd M G s n := by
  have a1 : an M s = some (iw (m_ln M s : Nat)) := an_of ht (by decide) rfl
  have z0 : ∀ x : Int32, x - 0 = x := fun x => by simp
  unfold F_J10_copyOfRange
  rw [if_pos rfl, a1]
  simp only [Option.bind_some]
  by_cases c : n = m_ln M s
  · obtain ⟨G, g1, g2, g3⟩ := cpd_cl ht
    refine ⟨G, ?_, by rw [c]; exact g3⟩
    rw [if_pos (by rw [c]), vg_of ht (by decide), g1]
    simp only [Option.bind_some, g2]
  · obtain ⟨G, g1, g2⟩ := cpd_cp (k := min (m_ln M s) n) ht hs (by omega) rfl
    refine ⟨G, ?_, g2⟩
    have a2 : an (m_new M 1002 n) s = some (iw (m_ln M s : Nat)) := an_of (t := 1002) (by rw [tg_new, if_neg (by omega)]; exact ht) (by decide) (by rw [ln_new, if_neg (by omega)])
    rw [if_neg (by rw [iw_eq (by omega) (by omega) (by omega) (by omega)]; omega)]
    unfold F_J10_copyOfRange_b10 F_J10_copyOfRangeByte F_J10_checkLength
    rw [if_neg (by rw [iw_lt0 (by omega) (by omega)]; omega)]
    simp only [Option.bind_some, z0]
    rw [mk_of (by omega)]
    simp only [Option.bind_some, a2]
    rw [J_min2 (by omega) (by omega)]
    simp only [Option.bind_some, g1]
