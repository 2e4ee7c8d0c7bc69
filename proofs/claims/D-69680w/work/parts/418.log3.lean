/-! ===== THE LOG, 3: the engine keeps a grid ===== -/
/-- a name's bytes -/
def nml (nm : Nat → Int32) : Nat → Nat → List Int32
  | 0, _ => []
  | e + 1, i => j_i2b (nm i) :: nml nm e (i + 1)
theorem nml_len (nm : Nat → Int32) : ∀ e i, (nml nm e i).length = e
  | 0, _ => rfl
  | e + 1, i => by show (nml nm e (i + 1)).length + 1 = _; rw [nml_len nm e]
theorem ob52 : OUT 1052 60000 := Or.inr (Or.inr (Or.inl ⟨rfl, rfl⟩))
section KEEP
variable {a b : Nat} {k : Int32} {n : Nat} {z : Nat → Nat} {s t : Nat → Int32} {x y : Int32} {c d L : Nat} {p : Int32} {val : Nat → Int64} {nm : Nat → Int32} {nl : Nat}
theorem E_knm {st : Int32} (hnl : nl ≤ 20) : ∀ (e N i : Nat) (vs : List Int32) (M : Mem), i + e = nl → ST M → (∀ q, q < nl → cI M 1001 q = nm q) → EO M 1052 60000 vs → ∃ M', F_X14_keep_b42 (N + e) M 1051 1001 (iw (nl : Int)) a st (mr (decide (vs.length ≤ 60000))) (iw (i : Int)) = F_X14_keep_b42 N M' 1051 1001 (iw (nl : Int)) a st (mr (decide ((vs ++ nml nm e i).length ≤ 60000))) (iw (nl : Int)) ∧ EO M' 1052 60000 (vs ++ nml nm e i) ∧ Df (atO 1052) n2 n2 M M' ∧ m_nx M' = m_nx M ∧ m_sl M' = m_sl M ∧ ST M' := by
  intro e
  induction e with
  | zero =>
    intro N i vs M hi sM hnm eo
    have : i = nl := by omega
    subst this
    show ∃ M', F_X14_keep_b42 N M 1051 1001 (iw (i : Int)) a st (mr (decide (vs.length ≤ 60000))) (iw (i : Int)) = F_X14_keep_b42 N M' 1051 1001 (iw (i : Int)) a st (mr (decide ((vs ++ []).length ≤ 60000))) (iw (i : Int)) ∧ EO M' 1052 60000 (vs ++ []) ∧ _
    rw [List.append_nil]
    exact ⟨M, rfl, eo, Df.refl _ _ _ _, rfl, rfl, sM⟩
  | succ e ih =>
    intro N i vs M hi sM hnm eo
    have h0 := sM.1
    obtain ⟨A, a1, a2, a3, a4, a5⟩ := E_putb ob52 sM eo (nm i)
    have sA : ST A := sM.n a3
    obtain ⟨M', f1, f2, f3, f4, f5, f6⟩ := ih N (i + 1) _ A (by omega) sA (fun q hq => by rw [a3.cI (by omega) (by unfold atO; omega)]; exact hnm q hq) a2
    rw [List.append_assoc] at f1 f2
    refine ⟨M', ?_, f2, a3.trans f3, by omega, by omega, f6⟩
    rw [show vs ++ nml nm (e + 1) i = vs ++ ([j_i2b (nm i)] ++ nml nm e (i + 1)) from rfl, ← f1]
    have hl : (vs ++ [j_i2b (nm i)]).length = vs.length + 1 := by rw [List.length_append, List.length_singleton]
    rw [hl]
    have ab1 : ab M 1001 (iw (i : Int)) = some (nm i) := by rw [ab_of (Or.inr (Or.inl (t1001 sM))) (l1001 sM) (show i < 16000 by omega) (by decide), hnm i (by omega)]
    show F_X14_keep_b42_st (F_X14_keep_b42 (N + e)) M _ _ _ _ _ _ _ = _
    unfold F_X14_keep_b42_st F_X14_keep_b71 F_X14_keep_b72
    rw [if_pos (by rw [iw_le4 (by omega) (by omega)]; omega)]
    simp only [g1051_960, sM, ab1, v1052, a1, iw_succ, Option.bind_some]
    by_cases c1 : vs.length < 60000
    · rw [decide_eq_true c1, decide_eq_true (show vs.length ≤ 60000 by omega), decide_eq_true (show vs.length + 1 ≤ 60000 by omega)]
      rfl
    · rw [decide_eq_false c1, decide_eq_false (show ¬ vs.length + 1 ≤ 60000 by omega)]
      rfl
/-- the written row is brought up to date -/
theorem E_kcp {st fl : Int32} {to : Nat} (hto : to ≤ 60000) : ∀ (e N i : Nat) (M : Mem), i + e = to → ST M → cI M 1052 1025 = iw (to : Int) → ∃ M', F_X14_keep_b238 (N + 1 + e) M 1051 st fl (iw (i : Int)) = some (fl &&& 1, wI M' 1051 962 st) ∧ Df (at1 1055) n2 n2 M M' ∧ m_nx M' = m_nx M ∧ m_sl M' = m_sl M ∧ ST M' ∧ (∀ q, i ≤ q → q < to → cI M' 1055 q = j_i2b (cI M 1053 q)) ∧ (∀ q, q < i → cI M' 1055 q = cI M 1055 q) := by
  intro e
  induction e with
  | zero =>
    intro N i M hi sM hc
    refine ⟨M, ?_, Df.refl _ _ _ _, rfl, rfl, sM, fun q h1 h2 => by omega, fun _ _ => rfl⟩
    show F_X14_keep_b238_st (F_X14_keep_b238 N) M _ _ _ _ = _
    unfold F_X14_keep_b238_st
    simp only [g1051_960, g1052_1025, sM, hc, Option.bind_some]
    rw [if_neg (by rw [iw_le4 (by omega) (by omega)]; omega)]
    simp only [p1051_962, sM, Option.bind_some]
  | succ e ih =>
    intro N i M hi sM hc
    have h0 := sM.1
    obtain ⟨A, hA⟩ : ∃ A, A = wI M 1055 i (j_i2b (cI M 1053 i)) := ⟨_, rfl⟩
    have sA : ST A := by rw [hA]; exact sM
    have dA : Df (at1 1055) n2 n2 M A := by rw [hA]; exact Df.wI _ rfl
    obtain ⟨M', f1, f2, f3, f4, f5, f6, f7⟩ := ih N (i + 1) A (by omega) sA (by rw [dA.cI (by omega) (by unfold at1; omega)]; exact hc)
    refine ⟨M', ?_, dA.trans f2, by rw [f3, hA]; rfl, by rw [f4, hA]; rfl, f5, fun q h1 h2 => ?_, fun q hq => ?_⟩
    · rw [← f1]
      show F_X14_keep_b238_st (F_X14_keep_b238 (N + 1 + e)) M _ _ _ _ = _
      unfold F_X14_keep_b238_st
      simp only [g1051_960, g1051_961, g1052_1025, g1052_1024, g1054_1024, sM, hc, Option.bind_some]
      rw [if_pos (by rw [iw_le4 (by omega) (by omega)]; omega)]
      simp only [ab_of (Or.inr (Or.inl (t1053 sM))) (l1053 sM) (show i < 60000 by omega) (by decide), sb_of (cI M 1053 i) (t1055 sM) (l1055 sM) (show i < 60000 by omega) (by decide), ← hA, iw_succ, Option.bind_some]
    · by_cases ci : q = i
      · rw [ci, f7 i (by omega), hA, cI_wI, if_pos ⟨rfl, rfl⟩]
      · rw [f6 q (by omega) h2, dA.cI (by omega) (by unfold at1; omega)]
    · rw [f7 q (by omega), hA, cI_wI, if_neg (fun w => by omega)]
end KEEP
