/-! ===== GRIDS, 7: a new grid, the engine ===== -/
theorem mk_of {M : Mem} {t n : Nat} (h : n ≤ 67108864) : mk M t (iw (n : Int)) = some (m_new M t n) := by
  unfold mk
  have h1 : (iw (n : Int)).toNatClampNeg = n := by rw [iw_clamp (by omega) (by omega)]; rfl
  rw [if_neg (by rw [iw_lt0 (by omega) (by omega), h1]; omega), h1]
/-- sizes and strides are filled from the last axis on -/
theorem E_fill {k : Int32} {n sa ta r : Nat} {z : Nat → Nat} {c5 : Int32} (hn : n ≤ 4) (hz : ∀ i, i < n → z i ≤ 4096) (hs : 1334 ≤ sa) (hst : sa ≠ ta) (hta : 1334 ≤ ta) : ∀ (e N d : Nat) (M : Mem), d + e = n → e + 1 ≤ N → ST M → m_tg M sa = 1005 → m_ln M sa = n → m_tg M ta = 1005 → m_ln M ta = n → (∀ i, i < n → cI M 1062 i = iw (z i)) →
    (∀ i, n - d ≤ i → i < n → cI M sa i = iw (z i) ∧ cI M ta i = iw (sfx z n (n - 1 - i) : Nat)) →
    ∃ M', F_X2_make_b25 N M 1004 k 1062 (iw (n : Int)) r c5 sa ta (iw (sfx z n d : Nat)) (iw ((n : Int) - 1 - d)) = ((mk M' 1006 c5).bind fun M12 => F_X2_make_b74 xN M12 1004 k (iw (n : Int)) r c5 sa ta (m_nx M') 0) ∧ m_nx M' = m_nx M ∧ m_sl M' = m_sl M ∧ Df (fun a _ => a = sa ∨ a = ta) n2 n2 M M' ∧ ∀ i, i < n → cI M' sa i = iw (z i) ∧ cI M' ta i = iw (sfx z n (n - 1 - i) : Nat) := by
  intro e
  induction e with
  | zero =>
    intro N d M hd hN h t1 l1 t2 l2 hsz hfl
    obtain ⟨N, rfl⟩ : ∃ x, N = x + 1 := ⟨N - 1, by omega⟩
    refine ⟨M, ?_, rfl, rfl, Df.refl _ _ _ _, fun i hi => hfl i (by omega) hi⟩
    show F_X2_make_b25_st (F_X2_make_b25 N) M 1004 _ _ _ _ _ _ _ _ _ = _
    unfold F_X2_make_b25_st
    rw [if_pos (by rw [iw_lt0 (by omega) (by omega)]; omega)]
  | succ e ih =>
    intro N d M hd hN h t1 l1 t2 l2 hsz hfl
    obtain ⟨N, rfl⟩ : ∃ x, N = x + 1 := ⟨N - 1, by omega⟩
    obtain ⟨i, hi⟩ : ∃ i : Nat, (n : Int) - 1 - d = (i : Int) := ⟨n - 1 - d, by omega⟩
    have hin : i < n := by omega
    have hid : i = n - 1 - d := by omega
    have hzi := hz i hin
    have a1 : ai M 1062 (iw (i : Int)) = some (iw (z i : Nat)) := by rw [ai_of (t1062 h) (l1062 h) (by omega) (by decide), hsz i hin]
    have s1 : ∀ v, si M sa (iw (i : Int)) v = some (wI M sa i v) := fun v => si_of v t1 l1 hin (by omega)
    have s2 : ∀ v w, si (wI M sa i w) ta (iw (i : Int)) v = some (wI (wI M sa i w) ta i v) := fun v w => si_of (M := wI M sa i w) v t2 l2 hin (by omega)
    have h' : ∀ v w, ST (wI (wI M sa i w) ta i v) := fun _ _ => h
    have a2 : ∀ v w, ai (wI (wI M sa i w) ta i v) 1062 (iw (i : Int)) = some (iw (z i : Nat)) := by
      intro v w
      rw [ai_of (t1062 (h' v w)) (l1062 (h' v w)) (by omega) (by decide)]
      simp only [cI_wI, show ¬ 1062 = sa by omega, show ¬ 1062 = ta by omega, false_and, if_false]
      rw [hsz i hin]
    have e1 : iw (sfx z n d : Nat) * iw ((max (z i) 1 : Nat) : Int) = iw (sfx z n (d + 1) : Nat) := by
      rw [iw_mul, ← Int.natCast_mul]
      show _ = iw ((sfx z n d * max (z (n - 1 - d)) 1 : Nat) : Int)
      rw [hid]
    have e2 : iw (i : Int) + -1 = iw ((n : Int) - 1 - ((d + 1 : Nat) : Int)) := by
      rw [show (-1 : Int32) = iw (-1) from rfl, iw_add]
      refine congrArg iw ?_
      omega
    have step : F_X2_make_b25 (N + 1) M 1004 k 1062 (iw (n : Int)) r c5 sa ta (iw (sfx z n d : Nat)) (iw ((n : Int) - 1 - d)) = F_X2_make_b25 N (wI (wI M sa i (iw (z i : Nat))) ta i (iw (sfx z n d : Nat))) 1004 k 1062 (iw (n : Int)) r c5 sa ta (iw (sfx z n (d + 1) : Nat)) (iw ((n : Int) - 1 - ((d + 1 : Nat) : Int))) := by
      show F_X2_make_b25_st (F_X2_make_b25 N) M 1004 _ _ _ _ _ _ _ _ _ = _
      unfold F_X2_make_b25_st
      rw [hi, if_neg (by rw [iw_lt0 (by omega) (by omega)]; omega)]
      simp only [a1, s1, s2, a2, Option.bind_some, J_max1 (show z i ≤ 100000 by omega), e1, e2]
    rw [step]
    obtain ⟨M', f1, f2, f3, f4, f5⟩ := ih N (d + 1) (wI (wI M sa i (iw (z i : Nat))) ta i (iw (sfx z n d : Nat))) (by omega) (by omega) (h' _ _) t1 l1 t2 l2 (fun x hx => by simp only [cI_wI, show ¬ 1062 = sa by omega, show ¬ 1062 = ta by omega, false_and, if_false]; exact hsz x hx) (fun x hx1 hx2 => by
      by_cases ex : x = i
      · subst ex
        simp only [cI_wI, hst, show ¬ ta = sa by omega, false_and, if_false, and_self, if_true]
        refine ⟨trivial, ?_⟩
        rw [show n - 1 - x = d by omega]
      · simp only [cI_wI, ex, and_false, if_false]
        exact hfl x (by omega) hx2)
    refine ⟨M', f1, f2, f3, ?_, f5⟩
    exact ((Df.wI (P := fun a _ => a = sa ∨ a = ta) (Q := n2) (R := n2) (a := sa) (i := i) _ (Or.inl rfl)).trans (Df.wI (P := fun a _ => a = sa ∨ a = ta) (Q := n2) (R := n2) (a := ta) (i := i) _ (Or.inr rfl))).trans f4
/-- cells are copied from a row, or stay 0 -/
theorem E_copy {k n : Int32} {r sa ta c p : Nat} (hp : p ≤ 100000) (hr6 : r ≠ 6) (hrc : r ≠ c) : ∀ (e N i : Nat) (M : Mem), i + e = p → e + 1 ≤ N → m_tg M c = 1006 → m_ln M c = p → (r ≠ 0 → m_tg M r = 1006 ∧ p ≤ m_ln M r ∧ m_ln M r ≤ 100000) → (∀ x, x < i → cJ M c x = if r = 0 then 0 else cJ M r x) → (r = 0 → ∀ x, cJ M c x = 0) →
    ∃ M', F_X2_make_b74 N M 1004 k n r (iw (p : Int)) sa ta c (iw (i : Int)) = F_X2_make_b102 M' 1004 k n (iw (p : Int)) sa ta c ∧ m_nx M' = m_nx M ∧ m_sl M' = m_sl M ∧ Df n2 (fun a _ => a = c) n2 M M' ∧ ∀ x, x < p → cJ M' c x = if r = 0 then 0 else cJ M r x := by
  intro e
  induction e with
  | zero =>
    intro N i M hi hN t1 l1 hr hx h0
    obtain ⟨N, rfl⟩ : ∃ x, N = x + 1 := ⟨N - 1, by omega⟩
    refine ⟨M, ?_, rfl, rfl, Df.refl _ _ _ _, fun x hx' => hx x (by omega)⟩
    show F_X2_make_b74_st (F_X2_make_b74 N) M 1004 _ _ _ _ _ _ _ _ = _
    unfold F_X2_make_b74_st
    rw [if_neg (by rw [iw_le4 (by omega) (by omega)]; omega)]
  | succ e ih =>
    intro N i M hi hN t1 l1 hr hx h0
    obtain ⟨N, rfl⟩ : ∃ x, N = x + 1 := ⟨N - 1, by omega⟩
    by_cases hr0 : r = 0
    · refine ⟨M, ?_, rfl, rfl, Df.refl _ _ _ _, fun x hx' => by rw [if_pos hr0]; exact h0 hr0 x⟩
      show F_X2_make_b74_st (F_X2_make_b74 N) M 1004 _ _ _ _ _ _ _ _ = _
      unfold F_X2_make_b74_st
      rw [if_pos (by rw [iw_le4 (by omega) (by omega)]; omega), if_neg hr6, if_pos hr0]
    · obtain ⟨r1, r2, r3⟩ := hr hr0
      have a1 : al M r (iw (i : Int)) = some (cJ M r i) := al_of r1 rfl (by omega) (by omega)
      have s1 : sj M c (iw (i : Int)) (cJ M r i) = some (wJ M c i (cJ M r i)) := sj_of _ t1 l1 (by omega) (by omega)
      have e2 : iw (i : Int) + 1 = iw ((i + 1 : Nat) : Int) := by rw [show (1 : Int32) = iw 1 from rfl, iw_add]; rfl
      have step : F_X2_make_b74 (N + 1) M 1004 k n r (iw (p : Int)) sa ta c (iw (i : Int)) = F_X2_make_b74 N (wJ M c i (cJ M r i)) 1004 k n r (iw (p : Int)) sa ta c (iw ((i + 1 : Nat) : Int)) := by
        show F_X2_make_b74_st (F_X2_make_b74 N) M 1004 _ _ _ _ _ _ _ _ = _
        unfold F_X2_make_b74_st
        rw [if_pos (by rw [iw_le4 (by omega) (by omega)]; omega), if_neg hr6, if_neg hr0]
        simp only [a1, s1, Option.bind_some, e2]
      rw [step]
      have hcr : ∀ x, cJ (wJ M c i (cJ M r i)) r x = cJ M r x := fun x => by rw [cJ_wJ, if_neg (fun hh => hrc hh.1)]
      obtain ⟨M', f1, f2, f3, f4, f5⟩ := ih N (i + 1) (wJ M c i (cJ M r i)) (by omega) (by omega) t1 l1 (fun _ => ⟨r1, r2, r3⟩) (fun x hx' => by
        rw [hcr, if_neg hr0]
        by_cases ex : x = i
        · subst ex
          rw [cJ_wJ, if_pos ⟨rfl, rfl⟩]
        · rw [cJ_wJ, if_neg (fun hh => ex hh.2)]
          have := hx x (by omega)
          rw [if_neg hr0] at this
          exact this) (fun hh => absurd hh hr0)
      refine ⟨M', f1, f2, f3, (Df.wJ (P := n2) (Q := fun a _ => a = c) (R := n2) (a := c) (i := i) _ rfl).trans f4, fun x hx' => ?_⟩
      have := f5 x hx'
      rw [hcr] at this
      exact this
theorem stR_na : ∀ p ∈ stR, p.1 ≠ 1005 ∧ p.1 ≠ 1070 ∧ p.1 ≠ 1056 ∧ p.1 ≠ 1020 ∧ p.1 ≠ 1015 ∧ p.1 ≠ 1040 ∧ p.1 ≠ 1079 ∧ p.1 ≠ 1324 := by decide +kernel
theorem pi_of {M : Mem} {a t g : Nat} (v : Int32) (ht : m_tg M a = t) (hf : x_wi t g = true) (hv : x_fit (x_ft g) v = true) : pi M a g v = some (wI M a g v) := by
  unfold pi
  rw [ht, if_pos ⟨hf, hv⟩]
theorem pr_of {M : Mem} {a t g : Nat} (v : Nat) (ht : m_tg M a = t) (hf : x_wr t g = true) : pr M a g v = some (wR M a g v) := by
  unfold pr
  rw [ht, if_pos hf]
theorem ng_of {M : Mem} {a t : Nat} (ht : m_tg M a = t) (h : t ≠ 0) : ng M a = some () := by
  unfold ng
  rw [ht, if_neg h]
/-- a grid's object is filled -/
theorem E_init {M : Mem} {a : Nat} {k : Int32} {n s t : Nat} {b p : Int32} {c : Nat} {y : Int32} (ht : m_tg M a = 22) (hp : p = 0 ∨ p = 1) : F_X21_init M a k y s t b c p = some (wI (wR (wI (wR (wR (wI (wI M a 1408 k) a 1409 y) a 1410 s) a 1411 t) a 1412 b) a 1413 c) a 1414 p) := by
  have hw : x_fit (x_ft 1414) p = true := by rcases hp with rfl | rfl <;> decide
  have f1 : x_fit (x_ft 1408) k = true := rfl
  have f2 : x_fit (x_ft 1409) y = true := rfl
  have f3 : x_fit (x_ft 1412) b = true := rfl
  unfold F_X21_init
  rw [ng_of ht (by decide)]
  simp only [Option.bind_some]
  rw [pi_of k ht (by decide) f1]
  simp only [Option.bind_some]
  rw [pi_of (M := wI M a 1408 k) y ht (by decide) f2]
  simp only [Option.bind_some]
  rw [pr_of (M := wI (wI M a 1408 k) a 1409 y) s ht (by decide)]
  simp only [Option.bind_some]
  rw [pr_of (M := wR (wI (wI M a 1408 k) a 1409 y) a 1410 s) t ht (by decide)]
  simp only [Option.bind_some]
  rw [pi_of (M := wR (wR (wI (wI M a 1408 k) a 1409 y) a 1410 s) a 1411 t) b ht (by decide) f3]
  simp only [Option.bind_some]
  rw [pr_of (M := wI (wR (wR (wI (wI M a 1408 k) a 1409 y) a 1410 s) a 1411 t) a 1412 b) c ht (by decide)]
  simp only [Option.bind_some]
  rw [pi_of (M := wR (wI (wR (wR (wI (wI M a 1408 k) a 1409 y) a 1410 s) a 1411 t) a 1412 b) a 1413 c) p ht (by decide) hw]
  rfl
/-- what changes when the engine makes a grid -/
def pNE : Nat → Nat → Prop := fun a i => a = 1004 ∧ (i = 193 ∨ i = 194)
def rNE (m : Nat) : Nat → Nat → Prop := fun a i => a = 1005 ∧ i = m + 1
/-- a new grid is put in its place -/
theorem E_fin {M : Mem} {k : Int32} {n sa ta c p m w : Nat} {z : Nat → Nat} {s : Nat → Int32} (h : ST M) (hn : n ≤ 4) (hm : m < 400) (hw : w + p ≤ 100000) (k1 : cI M 1004 193 = iw m) (k2 : cI M 1004 194 = iw w) (hs : IRw M sa n (fun i => iw (z i))) (ht : IRw M ta n s) (hc : 1334 ≤ c ∧ c < m_nx M) :
    ∃ M', F_X2_make_b102 M 1004 k (iw (n : Int)) (iw (p : Int)) sa ta c = some (iw ((m + 1 : Nat) : Int), M') ∧ m_nx M' = m_nx M + 1 ∧ m_sl M' = m_sl M + x_cn 22 ∧ GE M' (m_nx M) k n z s 0 c 0 ∧ cI M' 1004 193 = iw ((m + 1 : Nat) : Int) ∧ cI M' 1004 194 = iw ((w + p : Nat) : Int) ∧ cR M' 1005 (m + 1) = m_nx M ∧ Df pNE n2 (rNE m) M M' := by
  have h0 := h.1
  obtain ⟨B, hB⟩ : ∃ B, B = wI M 1004 194 (iw ((w + p : Nat) : Int)) := ⟨_, rfl⟩
  obtain ⟨A, hA⟩ : ∃ A, A = m_nx M := ⟨_, rfl⟩
  have nB : m_nx B = A := by rw [hB, hA]; rfl
  -- the object
  obtain ⟨O, hO⟩ : ∃ O, O = wI (wR (wI (wR (wR (wI (wI (mo B 22) A 1408 k) A 1409 (iw (n : Int))) A 1410 sa) A 1411 ta) A 1412 0) A 1413 c) A 1414 0 := ⟨_, rfl⟩
  have tO : m_tg O A = 22 := by
    rw [hO]
    show m_tg (m_new B 22 (x_cn 22)) A = 22
    rw [tg_new, if_pos nB.symm]
  have dO : Df (fun a i => a = 1004 ∧ i = 194) n2 n2 M O := by
    rw [hO]
    have d1 : Df (fun a i => a = 1004 ∧ i = 194) n2 n2 M B := by rw [hB]; exact Df.wI _ ⟨rfl, rfl⟩
    refine d1.trans ?_
    refine ⟨Nat.le_succ _, Nat.le_add_right _ _, fun b hb => ?_⟩
    have hne : ¬ b = A := by omega
    have hne2 : ¬ b = m_nx B := by omega
    refine ⟨?_, ?_, fun i => ⟨fun _ => ?_, fun _ => ?_, fun _ => ?_⟩⟩
    · show m_tg (m_new B 22 (x_cn 22)) b = _
      rw [tg_new, if_neg hne2]
    · show m_ln (m_new B 22 (x_cn 22)) b = _
      rw [ln_new, if_neg hne2]
    · simp only [cI_wI, cI_wR, hne, false_and, if_false]
      show cI (m_new B 22 (x_cn 22)) b i = _
      rw [cI_new, if_neg hne2]
    · show cJ (m_new B 22 (x_cn 22)) b i = _
      rw [cJ_new, if_neg hne2]
    · simp only [cR_wI, cR_wR, hne, false_and, if_false]
      show cR (m_new B 22 (x_cn 22)) b i = _
      rw [cR_new, if_neg hne2]
  have hOst : ST O := h.n dO
  have i1 : F_X21_init (mo B 22) A k (iw (n : Int)) sa ta 0 c 0 = some O := by
    rw [hO]
    exact E_init (n := n) (by show m_tg (m_new B 22 (x_cn 22)) A = 22; rw [tg_new, if_pos nB.symm]) (Or.inl rfl)
  have cO : cI O 1004 193 = iw m := by rw [dO.cI (by omega) (by omega), k1]
  have u1 : iw (w : Int) + iw (p : Int) = iw ((w + p : Nat) : Int) := by rw [iw_add]; rfl
  have u2 : iw (m : Int) + 1 = iw ((m + 1 : Nat) : Int) := by rw [show (1 : Int32) = iw 1 from rfl, iw_add]; rfl
  have tO2 : m_tg (mo B 22) A = 22 := by show m_tg (m_new B 22 (x_cn 22)) A = 22; rw [tg_new, if_pos nB.symm]
  have sr1 : sr (wI O 1004 193 (iw ((m + 1 : Nat) : Int))) 1005 (iw ((m + 1 : Nat) : Int)) A = some (wR (wI O 1004 193 (iw ((m + 1 : Nat) : Int))) 1005 (m + 1) A) := by
    have t5 : m_tg (wI O 1004 193 (iw ((m + 1 : Nat) : Int))) 1005 = 1011 := t1005 hOst
    have tA : m_tg (wI O 1004 193 (iw ((m + 1 : Nat) : Int))) A = 22 := tO
    exact sr_of (by rw [t5]; decide) (l1005 (M := wI O 1004 193 (iw ((m + 1 : Nat) : Int))) hOst) (by omega) (by decide) (Or.inr (by rw [t5, tA]; decide))
  have nO : m_nx O = m_nx M + 1 := by rw [hO, hB]; rfl
  have slO : m_sl O = m_sl M + x_cn 22 := by rw [hO, hB]; rfl
  have run : F_X2_make_b102 M 1004 k (iw (n : Int)) (iw (p : Int)) sa ta c = some (iw ((m + 1 : Nat) : Int), wR (wI O 1004 193 (iw ((m + 1 : Nat) : Int))) 1005 (m + 1) A) := by
    unfold F_X2_make_b102
    rw [g1004_194 h, k2]
    simp only [Option.bind_some]
    rw [p1004_194 h, u1, ← hB]
    simp only [Option.bind_some]
    rw [nB, ng_of tO2 (by decide)]
    simp only [Option.bind_some]
    rw [i1]
    simp only [Option.bind_some]
    rw [v1004 hOst]
    simp only [Option.bind_some]
    unfold F_X2_add
    simp only [g1004_193, g1004_192, p1004_193, ST_wI, hOst, cO, u2, cI_wI, and_self, if_true, Option.bind_some, sr1, cI_wR]
    rw [g1004_193 (M := wR (wI O 1004 193 (iw ((m + 1 : Nat) : Int))) 1005 (m + 1) A) (hOst.df (P := pNE) (Q := n2) (R := rNE m) ((Df.wI _ ⟨rfl, Or.inl rfl⟩).trans (Df.wR _ ⟨rfl, rfl⟩)) (fun p hp hr => (stR_na p hp).1 hr.1))]
    simp only [cI_wI, cI_wR, and_self, if_true, Option.bind_some]
  refine ⟨_, run, nO, slO, ?_, ?_, ?_, ?_, ?_⟩
  · -- the grid
    have hsa := hs.1
    have hta := ht.1
    have keep : ∀ {b : Nat} {f : Nat → Int32}, IRw M b n f → IRw (wR (wI O 1004 193 (iw ((m + 1 : Nat) : Int))) 1005 (m + 1) A) b n f := fun hb => hb.df (dO.mono (P' := pNE) (Q' := n2) (R' := rNE m) (fun a i q => ⟨q.1, Or.inr q.2⟩) (fun _ _ q => q) (fun _ _ q => q.elim) |>.trans ((Df.wI _ ⟨rfl, Or.inl rfl⟩).trans (Df.wR _ ⟨rfl, rfl⟩))) (fun a i q1 q2 => by unfold pNE at q2; omega)
    have nA4 : ¬ A = 1004 := by omega
    have nA5 : ¬ A = 1005 := by omega
    have e : ∀ i, cR (wR (wI O 1004 193 (iw ((m + 1 : Nat) : Int))) 1005 (m + 1) A) A i = cR O A i := fun i => by rw [cR_wR, if_neg (fun hh => nA5 hh.1)]; rfl
    have f : ∀ i, cI (wR (wI O 1004 193 (iw ((m + 1 : Nat) : Int))) 1005 (m + 1) A) A i = cI O A i := fun i => by rw [cI_wR, cI_wI, if_neg (fun hh => nA4 hh.1)]
    rw [← hA]
    refine ⟨by omega, by show A < m_nx O; omega, tO, ?_, ?_, ?_, ?_, ?_, ?_, ?_⟩
    · rw [f, hO]; simp only [cI_wI, cI_wR, Nat.reduceEqDiff, and_false, if_false, and_self, if_true]
    · rw [f, hO]; simp only [cI_wI, cI_wR, Nat.reduceEqDiff, and_false, if_false, and_self, if_true]
    · rw [e, show cR O A 1410 = sa by rw [hO]; simp only [cR_wI, cR_wR, Nat.reduceEqDiff, and_false, if_false, and_self, if_true]]
      exact keep hs
    · rw [e, show cR O A 1411 = ta by rw [hO]; simp only [cR_wI, cR_wR, Nat.reduceEqDiff, and_false, if_false, and_self, if_true]]
      exact keep ht
    · rw [f, hO]; simp only [cI_wI, cI_wR, Nat.reduceEqDiff, and_false, if_false, and_self, if_true]
    · rw [e, hO]; simp only [cR_wI, cR_wR, and_self, if_true]
    · rw [f, hO]; simp only [cI_wI, and_self, if_true]
  · rw [cI_wR, cI_wI, if_pos ⟨rfl, rfl⟩]
  · rw [cI_wR, cI_wI, if_neg (by decide), hO]
    simp only [cI_wI, cI_wR, show ¬ 1004 = A by omega, false_and, if_false]
    show cI (m_new B 22 (x_cn 22)) 1004 194 = _
    rw [cI_new, if_neg (by omega), hB, cI_wI, if_pos ⟨rfl, rfl⟩]
  · rw [cR_wR, if_pos ⟨rfl, rfl⟩, hA]
  · exact (dO.mono (P' := pNE) (Q' := n2) (R' := rNE m) (fun a i q => ⟨q.1, Or.inr q.2⟩) (fun _ _ q => q) (fun _ _ q => q.elim)).trans ((Df.wI _ ⟨rfl, Or.inl rfl⟩).trans (Df.wR _ ⟨rfl, rfl⟩))
