/-! ===== TABLES, 4: the engine reads a cell ===== -/
theorem E_wrongT {α : Type} {M : Mem} (h : ST M) (x : Int32) : ((vg M 1037 12).bind fun _ => (F_X11_wrong M 1037 x).bind fun z => (ie z.2 z.1).bind fun _ => (some (.inr (z.1, z.2)) : Option (α ⊕ (Nat × Mem)))) = some (.inr (1003, eT M 20 x)) := by
  have hs : ST (eT M 20 x) := h
  unfold F_X11_wrong
  simp only [v1037, g1037_768, v1002, h, E_at h, Option.bind_some]
  unfold ie
  rw [if_pos (t1003 hs)]
  rfl
/-- what reading cells writes -/
def pTC : Nat → Nat → Prop := fun x i => (x = 1037 ∧ (i = 774 ∨ i = 776 ∨ i = 779)) ∨ x = 1041 ∨ x = 1042 ∨ x = 1043
def SE (M M' : Mem) : Prop := ST M' ∧ Df pTC n2 n2 M M' ∧ m_nx M' = m_nx M ∧ m_sl M' = m_sl M
theorem SE.trans {M N O : Mem} (s : SE M N) (t : SE N O) : SE M O := ⟨t.1, s.2.1.trans t.2.1, t.2.2.1.trans s.2.2.1, t.2.2.2.trans s.2.2.2⟩
theorem SD.se {M N : Mem} (s : SD M N) (h : ST N) : SE M N := ⟨h, s.1.mono (fun x i q => by unfold pTT at q; unfold pTC; omega) (fun _ _ q => q) (fun _ _ q => q), s.2.1, s.2.2⟩
theorem SE.w {M : Mem} (h : ST M) {a i : Nat} {v : Int32} (hp : pTC a i) : SE M (wI M a i v) := ⟨h, Df.wI _ hp, rfl, rfl⟩
/-- the signs of the cells, one behind the other -/
def fla (cs : List (List Int32 × Bool)) : List Int32 := (cs.map Prod.fst).flatten
theorem fla_app (cs : List (List Int32 × Bool)) (c : List Int32 × Bool) : fla (cs ++ [c]) = fla cs ++ c.1 := by
  unfold fla
  rw [List.map_append, List.flatten_append]
  show _ ++ (c.1 ++ []) = _
  rw [List.append_nil]
/-- how a cell's length is kept -/
def enc (c : List Int32 × Bool) : Int32 := if c.2 = true then iw ((c.1.length + 64 : Nat) : Int) else if c.1.length = 0 then -1 else iw (c.1.length : Nat)
/-- the engine stands at a, the cells cs are read -/
def TC (M : Mem) (f : Nat → Int32) (n a : Nat) (cs : List (List Int32 × Bool)) : Prop := TT M f n a (fla cs) ∧ cI M 1037 779 = iw (cs.length : Nat) ∧ ∀ k, k < cs.length → cI M 1042 k = iw ((fla (cs.take k)).length : Nat) ∧ cI M 1043 k = enc (cs.getD k ([], false))
/-- another row of ints was written -/
theorem TT.w {M : Mem} {f : Nat → Int32} {n a : Nat} {ms : List Int32} (t : TT M f n a ms) {b i : Nat} {v : Int32} (h1 : b ≠ 1001) (h2 : b ≠ 1041) (h3 : b = 1037 → i ≠ 773 ∧ i ≠ 774 ∧ i ≠ 776) : TT (wI M b i v) f n a ms := by
  obtain ⟨t1, t2, t3, t4, t5, t6, t7, t8, t9, t10⟩ := t
  exact ⟨t1, t2, by rw [cI_wI, if_neg (by omega)]; exact t3, t4, by rw [cI_wI, if_neg (by omega)]; exact t5, t6, fun k hk => by rw [cI_wI, if_neg (by omega)]; exact t7 k hk, by rw [cI_wI, if_neg (by omega)]; exact t8, t9, fun k hk => by rw [cI_wI, if_neg (by omega)]; exact t10 k hk⟩
/-- the word of a cell -/
theorem E_cellw {M : Mem} {f : Nat → Int32} {n a : Nat} {cs : List (List Int32 × Bool)} (t : TC M f n a cs) (hc : cs.length < 8000) (v1 v2 : Int32) : match wrd f n a with
    | .inl p => ∃ M1, F_X11_cell M 1037 v1 v2 = some (.inr (1003, eT M1 20 (iw (p : Int)))) ∧ SE M M1
    | .inr q => ∃ M1, F_X11_cell M 1037 v1 v2 = F_X11_cell_b82 M1 1037 v1 v2 (mr q.2.1) ∧ TT M1 f n q.2.2 (fla cs ++ q.1) ∧ SE M M1 ∧ cI M1 1037 779 = iw (cs.length : Nat) ∧ cI M1 1042 cs.length = iw ((fla cs).length : Nat) ∧ (∀ k, k ≠ cs.length → cI M1 1042 k = cI M 1042 k) ∧ ∀ k, cI M1 1043 k = cI M 1043 k := by
  obtain ⟨T, tc, -⟩ := t
  have hS := T.1
  have hn := T.2.2.2.1
  have hna := T.2.2.2.2.2.1
  have hxN : xN = 1099511627776 := rfl
  obtain ⟨A, hA⟩ : ∃ A, A = wI M 1042 cs.length (iw ((fla cs).length : Nat)) := ⟨_, rfl⟩
  have TA : TT A f n a (fla cs) := by rw [hA]; exact T.w (by decide) (by decide) (fun q => by omega)
  have sA : SE M A := by rw [hA]; exact SE.w hS (Or.inr (Or.inr (Or.inl rfl)))
  have cA : cI A 1042 cs.length = iw ((fla cs).length : Nat) := by rw [hA, cI_wI, if_pos ⟨rfl, rfl⟩]
  have tail : ∀ {N : Mem}, SD A N → cI N 1037 779 = iw (cs.length : Nat) ∧ cI N 1042 cs.length = iw ((fla cs).length : Nat) ∧ (∀ k, k ≠ cs.length → cI N 1042 k = cI M 1042 k) ∧ ∀ k, cI N 1043 k = cI M 1043 k := fun {N} s => by
    have nA : m_nx A = m_nx M := sA.2.2.1
    have h0 := hS.1
    refine ⟨?_, ?_, fun k hk => ?_, fun k => ?_⟩
    · rw [s.1.cI (by omega) (by unfold pTT; omega), hA, cI_wI, if_neg (by omega)]; exact tc
    · rw [s.1.cI (by omega) (by unfold pTT; omega)]; exact cA
    · rw [s.1.cI (by omega) (by unfold pTT; omega), hA, cI_wI, if_neg (by omega)]
    · rw [s.1.cI (by omega) (by unfold pTT; omega), hA, cI_wI, if_neg (by omega)]
  have hd : F_X11_cell M 1037 v1 v2 = if lk f n a = 34 then F_X11_cell_b27 A 1 1037 v1 v2 else F_X11_cell_b27 A 0 1037 v1 v2 := by
    unfold F_X11_cell
    simp only [g1037_777, g1037_779, g1037_776, hS, tc, T.2.2.2.2.2.2.2.1, si_of _ (t1042 hS) (l1042 hS) hc (by decide), ← hA, v1037, TA.1, E_lookT TA, Option.bind_some]
  rw [hd]
  unfold wrd
  by_cases c : isC f n a 34 = true
  · have ca := (isC_t.mp c).1
    rw [if_pos c, if_pos (lk34.mpr c)]
    unfold F_X11_cell_b27
    rw [if_neg (by decide)]
    obtain ⟨g1, g2, g3⟩ := E_goT TA ca
    obtain ⟨N, hN⟩ : ∃ N, N + 1 + (n - a) = xN := ⟨xN - 1 - (n - a), by omega⟩
    have hq : F_X11_quoted A 1037 = F_X11_quoted_b12 (N + 1 + (n - a)) (wI A 1037 774 (iw ((a + 1 : Nat) : Int))) 1037 1 := by
      unfold F_X11_quoted
      simp only [g1037_774, TA.1, TA.2.2.2.2.1, g1, Option.bind_some, hN]
    have g2' : TT (wI A 1037 774 (iw ((a + 1 : Nat) : Int))) f n (a + 1) (fla cs ++ []) := by rw [List.append_nil]; exact g2
    have ih := E_qtd (f := f) (n := n) (n - a) N (a + 1) (fla cs) [] _ (by omega) g2'
    rw [← hq] at ih
    simp only [v1037, TA.1, Option.bind_some]
    cases hw : qtd f n (n - a) (a + 1) [] with
    | inl p =>
      rw [hw] at ih
      obtain ⟨M', y, f1, f2, f3⟩ := ih
      refine ⟨M', ?_, sA.trans ((g3.trans f3).se f2.1)⟩
      rw [f1]
      unfold F_X11_quoted_b33
      rw [g1037_774 f2.1, f2.2.2.2.2.1, Option.bind_some, E_wrongT f2.1]
      rfl
    | inr q =>
      rw [hw] at ih
      obtain ⟨M', f1, f2, f3⟩ := ih
      refine ⟨M', ?_, f2, sA.trans ((g3.trans f3).se f2.1), tail (g3.trans f3)⟩
      rw [f1]
      rfl
  · rw [if_neg c, if_neg (fun q => c (lk34.mp q))]
    unfold F_X11_cell_b27
    rw [if_pos rfl]
    obtain ⟨N, hN⟩ : ∃ N, N + 1 + (n - a) = xN := ⟨xN - 1 - (n - a), by omega⟩
    rw [← hN]
    obtain ⟨M', f1, f2, f3⟩ := E_unq (f := f) (n := n) (v1 := v1) (v2 := v2) (v3 := 0) (n - a) N a (fla cs) A (by omega) TA
    exact ⟨M', f1, f2, sA.trans (f3.se f2.1), tail f3⟩
