/-! ===== FORMULAS, 75: what items mean: whole expressions ===== -/
/-- items stand at a place -/
def SubI (I : List Itm) (i : Nat) (A : List Itm) : Prop := i + A.length ≤ I.length ∧ ∀ j, j < A.length → I.getD (i + j) itm0 = A.getD j itm0
theorem SubI.l {I A D : List Itm} {i : Nat} (h : SubI I i (A ++ D)) : SubI I i A := by
  obtain ⟨h1, h2⟩ := h
  rw [List.length_append] at h1 h2
  exact ⟨by omega, fun j hj => by rw [h2 j (by omega), getD_l hj]⟩
theorem SubI.r {I A D : List Itm} {i : Nat} (h : SubI I i (A ++ D)) : SubI I (i + A.length) D := by
  obtain ⟨h1, h2⟩ := h
  rw [List.length_append] at h1 h2
  refine ⟨by omega, fun j hj => ?_⟩
  have := h2 (A.length + j) (by omega)
  rw [getD_r (by omega), Nat.add_sub_cancel_left, ← Nat.add_assoc] at this
  exact this
theorem SubI.one {I : List Itm} {i : Nat} {x : Itm} (h : SubI I i [x]) : i < I.length ∧ I.getD i itm0 = x := by
  obtain ⟨h1, h2⟩ := h
  rw [List.length_singleton] at h1 h2
  exact ⟨by omega, h2 0 (by omega)⟩
def BDx (C : MeC) (V : MeV) (P : List Int32) (O : List Mo) (nn : Nat) : Prop := P.length + nn ≤ C.K ∧ O.length + 5 * nn ≤ C.K ∧ V.eb.length + 2 * nn ≤ C.K
theorem ckP_ops {s : Int32} {e t : Tx} {O : List Mo} (hs : s = 45 ∨ s = 33 ∨ s = 126) (h : ckP s e = some t) : t.isx ∧ O ++ oM e O.length ++ opT1 e t = O ++ oM t O.length := by
  have g : ∀ s' l, some (Tx.pre s' l e) = some t → t.isx ∧ O ++ oM e O.length ++ opT1 e t = O ++ oM t O.length := fun s' l q => by
    cases q
    refine ⟨trivial, ?_⟩
    show O ++ oM e O.length ++ (wdn e.ln l ++ [_]) = O ++ (oM e O.length ++ wdn e.ln l ++ [_])
    simp only [List.append_assoc]
  unfold ckP at h
  split at h
  · split at h
    · exact g _ _ h
    · cases h
  · split at h
    · split at h
      · exact g _ _ h
      · cases h
    · split at h
      · exact g _ _ h
      · cases h
theorem ckC_ops {l : Int32} {e t : Tx} {O : List Mo} (h : ckC l e = some t) : t.isx ∧ O ++ oM e O.length ++ opT1 e t = O ++ oM t O.length := by
  unfold ckC at h
  split at h
  · cases h
    refine ⟨trivial, ?_⟩
    show O ++ oM e O.length ++ [_] = O ++ (oM e O.length ++ [_])
    rw [List.append_assoc]
  · cases h
theorem ckN_ops {S : Sc} {w : List Int32} {t : Tx} {p : Nat} (h : ckN S w = some t) : oM t p = opT3 t := by
  unfold ckN at h
  split at h
  · split at h
    · cases h; rfl
    · cases h
  · split at h
    · split at h
      · cases h; rfl
      · split at h
        · split at h
          · cases h; rfl
          · cases h
        · cases h
    · cases h
theorem ckF_ops {S : Sc} {w : List Int32} {r t : Tx} {O : List Mo} (ir : r.isr) (h : ckF S w r = some t) : t.isx ∧ O ++ oM r O.length ++ opT4 r t = O ++ oM t O.length := by
  unfold ckF at h
  split at h
  · rename_i f hf
    split at h
    · rename_i i hi
      cases h
      refine ⟨trivial, ?_⟩
      have az := tk_als r (List.replicate r.lns.length i) ir (by rw [List.length_replicate])
      have la : (r.tk (List.replicate r.lns.length i)).als.length = r.lns.length := by rw [az, List.length_zip, List.length_replicate, Nat.min_self]
      have gl : ∀ k, ((r.tk (List.replicate r.lns.length i)).als.getD k (0, 0)).1 = r.lns.getD k 0 := fun k => by
        by_cases hk : k < r.lns.length
        · rw [az, List.getD_eq_getElem?_getD, List.getElem?_eq_getElem (by rw [List.length_zip, List.length_replicate]; omega), Option.getD_some, List.getElem_zip]
          show r.lns[k] = r.lns.getD k 0
          rw [List.getD_eq_getElem?_getD, List.getElem?_eq_getElem hk, Option.getD_some]
        · rw [List.getD_eq_getElem?_getD, List.getElem?_eq_none (by omega), List.getD_eq_getElem?_getD, List.getElem?_eq_none (by omega)]
          rfl
      show O ++ oM r O.length ++ [opF f i r.lns] = O ++ (oM (r.tk _) O.length ++ [_])
      rw [oM_tk r _ _ ir, gl, gl, la, List.append_assoc]
      rfl
    · cases h
  · split at h
    · rename_i k hk
      cases h
      obtain ⟨k1, ⟨k2, k3, k4⟩, k5⟩ := chb_some hk
      refine ⟨trivial, ?_⟩
      have az := tk_als r (S.fs.getD k fn0).ps ir k3.symm
      have la : (r.tk (S.fs.getD k fn0).ps).als.length = r.lns.length := by rw [az, List.length_zip]; omega
      show O ++ oM r O.length ++ ([{ op := 18, n := iw (r.lns.length : Int), fn := k + 1 }] ++ (r.tk (S.fs.getD k fn0).ps).als.map _) = O ++ (oM (r.tk _) O.length ++ [{ op := 18, n := iw ((r.tk (S.fs.getD k fn0).ps).als.length : Int), fn := k + 1 }] ++ (r.tk (S.fs.getD k fn0).ps).als.map _)
      rw [oM_tk r _ _ ir, la]
      simp only [List.append_assoc]
    · cases h
theorem itm_len : ∀ e : Ex, (itm e).length ≤ 3 * e.nn
  | .lit _ _ _ => by show 1 ≤ 3 * 1; omega
  | .nam _ _ => by show 1 ≤ 3 * 1; omega
  | .pre _ _ e => by have := itm_len e; show (itm e ++ [_]).length ≤ 3 * (e.nn + 1); rw [List.length_append, List.length_singleton]; omega
  | .cst _ _ e => by have := itm_len e; show (itm e ++ [_]).length ≤ 3 * (e.nn + 1); rw [List.length_append, List.length_singleton]; omega
  | .bin _ o a b => by
    have A := itm_len a
    have B := itm_len b
    show (if o = 18 ∨ o = 19 then itm a ++ [_] ++ itm b ++ [_] else itm a ++ itm b ++ [_]).length ≤ 3 * (a.nn + b.nn + 1)
    split <;> simp only [List.length_append, List.length_singleton] <;> omega
  | .cnd _ c a b => by
    have C := itm_len c
    have A := itm_len a
    have B := itm_len b
    show (itm c ++ [_] ++ itm a ++ [_] ++ itm b ++ [_]).length ≤ 3 * (c.nn + a.nn + b.nn + 1)
    simp only [List.length_append, List.length_singleton]
    omega
  | .cal _ _ r => by have := itm_len r; show (itm r ++ [_]).length ≤ 3 * (r.nn + 1); rw [List.length_append, List.length_singleton]; omega
  | .anl => Nat.zero_le _
  | .acn e r => by have := itm_len e; have := itm_len r; show (itm e ++ itm r).length ≤ 3 * (e.nn + r.nn); rw [List.length_append]; omega
section
variable {C : MeC} {M N : Mem} {V W : MeV} {P P1 : List Int32} {O O1 : List Mo} {B lm dm li di : Nat} {S : Sc} {Z : Nat → Prop} {ei : List Nat} {I : List Itm}
theorem RMx.err {i L L' k k' q : Nat} (h : RMx C M V P O li i L k (.inl q)) (hL : L ≤ L') (hk : k ≤ k') : RMx C M V P1 O1 li i L' k' (.inl q) := fun n => by
  have := h (n + (L' - L))
  rw [show n + (L' - L) + L = n + L' by omega] at this
  obtain ⟨N', W', P', O', g1, g2, g3⟩ := this
  exact ⟨N', W', P', O', g1, g2, g3.mono hk⟩
/-- a part behind another -/
theorem RMx.pre {i L1 L k1 k k' q : Nat} (hF : ∀ n, F_X45_all_b2 (n + L1) M C.v0 li (iw (i : Int)) = F_X45_all_b2 n N C.v0 li (iw ((i + L1 : Nat) : Int))) (r : RG C M N V W k1) (h : RMx C N W P1 O1 li (i + L1) L k (.inl q)) {L' : Nat} (hL : L1 + L ≤ L') (hk : k1 + k ≤ k') : RMx C M V P O li i L' k' (.inl q) := fun n => by
  have := h (n + (L' - (L1 + L)))
  have e : F_X45_all_b2 (n + L') M C.v0 li (iw (i : Int)) = F_X45_all_b2 (n + (L' - (L1 + L)) + L) N C.v0 li (iw ((i + L1 : Nat) : Int)) := by
    rw [← hF (n + (L' - (L1 + L)) + L)]
    congr 1
    omega
  rw [e]
  exact ERs.pre r this hk
end
