/-! ===== FORMULAS, 27: arguments of the engine's calls ===== -/
section
variable {M N : Mem} {B v0 n k : Nat} {f : Nat → Int32}
theorem TBk.n2 (t : TBk M f n) (d : Df n2 n2 n2 M N) : TBk N f n := t.df (d.mono (fun _ _ q => q.elim) (fun _ _ q => q.elim) (fun _ _ q => q.elim))
theorem KT.dfg {P Q R : Nat → Nat → Prop} {T : Tok} (h : KT M B f n T) (d : Df P Q R M N) (hB : 1334 ≤ B) (h0 : ∀ x i, x < 1334 → ¬ P x i ∧ ¬ Q x i ∧ ¬ R x i) (hS : nTx P R M B) : KT N B f n T := by
  obtain ⟨⟨t1, t2, t3, t4, t5, t6⟩, h1, h2, h3, h4, h5, h6⟩ := h
  have n0 := t1.1
  have r : ∀ x i, x < 1334 → cR N x i = cR M x i := fun x i hx => d.cR (by omega) (h0 x i hx).2.2
  have c : ∀ x i, x < 1334 → cI N x i = cI M x i := fun x i hx => d.cI (by omega) (h0 x i hx).1
  refine ⟨⟨t1.df d (fun p hp q => (h0 _ _ (stR_lt p hp)).2.2 q), t2.df t1 d (fun a i q w => (h0 a i (by omega)).1 w) (fun a i q w => (h0 a i (by omega)).2.2 w), by rw [r _ _ (by decide)]; exact t3, by rw [c _ _ (by decide)]; exact t4, t5, fun i hi => by rw [c _ _ (by decide)]; exact t6 i hi⟩, by rw [c _ _ (by decide)]; exact h1, by rw [c _ _ (by decide)]; exact h2, by rw [c _ _ (by decide)]; exact h3, fun q => ?_, fun q => by rw [r _ _ (by decide)]; exact h5 q, fun q => ⟨by rw [c _ _ (by decide)]; exact (h6 q).1, by rw [((d.2.2 1012 (by omega)).2.2 _).2.1 (h0 _ _ (by decide)).2.1]; exact (h6 q).2⟩⟩
  rw [r _ _ (by decide)]
  exact ⟨((h4 q).1.df d hS).1, (h4 q).2⟩
theorem SP.dfg {P Q R : Nat → Nat → Prop} (h : SP M B v0 f n k) (d : Df P Q R M N) (h0 : ∀ x i, x < 1334 → ¬ P x i ∧ ¬ Q x i ∧ ¬ R x i) (hS : nTx P R M B) (hv : ∀ i, ¬ R v0 i) : SP N B v0 f n k := by
  obtain ⟨h1, h2, h3, ⟨h4, h5, h6, h7⟩, ⟨h8, h9⟩, h10⟩ := h
  have nn := d.1
  have u4 := d.2.2 4 (by omega)
  exact ⟨h1.dfg d h8 h0 hS, h2, h3, ⟨(d.2.2 v0 h7).1.trans h4, by rw [d.cR h7 (hv _)]; exact h5, h6, by omega⟩, ⟨h8, by omega⟩, u4.1.trans h10.1, u4.2.1.trans h10.2⟩
theorem SP.n2 (h : SP M B v0 f n k) (d : Df n2 n2 n2 M N) : SP N B v0 f n k := h.dfg d (fun _ _ _ => ⟨fun q => q, fun q => q, fun q => q⟩) nTx_n2 (fun _ q => q)
theorem nTx_K (hB : 1334 ≤ B) : nTx pK rK M B := fun x i h1 _ _ => ⟨fun q => by unfold pK at q; omega, fun q => by unfold rK at q; omega⟩
theorem NEx.kk {e : Ex} {lo hi : Nat} {as : List Nat} (h : NEx M B e lo hi as) (d : Df pK qK rK M N) (hB : 1334 ≤ B) (hl : 1334 ≤ lo) : NEx N B e lo hi as :=
  NEx.df d (nTx_K hB) e lo hi as (fun x i x1 _ => ⟨fun q => by unfold pK at q; omega, fun q => by unfold qK at q; omega, fun q => by unfold rK at q; omega⟩) h
theorem NmW.kk {s : Nat} {w : List Int32} (h : NmW M B s w) (d : Df pK qK rK M N) (hB : 1334 ≤ B) : NmW N B s w := h.df d (nTx_K hB)
end
/-- arguments that were read; the list and its row lie elsewhere -/
def NAr (M : Mem) (B la da : Nat) : List Ex → Nat → Nat → List Nat → Prop
  | [], lo, hi, as => as = [] ∧ lo ≤ hi
  | e :: es, lo, hi, as => ∃ a as' l m, as = a :: as' ∧ (lo ≤ l ∧ l ≤ m) ∧ NEx M B e l m [a] ∧ e.isx ∧ ¬ (l ≤ la ∧ la < m) ∧ ¬ (l ≤ da ∧ da < m) ∧ NAr M B la da es m hi as'
section
variable {M N : Mem} {B la da : Nat}
theorem NAr.le : ∀ (es : List Ex) {lo hi : Nat} {as : List Nat}, NAr M B la da es lo hi as → lo ≤ hi
  | [], _, _, _, h => h.2
  | e :: es, _, _, _, ⟨_, _, _, _, _, h2, _, _, _, _, h7⟩ => by have := NAr.le es h7; omega
theorem NAr.len : ∀ (es : List Ex) {lo hi : Nat} {as : List Nat}, NAr M B la da es lo hi as → as.length = es.length
  | [], _, _, _, h => by rw [h.1]; rfl
  | e :: es, _, _, _, ⟨_, _, _, _, rfl, _, _, _, _, _, h7⟩ => by rw [List.length_cons, List.length_cons, NAr.len es h7]
theorem NAr.snoc {e : Ex} {a l m : Nat} (he : NEx M B e l m [a]) (hx : e.isx) (hlm : l ≤ m) (h1 : ¬ (l ≤ la ∧ la < m)) (h2 : ¬ (l ≤ da ∧ da < m)) : ∀ (es : List Ex) {lo hi : Nat} {as : List Nat}, NAr M B la da es lo hi as → hi ≤ l → NAr M B la da (es ++ [e]) lo m (as ++ [a])
  | [], lo, hi, as, h, hl => by
    obtain ⟨rfl, h4⟩ := h
    exact ⟨a, [], l, m, rfl, ⟨by omega, hlm⟩, he, hx, h1, h2, rfl, Nat.le_refl _⟩
  | x :: es, lo, hi, _, ⟨b, as', l', m', rfl, h3, h4, h5, h6, h7, h8⟩, hl => ⟨b, as' ++ [a], l', m', rfl, h3, h4, h5, h6, h7, NAr.snoc he hx hlm h1 h2 es h8 hl⟩
theorem NAr.hi : ∀ (es : List Ex) {lo hi hi' : Nat} {as : List Nat}, NAr M B la da es lo hi as → hi ≤ hi' → NAr M B la da es lo hi' as
  | [], _, _, _, _, h, k => ⟨h.1, by have := h.2; omega⟩
  | e :: es, _, _, _, _, ⟨b, as', l', m', rfl, h3, h4, h5, h6, h7, h8⟩, k => ⟨b, as', l', m', rfl, h3, h4, h5, h6, h7, NAr.hi es h8 k⟩
/-- another row -/
theorem NAr.rr {da' : Nat} : ∀ (es : List Ex) {lo hi : Nat} {as : List Nat}, NAr M B la da es lo hi as → (da' = da ∨ hi ≤ da') → NAr M B la da' es lo hi as
  | [], _, _, _, h, _ => h
  | e :: es, _, _, _, ⟨b, as', l', m', rfl, h3, h4, h5, h6, h7, h8⟩, k => ⟨b, as', l', m', rfl, h3, h4, h5, h6, by rcases k with rfl | k; exact h7; have := NAr.le es h8; omega, NAr.rr es h8 k⟩
theorem NAr.df {P Q R : Nat → Nat → Prop} (d : Df P Q R M N) (hS : nTx P R M B) : ∀ (es : List Ex) {lo hi : Nat} {as : List Nat}, (∀ x i, lo ≤ x → x < hi → x ≠ la → x ≠ da → ¬ P x i ∧ ¬ Q x i ∧ ¬ R x i) → NAr M B la da es lo hi as → NAr N B la da es lo hi as
  | [], _, _, _, _, h => h
  | e :: es, lo, hi, _, hI, ⟨b, as', l', m', rfl, h3, h4, h5, h6, h7, h8⟩ => by
    have le := NAr.le es h8
    exact ⟨b, as', l', m', rfl, h3, NEx.df d hS e l' m' [b] (fun x i x1 x2 => hI x i (by omega) (by omega) (fun q => h6 (by rw [← q]; exact ⟨x1, x2⟩)) (fun q => h7 (by rw [← q]; exact ⟨x1, x2⟩))) h4, h5, h6, h7, NAr.df d hS es (fun x i x1 x2 => hI x i (by omega) x2) h8⟩
theorem NAr.row : ∀ (es : List Ex) {lo hi : Nat} {as : List Nat}, NAr M B la da es lo hi as → NEx M B (Ex.row es) lo hi as
  | [], _, _, _, h => h.1
  | e :: es, _, _, _, ⟨b, as', l', m', rfl, h3, h4, h5, h6, h7, h8⟩ => ⟨b, as', l', m', rfl, h3.1, h4, h3.2, NAr.le es h8, NAr.row es h8⟩
theorem NAr.at : ∀ (es : List Ex) {lo hi : Nat} {as : List Nat} (i : Nat), NAr M B la da es lo hi as → i < es.length → ∃ t p, ND M (as.getD i 0) t p (es.getD i .anl).ht ∧ (30 ≤ t ∧ t ≤ 36) ∧ lo ≤ as.getD i 0 ∧ as.getD i 0 < hi
  | [], _, _, _, i, _, hi => by cases hi
  | e :: es, lo, hi, _, 0, ⟨b, as', l', m', rfl, h3, h4, h5, h6, h7, h8⟩, _ => by
    obtain ⟨a, t, p, q1, q2, q3, q4, q5⟩ := NEx.one e h5 h4
    cases q1
    have := NAr.le es h8
    exact ⟨t, p, q3, q2, (show lo ≤ b by omega), (show b < hi by omega)⟩
  | e :: es, lo, hi, _, i + 1, ⟨b, as', l', m', rfl, h3, h4, h5, h6, h7, h8⟩, hi' => by
    obtain ⟨t, p, q1, q2, q3, q4⟩ := NAr.at es i h8 (by rw [List.length_cons] at hi'; omega)
    exact ⟨t, p, q1, q2, (show lo ≤ as'.getD i 0 by omega), q4⟩
end
theorem row_ht : ∀ (es : List Ex) (e : Ex), (Ex.row (es ++ [e])).ht = max (Ex.row es).ht e.ht
  | [], e => by show max e.ht 0 = max 0 e.ht; omega
  | x :: es, e => by
    show max x.ht (Ex.row (es ++ [e])).ht = max (max x.ht (Ex.row es).ht) e.ht
    rw [row_ht es e]
    omega
theorem take_getD {α : Type} {d : α} {l : List α} {i : Nat} (h : i < l.length) : l.take (i + 1) = l.take i ++ [l.getD i d] := by
  rw [List.take_add_one, List.getElem?_eq_getElem h, List.getD_eq_getElem?_getD, List.getElem?_eq_getElem h]
  rfl
/-- the row of a list that is made for some -/
theorem AP.initN {M : Mem} {a c : Nat} (ha : a < m_nx M) (ht : m_tg M a = 67) (h0 : cI M a 4289 = 0) (h1 : 1334 ≤ m_nx M) (hc : 0 < c) (hc2 : c ≤ 10) : ∃ M', F_J6_init M a (iw (c : Int)) = some M' ∧ AP M' a (m_nx M) [] ∧ Df (at1 a) n2 (at1 a) M M' ∧ m_nx M' = m_nx M + 1 ∧ m_sl M' = m_sl M + c ∧ m_ln M' (m_nx M) = c := by
  obtain ⟨A, hA⟩ : ∃ A, A = wI M a 4224 0 := ⟨_, rfl⟩
  have tA : m_tg A a = 67 := by rw [hA]; exact ht
  have nA : m_nx A = m_nx M ∧ m_sl A = m_sl M := by rw [hA]; exact ⟨rfl, rfl⟩
  obtain ⟨C, hC⟩ : ∃ C, C = m_new A 1010 c := ⟨_, rfl⟩
  have tC : m_tg C a = 67 := by rw [hC, tg_new, if_neg (by omega)]; exact tA
  obtain ⟨D, hD⟩ : ∃ D, D = wR C a 4288 (m_nx M) := ⟨_, rfl⟩
  have nD : m_nx D = m_nx M + 1 ∧ m_sl D = m_sl M + c := by rw [hD, hC]; exact ⟨by show m_nx A + 1 = _; omega, by show m_sl A + c = _; omega⟩
  have tD : m_tg D (m_nx M) = 1010 := by rw [hD, hC]; show m_tg (m_new A 1010 c) (m_nx M) = _; rw [tg_new, if_pos nA.1.symm]
  have lD : m_ln D (m_nx M) = c := by rw [hD, hC]; show m_ln (m_new A 1010 c) (m_nx M) = _; rw [ln_new, if_pos nA.1.symm]
  have q1 : at1 a a 4224 := rfl
  have q2 : at1 a a 4288 := rfl
  have d1 : Df (at1 a) n2 (at1 a) M A := by rw [hA]; exact Df.wI _ q1
  have d2 : Df (at1 a) n2 (at1 a) A C := by rw [hC]; exact Df.new _ _
  have d3 : Df (at1 a) n2 (at1 a) C D := by rw [hD]; exact Df.wR _ q2
  refine ⟨D, ?_, ⟨⟨by omega, by rw [hD]; exact tC, by rw [hD, cR_wR, if_pos ⟨rfl, rfl⟩], ?_, Or.inr ⟨h1, by omega, by omega, tD, by omega, Nat.zero_le _, by omega, fun i hi => by cases hi⟩⟩, Or.inr (by rw [lD]; show 2 * c ≤ 3 * 0 + 20; omega)⟩, (d1.trans d2).trans d3, nD.1, nD.2, lD⟩
  · unfold F_J6_init F_J5_init F_J4_init F_J6_init_b60
    simp only [ng_of ht (by decide), pi_of 0 ht (show x_wi 67 4224 = true by decide) (by decide), ← hA, Option.bind_some]
    rw [if_pos (by rw [show (0 : Int32) = iw ((0 : Nat) : Int) from rfl, iw_le4 (by omega) (by omega)]; exact hc), mk_of (by omega), Option.bind_some, ← hC, nA.1, pr_of _ tC (show x_wr 67 4288 = true by decide), Option.bind_some, ← hD]
  · rw [hD, cI_wR, hC, cI_new, if_neg (by omega), hA, cI_wI, if_neg (by omega)]
    exact h0
