/-! ===== FORMULAS, 62: what items mean: lists that grow and shrink ===== -/
/-- a list that has never held more than K -/
def AQ (M : Mem) (a ds : Nat) (es : List Nat) (K : Nat) : Prop := AL M a ds es ∧ es.length ≤ K ∧ (ds = 4 ∨ 2 * m_ln M ds ≤ 3 * K + 20)
section
variable {P Q R : Nat → Nat → Prop} {M N : Mem} {a ds K v x : Nat} {es : List Nat}
theorem AQ.rcb (h : AQ M a ds es K) : rcs M ds ≤ 6 * K + 40 := by
  unfold rcs
  split
  · omega
  · have := h.2; omega
theorem AQ.df (h : AQ M a ds es K) (d : Df P Q R M N) (hP : ¬ P a 4289) (hR : ¬ R a 4288) (hD : ∀ i, 1334 ≤ ds → ¬ R ds i) : AQ N a ds es K ∧ rcs N ds = rcs M ds := by
  have e : ds = 4 ∨ m_ln N ds = m_ln M ds := by
    rcases h.1.2.2.2.2 with q | q
    · exact Or.inl q.2
    · exact Or.inr (d.2.2 ds q.2.1).2.1
  refine ⟨⟨h.1.df d hP hR hD, h.2.1, ?_⟩, ?_⟩
  · rcases e with e | e
    · exact Or.inl e
    · rw [e]; exact h.2.2
  · unfold rcs
    rcases e with e | e
    · rw [if_pos e, if_pos e]
    · rw [e]
theorem AQ.add (h : AQ M a ds es K) (h0 : 1334 ≤ m_nx M) (k4 : m_tg M 4 = 1091 ∧ m_ln M 4 = 0) (hK : es.length + 1 ≤ K) (hl : K ≤ 60000) (hv : v = 0 ∨ (v < m_nx M ∧ x_asg (m_tg M v) 1010 = true)) :
    ∃ M' ds', F_J6_add M a v = some (1, M') ∧ AQ M' a ds' (es ++ [v]) K ∧ (ds' = ds ∨ m_nx M ≤ ds') ∧ Df (at1 a) n2 (fun x i => (x = a ∧ i = 4288) ∨ (x = ds ∧ 1334 ≤ ds)) M M' ∧ m_nx M' ≤ m_nx M + 1 ∧ m_sl M' + rcs M ds ≤ m_sl M + rcs M' ds' ∧ 1334 ≤ ds' := by
  obtain ⟨M', ds', e1, e2, e3, e4, e5, e6⟩ := h.1.addA h0 k4 (by omega) hv
  have hlen : (es ++ [v]).length = es.length + 1 := by rw [List.length_append, List.length_singleton]
  unfold rcs
  rcases e6 with ⟨g1, g2, g3⟩ | ⟨g1, g2, g3⟩
  · subst g2
    have hd : ds' < m_nx M := by
      rcases h.1.2.2.2.2 with q | q
      · omega
      · exact q.2.1
    have el := (e4.2.2 ds' hd).2.1
    have h2 := h.2.2
    refine ⟨M', ds', e1, ⟨e2, by omega, Or.inr ?_⟩, e3, e4, e5, ?_, g1⟩
    · rw [el]; omega
    · rw [if_neg (by omega), if_neg (by omega), el]; omega
  · refine ⟨M', ds', e1, ⟨e2, by omega, Or.inr ?_⟩, e3, e4, e5, ?_, g1⟩
    · rcases g3 with ⟨q1, q2, q3⟩ | ⟨q1, q2, q3⟩
      · rw [q3]; omega
      · rw [q3]; omega
    · rw [if_neg (show ¬ ds' = 4 by omega)]
      rcases g3 with ⟨q1, q2, q3⟩ | ⟨q1, q2, q3⟩
      · rw [if_pos q2, q3]; omega
      · rw [if_neg (show ¬ ds = 4 by omega)]
        omega
theorem AQ.pop (h : AQ M a ds (es ++ [x]) K) : ∃ M', F_J6_remove M a (iw (es.length : Nat)) = some (x, M') ∧ AQ M' a ds es K ∧ Df (at1 a) n2 (at1 ds) M M' ∧ m_nx M' = m_nx M ∧ m_sl M' = m_sl M ∧ rcs M' ds = rcs M ds := by
  obtain ⟨M', e1, e2, e3, e4, e5⟩ := h.1.pop
  have hlen : (es ++ [x]).length = es.length + 1 := by rw [List.length_append, List.length_singleton]
  have hd : ds < m_nx M := by
    rcases h.1.2.2.2.2 with q | q
    · rw [q.1] at hlen; cases hlen
    · exact q.2.1
  have el := (e3.2.2 ds hd).2.1
  have h2 := h.2
  refine ⟨M', e1, ⟨e2, by omega, by rw [el]; exact h.2.2⟩, e3, e4, e5, ?_⟩
  unfold rcs
  rw [el]
/-- small Integers are kept -/
theorem J_box0 (h0 : 1334 ≤ m_nx M) (k0 : K0 M) {v : Int32} (hv : Lk v) : ∃ x, F_J19_valueOf M v = some (x, M) ∧ IB M x v ∧ x < 1000 := by
  have b : ¬ v < -128 ∧ ¬ 127 < v := by rcases hv with rfl | rfl | rfl | rfl | rfl | rfl | rfl | rfl <;> decide
  have c1 := b.1
  have c2 := b.2
  rw [Int32.lt_iff_toInt_lt] at c1 c2
  have m1 : (-128 : Int32).toInt = -128 := rfl
  have m2 : (127 : Int32).toInt = 127 := rfl
  obtain ⟨i, hi⟩ : ∃ i : Nat, (i : Int) = v.toInt + 128 := ⟨(v.toInt + 128).toNat, by omega⟩
  have hi2 : i < 256 := by omega
  obtain ⟨-, -, -, -, -, t5, l5, r5⟩ := k0
  obtain ⟨r1, r2, r3⟩ := r5 i hi2
  have ev : v + 128 = iw (i : Int) := by
    rw [show (128 : Int32) = iw 128 from rfl, show v + iw 128 = iw v.toInt + iw 128 by rw [iw_of], iw_add, hi]
  have ec : cI M (300 + i) 5120 = v := by
    rw [r3, show Int32.ofNat i = iw (i : Int) from rfl, show (128 : Int32) = iw 128 from rfl, iw_sub, hi, show v.toInt + 128 - 128 = v.toInt by omega, iw_of]
  refine ⟨300 + i, ?_, ⟨by omega, Or.inr r2, ec⟩, by omega⟩
  unfold F_J19_valueOf
  rw [if_neg b.1, if_neg b.2, ev, ar_of (show 1010 ≤ m_tg M 5 by omega) l5 hi2 (by decide), r1]
  rfl
end
