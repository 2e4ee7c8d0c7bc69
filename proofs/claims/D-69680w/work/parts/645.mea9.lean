/-! ===== FORMULAS, 70: what items mean: a choice ends ===== -/
section
variable {C : MeC} {M N : Mem} {V W : MeV} {P : List Int32} {Ow Oz : List Mo} {B ia : Nat}
theorem RL.le {k a w : Nat} (h : RL C M V N W k a) (hw : w ≤ a) : RL C M V N W k w := fun M0 V0 j r hm => h M0 V0 j r (by omega)
def gdD (k x j : Int32) : Prop := k = 0 ∧ (x = j ∨ (isNk x ∧ isNk j))
theorem M_one11 {p b1 b2 a w g : Nat} {cl xl j : Int32} {es : List Nat} (h : MeG C M V (P ++ [j]) (Ow ++ ({ op := 5 } :: ({ op := 16 } :: Oz)))) (hi : IMm M B ia { op := 11, pl := p }) (he : V.eb = es ++ [b1] ++ [b2]) (hb1 : BGd M b1 a 0 cl) (hb2 : BGd M b2 w g xl) (hw : V.eo.getD Ow.length 0 = w) (hg : V.eo.getD (Ow.length + 1) 0 = g) (hx : Lk xl) (hj : Lk j) (hP : P.length + 1 ≤ C.K) (hO : (Ow ++ (({ op := 5 } : Mo) :: (({ op := 16 } : Mo) :: Oz))).length + 1 ≤ C.K) :
    (gdD cl xl j ∧ ∃ N W, F_X45_one M C.v0 ia = some (.inl N) ∧ MeG C N W (P ++ [if xl = j then xl else wdk xl j]) (Ow ++ ({ op := 5, k := xl, to := if xl = j then xl else wdk xl j } :: ({ op := 16, jp := iw ((Ow.length + 2 + (Oz ++ wdn j (if xl = j then xl else wdk xl j)).length : Nat) : Int) } :: (Oz ++ wdn j (if xl = j then xl else wdk xl j))))) ∧ RL C M V N W 10 w ∧ (∃ fs, W.eo = V.eo ++ fs) ∧ W.eb = es) ∨ (¬ gdD cl xl j ∧ ERs C M V 10 (F_X45_one M C.v0 ia) p) := by
  have o0 : gi M ia 2880 = some (11 : Int32) := by rw [gi_of hi.1.2.2 (show x_fi 45 2880 = true by decide)]; exact congrArg some hi.2.1
  have hl : V.eo.length = (Ow ++ (({ op := 5 } : Mo) :: (({ op := 16 } : Mo) :: Oz))).length := h.2.2.2.2.2.1
  have ll : (Ow ++ (({ op := 5 } : Mo) :: (({ op := 16 } : Mo) :: Oz))).length = Ow.length + Oz.length + 2 := by rw [List.length_append, List.length_cons, List.length_cons]; omega
  have wg : w ≤ g := by
    have := h.2.2.2.2.2.2.2 Ow.length (Ow.length + 1) (by omega) (by omega)
    omega
  obtain ⟨N1, W1, n1, n2', n3, n4, n5⟩ := M_takeS h
  have c1 := hb1.fg n3.1 h.tg3
  have c2 := hb2.fg n3.1 h.tg3
  obtain ⟨N2, W2, m1, m2, m3, m4, m5⟩ := M_endS n2' (by rw [n5, he]) ⟨c2.2.1, c2.1⟩
  have d1 := c1.fg m3.1 n2'.tg3
  have d2 := c2.fg m3.1 n2'.tg3
  obtain ⟨N3, W3, q1, q2, q3, q4, q5⟩ := M_endS m2 m5 ⟨d1.2.1, d1.1⟩
  have e1 := d1.fg q3.1 m2.tg3
  have e2 := d2.fg q3.1 m2.tg3
  have r3 : RG C M N3 V W3 0 := (n3.trans m3).trans q3
  have hi3 := hi.fg r3.1 h.tg3
  have tb1 : ∀ x : Option (Mem ⊕ (Nat × Mem)), (tb x fun z46 => some (Sum.inl z46)) = x := fun x => by
    cases x with
    | none => rfl
    | some v => cases v <;> rfl
  unfold F_X45_one
  rw [o0, Option.bind_some, if_neg (by decide), if_neg (by decide), if_neg (by decide), if_neg (by decide), if_neg (by decide), if_neg (by decide), if_neg (by decide), if_neg (by decide), if_neg (by decide), if_neg (by decide), h.v, Option.bind_some, tb1]
  unfold F_X45_choice F_X45_choice_b53 F_X45_choice_b49
  simp only [h.v, n1, n2'.v, m1, m2.v, q1, gi_of e1.2.1 (show x_fi 49 3138 = true by decide), e1.2.2.2.2, gi_of e2.2.1 (show x_fi 49 3138 = true by decide), e2.2.2.2.2, y_isNum hx, y_isNum hj, Option.bind_some]
  have ef : (if cl = 0 then (if xl = j then F_X45_choice_b54 N3 1 C.v0 ia j b2 else if mr (decide (isNk xl)) = 0 then F_X45_choice_b54 N3 0 C.v0 ia j b2 else if mr (decide (isNk j)) = 0 then F_X45_choice_b54 N3 0 C.v0 ia j b2 else F_X45_choice_b54 N3 1 C.v0 ia j b2) else F_X45_choice_b54 N3 0 C.v0 ia j b2) = F_X45_choice_b54 N3 (pif (gdD cl xl j) 1 0) C.v0 ia j b2 := by
    by_cases z0 : cl = 0
    · rw [if_pos z0]
      by_cases z1 : xl = j
      · rw [if_pos z1, pif_pos ⟨z0, Or.inl z1⟩]
      rw [if_neg z1]
      by_cases z2 : isNk xl
      · rw [decide_eq_true z2, if_neg (show ¬ mr true = 0 by decide)]
        by_cases z3 : isNk j
        · rw [decide_eq_true z3, if_neg (show ¬ mr true = 0 by decide), pif_pos ⟨z0, Or.inr ⟨z2, z3⟩⟩]
        · rw [decide_eq_false z3, if_pos (show mr false = 0 by decide), pif_neg (fun q => q.2.elim z1 (fun u => z3 u.2))]
      · rw [decide_eq_false z2, if_pos (show mr false = 0 by decide), pif_neg (fun q => q.2.elim z1 (fun u => z2 u.1))]
    · rw [if_neg z0, pif_neg (fun q => z0 q.1)]
  rw [ef]
  unfold F_X45_choice_b54
  rw [hi3.pl, Option.bind_some, q2.v, Option.bind_some]
  by_cases gd : gdD cl xl j
  · left
    refine ⟨gd, ?_⟩
    obtain ⟨to, hto⟩ : ∃ to, to = (if xl = j then xl else wdk xl j) := ⟨_, rfl⟩
    have Lt : Lk to := by rw [hto]; split; exact hx; exact wdk_Lk hx hj
    rw [pif_pos gd, M_mustT q2, tb_l, gi_of e2.2.1 (show x_fi 49 3138 = true by decide), e2.2.2.2.2, Option.bind_some, Option.bind_some, y_wider hx hj, Option.bind_some, ← hto]
    have eto : (if xl = j then F_X45_choice_b86 N3 j C.v0 j b2 else F_X45_choice_b86 N3 (wdk xl j) C.v0 j b2) = F_X45_choice_b86 N3 to C.v0 j b2 := by
      rw [hto]
      by_cases z : xl = j
      · rw [if_pos z, if_pos z, z]
      · rw [if_neg z, if_neg z]
    rw [eto]
    unfold F_X45_choice_b86
    have ew3 : W3.eo.getD Ow.length 0 = w := by rw [q4, m4, n4]; exact hw
    have eg3 : W3.eo.getD (Ow.length + 1) 0 = g := by rw [q4, m4, n4]; exact hg
    obtain ⟨a1, a2, a3⟩ := M_pk (a := w) q2 ew3 xl
    have tw := (M_tag q2 ew3).1
    have f2 := e2.w48 (i := 3074) tw xl
    have tw' : m_tg (wI N3 w 3074 xl) w = 48 := tw
    have f3 := f2.w48 (i := 3076) tw' to
    obtain ⟨b1', b2', b3'⟩ := M_pto (a := w) a2 ew3 to
    rw [gr_of e2.2.1 (show x_fr 49 3136 = true by decide), e2.2.2.1, Option.bind_some, gi_of e2.2.1 (show x_fi 49 3138 = true by decide), e2.2.2.2.2, Option.bind_some, a1, Option.bind_some, gr_of f2.2.1 (show x_fr 49 3136 = true by decide), f2.2.2.1, Option.bind_some, b1', Option.bind_some, b2'.v, Option.bind_some]
    obtain ⟨N5, W5, x1, x2⟩ := OKs.widen (f := j) (t := to) b2' (by rw [List.length_append, List.length_cons, List.length_cons]; omega)
    have f5 := f3.fg x2.2.1.1 b2'.tg3
    obtain ⟨k1, k2, k3, k4⟩ := M_cntO x2.1
    rw [x1, Option.bind_some, gr_of f5.2.1 (show x_fr 49 3137 = true by decide), f5.2.2.2.1, Option.bind_some, k1, Option.bind_some, k2, Option.bind_some, k3, Option.bind_some, k4, Option.bind_some]
    have eO : Ow ++ (({ op := 5, k := xl, to := to } : Mo) :: (({ op := 16 } : Mo) :: Oz)) ++ wdn j to = (Ow ++ [({ op := 5, k := xl, to := to } : Mo)]) ++ (({ op := 16 } : Mo) :: (Oz ++ wdn j to)) := by simp only [List.append_assoc, List.cons_append, List.nil_append]
    have x2a : MeG C N5 W5 P ((Ow ++ [({ op := 5, k := xl, to := to } : Mo)]) ++ (({ op := 16 } : Mo) :: (Oz ++ wdn j to))) := by rw [← eO]; exact x2.1
    have lO : (Ow ++ (({ op := 5, k := xl, to := to } : Mo) :: (({ op := 16 } : Mo) :: Oz)) ++ wdn j to).length = Ow.length + 2 + (Oz ++ wdn j to).length := by simp only [List.length_append, List.length_cons]; omega
    obtain ⟨fs, hfs⟩ := x2.2.2.1
    have eg5 : W5.eo.getD (Ow ++ [({ op := 5, k := xl, to := to } : Mo)]).length 0 = g := by
      rw [hfs, List.length_append, List.length_singleton, getD_l (by rw [q4, m4, n4]; omega)]
      exact eg3
    obtain ⟨y1, y2, y3⟩ := M_pjp (a := g) x2a eg5 (iw ((Ow.length + 2 + (Oz ++ wdn j to).length : Nat) : Int))
    have y1' : pi N5 g 3078 (iw (((Ow ++ (({ op := 5, k := xl, to := to } : Mo) :: (({ op := 16 } : Mo) :: Oz)) ++ wdn j to).length : Nat) : Int)) = some (wI N5 g 3078 (iw ((Ow.length + 2 + (Oz ++ wdn j to).length : Nat) : Int))) := by rw [lO]; exact y1
    rw [show pi N5 g 3078 _ = _ from y1', Option.bind_some, y2.v, Option.bind_some]
    obtain ⟨N6, W6, z1, z2, z3, z4, z5⟩ := M_giveS Lt y2 hP
    rw [z1, Option.bind_some]
    refine ⟨N6, W6, rfl, ?_, ?_, ⟨fs, by rw [z4, hfs, q4, m4, n4]⟩, by rw [z5, x2.2.2.2, q5]⟩
    · simpa only [List.append_assoc, List.cons_append, List.nil_append] using z2
    · exact ((((((RL.of r3).trans a3).trans b3').trans (RL.of x2.2.1)).trans (y3.le wg)).trans (RL.of z3)).mono (by omega)
  · right
    refine ⟨gd, ?_⟩
    rw [pif_neg gd, M_mustF q2]
    exact ⟨N3, W3, _, _, rfl, q2, r3.mono (by omega)⟩
end
