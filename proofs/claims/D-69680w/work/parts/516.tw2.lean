/-! ===== TABLES, 2: the model reads a word ===== -/
/-- a word at a place: where it is wrong, or what it means, whether it stands in marks, its end -/
def wrd (f : Nat → Int32) (n a : Nat) : Nat ⊕ (List Int32 × Bool × Nat) :=
  if isC f n a 34 = true then (match qtd f n (n - a) (a + 1) [] with
    | .inl p => .inl p
    | .inr q => .inr (q.1, true, q.2))
  else .inr (sgs f a (unq f n (n - a) a - a), false, unq f n (n - a) a)
/-- the model's reader at o stands at a -/
def TR (M : Mem) (o : Nat) (f : Nat → Int32) (n a : Nat) : Prop := o < m_nx M ∧ m_tg M o = 54 ∧ cR M o 3456 = 1075 ∧ cR M o 3457 = 1069 ∧ cI M o 3458 = iw (n : Int) ∧ n ≤ 16000 ∧ cI M o 3459 = iw (a : Int) ∧ a ≤ n ∧ ST M ∧ (∀ i, i < n → cI M 1069 i = f i ∧ bt (f i)) ∧ 1334 ≤ o
theorem fit_3459 (v : Int32) : x_fit (x_ft 3459) v = true := rfl
theorem bt_ch {x : Int32} (h : bt x) {c : Nat} (hc : c < 128) : x = iw (c : Int) ↔ bn x = c := by
  unfold bt at h
  unfold bn
  have hu := ui_int x
  constructor
  · intro q
    have : x.toInt = c := by rw [q, iw_toInt (by omega) (by omega)]
    omega
  · intro q
    have : x.toInt = c := by omega
    rw [← iw_of x, this]
theorem bt_lo {x : Int32} (h : bt x) : x < 32 ↔ ¬ (32 ≤ bn x ∧ bn x ≤ 127) := by
  unfold bt at h
  unfold bn
  have hu := ui_int x
  rw [Int32.lt_iff_toInt_lt, show (32 : Int32).toInt = 32 from rfl]
  omega
theorem bt_hi {x : Int32} (h : bt x) (h2 : ¬ x < 32) : (126 : Int32) < x ↔ ¬ bn x ≤ 126 := by
  rw [Int32.lt_iff_toInt_lt, show (32 : Int32).toInt = 32 from rfl] at h2
  unfold bt at h
  unfold bn
  have hu := ui_int x
  rw [Int32.lt_iff_toInt_lt, show (126 : Int32).toInt = 126 from rfl]
  omega
theorem bt_asc {x : Int32} (h : bt x) (h2 : bn x ≤ 126) : asc x := ⟨bn x, by omega, (bt_ch h (by omega)).mpr rfl⟩
section
variable {M0 M : Mem} {o s n a : Nat} {f : Nat → Int32} {x : List Int32}
theorem TR.gn (t : TR M o f n a) : gi M o 3459 = some (iw (a : Int)) := by rw [gi_of t.2.1 (show x_fi 54 3459 = true by decide), t.2.2.2.2.2.2.1]
theorem TR.gs (t : TR M o f n a) : gi M o 3458 = some (iw (n : Int)) := by rw [gi_of t.2.1 (show x_fi 54 3458 = true by decide), t.2.2.2.2.1]
theorem TR.gt (t : TR M o f n a) : gr M o 3457 = some 1069 := by rw [gr_of t.2.1 (show x_fr 54 3457 = true by decide), t.2.2.2.1]
theorem TR.vg (t : TR M o f n a) : vg M o 54 = some () := vg_of t.2.1 (by decide)
theorem TR.ab (t : TR M o f n a) (c : a < n) : ab M 1069 (iw (a : Int)) = some (f a) := by
  obtain ⟨t1, t2, t3, t4, t5, t6, t7, t8, t9, t10, t11⟩ := t
  rw [ab_of (Or.inr (Or.inl (t1069 t9))) (l1069 t9) (show a < 16000 by omega) (by decide), (t10 a c).1]
theorem TR.bt (t : TR M o f n a) (c : a < n) : bt (f a) := (t.2.2.2.2.2.2.2.2.2.1 a c).2
theorem M_tis (t : TR M o f n a) {c : Nat} (hc : c < 128) : F_X53_is M o (iw (c : Int)) = some (mr (isC f n a c)) := by
  have h1 := t.2.2.2.2.2.1
  have h2 := t.2.2.2.2.2.2.2.1
  unfold F_X53_is F_X53_is_b28 F_X53_is_b29
  simp only [t.gn, t.gs, t.gt, Option.bind_some]
  by_cases k : a < n
  · rw [if_pos (by rw [iw_le4 (by omega) (by omega)]; exact k), t.ab k]
    simp only [Option.bind_some]
    by_cases k2 : isC f n a c = true
    · rw [if_pos ((bt_ch (t.bt k) hc).mpr (isC_t.mp k2).2), k2]
      rfl
    · rw [if_neg (fun q => k2 (isC_t.mpr ⟨k, (bt_ch (t.bt k) hc).mp q⟩)), Bool.eq_false_iff.mpr k2]
      rfl
  · rw [if_neg (by rw [iw_le4 (by omega) (by omega)]; exact k), show isC f n a c = false from Bool.eq_false_iff.mpr (fun q => k (isC_t.mp q).1)]
    rfl
theorem TR.df {P Q R : Nat → Nat → Prop} {N : Mem} (t : TR M o f n a) (d : Df P Q R M N) (hS : ST N) (h1 : ∀ i, ¬ R o i) (h2 : ∀ i, ¬ P o i) (h3 : ∀ i, ¬ P 1069 i) : TR N o f n a := by
  obtain ⟨t1, t2, t3, t4, t5, t6, t7, t8, t9, t10, t11⟩ := t
  have nn := d.1
  exact ⟨by omega, (d.2.2 o t1).1.trans t2, by rw [d.cR t1 (h1 _)]; exact t3, by rw [d.cR t1 (h1 _)]; exact t4, by rw [d.cI t1 (h2 _)]; exact t5, t6, by rw [d.cI t1 (h2 _)]; exact t7, t8, hS, fun i hi => by rw [d.cI (by omega) (h3 i)]; exact t10 i hi, t11⟩
end
/-- only the reader's own places have changed -/
def pO (o : Nat) : Nat → Nat → Prop := fun y i => y = o ∧ (i = 3459 ∨ i = 3460)
/-- a word is being read: the builder s holds x -/
def WI (M0 M : Mem) (o s : Nat) (f : Nat → Int32) (n a : Nat) (x : List Int32) : Prop := TR M o f n a ∧ ST M0 ∧ m_nx M0 ≤ s ∧ o < m_nx M0 ∧ 1334 ≤ m_nx M0 ∧ Df (pO o) n2 n2 M0 M ∧
  ∃ ds c, BD M s ds c x ∧ m_nx M0 ≤ ds ∧ c ≤ 16 + 2 * x.length ∧ m_nx M + 16 ≤ m_nx M0 + 2 + c ∧ m_sl M + 32 ≤ m_sl M0 + 16 + x_cn 75 + 2 * c
theorem WI.app {M0 M : Mem} {o s n a : Nat} {f : Nat → Int32} {x : List Int32} {v : Int32} (w : WI M0 M o s f n a x) (hv : asc v) (hl : x.length ≤ 60000) : ∃ M', F_J14_append M s v = some (s, M') ∧ WI M0 M' o s f n a (x ++ [v]) ∧ cI M' o 3460 = cI M o 3460 ∧ vg M s 75 = some () := by
  obtain ⟨t, hS, h1, h2, h3, d, ds, c, b, b1, b2, b3, b4⟩ := w
  have nn := d.1
  obtain ⟨M', ds', c', f1, f2, f3, f4, f5, f6, f7, f8⟩ := b.app hv (by omega) (by omega)
  have d' : Df (pO o) n2 n2 M0 M' := d.then f4 (fun y i hy q => by omega) (fun _ _ _ q => q) (fun y i hy q => by unfold at1 at q; omega)
  have hl' : (x ++ [v]).length = x.length + 1 := by rw [List.length_append, List.length_singleton]
  have hlen := b.2.2.2.2.2.2.2.2.2.2.1
  refine ⟨M', f1, ⟨t.df f4 (hS.n d') (fun i q => by unfold at1 at q; omega) (fun i q => by omega) (fun i q => by omega), hS, h1, h2, h3, d', ds', c', f2, by omega, by omega, by omega, by omega⟩, f4.cI (by omega) (by omega), vg_of b.2.1 (by decide)⟩
theorem WI.go {M0 M : Mem} {o s n a : Nat} {f : Nat → Int32} {x : List Int32} (w : WI M0 M o s f n a x) (c : a < n) : ∃ M', pi M o 3459 (iw (a : Int) + 1) = some M' ∧ WI M0 M' o s f n (a + 1) x ∧ cI M' o 3460 = cI M o 3460 := by
  obtain ⟨t, hS, h1, h2, h3, d, ds, cc, b, b1, b2, b3, b4⟩ := w
  obtain ⟨t1, t2, t3, t4, t5, t6, t7, t8, t9, t10, t11⟩ := t
  obtain ⟨A, hA⟩ : ∃ A, A = wI M o 3459 (iw ((a + 1 : Nat) : Int)) := ⟨_, rfl⟩
  have dA : Df (pO o) n2 n2 M A := by rw [hA]; exact Df.wI _ ⟨rfl, Or.inl rfl⟩
  have cA : ∀ y i, ¬ (y = o ∧ i = 3459) → cI A y i = cI M y i := fun y i h => by rw [hA, cI_wI, if_neg (by omega)]
  refine ⟨A, by rw [iw_succ, pi_of _ t2 (show x_wi 54 3459 = true by decide) (fit_3459 _), ← hA], ⟨⟨by rw [hA]; exact t1, by rw [hA]; exact t2, by rw [hA]; exact t3, by rw [hA]; exact t4, by rw [cA _ _ (by omega)]; exact t5, t6, by rw [hA, cI_wI, if_pos ⟨rfl, rfl⟩], by omega, by rw [hA]; exact t9, fun i hi => by rw [cA _ _ (by omega)]; exact t10 i hi, t11⟩, hS, h1, h2, h3, d.trans dA, ds, cc, b.df dA (fun i q => by have := q.1; omega) (fun i q => by have := q.1; omega) (fun q => q), b1, b2, by rw [hA]; exact b3, by rw [hA]; exact b4⟩, cA _ _ (by omega)⟩
/-- a word without marks -/
theorem M_unq {M0 : Mem} {f : Nat → Int32} {n o s : Nat} : ∀ (e N a : Nat) (x : List Int32) (M : Mem), n ≤ a + e → x.length ≤ a → WI M0 M o s f n a x → ∃ M', F_X53_word_b25 (N + 1 + e) M o s = F_X53_word_b120 M' s ∧ WI M0 M' o s f n (unq f n e a) (x ++ sgs f a (unq f n e a - a)) ∧ cI M' o 3460 = cI M o 3460
  | 0, N, a, x, M, he, hx, w => by
    have t := w.1
    have h1 := t.2.2.2.2.2.1
    have h2 := t.2.2.2.2.2.2.2.1
    refine ⟨M, ?_, ?_, rfl⟩
    · show F_X53_word_b25_st (F_X53_word_b25 N) M o s = _
      unfold F_X53_word_b25_st
      simp only [t.gn, t.gs, Option.bind_some]
      rw [if_neg (by rw [iw_le4 (by omega) (by omega)]; omega)]
    · have : unq f n 0 a = a := rfl
      rw [this, Nat.sub_self]
      show WI M0 M o s f n a (x ++ [])
      rw [List.append_nil]
      exact w
  | e + 1, N, a, x, M, he, hx, w => by
    have t := w.1
    have h1 := t.2.2.2.2.2.1
    have h2 := t.2.2.2.2.2.2.2.1
    have hs : F_X53_word_b25 (N + 1 + (e + 1)) M o s = F_X53_word_b25_st (F_X53_word_b25 (N + 1 + e)) M o s := rfl
    have e0 : unq f n (e + 1) a = if uch f n a = true then unq f n e (a + 1) else a := rfl
    have stop : uch f n a ≠ true → F_X53_word_b25 (N + 1 + (e + 1)) M o s = F_X53_word_b120 M s → ∃ M', F_X53_word_b25 (N + 1 + (e + 1)) M o s = F_X53_word_b120 M' s ∧ WI M0 M' o s f n (unq f n (e + 1) a) (x ++ sgs f a (unq f n (e + 1) a - a)) ∧ cI M' o 3460 = cI M o 3460 := fun h1 h2 => by
      refine ⟨M, h2, ?_, rfl⟩
      rw [e0, if_neg h1, Nat.sub_self]
      show WI M0 M o s f n a (x ++ [])
      rw [List.append_nil]
      exact w
    by_cases c : a < n
    · have hc : (iw (a : Int) < iw (n : Int)) := by rw [iw_le4 (by omega) (by omega)]; exact c
      have tb := t.bt c
      by_cases c1 : f a < 32
      · refine stop (fun q => ?_) ?_
        · have := tch_t.mp ((Bool.and_eq_true _ _).mp q).1
          exact (bt_lo tb).mp c1 ⟨this.2.1, by omega⟩
        · rw [hs]
          unfold F_X53_word_b25_st
          simp only [t.gn, t.gs, t.gt, t.ab c, hc, c1, if_true, Option.bind_some]
      · have c1' : 32 ≤ bn (f a) ∧ bn (f a) ≤ 127 := Classical.byContradiction (fun q => c1 ((bt_lo tb).mpr q))
        by_cases c2 : (126 : Int32) < f a
        · refine stop (fun q => (bt_hi tb c1).mp c2 (tch_t.mp ((Bool.and_eq_true _ _).mp q).1).2.2) ?_
          rw [hs]
          unfold F_X53_word_b25_st
          simp only [t.gn, t.gs, t.gt, t.ab c, hc, c1, c2, if_true, if_false, Option.bind_some]
        · have c2' : bn (f a) ≤ 126 := Classical.byContradiction (fun q => c2 ((bt_hi tb c1).mpr q))
          have i34 : f a = 34 ↔ isC f n a 34 = true := (bt_ch tb (c := 34) (by decide)).trans ⟨fun q => isC_t.mpr ⟨c, q⟩, fun q => (isC_t.mp q).2⟩
          have i44 : f a = 44 ↔ isC f n a 44 = true := (bt_ch tb (c := 44) (by decide)).trans ⟨fun q => isC_t.mpr ⟨c, q⟩, fun q => (isC_t.mp q).2⟩
          by_cases c3 : f a = 34
          · refine stop (fun q => ?_) ?_
            · have := ((Bool.and_eq_true _ _).mp ((Bool.and_eq_true _ _).mp q).2).1
              rw [i34.mp c3] at this
              cases this
            · rw [hs]
              unfold F_X53_word_b25_st
              simp only [t.gn, t.gs, t.gt, t.ab c, hc, if_true, Option.bind_some]
              rw [if_neg c1, if_neg c2, if_pos c3]
          · by_cases c4 : f a = 44
            · refine stop (fun q => ?_) ?_
              · have := ((Bool.and_eq_true _ _).mp ((Bool.and_eq_true _ _).mp q).2).2
                rw [i44.mp c4] at this
                cases this
              · rw [hs]
                unfold F_X53_word_b25_st
                simp only [t.gn, t.gs, t.gt, t.ab c, hc, if_true, Option.bind_some]
                rw [if_neg c1, if_neg c2, if_neg c3, if_pos c4]
            · have hu : uch f n a = true := by
                have k3 : isC f n a 34 = false := Bool.eq_false_iff.mpr (fun q => c3 (i34.mpr q))
                have k4 : isC f n a 44 = false := Bool.eq_false_iff.mpr (fun q => c4 (i44.mpr q))
                unfold uch
                rw [k3, k4, tch_t.mpr ⟨c, c1'.1, c2'⟩]
                rfl
              have ha := bt_asc tb c2'
              obtain ⟨M1, m1, m2, m3, m4⟩ := w.app ha (by omega)
              obtain ⟨M2, p1, p2, p3⟩ := m2.go c
              have hl' : (x ++ [f a]).length = x.length + 1 := by rw [List.length_append, List.length_singleton]
              obtain ⟨M', f1, f2, f3⟩ := M_unq e N (a + 1) (x ++ [f a]) M2 (by omega) (by omega) p2
              refine ⟨M', ?_, ?_, f3.trans (p3.trans m3)⟩
              · rw [hs]
                unfold F_X53_word_b25_st
                simp only [t.gn, t.gs, t.gt, t.ab c, hc, if_true, Option.bind_some]
                rw [if_neg c1, if_neg c2, if_neg c3, if_neg c4, m4, ha.ok.2.1, m1]
                simp only [m2.1.gn, p1, Option.bind_some]
                exact f1
              · have k := unq_le (f := f) (n := n) e (a + 1)
                rw [e0, if_pos hu, show unq f n e (a + 1) - a = (unq f n e (a + 1) - (a + 1)) + 1 by omega, sgs_s]
                rw [List.append_assoc] at f2
                exact f2
    · refine stop (fun q => c (tch_t.mp ((Bool.and_eq_true _ _).mp q).1).1) ?_
      rw [hs]
      unfold F_X53_word_b25_st
      simp only [t.gn, t.gs, Option.bind_some]
      rw [if_neg (by rw [iw_le4 (by omega) (by omega)]; omega)]
