/-! ===== VIEWS, 10: the model's scanning ===== -/
def TM (M0 M : Mem) (o L : Nat) (f : Nat → Int32) (n a : Nat) : Prop := ST M ∧ Df (at1 1075) n2 n2 M0 M ∧ m_nx M0 ≤ o ∧ o < m_nx M ∧ m_tg M o = 26 ∧ cR M o 1664 = 1075 ∧ cR M o 1665 = 1069 ∧ cI M o 1666 = iw (n : Int) ∧ n ≤ 16000 ∧ cI M o 1667 = iw (a : Int) ∧ a ≤ n ∧ cR M o 1668 = L ∧ (∀ i, i < n → cI M 1069 i = f i ∧ bt (f i)) ∧ 1334 ≤ m_nx M0
def SM (M M' : Mem) (o a : Nat) : Prop := ST M' ∧ Df (fun x i => x = o ∧ i = 1667) n2 n2 M M' ∧ cI M' o 1667 = iw (a : Int) ∧ m_nx M' = m_nx M ∧ m_sl M' = m_sl M
theorem SM.tm {M0 M M' : Mem} {o L : Nat} {f : Nat → Int32} {n a b : Nat} (s : SM M M' o b) (t : TM M0 M o L f n a) (hb : b ≤ n) : TM M0 M' o L f n b := by
  obtain ⟨t1, t2, t3, t4, t5, t6, t7, t8, t9, t10, t11, t12, t13, t14⟩ := t
  have d := s.2.1.2.2 o t4
  have hn := t2.1
  exact ⟨s.1, Df.then t2 s.2.1 (fun x i hx q => by omega) (fun _ _ _ q => q) (fun _ _ _ q => q), t3, by rw [s.2.2.2.1]; exact t4, d.1.trans t5, by rw [s.2.1.cR t4 (fun q => q)]; exact t6, by rw [s.2.1.cR t4 (fun q => q)]; exact t7, by rw [s.2.1.cI t4 (by omega)]; exact t8, t9, s.2.2.1, hb, by rw [s.2.1.cR t4 (fun q => q)]; exact t12, fun i hi => by rw [s.2.1.cI (by omega) (by omega)]; exact t13 i hi, t14⟩
theorem SM.trans {M M' M'' : Mem} {o a b : Nat} (s : SM M M' o a) (t : SM M' M'' o b) : SM M M'' o b := ⟨t.1, s.2.1.trans t.2.1, t.2.2.1, t.2.2.2.1.trans s.2.2.2.1, t.2.2.2.2.trans s.2.2.2.2⟩
theorem SM.refl {M0 M : Mem} {o L : Nat} {f : Nat → Int32} {n a : Nat} (t : TM M0 M o L f n a) : SM M M o a := ⟨t.1, Df.refl _ _ _ _, t.2.2.2.2.2.2.2.2.2.1, rfl, rfl⟩
theorem SM.w {M : Mem} {o : Nat} (h : ST M) (a : Nat) : SM M (wI M o 1667 (iw (a : Int))) o a := ⟨h, Df.wI _ ⟨rfl, rfl⟩, by rw [cI_wI, if_pos ⟨rfl, rfl⟩], rfl, rfl⟩
theorem TM.fs {M0 M : Mem} {o L : Nat} {f : Nat → Int32} {n a : Nat} (t : TM M0 M o L f n a) : vg M o 26 = some () ∧ gi M o 1667 = some (iw (a : Int)) ∧ gi M o 1666 = some (iw (n : Int)) ∧ gr M o 1665 = some 1069 ∧ gr M o 1664 = some 1075 ∧ gr M o 1668 = some L ∧ ∀ v, pi M o 1667 v = some (wI M o 1667 v) := by
  obtain ⟨t1, t2, t3, t4, t5, t6, t7, t8, t9, t10, t11, t12, t13, t14⟩ := t
  exact ⟨vg_of t5 (by decide), by rw [gi_of t5 (by decide), t10], by rw [gi_of t5 (by decide), t8], by rw [gr_of t5 (by decide), t7], by rw [gr_of t5 (by decide), t6], by rw [gr_of t5 (by decide), t12], fun v => pi_of v t5 (by decide) rfl⟩
theorem TM.ab {M0 M : Mem} {o L : Nat} {f : Nat → Int32} {n a : Nat} (t : TM M0 M o L f n a) (h : a < n) : ab M 1069 (iw (a : Int)) = some (f a) := by
  obtain ⟨t1, t2, t3, t4, t5, t6, t7, t8, t9, t10, t11, t12, t13, t14⟩ := t
  rw [ab_of (Or.inr (Or.inl (t1069 t1))) (l1069 t1) (by omega) (by decide), (t13 a h).1]
theorem M_is {M0 M : Mem} {o L : Nat} {f : Nat → Int32} {n a c : Nat} (t : TM M0 M o L f n a) (hc : c ≤ 127) : F_X25_is M o (iw (c : Int)) = some (mr (isC f n a c)) := by
  obtain ⟨f1, f2, f3, f4, f5, f6, f7⟩ := t.fs
  have ht := t.2.2.2.2.2.2.2.2.1
  have ha := t.2.2.2.2.2.2.2.2.2.2.1
  unfold F_X25_is F_X25_is_b28 F_X25_is_b29 isC
  simp only [f2, f3, Option.bind_some]
  by_cases h : a < n
  · rw [if_pos (by rw [iw_le4 (by omega) (by omega)]; exact h), f4]
    simp only [Option.bind_some, t.ab h]
    have hb := t.2.2.2.2.2.2.2.2.2.2.2.2.1 a h
    have q := bt_is hb.2 hc
    by_cases d : bn (f a) = c
    · rw [if_pos (q.mpr d), decide_eq_true ⟨h, d⟩]; rfl
    · rw [if_neg (fun hh => d (q.mp hh)), decide_eq_false (fun x => d x.2)]; rfl
  · rw [if_neg (by rw [iw_le4 (by omega) (by omega)]; exact h), decide_eq_false (fun x => h x.1)]; rfl
theorem M_isD {M0 M : Mem} {o L : Nat} {f : Nat → Int32} {n a : Nat} (t : TM M0 M o L f n a) : F_X25_isDigit M o = some (mr (isD f n a)) := by
  obtain ⟨f1, f2, f3, f4, f5, f6, f7⟩ := t.fs
  have ht := t.2.2.2.2.2.2.2.2.1
  have ha := t.2.2.2.2.2.2.2.2.2.2.1
  unfold F_X25_isDigit F_X25_isDigit_b43 F_X25_isDigit_b44 isD
  simp only [f2, f3, Option.bind_some]
  by_cases h : a < n
  · rw [if_pos (by rw [iw_le4 (by omega) (by omega)]; exact h), f4]
    simp only [Option.bind_some, t.ab h]
    have hb := (t.2.2.2.2.2.2.2.2.2.2.2.2.1 a h).2
    have h2 := bt_bn hb
    have q1 : f a < 48 ↔ ¬ (48 ≤ bn (f a) ∧ bn (f a) ≤ 127) := by
      rw [Int32.lt_iff_toInt_lt, show (48 : Int32).toInt = 48 from rfl]
      unfold bt at hb
      omega
    have q2 : 57 < f a ↔ (57 < bn (f a) ∧ bn (f a) ≤ 127) := by
      rw [Int32.lt_iff_toInt_lt, show (57 : Int32).toInt = 57 from rfl]
      unfold bt at hb
      omega
    by_cases c1 : f a < 48
    · rw [if_pos c1, decide_eq_false (fun x => q1.mp c1 ⟨x.2.1, by omega⟩)]; rfl
    · rw [if_neg c1]
      have c1' := Classical.not_not.mp (fun x => c1 (q1.mpr x))
      by_cases c2 : 57 < f a
      · have := q2.mp c2
        rw [if_pos c2, decide_eq_false (fun x => by omega)]; rfl
      · have c2' : ¬ (57 < bn (f a) ∧ bn (f a) ≤ 127) := fun x => c2 (q2.mpr x)
        rw [if_neg c2, decide_eq_true ⟨h, c1'.1, by omega⟩]; rfl
  · rw [if_neg (by rw [iw_le4 (by omega) (by omega)]; exact h), decide_eq_false (fun x => h x.1)]; rfl
theorem M_bl_l {M0 : Mem} {o L : Nat} {f : Nat → Int32} {n : Nat} : ∀ (e N a : Nat) (M : Mem), n ≤ a + e → TM M0 M o L f n a → ∃ M', F_X25_blanks_b0 (N + 1 + e) M o = some M' ∧ SM M M' o (skp f n e a)
  | 0, N, a, M, he, t => by
    obtain ⟨f1, f2, f3, f4, f5, f6, f7⟩ := t.fs
    have ht := t.2.2.2.2.2.2.2.2.1
    have ha := t.2.2.2.2.2.2.2.2.2.2.1
    refine ⟨M, ?_, SM.refl t⟩
    show F_X25_blanks_b0_st (F_X25_blanks_b0 N) M o = _
    unfold F_X25_blanks_b0_st F_X25_blanks_b38
    simp only [f2, f3, Option.bind_some]
    rw [if_neg (by rw [iw_le4 (by omega) (by omega)]; omega)]
  | e + 1, N, a, M, he, t => by
    obtain ⟨f1, f2, f3, f4, f5, f6, f7⟩ := t.fs
    have ht := t.2.2.2.2.2.2.2.2.1
    have ha := t.2.2.2.2.2.2.2.2.2.2.1
    have hs : F_X25_blanks_b0 (N + 1 + (e + 1)) M o = F_X25_blanks_b0_st (F_X25_blanks_b0 (N + 1 + e)) M o := rfl
    have e0 : skp f n (e + 1) a = if isC f n a 32 = true then skp f n e (a + 1) else a := rfl
    rw [hs, e0]
    unfold F_X25_blanks_b0_st F_X25_blanks_b38
    simp only [f2, f3, Option.bind_some]
    by_cases h : a < n
    · rw [if_pos (by rw [iw_le4 (by omega) (by omega)]; exact h), f4]
      simp only [Option.bind_some, t.ab h]
      have q : f a = 32 ↔ bn (f a) = 32 := bt_is (t.2.2.2.2.2.2.2.2.2.2.2.2.1 a h).2 (c := 32) (by decide)
      by_cases c : isC f n a 32 = true
      · rw [if_pos (q.mpr (isC_t.mp c).2), if_pos c, f7, iw_succ]
        simp only [Option.bind_some]
        have s := SM.w (o := o) t.1 (a + 1)
        obtain ⟨M', y1, y2⟩ := M_bl_l e N (a + 1) _ (by omega) (s.tm t (by omega))
        exact ⟨M', y1, s.trans y2⟩
      · rw [if_neg (fun hh => c (isC_t.mpr ⟨h, q.mp hh⟩)), if_neg c]
        exact ⟨M, rfl, SM.refl t⟩
    · rw [if_neg (by rw [iw_le4 (by omega) (by omega)]; exact h), if_neg (fun c => h (isC_t.mp c).1)]
      exact ⟨M, rfl, SM.refl t⟩
theorem M_blanks {M0 M : Mem} {o L : Nat} {f : Nat → Int32} {n a : Nat} (t : TM M0 M o L f n a) : ∃ M', F_X25_blanks M o = some M' ∧ SM M M' o (skpa f n a) := by
  have hxN : xN = 1099511627776 := rfl
  have := t.2.2.2.2.2.2.2.2.1
  obtain ⟨N, hN⟩ : ∃ N, N + 1 + (n - a) = xN := ⟨xN - 1 - (n - a), by omega⟩
  unfold F_X25_blanks skpa
  rw [← hN]
  exact M_bl_l (n - a) N a M (by omega) t
/-- the model stopped -/
def MFv (M0 M M' : Mem) (p : Nat) : Prop := ST M' ∧ Df (at1 1075) n2 n2 M0 M' ∧ m_nx M' ≤ m_nx M + 1 ∧ m_sl M' ≤ m_sl M + 20 ∧ cI M' 1075 1153 = iw (p : Int)
theorem M_verr {α : Type} {M : Mem} (h : ST M) (x : Int32) : ((F_X17_at M 1075 1 x).bind fun z => (ie z.2 z.1).bind fun _ => (some (.inr (z.1, z.2)) : Option (α ⊕ (Nat × Mem)))) = some (.inr (m_nx M, mT M 1 x)) := by
  have t : m_tg (mT M 1 x) (m_nx M) = 64 := by
    show m_tg (m_new (wI (wI M 1075 1152 1) 1075 1153 x) 64 (x_cn 64)) (m_nx M) = 64
    exact tg_new.trans (if_pos rfl)
  rw [M_at h, Option.bind_some]
  show (ie (mT M 1 x) (m_nx M)).bind _ = _
  unfold ie
  rw [if_pos t]
  rfl
theorem mT_at1 (M : Mem) (c p : Int32) : Df (at1 1075) n2 n2 M (mT M c p) := ((Df.wI (P := at1 1075) (Q := n2) (R := n2) (M := M) (a := 1075) (i := 1152) c rfl).trans (Df.wI (P := at1 1075) (Q := n2) (R := n2) (a := 1075) (i := 1153) p rfl)).trans (Df.new (P := at1 1075) (Q := n2) (R := n2) 64 (x_cn 64))
theorem TM.fail {M0 M : Mem} {o L : Nat} {f : Nat → Int32} {n a : Nat} (t : TM M0 M o L f n a) (p : Nat) : MFv M0 M (mT M 1 (iw (p : Int))) p := by
  obtain ⟨q1, q2⟩ := mT_nx M 1 (iw (p : Int))
  exact ⟨t.1.df (mT_at1 _ _ _) n2_st, t.2.1.trans (mT_at1 _ _ _), by omega, q2, (mT_c 1 _ t.1.1).2⟩
theorem SM.mf {M0 M M' M'' : Mem} {o a p : Nat} (s : SM M M' o a) (v : MFv M0 M' M'' p) : MFv M0 M M'' p := ⟨v.1, v.2.1, by rw [← s.2.2.2.1]; exact v.2.2.1, by rw [← s.2.2.2.2]; exact v.2.2.2.1, v.2.2.2.2⟩
theorem M_vdg {M0 : Mem} {o L : Nat} {f : Nat → Int32} {n : Nat} {s : Int32} : ∀ (r N : Nat) (v : Int) (a : Nat) (M : Mem), r ≤ 9 → TM M0 M o L f n a →
    (∀ p, vdg f n r v a = .inl p → ∃ x M', F_X25_number_b45 (N + 1 + r) M o s (iw v) (iw ((9 - r : Nat) : Int)) = some (.inr (x, M')) ∧ MFv M0 M M' p) ∧
    (∀ x b, vdg f n r v a = .inr (x, b) → ∃ M', F_X25_number_b45 (N + 1 + r) M o s (iw v) (iw ((9 - r : Nat) : Int)) = some (.inl (if s = 0 then iw x else -(iw x), M')) ∧ SM M M' o (skpa f n b)) := by
  intro r
  induction r with
  | zero =>
    intro N v a M hr t
    obtain ⟨f1, f2, f3, f4, f5, f6, f7⟩ := t.fs
    have e : vdg f n 0 v a = if isD f n a = true then .inl a else .inr (v, a) := rfl
    rw [e]
    have st : ∀ y, F_X25_number_b45 (N + 1 + 0) M o s (iw v) (iw ((9 - 0 : Nat) : Int)) = y ↔ F_X25_number_b45_st (F_X25_number_b45 N) M o s (iw v) (iw ((9 - 0 : Nat) : Int)) = y := fun y => Iff.rfl
    by_cases c : isD f n a = true
    · rw [if_pos c]
      refine ⟨fun p hp => ?_, fun x b h => by cases h⟩
      cases hp
      refine ⟨m_nx M, _, ?_, t.fail a⟩
      rw [st]
      unfold F_X25_number_b45_st
      simp only [f1, M_isD t, c, show ¬ mr true = 0 by decide, Option.bind_some, if_false]
      rw [if_pos (by decide)]
      simp only [f5, f2, v1075, t.1, Option.bind_some]
      exact M_verr t.1 _
    · rw [if_neg c]
      refine ⟨fun p hp => (by cases hp), fun x b h => ?_⟩
      cases h
      obtain ⟨M', k1, k2⟩ := M_blanks t
      refine ⟨M', ?_, k2⟩
      rw [st]
      unfold F_X25_number_b45_st F_X25_number_b119
      simp only [f1, M_isD t, eq_false_of_ne_true c, show mr false = 0 by decide, k1, Option.bind_some, if_true]
      by_cases cs : s = 0
      · rw [if_pos cs, if_pos cs]
      · rw [if_neg cs, if_neg cs]
  | succ r ih =>
    intro N v a M hr t
    obtain ⟨f1, f2, f3, f4, f5, f6, f7⟩ := t.fs
    have e : vdg f n (r + 1) v a = if isD f n a = true then vdg f n r (10 * v + ((bn (f a) : Int) - 48)) (a + 1) else .inr (v, a) := rfl
    rw [e]
    have st : ∀ y, F_X25_number_b45 (N + 1 + (r + 1)) M o s (iw v) (iw ((9 - (r + 1) : Nat) : Int)) = y ↔ F_X25_number_b45_st (F_X25_number_b45 (N + 1 + r)) M o s (iw v) (iw ((9 - (r + 1) : Nat) : Int)) = y := fun y => Iff.rfl
    by_cases c : isD f n a = true
    · obtain ⟨d1, d2, d3⟩ := isD_t.mp c
      have hl : f a = iw (bn (f a) : Nat) := bt_eq (t.2.2.2.2.2.2.2.2.2.2.2.2.1 a d1).2 (by omega)
      have sw := SM.w (o := o) t.1 (a + 1)
      have tt := sw.tm t (by omega)
      have hd : F_X25_number_b45 (N + 1 + (r + 1)) M o s (iw v) (iw ((9 - (r + 1) : Nat) : Int)) = F_X25_number_b45 (N + 1 + r) (wI M o 1667 (iw ((a + 1 : Nat) : Int))) o s (iw (10 * v + ((bn (f a) : Int) - 48))) (iw ((9 - r : Nat) : Int)) := by
        rw [st]
        unfold F_X25_number_b45_st
        simp only [f1, M_isD t, c, show ¬ mr true = 0 by decide, Option.bind_some, if_false]
        rw [if_neg (by rw [show (9 : Int32) = iw ((9 : Nat) : Int) from rfl, iw_eq (by omega) (by omega) (by omega) (by omega)]; omega)]
        simp only [f2, f4, f7, t.ab d1, Option.bind_some, iw_succ]
        rw [hl, show (10 : Int32) = iw 10 from rfl, iw_mul, iw_add, show (48 : Int32) = iw 48 from rfl, iw_sub, show 9 - (r + 1) + 1 = 9 - r by omega, ← hl, show 10 * v + ((bn (f a) : Nat) : Int) - 48 = 10 * v + ((bn (f a) : Int) - 48) by omega]
      rw [if_pos c, hd]
      obtain ⟨i1, i2⟩ := ih N (10 * v + ((bn (f a) : Int) - 48)) (a + 1) _ (by omega) tt
      refine ⟨fun p hp => ?_, fun x b h => ?_⟩
      · obtain ⟨y, M', k1, k2⟩ := i1 p hp
        exact ⟨y, M', k1, sw.mf k2⟩
      · obtain ⟨M', k1, k2⟩ := i2 x b h
        exact ⟨M', k1, sw.trans k2⟩
    · rw [if_neg c]
      refine ⟨fun p hp => (by cases hp), fun x b h => ?_⟩
      cases h
      obtain ⟨M', k1, k2⟩ := M_blanks t
      refine ⟨M', ?_, k2⟩
      rw [st]
      unfold F_X25_number_b45_st F_X25_number_b119
      simp only [f1, M_isD t, eq_false_of_ne_true c, show mr false = 0 by decide, k1, Option.bind_some, if_true]
      by_cases cs : s = 0
      · rw [if_pos cs, if_pos cs]
      · rw [if_neg cs, if_neg cs]
