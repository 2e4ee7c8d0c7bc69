/-! ===== JOINING, 2: searching; the loops ===== -/
theorem E_first_loop {M : Mem} {row m : Nat} {kd fl : Int32} {v : Nat → Int64} {t : Int64} (hk : Lk kd) (hm : m ≤ 4096) (hv : ∀ i, i < m → vb kd (v i)) (ht : vb kd t) (s : OS M 1022 1023 row m kd fl v (srt 0 kd v m)) : ∀ (e N a b : Nat), b - a ≤ e → e + 1 ≤ N → a ≤ b → b ≤ m → (∀ q, q < a → lnT kd (v (srt 0 kd v m q)) < lnT kd t) → (∀ q, b ≤ q → q < m → ¬ lnT kd (v (srt 0 kd v m q)) < lnT kd t) →
    ∃ f : Nat, F_X7_first_b6 N M 1022 t (iw (a : Int)) (iw (b : Int)) = some (iw (f : Int)) ∧ f ≤ m ∧ (∀ q, q < f → lnT kd (v (srt 0 kd v m q)) < lnT kd t) ∧ (∀ q, f ≤ q → q < m → ¬ lnT kd (v (srt 0 kd v m q)) < lnT kd t) := by
  obtain ⟨s1, s2⟩ := srt_ok (kd := kd) (v := v) hm
  have ob : OB 1022 1023 1024 := Or.inl ⟨rfl, rfl, rfl⟩
  obtain ⟨o1, o2, o3, o4, o5, o6, o7, o8, o9⟩ := s
  obtain ⟨b1, b2, b3, b4, b5, b6, b7, b8, b9, b10⟩ := ob.f o1
  have mono : ∀ q q', q ≤ q' → q' < m → lnT kd (v (srt 0 kd v m q)) ≤ lnT kd (v (srt 0 kd v m q')) := fun q q' h1 h2 => by
    by_cases c : q = q'
    · rw [c]; omega
    · have := s2 q q' (by omega) h2
      dsimp only [lex2] at this
      omega
  intro e
  induction e with
  | zero =>
    intro N a b h1 hN h2 h3 h4 h5
    obtain ⟨N, rfl⟩ : ∃ x, N = x + 1 := ⟨N - 1, by omega⟩
    have : b = a := by omega
    subst this
    refine ⟨b, ?_, h3, h4, h5⟩
    show F_X7_first_b6_st (F_X7_first_b6 N) M _ _ _ _ = _
    unfold F_X7_first_b6_st
    rw [if_neg (by rw [iw_le4 (by omega) (by omega)]; omega)]
  | succ e ih =>
    intro N a b h1 hN h2 h3 h4 h5
    obtain ⟨N, rfl⟩ : ∃ x, N = x + 1 := ⟨N - 1, by omega⟩
    by_cases cab : a < b
    · have hmid : iw (a : Int) + iw (b : Int) = iw ((a + b : Nat) : Int) := iw_nad a b
      obtain ⟨c, hc⟩ : ∃ c, c = (a + b) / 2 := ⟨_, rfl⟩
      have hc1 : a ≤ c := by omega
      have hc2 : c < b := by omega
      have a1 : ai M 1023 (iw (c : Int)) = some (iw (srt 0 kd v m c : Nat)) := by rw [ai_of b7 b8 (by omega) (by decide), o9 c (by omega)]
      have hsc := s1 c (by omega)
      have a2 : al M row (iw (srt 0 kd v m c : Nat)) = some (v (srt 0 kd v m c)) := by rw [al_of o5 rfl (by omega) (by omega), o8 _ hsc]
      have run : F_X7_first_b6 (N + 1) M 1022 t (iw (a : Int)) (iw (b : Int)) = if lnT kd (v (srt 0 kd v m c)) < lnT kd t then F_X7_first_b6 N M 1022 t (iw ((c + 1 : Nat) : Int)) (iw (b : Int)) else F_X7_first_b6 N M 1022 t (iw (a : Int)) (iw (c : Int)) := by
        show F_X7_first_b6_st (F_X7_first_b6 N) M _ _ _ _ = _
        unfold F_X7_first_b6_st F_X7_first_b58
        rw [if_pos (by rw [iw_le4 (by omega) (by omega)]; exact cab), hmid]
        simp only [n20, if_false, iw_half (show a + b < 2147483648 by omega), ← hc, b1, b3, b4, o2, o3, a1, a2, E_order hk (hv _ hsc) ht, ordi_lt, iw_succ, Option.bind_some]
      rw [run]
      by_cases cl : lnT kd (v (srt 0 kd v m c)) < lnT kd t
      · rw [if_pos cl]
        exact ih N (c + 1) b (by omega) (by omega) (by omega) h3 (fun q hq => by have := mono q c (by omega) (by omega); omega) h5
      · rw [if_neg cl]
        exact ih N a c (by omega) (by omega) hc1 (by omega) h4 (fun q q1 q2 => by have := mono c q q1 q2; omega)
    · have : b = a := by omega
      subst this
      refine ⟨b, ?_, h3, h4, h5⟩
      show F_X7_first_b6_st (F_X7_first_b6 N) M _ _ _ _ = _
      unfold F_X7_first_b6_st
      rw [if_neg (by rw [iw_le4 (by omega) (by omega)]; omega)]
theorem E_first {M : Mem} {row m : Nat} {kd fl : Int32} {v : Nat → Int64} {t : Int64} (hk : Lk kd) (hm : m ≤ 4096) (hv : ∀ i, i < m → vb kd (v i)) (ht : vb kd t) (s : OS M 1022 1023 row m kd fl v (srt 0 kd v m)) :
    ∃ f : Nat, F_X7_first M 1022 t (iw (m : Int)) = some (iw (f : Int)) ∧ f ≤ m ∧ (∀ q, q < f → lnT kd (v (srt 0 kd v m q)) < lnT kd t) ∧ (∀ q, f ≤ q → q < m → ¬ lnT kd (v (srt 0 kd v m q)) < lnT kd t) :=
  E_first_loop hk hm hv ht s m xN 0 m (by omega) (by have : xN = 1099511627776 := rfl; omega) (Nat.zero_le _) (Nat.le_refl _) (fun q hq => by omega) (fun q q1 q2 => by omega)
theorem OS.j57 {M N : Mem} {row n : Nat} {kd fl : Int32} {v : Nat → Int64} {P : Nat → Nat} (s : OS M 1022 1023 row n kd fl v P) (d : Df n2 (at1 1057) n2 M N) (hr : row = 1058) : OS N 1022 1023 row n kd fl v P := by
  obtain ⟨o1, o2, o3, o4, o5, o6, o7, o8, o9⟩ := s
  have h0 := o1.1
  subst hr
  have hd := d.2.2 1058 (by omega)
  exact ⟨o1.n d, by rw [d.cR (by omega) (fun q => q)]; exact o2, by rw [d.cI (by omega) (fun q => q)]; exact o3, by rw [d.cI (by omega) (fun q => q)]; exact o4, hd.1.trans o5, by rw [hd.2.1]; exact o6, by rw [hd.2.1]; exact o7, fun i hi => by rw [d.cJ (by omega) (by unfold at1; decide)]; exact o8 i hi, fun q hq => by rw [d.cI (by omega) (fun q => q)]; exact o9 q hq⟩
/-- the engine's matches of one value -/
theorem E_jin {k100 : Mem → Nat → Nat → Int32 → Int32 → Int32 → Int32 → Option (Int32 × Mem)} {m i oa : Nat} {kd fl n6 : Int32} {v : Nat → Int64} {t : Int64} (hm : m ≤ 4096) : ∀ (e N k : Nat) (ps : List (Nat × Nat)) (M : Mem), k + e = m → e + 1 ≤ N → ps.length ≤ 4096 → PR M 1057 ps → OS M 1022 1023 1058 m kd fl v (srt 0 kd v m) →
    ∃ M', Df n2 (at1 1057) n2 M M' ∧ m_nx M' = m_nx M ∧ m_sl M' = m_sl M ∧ F_X0_join_b128 k100 N M 1000 oa (iw (m : Int)) n6 (iw (ps.length : Nat)) (iw (i : Int)) t (iw (k : Int)) = (if ps.length + (ewl (srt 0 kd v m) v t m e k).length ≤ 4096 then k100 M' 1000 oa (iw (m : Int)) n6 (iw ((ps.length + (ewl (srt 0 kd v m) v t m e k).length : Nat) : Int)) (iw ((i + 1 : Nat) : Int)) else some (-12, M')) ∧
      (ps.length + (ewl (srt 0 kd v m) v t m e k).length ≤ 4096 → PR M' 1057 (ps ++ (ewl (srt 0 kd v m) v t m e k).map (fun x => (i, x)))) := by
  have ob : OB 1022 1023 1024 := Or.inl ⟨rfl, rfl, rfl⟩
  obtain ⟨s1, -⟩ := srt_ok (kd := kd) (v := v) hm
  intro e
  induction e with
  | zero =>
    intro N k ps M h1 hN hl pr s
    obtain ⟨N, rfl⟩ : ∃ x, N = x + 1 := ⟨N - 1, by omega⟩
    refine ⟨M, Df.refl _ _ _ _, rfl, rfl, ?_, fun _ => ?_⟩
    · show F_X0_join_b128_st k100 (F_X0_join_b128 k100 N) M _ _ _ _ _ _ _ _ = _
      unfold F_X0_join_b128_st F_X0_join_b208
      rw [if_neg (by rw [iw_le4 (by omega) (by omega)]; omega), if_pos (by show ps.length + 0 ≤ _; omega), iw_succ]
      rfl
    · show PR M 1057 (ps ++ [])
      rw [List.append_nil]
      exact pr
  | succ e ih =>
    intro N k ps M h1 hN hl pr s
    obtain ⟨N, rfl⟩ : ∃ x, N = x + 1 := ⟨N - 1, by omega⟩
    have s' := s
    obtain ⟨o1, o2, o3, o4, o5, o6, o7, o8, o9⟩ := s'
    obtain ⟨b1, b2, b3, b4, b5, b6, b7, b8, b9, b10⟩ := ob.f o1
    have hsk := s1 k (by omega)
    have at1' : ∀ U, Df n2 (at1 1057) n2 M U → F_X7_at U 1022 (iw (k : Int)) = some (iw (srt 0 kd v m k : Nat)) := fun U d => by
      have sU := s.j57 d rfl
      obtain ⟨c1, -, -, -, -, -, c7, c8, -⟩ := ob.f sU.1
      unfold F_X7_at
      simp only [c1, Option.bind_some]
      rw [ai_of c7 c8 (show k < 4096 by omega) (by decide), sU.2.2.2.2.2.2.2.2 k (by omega)]
      rfl
    have a2 : al M 1058 (iw (srt 0 kd v m k : Nat)) = some (v (srt 0 kd v m k)) := by rw [al_of o5 rfl (by omega) (by omega), o8 _ hsk]
    have ee : ewl (srt 0 kd v m) v t m (e + 1) k = if v (srt 0 kd v m k) = t then srt 0 kd v m k :: ewl (srt 0 kd v m) v t m e (k + 1) else [] := rfl
    have head : F_X0_join_b128 k100 (N + 1) M 1000 oa (iw (m : Int)) n6 (iw (ps.length : Nat)) (iw (i : Int)) t (iw (k : Int)) = if v (srt 0 kd v m k) = t then (if iw (ps.length : Nat) = (4096 : Int32) then some (-12, M) else (sj M 1057 ((2 : Int32) * iw (ps.length : Nat)) (iw (i : Int)).toInt64).bind fun M10 => (gr M10 1000 81).bind fun t11 => (gr M10 1000 74).bind fun t12 => (vg M10 t12 8).bind fun _ => (F_X7_at M10 t12 (iw (k : Int))).bind fun z14 => (sj M10 t11 ((2 : Int32) * iw (ps.length : Nat) + 1) z14.toInt64).bind fun M15 => F_X0_join_b128 k100 N M15 1000 oa (iw (m : Int)) n6 (iw (ps.length : Nat) + 1) (iw (i : Int)) t (iw (k : Int) + 1)) else k100 M 1000 oa (iw (m : Int)) n6 (iw (ps.length : Nat)) (iw ((i + 1 : Nat) : Int)) := by
      show F_X0_join_b128_st k100 (F_X0_join_b128 k100 N) M _ _ _ _ _ _ _ _ = _
      unfold F_X0_join_b128_st F_X0_join_b208
      rw [if_pos (by rw [iw_le4 (by omega) (by omega)]; omega)]
      simp only [g1000_82, g1000_74, g1000_81, o1, v1022, at1' M (Df.refl _ _ _ _), a2, iw_succ, Option.bind_some]
    by_cases cv : v (srt 0 kd v m k) = t
    · rw [if_pos cv] at ee head
      rw [ee]
      by_cases c4 : ps.length = 4096
      · rw [if_pos (by rw [c4]; rfl)] at head
        refine ⟨M, Df.refl _ _ _ _, rfl, rfl, ?_, fun q => ?_⟩
        · rw [head, if_neg (by rw [List.length_cons]; omega)]
        · rw [List.length_cons] at q; omega
      · rw [if_neg (by rw [show (4096 : Int32) = iw ((4096 : Nat) : Int) from rfl, iw_eq (by omega) (by omega) (by omega) (by omega)]; omega)] at head
        obtain ⟨M1, hM1⟩ : ∃ M1, M1 = wJ M 1057 (2 * ps.length) (iw (i : Int)).toInt64 := ⟨_, rfl⟩
        obtain ⟨M2, hM2⟩ : ∃ M2, M2 = wJ M1 1057 (2 * ps.length + 1) (iw (srt 0 kd v m k : Nat)).toInt64 := ⟨_, rfl⟩
        have d1 : Df n2 (at1 1057) n2 M M1 := by rw [hM1]; exact Df.wJ _ rfl
        have d2 : Df n2 (at1 1057) n2 M M2 := d1.trans (by rw [hM2]; exact Df.wJ _ rfl)
        have sM1 : ST M1 := o1.n d1
        have q1 : sj M 1057 ((2 : Int32) * iw (ps.length : Nat)) (iw (i : Int)).toInt64 = some M1 := by rw [iw_2mul, hM1]; exact sj_of _ (t1057 o1) (l1057 o1) (by omega) (by decide)
        have q2 : sj M1 1057 ((2 : Int32) * iw (ps.length : Nat) + 1) (iw (srt 0 kd v m k : Nat)).toInt64 = some M2 := by rw [iw_2mul, iw_succ, hM2]; exact sj_of _ (t1057 sM1) (l1057 sM1) (by omega) (by decide)
        rw [q1] at head
        simp only [g1000_81, g1000_74, sM1, v1022, at1' M1 d1, q2, iw_succ, Option.bind_some] at head
        have pr2 : PR M2 1057 (ps ++ [(i, srt 0 kd v m k)]) := by rw [hM2, hM1]; exact pr.snoc
        have hl2 : (ps ++ [(i, srt 0 kd v m k)]).length = ps.length + 1 := by rw [List.length_append, List.length_singleton]
        obtain ⟨M', f1, f2, f3, f4, f5⟩ := ih N (k + 1) (ps ++ [(i, srt 0 kd v m k)]) M2 (by omega) (by omega) (by omega) pr2 (s.j57 d2 rfl)
        rw [hl2] at f4 f5
        have n2' : m_nx M2 = m_nx M := by rw [hM2, hM1]; rfl
        have l2' : m_sl M2 = m_sl M := by rw [hM2, hM1]; rfl
        have hadd : ps.length + (srt 0 kd v m k :: ewl (srt 0 kd v m) v t m e (k + 1)).length = ps.length + 1 + (ewl (srt 0 kd v m) v t m e (k + 1)).length := by rw [List.length_cons]; omega
        rw [hadd]
        refine ⟨M', d2.trans f1, by omega, by omega, head.trans f4, fun q => ?_⟩
        have := f5 q
        rw [List.append_assoc] at this
        exact this
    · rw [if_neg cv] at ee head
      rw [ee]
      refine ⟨M, Df.refl _ _ _ _, rfl, rfl, ?_, fun _ => ?_⟩
      · rw [head, if_pos (by show ps.length + 0 ≤ _; omega)]
        rfl
      · show PR M 1057 (ps ++ [])
        rw [List.append_nil]
        exact pr
/-- the model's -/
theorem M_jin {k79 : Mem → Nat → Nat → Nat → Int32 → Int32 → Option (Int32 × Mem)} {oa ba ob bb m i : Nat} {ka kb : Int32} {na nb : Nat} {za zb : Nat → Nat} {sa ta sb tb' : Nat → Int32} {xa ya xb yb : Int32} {ca da La cb db Lb : Nat} {pa pb : Int32} {v : Nat → Int64} {t : Int64} (hm : m ≤ 4096) (hp : prd zb nb = m) (hi : i < prd za na) : ∀ (e N j : Nat) (ps : List (Nat × Nat)) (M : Mem), j + e = m → e + 1 ≤ N → ps.length ≤ 4096 → PR M 1073 ps → ST M → GP M oa ba ka na za sa ta xa ya ca da La pa → GP M ob bb kb nb zb sb tb' xb yb cb db Lb pb → cJ M ca (gpos na za sa xa i) = t → (∀ x, x < m → cJ M cb (gpos nb zb sb xb x) = v x) →
    ∃ M', Df n2 (at1 1073) n2 M M' ∧ m_nx M' = m_nx M ∧ m_sl M' = m_sl M ∧ F_X16_join_b91 k79 N M 1068 ba bb (iw (ps.length : Nat)) (iw (i : Int)) (iw (j : Int)) = (if ps.length + (mfl v t e j).length ≤ 4096 then k79 M' 1068 ba bb (iw ((ps.length + (mfl v t e j).length : Nat) : Int)) (iw ((i + 1 : Nat) : Int)) else some (-12, M')) ∧
      (ps.length + (mfl v t e j).length ≤ 4096 → PR M' 1073 (ps ++ (mfl v t e j).map (fun x => (i, x)))) := by
  intro e
  induction e with
  | zero =>
    intro N j ps M h1 hN hl pr s ga gb hta hv
    obtain ⟨N, rfl⟩ : ∃ x, N = x + 1 := ⟨N - 1, by omega⟩
    have cM := M_count gb.2.1 gb.2.2.2.1 gb.2.2.2.2.1
    rw [hp] at cM
    refine ⟨M, Df.refl _ _ _ _, rfl, rfl, ?_, fun _ => ?_⟩
    · show F_X16_join_b91_st k79 (F_X16_join_b91 k79 N) M _ _ _ _ _ _ = _
      unfold F_X16_join_b91_st
      simp only [vg_of gb.2.1.2.2.1 (show x_isa 23 23 = true by decide), cM, Option.bind_some]
      rw [if_neg (by rw [iw_le4 (by omega) (by omega)]; omega), if_pos (by show ps.length + 0 ≤ _; omega), iw_succ]
      rfl
    · show PR M 1073 (ps ++ [])
      rw [List.append_nil]
      exact pr
  | succ e ih =>
    intro N j ps M h1 hN hl pr s ga gb hta hv
    obtain ⟨N, rfl⟩ : ∃ x, N = x + 1 := ⟨N - 1, by omega⟩
    have cM := M_count gb.2.1 gb.2.2.2.1 gb.2.2.2.2.1
    rw [hp] at cM
    have g1 := (ga.get hi).2.2
    rw [hta] at g1
    have g2 := (gb.get (show j < prd zb nb by omega)).2.2
    rw [hv j (by omega)] at g2
    have ee : mfl v t (e + 1) j = if v j = t then j :: mfl v t e (j + 1) else mfl v t e (j + 1) := rfl
    have head : F_X16_join_b91 k79 (N + 1) M 1068 ba bb (iw (ps.length : Nat)) (iw (i : Int)) (iw (j : Int)) = if t = v j then (if iw (ps.length : Nat) = (4096 : Int32) then some (-12, M) else (sj M 1073 ((2 : Int32) * iw (ps.length : Nat)) (iw (i : Int)).toInt64).bind fun M9 => (gr M9 1068 1100).bind fun t10 => (sj M9 t10 ((2 : Int32) * iw (ps.length : Nat) + 1) (iw (j : Int)).toInt64).bind fun M11 => F_X16_join_b91 k79 N M11 1068 ba bb (iw (ps.length : Nat) + 1) (iw (i : Int)) (iw (j : Int) + 1)) else F_X16_join_b91 k79 N M 1068 ba bb (iw (ps.length : Nat)) (iw (i : Int)) (iw ((j + 1 : Nat) : Int)) := by
      show F_X16_join_b91_st k79 (F_X16_join_b91 k79 N) M _ _ _ _ _ _ = _
      unfold F_X16_join_b91_st F_X16_join_b158
      simp only [vg_of gb.2.1.2.2.1 (show x_isa 23 23 = true by decide), cM, Option.bind_some]
      rw [if_pos (by rw [iw_le4 (by omega) (by omega)]; omega)]
      simp only [vg_of ga.2.1.2.2.1 (show x_isa 23 23 = true by decide), g1, g2, g1068_1100, s, iw_succ, Option.bind_some]
    by_cases cv : v j = t
    · rw [if_pos cv] at ee
      rw [if_pos cv.symm] at head
      rw [ee]
      by_cases c4 : ps.length = 4096
      · rw [if_pos (by rw [c4]; rfl)] at head
        refine ⟨M, Df.refl _ _ _ _, rfl, rfl, ?_, fun q => ?_⟩
        · rw [head, if_neg (by rw [List.length_cons]; omega)]
        · rw [List.length_cons] at q; omega
      · rw [if_neg (by rw [show (4096 : Int32) = iw ((4096 : Nat) : Int) from rfl, iw_eq (by omega) (by omega) (by omega) (by omega)]; omega)] at head
        obtain ⟨M1, hM1⟩ : ∃ M1, M1 = wJ M 1073 (2 * ps.length) (iw (i : Int)).toInt64 := ⟨_, rfl⟩
        obtain ⟨M2, hM2⟩ : ∃ M2, M2 = wJ M1 1073 (2 * ps.length + 1) (iw (j : Int)).toInt64 := ⟨_, rfl⟩
        have d1 : Df n2 (at1 1073) n2 M M1 := by rw [hM1]; exact Df.wJ _ rfl
        have d2 : Df n2 (at1 1073) n2 M M2 := d1.trans (by rw [hM2]; exact Df.wJ _ rfl)
        have sM1 : ST M1 := s.n d1
        have q1 : sj M 1073 ((2 : Int32) * iw (ps.length : Nat)) (iw (i : Int)).toInt64 = some M1 := by rw [iw_2mul, hM1]; exact sj_of _ (t1073 s) (l1073 s) (by omega) (by decide)
        have q2 : sj M1 1073 ((2 : Int32) * iw (ps.length : Nat) + 1) (iw (j : Int)).toInt64 = some M2 := by rw [iw_2mul, iw_succ, hM2]; exact sj_of _ (t1073 sM1) (l1073 sM1) (by omega) (by decide)
        rw [q1] at head
        simp only [g1068_1100, sM1, q2, iw_succ, Option.bind_some] at head
        have pr2 : PR M2 1073 (ps ++ [(i, j)]) := by rw [hM2, hM1]; exact pr.snoc
        have hl2 : (ps ++ [(i, j)]).length = ps.length + 1 := by rw [List.length_append, List.length_singleton]
        have ca1 := ga.2.2.2.2.2.2.2.1
        have cb1 := gb.2.2.2.2.2.2.2.1
        obtain ⟨M', f1, f2, f3, f4, f5⟩ := ih N (j + 1) (ps ++ [(i, j)]) M2 (by omega) (by omega) (by omega) pr2 (s.n d2) (ga.df d2 qt_n2 (qt_at1 (by decide)) qt_n2) (gb.df d2 qt_n2 (qt_at1 (by decide)) qt_n2) (by rw [d2.cJ ca1.2.1 (qt_at1 (by decide) _ _ ca1.1)]; exact hta) (fun x hx => by rw [d2.cJ cb1.2.1 (qt_at1 (by decide) _ _ cb1.1)]; exact hv x hx)
        rw [hl2] at f4 f5
        have n2' : m_nx M2 = m_nx M := by rw [hM2, hM1]; rfl
        have l2' : m_sl M2 = m_sl M := by rw [hM2, hM1]; rfl
        have hadd : ps.length + (j :: mfl v t e (j + 1)).length = ps.length + 1 + (mfl v t e (j + 1)).length := by rw [List.length_cons]; omega
        rw [hadd]
        refine ⟨M', d2.trans f1, by omega, by omega, head.trans f4, fun q => ?_⟩
        have := f5 q
        rw [List.append_assoc] at this
        exact this
    · rw [if_neg cv] at ee
      rw [if_neg (fun q => cv q.symm)] at head
      rw [ee, head]
      exact ih N (j + 1) ps M (by omega) (by omega) hl pr s ga gb hta hv
