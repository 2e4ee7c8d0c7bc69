/-! ===== FORMULAS, 65: what items mean: constants, what stands ahead, casts ===== -/
theorem y_isNum {k : Int32} (h : Lk k) : F_X16_isNumber k = some (mr (decide (isNk k))) := by
  rcases h with rfl | rfl | rfl | rfl | rfl | rfl | rfl | rfl <;> decide +kernel
theorem y_isWh {k : Int32} (h : Lk k) : F_X16_isWhole k = some (mr (decide (isWk k))) := by
  rcases h with rfl | rfl | rfl | rfl | rfl | rfl | rfl | rfl <;> decide +kernel
theorem y_wider {k j : Int32} (h : Lk k) (h2 : Lk j) : F_X16_wider k j = some (wdk k j) := by
  rcases h with rfl | rfl | rfl | rfl | rfl | rfl | rfl | rfl <;> rcases h2 with rfl | rfl | rfl | rfl | rfl | rfl | rfl | rfl <;> decide +kernel
section
variable {M : Mem} {H a : Nat} {fa : List Nat} {o : Mo}
theorem MOq.sk (h : MOq M H fa a o) (v : Int32) : MOq (wI M a 3074 v) H fa a { o with k := v } := by
  obtain ⟨h1, h2, h3, h4, h5, h6, h7, h8, h9, h10⟩ := h
  exact ⟨h1, by rw [cI_wI, if_neg (by omega)]; exact h2, h3, by rw [cI_wI, if_pos ⟨rfl, rfl⟩], by rw [cI_wI, if_neg (by omega)]; exact h5, by rw [cI_wI, if_neg (by omega)]; exact h6, by rw [cI_wI, if_neg (by omega)]; exact h7, by rw [cI_wI, if_neg (by omega)]; exact h8, h9, h10⟩
theorem MOq.sj (h : MOq M H fa a o) (v : Int32) : MOq (wI M a 3075 v) H fa a { o with j := v } := by
  obtain ⟨h1, h2, h3, h4, h5, h6, h7, h8, h9, h10⟩ := h
  exact ⟨h1, by rw [cI_wI, if_neg (by omega)]; exact h2, h3, by rw [cI_wI, if_neg (by omega)]; exact h4, by rw [cI_wI, if_pos ⟨rfl, rfl⟩], by rw [cI_wI, if_neg (by omega)]; exact h6, by rw [cI_wI, if_neg (by omega)]; exact h7, by rw [cI_wI, if_neg (by omega)]; exact h8, h9, h10⟩
theorem MOq.sto (h : MOq M H fa a o) (v : Int32) : MOq (wI M a 3076 v) H fa a { o with to := v } := by
  obtain ⟨h1, h2, h3, h4, h5, h6, h7, h8, h9, h10⟩ := h
  exact ⟨h1, by rw [cI_wI, if_neg (by omega)]; exact h2, h3, by rw [cI_wI, if_neg (by omega)]; exact h4, by rw [cI_wI, if_neg (by omega)]; exact h5, by rw [cI_wI, if_pos ⟨rfl, rfl⟩], by rw [cI_wI, if_neg (by omega)]; exact h7, by rw [cI_wI, if_neg (by omega)]; exact h8, h9, h10⟩
theorem MOq.sn (h : MOq M H fa a o) (v : Int32) : MOq (wI M a 3077 v) H fa a { o with n := v } := by
  obtain ⟨h1, h2, h3, h4, h5, h6, h7, h8, h9, h10⟩ := h
  exact ⟨h1, by rw [cI_wI, if_neg (by omega)]; exact h2, h3, by rw [cI_wI, if_neg (by omega)]; exact h4, by rw [cI_wI, if_neg (by omega)]; exact h5, by rw [cI_wI, if_neg (by omega)]; exact h6, by rw [cI_wI, if_pos ⟨rfl, rfl⟩], by rw [cI_wI, if_neg (by omega)]; exact h8, h9, h10⟩
theorem MOq.sjp (h : MOq M H fa a o) (v : Int32) : MOq (wI M a 3078 v) H fa a { o with jp := v } := by
  obtain ⟨h1, h2, h3, h4, h5, h6, h7, h8, h9, h10⟩ := h
  exact ⟨h1, by rw [cI_wI, if_neg (by omega)]; exact h2, h3, by rw [cI_wI, if_neg (by omega)]; exact h4, by rw [cI_wI, if_neg (by omega)]; exact h5, by rw [cI_wI, if_neg (by omega)]; exact h6, by rw [cI_wI, if_neg (by omega)]; exact h7, by rw [cI_wI, if_pos ⟨rfl, rfl⟩], h9, h10⟩
theorem MOq.sbt (h : MOq M H fa a o) (v : Int64) : MOq (wJ M a 3079 v) H fa a { o with bt := v } := by
  obtain ⟨h1, h2, h3, h4, h5, h6, h7, h8, h9, h10⟩ := h
  exact ⟨h1, h2, h3, h4, h5, h6, h7, h8, by rw [cJ_wJ, if_pos ⟨rfl, rfl⟩], h10⟩
theorem MOq.stx (h : MOq M H fa a o) (v : Nat) : MOq (wR M a 3073 v) H fa a { o with tx := v } := by
  obtain ⟨h1, h2, h3, h4, h5, h6, h7, h8, h9, h10⟩ := h
  exact ⟨h1, h2, by rw [cR_wR, if_pos ⟨rfl, rfl⟩], h4, h5, h6, h7, h8, h9, by rw [cR_wR, if_neg (by omega)]; exact h10⟩
theorem MOq.sfn (h : MOq M H fa a o) (k : Nat) : MOq (wR M a 3080 (fa.getD k 0)) H fa a { o with fn := k + 1 } := by
  obtain ⟨h1, h2, h3, h4, h5, h6, h7, h8, h9, h10⟩ := h
  exact ⟨h1, h2, by rw [cR_wR, if_neg (by omega)]; exact h3, h4, h5, h6, h7, h8, h9, by rw [cR_wR, if_pos ⟨rfl, rfl⟩, if_neg (Nat.succ_ne_zero k), Nat.add_sub_cancel]⟩
end
section
variable {C : MeC} {M N N' : Mem} {V W X : MeV} {P P' P'' : List Int32} {O O' O'' : List Mo}
/-- it went on from (M, V) to (N, W) -/
def OKs (C : MeC) (M : Mem) (V : MeV) (N : Mem) (W : MeV) (P : List Int32) (O : List Mo) (k : Nat) : Prop := MeG C N W P O ∧ RG C M N V W k ∧ (∃ es, W.eo = V.eo ++ es) ∧ W.eb = V.eb
theorem OKs.refl (h : MeG C M V P O) : OKs C M V M V P O 0 := ⟨h, RG.refl C M V, ⟨[], (List.append_nil _).symm⟩, rfl⟩
theorem OKs.trans {k j : Nat} (h : OKs C M V N W P O k) (g : OKs C N W N' X P' O' j) : OKs C M V N' X P' O' (k + j) := by
  obtain ⟨h1, h2, ⟨es, h3⟩, h4⟩ := h
  obtain ⟨g1, g2, ⟨fs, g3⟩, g4⟩ := g
  exact ⟨g1, h2.trans g2, ⟨es ++ fs, by rw [g3, h3, List.append_assoc]⟩, g4.trans h4⟩
theorem OKs.mono {k j : Nat} (h : OKs C M V N W P O k) (hk : k ≤ j) : OKs C M V N W P O j := ⟨h.1, h.2.1.mono hk, h.2.2⟩
theorem OKs.take {l : Int32} (h : MeG C M V (P ++ [l]) O) : ∃ N W, F_X45_take M C.v0 = some (l, N) ∧ OKs C M V N W P O 0 := by
  obtain ⟨N, W, h1, h2, h3, h4, h5⟩ := M_takeS h
  exact ⟨N, W, h1, h2, h3, ⟨[], by rw [h4, List.append_nil]⟩, h5⟩
theorem OKs.give {l : Int32} (hl : Lk l) (h : MeG C M V P O) (hK : P.length + 1 ≤ C.K) : ∃ N W, F_X45_give M C.v0 l = some N ∧ OKs C M V N W (P ++ [l]) O 1 := by
  obtain ⟨N, W, h1, h2, h3, h4, h5⟩ := M_giveS hl h hK
  exact ⟨N, W, h1, h2, h3, ⟨[], by rw [h4, List.append_nil]⟩, h5⟩
/-- a step was just added at a: its fields are told -/
def Lst (C : MeC) (M : Mem) (V : MeV) (N : Mem) (W : MeV) (a : Nat) (P : List Int32) (O : List Mo) (o : Mo) (k : Nat) : Prop := OKs C M V N W P (O ++ [o]) k ∧ (m_nx M ≤ a ∧ a < m_nx N ∧ m_tg N a = 48) ∧ MOq N C.H C.fa a o ∧ W.eo.getD O.length 0 = a
theorem OKs.op (h : MeG C M V P O) (o : Int32) (hK : O.length + 1 ≤ C.K) : ∃ N W, F_X45_op M C.v0 o = some (m_nx M, N) ∧ Lst C M V N W (m_nx M) P O { op := o } 2 := by
  obtain ⟨N, W, h1, h2, h3, h4, h5, h6⟩ := M_opS h o hK
  have hl : V.eo.length = O.length := h.2.2.2.2.2.1
  have e : W.eo.getD O.length 0 = m_nx M := by rw [h4, getD_r (by omega), hl, Nat.sub_self]; rfl
  have q := h2.2.2.2.2.2.2.1 O.length (by rw [List.length_append, List.length_singleton]; omega)
  rw [e, getD_r (Nat.le_refl _), Nat.sub_self] at q
  exact ⟨N, W, h1, ⟨h2, h3, ⟨[m_nx M], h4⟩, h5⟩, ⟨Nat.le_refl _, q.1.2.1, q.1.2.2⟩, q, e⟩
theorem Lst.put {a k : Nat} {o o' : Mo} (h : Lst C M V N W a P O o k) (d : Df (at1 a) (at1 a) (at1 a) N N') (h1 : m_nx N' = m_nx N) (h2 : m_sl N' = m_sl N) (hq : MOq N' C.H C.fa a o') : Lst C M V N' W a P O o' k := by
  obtain ⟨⟨g1, g2, g3, g4⟩, ⟨g5, g6, g7⟩, g8, g9⟩ := h
  have hl : (O ++ [o]).length = O.length + 1 := by rw [List.length_append, List.length_singleton]
  obtain ⟨s1, s2⟩ := M_setS g1 (show O.length < (O ++ [o]).length by omega) g9 d hq
  rw [set_mid] at s1
  exact ⟨⟨s1, g2.set d g5 h1 h2 s2, g3, g4⟩, ⟨g5, by omega, hq.1.2.2⟩, hq, g9⟩
theorem Lst.pk {a k : Nat} {o : Mo} (h : Lst C M V N W a P O o k) (v : Int32) : pi N a 3074 v = some (wI N a 3074 v) ∧ Lst C M V (wI N a 3074 v) W a P O { o with k := v } k := ⟨pi_of v h.2.1.2.2 (show x_wi 48 3074 = true by decide) rfl, h.put (Df.wI v rfl) rfl rfl (h.2.2.1.sk v)⟩
theorem Lst.pj {a k : Nat} {o : Mo} (h : Lst C M V N W a P O o k) (v : Int32) : pi N a 3075 v = some (wI N a 3075 v) ∧ Lst C M V (wI N a 3075 v) W a P O { o with j := v } k := ⟨pi_of v h.2.1.2.2 (show x_wi 48 3075 = true by decide) rfl, h.put (Df.wI v rfl) rfl rfl (h.2.2.1.sj v)⟩
theorem Lst.pto {a k : Nat} {o : Mo} (h : Lst C M V N W a P O o k) (v : Int32) : pi N a 3076 v = some (wI N a 3076 v) ∧ Lst C M V (wI N a 3076 v) W a P O { o with to := v } k := ⟨pi_of v h.2.1.2.2 (show x_wi 48 3076 = true by decide) rfl, h.put (Df.wI v rfl) rfl rfl (h.2.2.1.sto v)⟩
theorem Lst.pn {a k : Nat} {o : Mo} (h : Lst C M V N W a P O o k) (v : Int32) : pi N a 3077 v = some (wI N a 3077 v) ∧ Lst C M V (wI N a 3077 v) W a P O { o with n := v } k := ⟨pi_of v h.2.1.2.2 (show x_wi 48 3077 = true by decide) rfl, h.put (Df.wI v rfl) rfl rfl (h.2.2.1.sn v)⟩
theorem Lst.pbt {a k : Nat} {o : Mo} (h : Lst C M V N W a P O o k) (v : Int64) : Jvm.Pilot.CGridEngineLaw_law_r3943_d802ca.pj N a 3079 v = some (wJ N a 3079 v) ∧ Lst C M V (wJ N a 3079 v) W a P O { o with bt := v } k := ⟨pj_of v h.2.1.2.2 (show x_wj 48 3079 = true by decide), h.put (Df.wJ v rfl) rfl rfl (h.2.2.1.sbt v)⟩
theorem Lst.ptx {a k : Nat} {o : Mo} (h : Lst C M V N W a P O o k) (v : Nat) : pr N a 3073 v = some (wR N a 3073 v) ∧ Lst C M V (wR N a 3073 v) W a P O { o with tx := v } k := ⟨pr_of v h.2.1.2.2 (show x_wr 48 3073 = true by decide), h.put (Df.wR v rfl) rfl rfl (h.2.2.1.stx v)⟩
theorem Lst.pfn {a k j : Nat} {o : Mo} (h : Lst C M V N W a P O o k) : pr N a 3080 (C.fa.getD j 0) = some (wR N a 3080 (C.fa.getD j 0)) ∧ Lst C M V (wR N a 3080 (C.fa.getD j 0)) W a P O { o with fn := j + 1 } k := ⟨pr_of _ h.2.1.2.2 (show x_wr 48 3080 = true by decide), h.put (Df.wR _ rfl) rfl rfl (h.2.2.1.sfn j)⟩
/-- items are left alone -/
theorem IMm.fg {B a : Nat} {t : Itm} (h : IMm M B a t) (f : FG C M N) (hC : m_tg M C.lp = 67 ∧ m_tg M C.lb = 67 ∧ m_tg M C.lo = 67) : IMm N B a t := by
  refine h.df f (fun x i h1 h2 h3 => ⟨fun q => ?_, fun q => q, fun q => ?_⟩)
  · unfold pG' at q
    rcases q with q | q | q
    · rw [q] at h3; omega
    · rw [q] at h3; omega
    · rw [q] at h3; omega
  · unfold rG' at q
    rcases q with q | q | q | q
    · rw [q] at h3; omega
    · rw [q] at h3; omega
    · rw [q] at h3; omega
    · omega
/-- a lane is widened -/
theorem OKs.widen {f t : Int32} (h : MeG C M V P O) (hK : O.length + 1 ≤ C.K) : ∃ N W, F_X45_widen M C.v0 f t = some N ∧ OKs C M V N W P (O ++ wdn f t) 2 := by
  unfold F_X45_widen wdn
  by_cases q : f = t
  · rw [if_pos q, if_pos q]
    exact ⟨M, V, rfl, by rw [List.append_nil]; exact (OKs.refl h).mono (by omega)⟩
  · rw [if_neg q, if_neg q, h.v, Option.bind_some]
    obtain ⟨N, W, n1, n2⟩ := OKs.op h 5 hK
    rw [n1, Option.bind_some]
    obtain ⟨e1, n3⟩ := n2.pk f
    rw [e1, Option.bind_some]
    obtain ⟨e2, n4⟩ := n3.pto t
    rw [e2, Option.bind_some]
    exact ⟨_, W, rfl, n4.1⟩
section
variable {B ia : Nat}
/-- a constant -/
theorem M_one1 {p : Nat} {l : Int32} {b : Int64} (h : MeG C M V P O) (hi : IMm M B ia { op := 1, pl := p, n := l, bt := b }) (hl : Lk l) (hP : P.length + 1 ≤ C.K) (hO : O.length + 1 ≤ C.K) : ∃ N W, F_X45_one M C.v0 ia = some (.inl N) ∧ OKs C M V N W (P ++ [l]) (O ++ [{ op := 1, bt := b }]) 10 := by
  obtain ⟨N, W, n1, n2⟩ := OKs.op h 1 hO
  have hiN := hi.fg n2.1.2.1.1 h.tg3
  unfold F_X45_one
  rw [gi_of hi.1.2.2 (show x_fi 45 2880 = true by decide), hi.2.1, Option.bind_some, if_pos rfl, h.v, Option.bind_some, n1, Option.bind_some, gl_of hiN.1.2.2 (show x_fj 45 2884 = true by decide), hiN.2.2.2.2.1, Option.bind_some]
  obtain ⟨e1, n3⟩ := n2.pbt b
  rw [e1, Option.bind_some]
  have hi2 := hi.fg n3.1.2.1.1 h.tg3
  rw [gi_of hi2.1.2.2 (show x_fi 45 2883 = true by decide), hi2.2.2.2.1, Option.bind_some, n3.1.1.v, Option.bind_some]
  obtain ⟨N2, W2, g1, g2⟩ := OKs.give hl n3.1.1 hP
  rw [show ({ op := 1, pl := p, n := l, bt := b } : Itm).n = l from rfl, g1, Option.bind_some]
  exact ⟨N2, W2, rfl, (n3.1.trans g2).mono (by omega)⟩
end
end
