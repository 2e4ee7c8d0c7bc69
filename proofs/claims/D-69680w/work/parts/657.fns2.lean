/-! ===== FORMULAS, 82: the engine reads a function ===== -/
/-- a draft: its head -/
def DRh (M : Mem) (H B a nl dn lr pr : Nat) (en : List Nat) (l : Int32) (w : List Int32) (p : Nat) (acc : List Pa) : Prop :=
  (H ≤ a ∧ a < m_nx M ∧ m_tg M a = 28) ∧ (cI M a 1792 = l ∧ NmW M B (cR M a 1793) w ∧ cI M a 1794 = iw (p : Int) ∧ cR M a 1795 = nl ∧ cR M a 1796 = lr ∧ cR M a 1797 = pr ∧ cI M a 1798 = iw (acc.length : Int)) ∧
  (AP M nl dn en ∧ H ≤ nl ∧ H ≤ dn ∧ 1334 ≤ dn) ∧ (H ≤ lr ∧ lr < m_nx M ∧ m_tg M lr = 1005 ∧ m_ln M lr = 6) ∧ (H ≤ pr ∧ pr < m_nx M ∧ m_tg M pr = 1005 ∧ m_ln M pr = 6) ∧ lr ≠ pr ∧ acc.length ≤ 6 ∧ en.length = acc.length ∧ ∀ i, i < acc.length → NmW M B (en.getD i 0) (acc.getD i pa0).nm ∧ cI M lr i = (acc.getD i pa0).ln ∧ cI M pr i = iw ((acc.getD i pa0).pl : Int)
section
variable {M N : Mem} {H B a nl dn lr pr n k k' s : Nat} {en : List Nat} {l : Int32} {w : List Int32} {p : Nat} {acc : List Pa} {f : Nat → Int32}
theorem DRh.df {P Q R : Nat → Nat → Prop} (h : DRh M H B a nl dn lr pr en l w p acc) (d : Df P Q R M N) (hS : nTx P R M B) (hP : ∀ x i, (m_tg M x = 28 ∨ m_tg M x = 67 ∨ m_tg M x = 1005) → ¬ P x i) (hR : ∀ x i, (m_tg M x = 28 ∨ m_tg M x = 67 ∨ m_tg M x = 1010) → ¬ R x i) : DRh N H B a nl dn lr pr en l w p acc := by
  obtain ⟨⟨a1, a2, a3⟩, ⟨b1, b2, b3, b4, b5, b6, b7⟩, ⟨c1, c2, c3, c4⟩, ⟨d1, d2, d3, d4⟩, ⟨e1, e2, e3, e4⟩, f1, g1, g2, g3⟩ := h
  have nn := d.1
  have pa := fun i => hP a i (Or.inl a3)
  have ra := fun i => hR a i (Or.inl a3)
  obtain ⟨t1, t2⟩ := c1.1.tg
  refine ⟨⟨a1, by omega, (d.2.2 a a2).1.trans a3⟩, ⟨by rw [d.cI a2 (pa _)]; exact b1, by rw [d.cR a2 (ra _)]; exact b2.df d hS, by rw [d.cI a2 (pa _)]; exact b3, by rw [d.cR a2 (ra _)]; exact b4, by rw [d.cR a2 (ra _)]; exact b5, by rw [d.cR a2 (ra _)]; exact b6, by rw [d.cI a2 (pa _)]; exact b7⟩, ⟨(c1.df d (hP _ _ (Or.inr (Or.inl t1))) (hR _ _ (Or.inr (Or.inl t1))) (fun i hi => hR _ _ (Or.inr (Or.inr (t2 hi).1)))).1, c2, c3, c4⟩, ⟨d1, by omega, (d.2.2 lr d2).1.trans d3, (d.2.2 lr d2).2.1.trans d4⟩, ⟨e1, by omega, (d.2.2 pr e2).1.trans e3, (d.2.2 pr e2).2.1.trans e4⟩, f1, g1, g2, fun i hi => ⟨(g3 i hi).1.df d hS, by rw [d.cI d2 (hP _ _ (Or.inr (Or.inr d3)))]; exact (g3 i hi).2.1, by rw [d.cI e2 (hP _ _ (Or.inr (Or.inr e3)))]; exact (g3 i hi).2.2⟩⟩
theorem DRh.kk (h : DRh M H B a nl dn lr pr en l w p acc) (st : ST M) (d : Df pK qK rK M N) (hB : 1334 ≤ B) : DRh N H B a nl dn lr pr en l w p acc := by
  have t12 : m_tg M 1012 = 6 := t1012 st
  exact h.df d (nTx_K hB) (fun x i hx q => by unfold pK at q; rw [q.1] at hx; omega) (fun x i hx q => by unfold rK at q; rw [q.1] at hx; omega)
/-- cells of the draft are written -/
theorem WB.put {P Q R : Nat → Nat → Prop} {M0 : Mem} (h : WB M0 M f n k k' (s + 1)) (d : Df P Q R M N) (hP : ∀ x i, x < m_nx M0 → ¬ P x i ∧ ¬ Q x i ∧ ¬ R x i) (h1 : m_nx N ≤ m_nx M + 20) (h2 : m_sl N ≤ m_sl M + 150) : WB M0 N f n k k' s :=
  ⟨h.1.then d (fun x i hx q => ((hP x i hx).1 q).elim) (fun x i hx q => ((hP x i hx).2.1 q).elim) (fun x i hx q => ((hP x i hx).2.2 q).elim), by have := h.2.1; omega, by have := h.2.2; omega⟩
/-- an entry behind the last -/
theorem DRh.w1 (h : DRh M H B a nl dn lr pr en l w p acc) {x : Nat} (hx : x = lr ∨ x = pr) (hl : acc.length < 6) (v : Int32) : si M x (iw (acc.length : Int)) v = some (wI M x acc.length v) ∧ DRh (wI M x acc.length v) H B a nl dn lr pr en l w p acc := by
  obtain ⟨⟨a1, a2, a3⟩, ⟨b1, b2, b3, b4, b5, b6, b7⟩, ⟨c1, c2, c3, c4⟩, ⟨d1, d2, d3, d4⟩, ⟨e1, e2, e3, e4⟩, f1, g1, g2, g3⟩ := h
  have tx : m_tg M x = 1005 ∧ m_ln M x = 6 := by rcases hx with rfl | rfl; exact ⟨d3, d4⟩; exact ⟨e3, e4⟩
  have d : Df (fun y j => y = x ∧ j = acc.length) n2 n2 M (wI M x acc.length v) := Df.wI v ⟨rfl, rfl⟩
  have hS : nTx (fun y j => y = x ∧ j = acc.length) n2 M B := fun y j h1 h2 h3 => ⟨fun q => by rw [q.1, tx.1] at h3; omega, fun q => q⟩
  have xa : x ≠ a := fun q => by rw [q, a3] at tx; omega
  obtain ⟨t1, t2⟩ := c1.1.tg
  have xn : x ≠ nl := fun q => by rw [q, t1] at tx; omega
  refine ⟨si_of v tx.1 tx.2 hl (by decide), ⟨a1, a2, a3⟩, ⟨?_, b2.df d hS, ?_, b4, b5, b6, ?_⟩, ⟨(c1.df d (fun q => xn q.1.symm) (fun q => q) (fun _ _ q => q)).1, c2, c3, c4⟩, ⟨d1, d2, d3, d4⟩, ⟨e1, e2, e3, e4⟩, f1, g1, g2, fun i hi => ⟨(g3 i hi).1.df d hS, ?_, ?_⟩⟩
  · rw [cI_wI, if_neg (fun q => xa q.1.symm)]; exact b1
  · rw [cI_wI, if_neg (fun q => xa q.1.symm)]; exact b3
  · rw [cI_wI, if_neg (fun q => xa q.1.symm)]; exact b7
  · rw [cI_wI, if_neg (by omega)]; exact (g3 i hi).2.1
  · rw [cI_wI, if_neg (by omega)]; exact (g3 i hi).2.2
/-- the name is added, and counted -/
theorem DRh.add {s0 : Nat} {q : Pa} (h : DRh M H B a nl dn lr pr en l w p acc) (h0 : 1334 ≤ m_nx M) (hH : 1334 ≤ H) (k4 : m_tg M 4 = 1091 ∧ m_ln M 4 = 0) (hl : acc.length < 6) (hs : NmW M B s0 q.nm) (hl1 : cI M lr acc.length = q.ln) (hl2 : cI M pr acc.length = iw (q.pl : Int)) :
    ∃ N1 dn', F_J6_add M nl s0 = some (1, N1) ∧ gi N1 a 1798 = some (iw (acc.length : Int)) ∧ pi N1 a 1798 (iw (acc.length : Int) + 1) = some (wI N1 a 1798 (iw ((acc.length + 1 : Nat) : Int))) ∧ DRh (wI N1 a 1798 (iw ((acc.length + 1 : Nat) : Int))) H B a nl dn' lr pr (en ++ [s0]) l w p (acc ++ [q]) ∧ Df (fun x _ => x = a ∨ x = nl) n2 (fun x _ => x = nl ∨ x = dn) M (wI N1 a 1798 (iw ((acc.length + 1 : Nat) : Int))) ∧ m_nx N1 ≤ m_nx M + 1 ∧ m_sl N1 ≤ m_sl M + 100 := by
  obtain ⟨⟨a1, a2, a3⟩, ⟨b1, b2, b3, b4, b5, b6, b7⟩, ⟨c1, c2, c3, c4⟩, ⟨d1, d2, d3, d4⟩, ⟨e1, e2, e3, e4⟩, f1, g1, g2, g3⟩ := h
  obtain ⟨t1, t2⟩ := c1.1.tg
  obtain ⟨t3, t4⟩ := t2 c4
  obtain ⟨N1, dn', n1, n2', n3, n4, n5, n6, n7⟩ := c1.add h0 k4 (by omega) (v := s0) (Or.inr ⟨hs.1.2.2.1.2, by rw [hs.1.2.1]; decide⟩)
  have na : a ≠ nl := fun q => by rw [q, t1] at a3; omega
  have nd : a ≠ dn := fun q => by rw [q, t3] at a3; omega
  have ra : ∀ i, ¬ ((a = nl ∧ i = 4288) ∨ (a = dn ∧ 1334 ≤ dn)) := fun i z => by omega
  have hS : nTx (at1 nl) (fun x i => (x = nl ∧ i = 4288) ∨ (x = dn ∧ 1334 ≤ dn)) M B := fun y j h1 h2 h3 => ⟨fun z => by unfold at1 at z; rw [z, t1] at h3; omega, fun z => by
    rcases z with z | z
    · rw [z.1, t1] at h3; omega
    · rw [z.1, t3] at h3; omega⟩
  have tN : m_tg N1 a = 28 := (n4.2.2 a a2).1.trans a3
  have nn := n4.1
  have cN : cI N1 a 1798 = iw (acc.length : Int) := by rw [n4.cI a2 (fun z => by unfold at1 at z; omega)]; exact b7
  obtain ⟨W, eW⟩ : ∃ W, W = wI N1 a 1798 (iw ((acc.length + 1 : Nat) : Int)) := ⟨_, rfl⟩
  have dW : Df (at1 a) n2 n2 N1 W := by rw [eW]; exact Df.wI _ rfl
  have hS2 : nTx (at1 a) n2 N1 B := fun y j h1 h2 h3 => ⟨fun z => by unfold at1 at z; rw [z, tN] at h3; omega, fun z => z⟩
  have lq : (acc ++ [q]).length = acc.length + 1 := by rw [List.length_append, List.length_singleton]
  have tl : m_tg N1 lr = 1005 ∧ m_ln N1 lr = 6 := ⟨(n4.2.2 lr d2).1.trans d3, (n4.2.2 lr d2).2.1.trans d4⟩
  have tp : m_tg N1 pr = 1005 ∧ m_ln N1 pr = 6 := ⟨(n4.2.2 pr e2).1.trans e3, (n4.2.2 pr e2).2.1.trans e4⟩
  have cl : ∀ x, m_tg M x = 1005 → x < m_nx M → ∀ i, cI W x i = cI M x i := fun x hx hx2 i => by
    rw [eW, cI_wI, if_neg (fun z => by rw [z.1, a3] at hx; omega), n4.cI hx2 (fun z => by unfold at1 at z; rw [z, t1] at hx; omega)]
  have cR1 : ∀ i, cR W a i = cR M a i := fun i => by
    rw [eW]
    exact n4.cR a2 (ra i)
  have cI1 : ∀ i, i ≠ 1798 → cI W a i = cI M a i := fun i hi => by
    rw [eW, cI_wI, if_neg (by omega)]
    exact n4.cI a2 (fun z => by unfold at1 at z; omega)
  have apW := (n2'.df dW (fun z => by unfold at1 at z; omega) (fun z => z) (fun _ _ z => z)).1
  have wn : ∀ {x : Nat} {v : List Int32}, NmW M B x v → NmW W B x v := fun {x v} hx => (hx.df n4 hS).df dW hS2
  refine ⟨N1, dn', n1, by rw [gi_of tN (show x_fi 28 1798 = true by decide), cN], by rw [iw_succ]; exact pi_of _ tN (show x_wi 28 1798 = true by decide) rfl, ?_, ?_, n5, ?_⟩
  · rw [← eW]
    refine ⟨⟨a1, by rw [eW]; show a < m_nx N1; omega, by rw [eW]; exact tN⟩, ⟨by rw [cI1 _ (by decide)]; exact b1, by rw [cR1]; exact wn b2, by rw [cI1 _ (by decide)]; exact b3, by rw [cR1]; exact b4, by rw [cR1]; exact b5, by rw [cR1]; exact b6, by rw [eW, cI_wI, if_pos ⟨rfl, rfl⟩, lq]⟩, ⟨apW, c2, ?_, n7⟩, ⟨d1, by rw [eW]; show lr < m_nx N1; omega, by rw [eW]; exact tl.1, by rw [eW]; exact tl.2⟩, ⟨e1, by rw [eW]; show pr < m_nx N1; omega, by rw [eW]; exact tp.1, by rw [eW]; exact tp.2⟩, f1, by omega, by rw [List.length_append, List.length_singleton, lq, g2], fun i hi => ?_⟩
    · rcases n3 with z | z
      · rw [z]; exact c3
      · omega
    · rw [lq] at hi
      rw [cl lr d3 d2, cl pr e3 e2]
      by_cases z : i < acc.length
      · rw [getD_l (l := en) (by omega), getD_l z]
        exact ⟨wn (g3 i z).1, (g3 i z).2⟩
      · obtain rfl : i = acc.length := by omega
        rw [getD_r (l := en) (by omega), getD_r (Nat.le_refl _), g2, Nat.sub_self]
        exact ⟨wn hs, hl1, hl2⟩
  · rw [← eW]
    exact ((Df.refl _ _ _ M).then n4 (fun x i hx z => Or.inr z) (fun _ _ _ z => z) (fun x i hx z => by
      rcases z with z | z
      · exact Or.inl z.1
      · exact Or.inr z.1)).then dW (fun x i hx z => Or.inl z) (fun _ _ _ z => z) (fun _ _ _ z => z.elim)
  · have := n2'.rcb
    rw [List.length_append, List.length_singleton] at this
    omega
end
