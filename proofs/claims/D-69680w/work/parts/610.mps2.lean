/-! ===== FORMULAS, 35: the model's parser, its steps ===== -/
/-- items are left alone too -/
def nIt (P Q R : Nat → Nat → Prop) (M : Mem) (B : Nat) : Prop := ∀ x i, B ≤ x → x < m_nx M → (m_tg M x = 43 ∨ m_tg M x = 45 ∨ m_tg M x = 76 ∨ m_tg M x = 1002) → ¬ P x i ∧ ¬ Q x i ∧ ¬ R x i
theorem nIt.tk {P Q R : Nat → Nat → Prop} {M : Mem} {B : Nat} (h : nIt P Q R M B) : nTk P Q R M B := fun x i h1 h2 h3 => h x i h1 h2 (by rcases h3 with q | q | q; exact Or.inl q; exact Or.inr (Or.inr (Or.inl q)); exact Or.inr (Or.inr (Or.inr q)))
theorem IMm.df {P Q R : Nat → Nat → Prop} {M N : Mem} {B a : Nat} {t : Itm} (h : IMm M B a t) (d : Df P Q R M N) (hn : nIt P Q R M B) : IMm N B a t := by
  obtain ⟨⟨h1, h2, h3⟩, h4, h5, h6, h7, h8, h9⟩ := h
  have q := fun i => hn a i h1 h2 (Or.inr (Or.inl h3))
  have nn := d.1
  have r : cR N a 2882 = cR M a 2882 := d.cR h2 (q _).2.2
  refine ⟨⟨h1, by omega, (d.2.2 a h2).1.trans h3⟩, by rw [d.cI h2 (q _).1]; exact h4, by rw [d.cI h2 (q _).1]; exact h5, by rw [d.cI h2 (q _).1]; exact h6, by rw [((d.2.2 a h2).2.2 _).2.1 (q _).2.1]; exact h7, fun w => ?_, fun w => by rw [r]; exact h9 w⟩
  rw [r]
  exact (h8 w).df d hn.tk
section
variable {B0 B1 M : Mem} {g : Prop} {v0 lt dt i li di : Nat} {et ei : List Nat} {T : List Tok} {I : List Itm}
/-- a fault at the present token -/
theorem M_wrongP {α : Type} (h : PM B0 B1 g M v0 lt dt et T i li di ei I) : ((vg M v0 41).bind fun _ => (F_X40_wrong M v0).bind fun z => (ie z.2 z.1).bind fun _ => (some (.inr (z.1, z.2)) : Option (α ⊕ (Nat × Mem)))) = some (.inr (m_nx M, mT M 1 (iw ((T.getD i tok0).pl : Int)))) := by
  have hv := h.v
  have ht := M_tokenP h
  obtain ⟨b, ⟨v1, v2, v3⟩, ⟨c1, c2, c3, c4⟩, l, p, q, r, ⟨t1, t2, t3, t4⟩, s⟩ := h
  obtain ⟨k1, k2, k3, -⟩ := t4 i t2
  have hS := b.2.2.1
  have tm : m_tg (mT M 1 (iw ((T.getD i tok0).pl : Int))) (m_nx M) = 64 := by
    show m_tg (m_new (wI (wI M 1075 1152 1) 1075 1153 (iw ((T.getD i tok0).pl : Int))) 64 (x_cn 64)) (m_nx M) = 64
    exact tg_new.trans (if_pos rfl)
  unfold F_X40_wrong
  simp only [hv, gr_of v3 (show x_fr 41 2624 = true by decide), c1, ht, gi_of k1.2.2 (show x_fi 43 2753 = true by decide), k3, v1075, hS, M_at hS, Option.bind_some]
  unfold ie
  rw [if_pos tm]
  rfl
/-- the next token -/
theorem PM.go (h : PM B0 B1 g M v0 lt dt et T i li di ei I) {j : Nat} (hj : j < T.length) : pi M v0 2626 (iw (j : Int)) = some (wI M v0 2626 (iw (j : Int))) ∧ PM B0 B1 g (wI M v0 2626 (iw (j : Int))) v0 lt dt et T j li di ei I ∧ rcs (wI M v0 2626 (iw (j : Int))) di = rcs M di := by
  obtain ⟨⟨b1, b2, b3, b4, b5, b6, b7⟩, ⟨v1, v2, v3⟩, ⟨c1, c2, c3, c4⟩, ⟨l1, l2, l3⟩, ⟨p1, p2, p3⟩, q, r, ⟨t1, t2, t3, t4⟩, s1, s2⟩ := h
  obtain ⟨N, hN⟩ : ∃ N, N = wI M v0 2626 (iw (j : Int)) := ⟨_, rfl⟩
  have a0 : at1 v0 v0 2626 := rfl
  have d : Df (at1 v0) n2 n2 M N := by rw [hN]; exact Df.wI _ a0
  rw [← hN]
  have nn := b2.1
  have nI : nIt (at1 v0) n2 n2 M (m_nx B0) := fun x i x1 x2 x3 => ⟨fun w => by unfold at1 at w; rw [w, v3] at x3; omega, fun w => w, fun w => w⟩
  have ne : ∀ a, m_tg M a = 67 → ¬ at1 v0 a 4289 := fun a ha w => by unfold at1 at w; rw [w, v3] at ha; exact absurd ha (by decide)
  obtain ⟨a1, a2⟩ := p1.df d (ne _ p1.1.2.1) (fun w => w) (fun _ _ w => w)
  have tg4 : m_tg N 4 = m_tg M 4 ∧ m_ln N 4 = m_ln M 4 := by rw [hN]; exact ⟨rfl, rfl⟩
  have sN : ST N := by rw [hN]; exact b3
  refine ⟨by rw [hN]; exact pi_of _ v3 (show x_wi 41 2626 = true by decide) rfl, ⟨⟨b1, b2.then d (fun x i hx w => (show False by unfold at1 at w; omega)) (fun _ _ _ w => w) (fun _ _ _ w => w), sN, b4.df b3 d (fun a i w1 w2 => by unfold at1 at w2; omega) (fun _ _ _ w => w), tg4.1.trans b5, tg4.2.trans b6, b7.1, b7.2.1, b7.2.2.1.then d (fun x i hx w => Or.inl w) (fun _ _ _ w => w) (fun _ _ _ w => w.elim), fun s w hw => (b7.2.2.2 s w hw).df d nI.tk⟩, ⟨v1, by rw [hN]; exact v2, by rw [hN]; exact v3⟩, ⟨by rw [hN]; exact c1, by rw [hN]; exact c2, by rw [hN, cI_wI, if_pos ⟨rfl, rfl⟩], fun hg => by rw [hN]; exact c4 hg⟩, ⟨l1.df d (ne _ l1.2.1) (fun w => w) (fun _ _ w => w), l2, l3⟩, ⟨a1, p2, p3⟩, q, r, ⟨t1, hj, t3, fun k hk => (t4 k hk).df d nI.tk⟩, s1, fun k hk => (s2 k hk).df d nI⟩, a2⟩
end
