/-! ===== FORMULAS, 23: the engine's nodes ===== -/
def ND (M : Mem) (a t p h : Nat) : Prop := a < m_nx M ∧ m_tg M a = t ∧ cI M a 1856 = iw (p : Int) ∧ cI M a 1858 = iw (h : Int)
def NmW (M : Mem) (B s : Nat) (w : List Int32) : Prop := NMk M B s w ∧ ascs w ∧ w.length ≤ 12
/-- an expression as nodes that lie from lo to hi -/
def NEx (M : Mem) (B : Nat) : Ex → Nat → Nat → List Nat → Prop
  | .lit p l b, lo, hi, as => ∃ a, as = [a] ∧ (lo ≤ a ∧ a < hi) ∧ ND M a 31 p 1 ∧ cI M a 1857 = l ∧ cJ M a 1984 = b
  | .nam p w, lo, hi, as => ∃ a, as = [a] ∧ (lo ≤ a ∧ a < hi) ∧ ND M a 32 p 1 ∧ NmW M B (cR M a 2048) w
  | .pre p s e, lo, hi, as => ∃ a c m, as = [a] ∧ NEx M B e lo m [c] ∧ (lo ≤ m ∧ m ≤ a ∧ a < hi) ∧ ND M a 30 p (e.ht + 1) ∧ cI M a 1920 = s ∧ cR M a 1921 = c
  | .cst p l e, lo, hi, as => ∃ a c m, as = [a] ∧ NEx M B e lo m [c] ∧ (lo ≤ m ∧ m ≤ a ∧ a < hi) ∧ ND M a 34 p (e.ht + 1) ∧ cI M a 1857 = l ∧ cR M a 2176 = c
  | .bin p o x y, lo, hi, as => ∃ a c d m1 m2, as = [a] ∧ NEx M B x lo m1 [c] ∧ NEx M B y m1 m2 [d] ∧ (lo ≤ m1 ∧ m1 ≤ m2 ∧ m2 ≤ a ∧ a < hi) ∧ ND M a 35 p (max x.ht y.ht + 1) ∧ cI M a 2240 = o ∧ cR M a 2241 = c ∧ cR M a 2242 = d
  | .cnd p z x y, lo, hi, as => ∃ a b c d m0 m1 m2, as = [a] ∧ NEx M B z lo m0 [b] ∧ NEx M B x m0 m1 [c] ∧ NEx M B y m1 m2 [d] ∧ (lo ≤ m0 ∧ m0 ≤ m1 ∧ m1 ≤ m2 ∧ m2 ≤ a ∧ a < hi) ∧ ND M a 36 p (max z.ht (max x.ht y.ht) + 1) ∧ cR M a 2304 = b ∧ cR M a 2305 = c ∧ cR M a 2306 = d
  | .cal p w r, lo, hi, as => ∃ a la da es m, as = [a] ∧ NEx M B r lo m es ∧ (lo ≤ m ∧ m ≤ a ∧ a < hi) ∧ ND M a 33 p (r.ht + 1) ∧ NmW M B (cR M a 2112) w ∧ cR M a 2113 = la ∧ cI M a 2114 = -1 ∧ AL M la da es ∧ (lo ≤ la ∧ la < hi) ∧ (lo ≤ da ∧ da < hi)
  | .anl, _, _, as => as = []
  | .acn e r, lo, hi, as => ∃ a as' l m, as = a :: as' ∧ lo ≤ l ∧ NEx M B e l m [a] ∧ l ≤ m ∧ m ≤ hi ∧ NEx M B r m hi as'
theorem NMk.b {M : Mem} {B B' s : Nat} {w : List Int32} (h : NMk M B s w) (hb : B' ≤ B) : NMk M B' s w := ⟨h.1, h.2.1, ⟨by have := h.2.2.1.1; omega, h.2.2.1.2⟩, by have := h.2.2.2.1; omega, h.2.2.2.2⟩
/-- texts are left alone -/
def nTx (P R : Nat → Nat → Prop) (M : Mem) (B : Nat) : Prop := ∀ x i, B ≤ x → x < m_nx M → (m_tg M x = 76 ∨ m_tg M x = 1002 ∨ m_tg M x = 1008) → ¬ P x i ∧ ¬ R x i
section
variable {P Q R : Nat → Nat → Prop} {M N : Mem} {B : Nat}
theorem NMk.df {s : Nat} {w : List Int32} (h : NMk M B s w) (d : Df P Q R M N) (hS : nTx P R M B) : NMk N B s w ∧ cR N s 4864 = cR M s 4864 := by
  obtain ⟨h1, h2, ⟨h3, h4⟩, h5, h6⟩ := h
  have q := fun i => hS s i h3 h4 (Or.inl h2)
  have r : cR N s 4864 = cR M s 4864 := d.cR h4 (q _).2
  have t2 : m_tg M (cR M s 4864) = 76 ∨ m_tg M (cR M s 4864) = 1002 ∨ m_tg M (cR M s 4864) = 1008 := by rcases h1.2.2.1 with w | w <;> omega
  obtain ⟨sd, -⟩ := h1.df d h4 h6 (q _).2 (q _).1 (fun i => (hS _ i h5 h6 t2).1)
  have nn := d.1
  exact ⟨⟨sd, (d.2.2 s h4).1.trans h2, ⟨h3, by omega⟩, by rw [r]; exact h5, by rw [r]; omega⟩, r⟩
theorem NmW.df {s : Nat} {w : List Int32} (h : NmW M B s w) (d : Df P Q R M N) (hS : nTx P R M B) : NmW N B s w := ⟨(h.1.df d hS).1, h.2⟩
theorem ND.df {a t p h : Nat} (k : ND M a t p h) (d : Df P Q R M N) (hP : ∀ i, ¬ P a i) : ND N a t p h := by
  obtain ⟨k1, k2, k3, k4⟩ := k
  have nn := d.1
  exact ⟨by omega, (d.2.2 a k1).1.trans k2, by rw [d.cI k1 (hP _)]; exact k3, by rw [d.cI k1 (hP _)]; exact k4⟩
theorem NEx.df (d : Df P Q R M N) (hS : nTx P R M B) : ∀ (e : Ex) (lo hi : Nat) (as : List Nat), (∀ x i, lo ≤ x → x < hi → ¬ P x i ∧ ¬ Q x i ∧ ¬ R x i) → NEx M B e lo hi as → NEx N B e lo hi as
  | .lit p l b, lo, hi, as, hI, ⟨a, h1, h2, h3, h4, h5⟩ => ⟨a, h1, h2, h3.df d (fun i => (hI a i h2.1 h2.2).1), by rw [d.cI h3.1 (hI a _ h2.1 h2.2).1]; exact h4, by rw [((d.2.2 a h3.1).2.2 _).2.1 (hI a _ h2.1 h2.2).2.1]; exact h5⟩
  | .nam p w, lo, hi, as, hI, ⟨a, h1, h2, h3, h4⟩ => ⟨a, h1, h2, h3.df d (fun i => (hI a i h2.1 h2.2).1), by rw [d.cR h3.1 (hI a _ h2.1 h2.2).2.2]; exact h4.df d hS⟩
  | .pre p s e, lo, hi, as, hI, ⟨a, c, m, h1, h2, ⟨h3, h3', h3''⟩, h4, h5, h6⟩ => by
    have q := fun i => hI a i (by omega) h3''
    exact ⟨a, c, m, h1, NEx.df d hS e lo m [c] (fun x i x1 x2 => hI x i x1 (by omega)) h2, ⟨h3, h3', h3''⟩, h4.df d (fun i => (q i).1), by rw [d.cI h4.1 (q _).1]; exact h5, by rw [d.cR h4.1 (q _).2.2]; exact h6⟩
  | .cst p l e, lo, hi, as, hI, ⟨a, c, m, h1, h2, ⟨h3, h3', h3''⟩, h4, h5, h6⟩ => by
    have q := fun i => hI a i (by omega) h3''
    exact ⟨a, c, m, h1, NEx.df d hS e lo m [c] (fun x i x1 x2 => hI x i x1 (by omega)) h2, ⟨h3, h3', h3''⟩, h4.df d (fun i => (q i).1), by rw [d.cI h4.1 (q _).1]; exact h5, by rw [d.cR h4.1 (q _).2.2]; exact h6⟩
  | .bin p o x y, lo, hi, as, hI, ⟨a, c, e, m1, m2, h1, h2, h2', ⟨h3, h3a, h3b, h3c⟩, h4, h5, h6, h7⟩ => by
    have q := fun i => hI a i (by omega) h3c
    exact ⟨a, c, e, m1, m2, h1, NEx.df d hS x lo m1 [c] (fun x i x1 x2 => hI x i x1 (by omega)) h2, NEx.df d hS y m1 m2 [e] (fun x i x1 x2 => hI x i (by omega) (by omega)) h2', ⟨h3, h3a, h3b, h3c⟩, h4.df d (fun i => (q i).1), by rw [d.cI h4.1 (q _).1]; exact h5, by rw [d.cR h4.1 (q _).2.2]; exact h6, by rw [d.cR h4.1 (q _).2.2]; exact h7⟩
  | .cnd p z x y, lo, hi, as, hI, ⟨a, b, c, e, m0, m1, m2, h1, h2, h2', h2'', ⟨h3, h3a, h3b, h3c, h3d⟩, h4, h5, h6, h7⟩ => by
    have q := fun i => hI a i (by omega) h3d
    exact ⟨a, b, c, e, m0, m1, m2, h1, NEx.df d hS z lo m0 [b] (fun x i x1 x2 => hI x i x1 (by omega)) h2, NEx.df d hS x m0 m1 [c] (fun x i x1 x2 => hI x i (by omega) (by omega)) h2', NEx.df d hS y m1 m2 [e] (fun x i x1 x2 => hI x i (by omega) (by omega)) h2'', ⟨h3, h3a, h3b, h3c, h3d⟩, h4.df d (fun i => (q i).1), by rw [d.cR h4.1 (q _).2.2]; exact h5, by rw [d.cR h4.1 (q _).2.2]; exact h6, by rw [d.cR h4.1 (q _).2.2]; exact h7⟩
  | .cal p w r, lo, hi, as, hI, ⟨a, la, da, es, m, h1, h2, ⟨h3, h3', h3''⟩, h4, h5, h6, h7, h8, ⟨h9, h9'⟩, ⟨h10, h10'⟩⟩ => by
    have q := fun i => hI a i (by omega) h3''
    exact ⟨a, la, da, es, m, h1, NEx.df d hS r lo m es (fun x i x1 x2 => hI x i x1 (by omega)) h2, ⟨h3, h3', h3''⟩, h4.df d (fun i => (q i).1), by rw [d.cR h4.1 (q _).2.2]; exact h5.df d hS, by rw [d.cR h4.1 (q _).2.2]; exact h6, by rw [d.cI h4.1 (q _).1]; exact h7, h8.df d (hI la _ h9 h9').1 (hI la _ h9 h9').2.2 (fun i _ => (hI da i h10 h10').2.2), ⟨h9, h9'⟩, ⟨h10, h10'⟩⟩
  | .anl, lo, hi, as, hI, h => h
  | .acn e r, lo, hi, as, hI, ⟨a, as', l, m, h1, h2, h3, h4, h5, h6⟩ => ⟨a, as', l, m, h1, h2, NEx.df d hS e l m [a] (fun x i x1 x2 => hI x i (by omega) (by omega)) h3, h4, h5, NEx.df d hS r m hi as' (fun x i x1 x2 => hI x i (by omega) x2) h6⟩
end
theorem NEx.mono {M : Mem} {B : Nat} : ∀ (e : Ex) {lo hi lo' hi' : Nat} {as : List Nat}, NEx M B e lo hi as → lo' ≤ lo → hi ≤ hi' → NEx M B e lo' hi' as
  | .lit p l b, _, _, _, _, _, ⟨a, h1, h2, h3⟩, k1, k2 => ⟨a, h1, ⟨by omega, by omega⟩, h3⟩
  | .nam p w, _, _, _, _, _, ⟨a, h1, h2, h3⟩, k1, k2 => ⟨a, h1, ⟨by omega, by omega⟩, h3⟩
  | .pre p s e, _, _, _, _, _, ⟨a, c, m, h1, h2, h3, h4⟩, k1, k2 => ⟨a, c, m, h1, NEx.mono e h2 k1 (Nat.le_refl _), by omega, h4⟩
  | .cst p l e, _, _, _, _, _, ⟨a, c, m, h1, h2, h3, h4⟩, k1, k2 => ⟨a, c, m, h1, NEx.mono e h2 k1 (Nat.le_refl _), by omega, h4⟩
  | .bin p o x y, _, _, _, _, _, ⟨a, c, d, m1, m2, h1, h2, h2', h3, h4⟩, k1, k2 => ⟨a, c, d, m1, m2, h1, NEx.mono x h2 k1 (Nat.le_refl _), h2', by omega, h4⟩
  | .cnd p z x y, _, _, _, _, _, ⟨a, b, c, d, m0, m1, m2, h1, h2, h2', h2'', h3, h4⟩, k1, k2 => ⟨a, b, c, d, m0, m1, m2, h1, NEx.mono z h2 k1 (Nat.le_refl _), h2', h2'', by omega, h4⟩
  | .cal p w r, _, _, _, _, _, ⟨a, la, da, es, m, h1, h2, h3, h4, h5, h6, h7, h8, h9, h10⟩, k1, k2 => ⟨a, la, da, es, m, h1, NEx.mono r h2 k1 (Nat.le_refl _), by omega, h4, h5, h6, h7, h8, by omega, by omega⟩
  | .anl, _, _, _, _, _, h, _, _ => h
  | .acn e r, _, _, _, _, _, ⟨a, as', l, m, h1, h2, h3, h4, h5, h6⟩, k1, k2 => ⟨a, as', l, m, h1, by omega, h3, h4, by omega, NEx.mono r h6 (Nat.le_refl _) k2⟩
/-- one that is no row has one node; its height -/
def Ex.isx : Ex → Prop
  | .anl => False
  | .acn _ _ => False
  | _ => True
theorem NEx.one {M : Mem} {B : Nat} : ∀ (e : Ex) {lo hi : Nat} {as : List Nat}, e.isx → NEx M B e lo hi as → ∃ a t p, as = [a] ∧ (30 ≤ t ∧ t ≤ 36) ∧ ND M a t p e.ht ∧ lo ≤ a ∧ a < hi
  | .lit p l b, _, _, _, _, ⟨a, h1, h2, h3, _⟩ => ⟨a, 31, p, h1, by omega, h3, h2⟩
  | .nam p w, _, _, _, _, ⟨a, h1, h2, h3, _⟩ => ⟨a, 32, p, h1, by omega, h3, h2⟩
  | .pre p s e, _, _, _, _, ⟨a, c, m, h1, h2, h3, h4, _⟩ => ⟨a, 30, p, h1, by omega, h4, by omega, by omega⟩
  | .cst p l e, _, _, _, _, ⟨a, c, m, h1, h2, h3, h4, _⟩ => ⟨a, 34, p, h1, by omega, h4, by omega, by omega⟩
  | .bin p o x y, _, _, _, _, ⟨a, c, d, m1, m2, h1, h2, h2', h3, h4, _⟩ => ⟨a, 35, p, h1, by omega, h4, by omega, by omega⟩
  | .cnd p z x y, _, _, _, _, ⟨a, b, c, d, m0, m1, m2, h1, h2, h2', h2'', h3, h4, _⟩ => ⟨a, 36, p, h1, by omega, h4, by omega, by omega⟩
  | .cal p w r, _, _, _, _, ⟨a, la, da, es, m, h1, h2, h3, h4, _⟩ => ⟨a, 33, p, h1, by omega, h4, by omega, by omega⟩
/-- a cell that is being made -/
def NCl (M N : Mem) (t : Nat) : Prop := Df n2 n2 n2 M N ∧ m_nx N = m_nx M + 1 ∧ m_sl N = m_sl M + x_cn t ∧ m_tg N (m_nx M) = t
theorem NCl.start (M : Mem) (t : Nat) : NCl M (mo M t) t := by
  refine ⟨?_, rfl, rfl, ?_⟩
  · exact Df.new _ _
  · show m_tg (m_new M t _) _ = _; rw [tg_new, if_pos rfl]
section
variable {M N : Mem} {t : Nat}
theorem NCl.wI (h : NCl M N t) (g : Nat) (v : Int32) : NCl M (wI N (m_nx M) g v) t := by
  have q : at1 (m_nx M) (m_nx M) g := rfl
  exact ⟨h.1.then (Df.wI (P := at1 (m_nx M)) (Q := n2) (R := n2) v q) (fun x i hx w => (show False by unfold at1 at w; omega)) (fun _ _ _ w => w) (fun _ _ _ w => w), h.2.1, h.2.2.1, h.2.2.2⟩
theorem NCl.wJ (h : NCl M N t) (g : Nat) (v : Int64) : NCl M (wJ N (m_nx M) g v) t := by
  have q : at1 (m_nx M) (m_nx M) g := rfl
  exact ⟨h.1.then (Df.wJ (P := n2) (Q := at1 (m_nx M)) (R := n2) v q) (fun _ _ _ w => w) (fun x i hx w => (show False by unfold at1 at w; omega)) (fun _ _ _ w => w), h.2.1, h.2.2.1, h.2.2.2⟩
theorem NCl.wR (h : NCl M N t) (g v : Nat) : NCl M (wR N (m_nx M) g v) t := by
  have q : at1 (m_nx M) (m_nx M) g := rfl
  exact ⟨h.1.then (Df.wR (P := n2) (Q := n2) (R := at1 (m_nx M)) v q) (fun _ _ _ w => w) (fun _ _ _ w => w) (fun x i hx w => (show False by unfold at1 at w; omega)), h.2.1, h.2.2.1, h.2.2.2⟩
/-- Node's own constructor -/
def nd0 (N : Mem) (a : Nat) (p : Int32) : Mem := wI (wI N a 1858 1) a 1856 p
theorem E_nd0 (h : NCl M N t) (ht : 30 ≤ t ∧ t ≤ 36) (p : Int32) : F_X28_init N (m_nx M) p = some (nd0 N (m_nx M) p) ∧ NCl M (nd0 N (m_nx M) p) t := by
  have w8 : x_wi t 1858 = true ∧ x_wi t 1856 = true := by
    obtain ⟨h1, h2⟩ := ht
    have : t = 30 ∨ t = 31 ∨ t = 32 ∨ t = 33 ∨ t = 34 ∨ t = 35 ∨ t = 36 := by omega
    rcases this with rfl | rfl | rfl | rfl | rfl | rfl | rfl <;> decide
  have h1 := h.wI 1858 1
  refine ⟨?_, h1.wI 1856 p⟩
  unfold F_X28_init nd0
  rw [ng_of h.2.2.2 (by omega), Option.bind_some, pi_of 1 h.2.2.2 w8.1 rfl, Option.bind_some, pi_of p h1.2.2.2 w8.2 rfl, Option.bind_some]
/-- over -/
theorem E_over {K : Mem} {a c u : Nat} {x y : Nat} (ha : m_tg K a = t) (hc : m_tg K c = u) (h1 : 30 ≤ t ∧ t ≤ 36) (h2 : 30 ≤ u ∧ u ≤ 36) (ca : cI K a 1858 = iw (x : Int)) (cc : cI K c 1858 = iw (y : Int)) (hx : x ≤ 100000) (hy : y ≤ 100000) : F_X28_over K a c = some (a, wI K a 1858 (iw ((max x (y + 1) : Nat) : Int))) := by
  have all : ∀ t, 30 ≤ t → t ≤ 36 → x_wi t 1858 = true ∧ x_fi t 1858 = true := fun t h1 h2 => by
    have : t = 30 ∨ t = 31 ∨ t = 32 ∨ t = 33 ∨ t = 34 ∨ t = 35 ∨ t = 36 := by omega
    rcases this with rfl | rfl | rfl | rfl | rfl | rfl | rfl <;> decide
  unfold F_X28_over
  rw [gi_of ha (all t h1.1 h1.2).2, Option.bind_some, gi_of hc (all u h2.1 h2.2).2, Option.bind_some, ca, cc, iw_succ, J_max0 (by omega) (by omega), Option.bind_some, pi_of _ ha (all t h1.1 h1.2).1 rfl, Option.bind_some]
end
theorem nd0_c (N : Mem) (a : Nat) (p : Int32) : cI (nd0 N a p) a 1858 = 1 ∧ cI (nd0 N a p) a 1856 = p := by
  unfold nd0
  exact ⟨by rw [cI_wI, if_neg (by omega), cI_wI, if_pos ⟨rfl, rfl⟩], by rw [cI_wI, if_pos ⟨rfl, rfl⟩]⟩
