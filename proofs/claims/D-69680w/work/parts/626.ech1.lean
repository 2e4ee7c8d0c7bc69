/-! ===== FORMULAS, 51: the engine's nodes with their lanes; frames of a check; the scope ===== -/
/-- checked nodes, from lo to hi; ea the functions' addresses -/
def NTx (M : Mem) (ea : List Nat) : Tx → Nat → Nat → List Nat → Prop
  | .lit l b, lo, hi, as => ∃ a, as = [a] ∧ (lo ≤ a ∧ a < hi) ∧ (a < m_nx M ∧ m_tg M a = 31) ∧ cI M a 1857 = l ∧ cJ M a 1984 = b
  | .par n l, lo, hi, as => ∃ a, as = [a] ∧ (lo ≤ a ∧ a < hi) ∧ (a < m_nx M ∧ m_tg M a = 32) ∧ cI M a 1857 = l ∧ cI M a 2049 = 3 ∧ cI M a 2050 = iw (n : Int)
  | .opd n l, lo, hi, as => ∃ a, as = [a] ∧ (lo ≤ a ∧ a < hi) ∧ (a < m_nx M ∧ m_tg M a = 32) ∧ cI M a 1857 = l ∧ cI M a 2049 = 1 ∧ cI M a 2050 = iw (n : Int)
  | .spt n, lo, hi, as => ∃ a, as = [a] ∧ (lo ≤ a ∧ a < hi) ∧ (a < m_nx M ∧ m_tg M a = 32) ∧ cI M a 1857 = 4 ∧ cI M a 2049 = 2 ∧ cI M a 2050 = iw (n : Int)
  | .pre s l e, lo, hi, as => ∃ a c m, as = [a] ∧ NTx M ea e lo m [c] ∧ (lo ≤ m ∧ m ≤ a ∧ a < hi) ∧ (a < m_nx M ∧ m_tg M a = 30) ∧ cI M a 1857 = l ∧ cI M a 1920 = s ∧ cR M a 1921 = c
  | .cst l e, lo, hi, as => ∃ a c m, as = [a] ∧ NTx M ea e lo m [c] ∧ (lo ≤ m ∧ m ≤ a ∧ a < hi) ∧ (a < m_nx M ∧ m_tg M a = 34) ∧ cI M a 1857 = l ∧ cR M a 2176 = c
  | .bin o i l x y, lo, hi, as => ∃ a c d m1 m2, as = [a] ∧ NTx M ea x lo m1 [c] ∧ NTx M ea y m1 m2 [d] ∧ (lo ≤ m1 ∧ m1 ≤ m2 ∧ m2 ≤ a ∧ a < hi) ∧ (a < m_nx M ∧ m_tg M a = 35) ∧ cI M a 1857 = l ∧ cI M a 2240 = o ∧ cI M a 2243 = i ∧ cR M a 2241 = c ∧ cR M a 2242 = d
  | .sho o x y, lo, hi, as => ∃ a c d m1 m2, as = [a] ∧ NTx M ea x lo m1 [c] ∧ NTx M ea y m1 m2 [d] ∧ (lo ≤ m1 ∧ m1 ≤ m2 ∧ m2 ≤ a ∧ a < hi) ∧ (a < m_nx M ∧ m_tg M a = 35) ∧ cI M a 1857 = 0 ∧ cI M a 2240 = o ∧ cR M a 2241 = c ∧ cR M a 2242 = d
  | .cnd l z x y, lo, hi, as => ∃ a b c d m0 m1 m2, as = [a] ∧ NTx M ea z lo m0 [b] ∧ NTx M ea x m0 m1 [c] ∧ NTx M ea y m1 m2 [d] ∧ (lo ≤ m0 ∧ m0 ≤ m1 ∧ m1 ≤ m2 ∧ m2 ≤ a ∧ a < hi) ∧ (a < m_nx M ∧ m_tg M a = 36) ∧ cI M a 1857 = l ∧ cR M a 2304 = b ∧ cR M a 2305 = c ∧ cR M a 2306 = d
  | .bui f i r, lo, hi, as => ∃ a la da es m, as = [a] ∧ NTx M ea r lo m es ∧ (lo ≤ m ∧ m ≤ a ∧ a < hi) ∧ (a < m_nx M ∧ m_tg M a = 33) ∧ cI M a 1857 = i ∧ cI M a 2114 = -1 ∧ cI M a 2115 = iw (f : Int) ∧ cI M a 2116 = i ∧ cR M a 2113 = la ∧ AL M la da es ∧ (lo ≤ la ∧ la < hi) ∧ (lo ≤ da ∧ da < hi)
  | .cal f l r, lo, hi, as => ∃ a la da es m, as = [a] ∧ NTx M ea r lo m es ∧ (lo ≤ m ∧ m ≤ a ∧ a < hi) ∧ (a < m_nx M ∧ m_tg M a = 33) ∧ cI M a 1857 = l ∧ cI M a 2114 = iw (f : Int) ∧ cR M a 2117 = ea.getD f 0 ∧ cR M a 2113 = la ∧ AL M la da es ∧ (lo ≤ la ∧ la < hi) ∧ (lo ≤ da ∧ da < hi)
  | .anl, _, _, as => as = []
  | .acn _ e r, lo, hi, as => ∃ a as' l m, as = a :: as' ∧ lo ≤ l ∧ NTx M ea e l m [a] ∧ l ≤ m ∧ m ≤ hi ∧ NTx M ea r m hi as'
section
variable {P Q R : Nat → Nat → Prop} {M N : Mem} {ea : List Nat}
theorem NTx.df (d : Df P Q R M N) : ∀ (e : Tx) (lo hi : Nat) (as : List Nat), (∀ x i, lo ≤ x → x < hi → ¬ P x i ∧ ¬ Q x i ∧ ¬ R x i) → NTx M ea e lo hi as → NTx N ea e lo hi as
  | .lit l b, lo, hi, as, hI, ⟨a, h1, h2, h3, h4, h5⟩ => ⟨a, h1, h2, ⟨Nat.lt_of_lt_of_le h3.1 d.1, (d.2.2 a h3.1).1.trans h3.2⟩, by rw [d.cI h3.1 (hI a _ h2.1 h2.2).1]; exact h4, by rw [((d.2.2 a h3.1).2.2 _).2.1 (hI a _ h2.1 h2.2).2.1]; exact h5⟩
  | .par n l, lo, hi, as, hI, ⟨a, h1, h2, h3, h4, h5, h6⟩ => ⟨a, h1, h2, ⟨Nat.lt_of_lt_of_le h3.1 d.1, (d.2.2 a h3.1).1.trans h3.2⟩, by rw [d.cI h3.1 (hI a _ h2.1 h2.2).1]; exact h4, by rw [d.cI h3.1 (hI a _ h2.1 h2.2).1]; exact h5, by rw [d.cI h3.1 (hI a _ h2.1 h2.2).1]; exact h6⟩
  | .opd n l, lo, hi, as, hI, ⟨a, h1, h2, h3, h4, h5, h6⟩ => ⟨a, h1, h2, ⟨Nat.lt_of_lt_of_le h3.1 d.1, (d.2.2 a h3.1).1.trans h3.2⟩, by rw [d.cI h3.1 (hI a _ h2.1 h2.2).1]; exact h4, by rw [d.cI h3.1 (hI a _ h2.1 h2.2).1]; exact h5, by rw [d.cI h3.1 (hI a _ h2.1 h2.2).1]; exact h6⟩
  | .spt n, lo, hi, as, hI, ⟨a, h1, h2, h3, h4, h5, h6⟩ => ⟨a, h1, h2, ⟨Nat.lt_of_lt_of_le h3.1 d.1, (d.2.2 a h3.1).1.trans h3.2⟩, by rw [d.cI h3.1 (hI a _ h2.1 h2.2).1]; exact h4, by rw [d.cI h3.1 (hI a _ h2.1 h2.2).1]; exact h5, by rw [d.cI h3.1 (hI a _ h2.1 h2.2).1]; exact h6⟩
  | .pre s l e, lo, hi, as, hI, ⟨a, c, m, h1, h2, ⟨h3, h3', h3''⟩, h4, h5, h6, h7⟩ => by
    have q := fun i => hI a i (by omega) h3''
    exact ⟨a, c, m, h1, NTx.df d e lo m [c] (fun x i x1 x2 => hI x i x1 (by omega)) h2, ⟨h3, h3', h3''⟩, ⟨Nat.lt_of_lt_of_le h4.1 d.1, (d.2.2 a h4.1).1.trans h4.2⟩, by rw [d.cI h4.1 (q _).1]; exact h5, by rw [d.cI h4.1 (q _).1]; exact h6, by rw [d.cR h4.1 (q _).2.2]; exact h7⟩
  | .cst l e, lo, hi, as, hI, ⟨a, c, m, h1, h2, ⟨h3, h3', h3''⟩, h4, h5, h6⟩ => by
    have q := fun i => hI a i (by omega) h3''
    exact ⟨a, c, m, h1, NTx.df d e lo m [c] (fun x i x1 x2 => hI x i x1 (by omega)) h2, ⟨h3, h3', h3''⟩, ⟨Nat.lt_of_lt_of_le h4.1 d.1, (d.2.2 a h4.1).1.trans h4.2⟩, by rw [d.cI h4.1 (q _).1]; exact h5, by rw [d.cR h4.1 (q _).2.2]; exact h6⟩
  | .bin o j l x y, lo, hi, as, hI, ⟨a, c, e, m1, m2, h1, h2, h2', ⟨h3, h3a, h3b, h3c⟩, h4, h5, h6, h7, h8, h9⟩ => by
    have q := fun i => hI a i (by omega) h3c
    exact ⟨a, c, e, m1, m2, h1, NTx.df d x lo m1 [c] (fun x i x1 x2 => hI x i x1 (by omega)) h2, NTx.df d y m1 m2 [e] (fun x i x1 x2 => hI x i (by omega) (by omega)) h2', ⟨h3, h3a, h3b, h3c⟩, ⟨Nat.lt_of_lt_of_le h4.1 d.1, (d.2.2 a h4.1).1.trans h4.2⟩, by rw [d.cI h4.1 (q _).1]; exact h5, by rw [d.cI h4.1 (q _).1]; exact h6, by rw [d.cI h4.1 (q _).1]; exact h7, by rw [d.cR h4.1 (q _).2.2]; exact h8, by rw [d.cR h4.1 (q _).2.2]; exact h9⟩
  | .sho o x y, lo, hi, as, hI, ⟨a, c, e, m1, m2, h1, h2, h2', ⟨h3, h3a, h3b, h3c⟩, h4, h5, h6, h8, h9⟩ => by
    have q := fun i => hI a i (by omega) h3c
    exact ⟨a, c, e, m1, m2, h1, NTx.df d x lo m1 [c] (fun x i x1 x2 => hI x i x1 (by omega)) h2, NTx.df d y m1 m2 [e] (fun x i x1 x2 => hI x i (by omega) (by omega)) h2', ⟨h3, h3a, h3b, h3c⟩, ⟨Nat.lt_of_lt_of_le h4.1 d.1, (d.2.2 a h4.1).1.trans h4.2⟩, by rw [d.cI h4.1 (q _).1]; exact h5, by rw [d.cI h4.1 (q _).1]; exact h6, by rw [d.cR h4.1 (q _).2.2]; exact h8, by rw [d.cR h4.1 (q _).2.2]; exact h9⟩
  | .cnd l z x y, lo, hi, as, hI, ⟨a, b, c, e, m0, m1, m2, h1, h2, h2', h2'', ⟨h3, h3a, h3b, h3c, h3d⟩, h4, h5, h6, h7, h8⟩ => by
    have q := fun i => hI a i (by omega) h3d
    exact ⟨a, b, c, e, m0, m1, m2, h1, NTx.df d z lo m0 [b] (fun x i x1 x2 => hI x i x1 (by omega)) h2, NTx.df d x m0 m1 [c] (fun x i x1 x2 => hI x i (by omega) (by omega)) h2', NTx.df d y m1 m2 [e] (fun x i x1 x2 => hI x i (by omega) (by omega)) h2'', ⟨h3, h3a, h3b, h3c, h3d⟩, ⟨Nat.lt_of_lt_of_le h4.1 d.1, (d.2.2 a h4.1).1.trans h4.2⟩, by rw [d.cI h4.1 (q _).1]; exact h5, by rw [d.cR h4.1 (q _).2.2]; exact h6, by rw [d.cR h4.1 (q _).2.2]; exact h7, by rw [d.cR h4.1 (q _).2.2]; exact h8⟩
  | .bui f j r, lo, hi, as, hI, ⟨a, la, da, es, m, h1, h2, ⟨h3, h3', h3''⟩, h4, h5, h6, h7, h8, h9, h10, ⟨h11, h11'⟩, ⟨h12, h12'⟩⟩ => by
    have q := fun i => hI a i (by omega) h3''
    exact ⟨a, la, da, es, m, h1, NTx.df d r lo m es (fun x i x1 x2 => hI x i x1 (by omega)) h2, ⟨h3, h3', h3''⟩, ⟨Nat.lt_of_lt_of_le h4.1 d.1, (d.2.2 a h4.1).1.trans h4.2⟩, by rw [d.cI h4.1 (q _).1]; exact h5, by rw [d.cI h4.1 (q _).1]; exact h6, by rw [d.cI h4.1 (q _).1]; exact h7, by rw [d.cI h4.1 (q _).1]; exact h8, by rw [d.cR h4.1 (q _).2.2]; exact h9, h10.df d (hI la _ h11 h11').1 (hI la _ h11 h11').2.2 (fun i _ => (hI da i h12 h12').2.2), ⟨h11, h11'⟩, ⟨h12, h12'⟩⟩
  | .cal f l r, lo, hi, as, hI, ⟨a, la, da, es, m, h1, h2, ⟨h3, h3', h3''⟩, h4, h5, h6, h7, h9, h10, ⟨h11, h11'⟩, ⟨h12, h12'⟩⟩ => by
    have q := fun i => hI a i (by omega) h3''
    exact ⟨a, la, da, es, m, h1, NTx.df d r lo m es (fun x i x1 x2 => hI x i x1 (by omega)) h2, ⟨h3, h3', h3''⟩, ⟨Nat.lt_of_lt_of_le h4.1 d.1, (d.2.2 a h4.1).1.trans h4.2⟩, by rw [d.cI h4.1 (q _).1]; exact h5, by rw [d.cI h4.1 (q _).1]; exact h6, by rw [d.cR h4.1 (q _).2.2]; exact h7, by rw [d.cR h4.1 (q _).2.2]; exact h9, h10.df d (hI la _ h11 h11').1 (hI la _ h11 h11').2.2 (fun i _ => (hI da i h12 h12').2.2), ⟨h11, h11'⟩, ⟨h12, h12'⟩⟩
  | .anl, lo, hi, as, hI, h => h
  | .acn _ e r, lo, hi, as, hI, ⟨a, as', l, m, h1, h2, h3, h4, h5, h6⟩ => ⟨a, as', l, m, h1, h2, NTx.df d e l m [a] (fun x i x1 x2 => hI x i (by omega) (by omega)) h3, h4, h5, NTx.df d r m hi as' (fun x i x1 x2 => hI x i (by omega) x2) h6⟩
theorem NTx.tk : ∀ (r : Tx) (ls : List Int32) {lo hi : Nat} {as : List Nat}, r.isr → NTx M ea r lo hi as → NTx M ea (r.tk ls) lo hi as
  | .anl, _, _, _, _, _, h => h
  | .acn t e r, ls, _, _, _, hr, ⟨a, as', l, m, h1, h2, h3, h4, h5, h6⟩ => ⟨a, as', l, m, h1, h2, h3, h4, h5, NTx.tk r ls.tail hr h6⟩
/-- one node, with its lane -/
theorem NTx.one : ∀ (e : Tx) {lo hi : Nat} {as : List Nat}, e.isx → NTx M ea e lo hi as → ∃ a t, as = [a] ∧ (30 ≤ t ∧ t ≤ 36) ∧ (a < m_nx M ∧ m_tg M a = t) ∧ cI M a 1857 = e.ln ∧ lo ≤ a ∧ a < hi
  | .lit l b, _, _, _, _, ⟨a, h1, h2, h3, h4, _⟩ => ⟨a, 31, h1, by omega, h3, h4, h2⟩
  | .par n l, _, _, _, _, ⟨a, h1, h2, h3, h4, _⟩ => ⟨a, 32, h1, by omega, h3, h4, h2⟩
  | .opd n l, _, _, _, _, ⟨a, h1, h2, h3, h4, _⟩ => ⟨a, 32, h1, by omega, h3, h4, h2⟩
  | .spt n, _, _, _, _, ⟨a, h1, h2, h3, h4, _⟩ => ⟨a, 32, h1, by omega, h3, h4, h2⟩
  | .pre s l e, _, _, _, _, ⟨a, c, m, h1, h2, h3, h4, h5, _⟩ => ⟨a, 30, h1, by omega, h4, h5, by omega⟩
  | .cst l e, _, _, _, _, ⟨a, c, m, h1, h2, h3, h4, h5, _⟩ => ⟨a, 34, h1, by omega, h4, h5, by omega⟩
  | .bin o j l x y, _, _, _, _, ⟨a, c, e, m1, m2, h1, h2, h2', h3, h4, h5, _⟩ => ⟨a, 35, h1, by omega, h4, h5, by omega⟩
  | .sho o x y, _, _, _, _, ⟨a, c, e, m1, m2, h1, h2, h2', h3, h4, h5, _⟩ => ⟨a, 35, h1, by omega, h4, h5, by omega⟩
  | .cnd l z x y, _, _, _, _, ⟨a, b, c, e, m0, m1, m2, h1, h2, h2', h2'', h3, h4, h5, _⟩ => ⟨a, 36, h1, by omega, h4, h5, by omega⟩
  | .bui f j r, _, _, _, _, ⟨a, la, da, es, m, h1, h2, h3, h4, h5, _⟩ => ⟨a, 33, h1, by omega, h4, h5, by omega⟩
  | .cal f l r, _, _, _, _, ⟨a, la, da, es, m, h1, h2, h3, h4, h5, _⟩ => ⟨a, 33, h1, by omega, h4, h5, by omega⟩
  | .anl, _, _, _, h, _ => h.elim
  | .acn _ _ _, _, _, _, h, _ => h.elim
end
/-- what a check writes: nodes from lo to hi, and which operands are used -/
def pCk (M : Mem) (lo hi us : Nat) : Nat → Nat → Prop := fun x _ => x = us ∨ (lo ≤ x ∧ x < hi ∧ 30 ≤ m_tg M x ∧ m_tg M x ≤ 36)
def rCk (M : Mem) (lo hi : Nat) : Nat → Nat → Prop := fun x i => lo ≤ x ∧ x < hi ∧ m_tg M x = 33 ∧ i = 2117
def CF (M N : Mem) (lo hi us : Nat) : Prop := Df (pCk M lo hi us) n2 (rCk M lo hi) M N
theorem CF.refl (M : Mem) (lo hi us : Nat) : CF M M lo hi us := Df.refl _ _ _ _
theorem CF.trans {M N O : Mem} {lo hi us lo1 hi1 : Nat} (h : CF M N lo hi us) (g : CF N O lo1 hi1 us) (h1 : lo ≤ lo1) (h2 : hi1 ≤ hi) : CF M O lo hi us := by
  refine Df.then h g (fun x i hx q => ?_) (fun x i hx q => q) (fun x i hx q => ?_)
  · unfold pCk at *
    rw [(h.2.2 x hx).1] at q
    omega
  · unfold rCk at *
    rw [(h.2.2 x hx).1] at q
    omega
theorem CF.mono {M N : Mem} {lo hi us lo1 hi1 : Nat} (g : CF M N lo1 hi1 us) (h1 : lo ≤ lo1) (h2 : hi1 ≤ hi) : CF M N lo hi us := (CF.refl M lo hi us).trans g h1 h2
theorem CF.new {M N : Mem} {lo hi us : Nat} (d : Df n2 n2 n2 M N) : CF M N lo hi us := (Df.refl (pCk M lo hi us) n2 (rCk M lo hi) M).then d (fun _ _ _ q => q.elim) (fun _ _ _ q => q.elim) (fun _ _ _ q => q.elim)
/-- the names in a scope -/
def SNm (M : Mem) (B v1 : Nat) (S : Sc) : Prop := match S.nm with
  | some ns => ∃ ln dn en lr, cR M v1 2371 = ln ∧ (B ≤ ln ∧ ln < m_nx M) ∧ AL M ln dn en ∧ en.length = ns.length ∧ (∀ k, k < ns.length → NmW M B (en.getD k 0) (ns.getD k [])) ∧ cR M v1 2372 = lr ∧ (B ≤ lr ∧ lr < m_nx M) ∧ RIl M lr S.ps ∧ S.ps.length ≤ 6
  | none => cR M v1 2371 = 0 ∧ cR M v1 2370 = 1056 ∧ (m_ln M 1056 = 8 ∧ 1010 ≤ m_tg M 1056) ∧ ∀ n, n < 8 → match S.op n with
    | none => cR M 1056 n = 0
    | some l => (1334 ≤ cR M 1056 n ∧ cR M 1056 n < B) ∧ m_tg M (cR M 1056 n) = 22 ∧ cI M (cR M 1056 n) 1408 = l
/-- what a check needs -/
def CX (M : Mem) (B v1 us : Nat) (S : Sc) (Z : Nat → Prop) (ea : List Nat) (de : Nat) : Prop :=
  (ST M ∧ K0 M ∧ 1334 ≤ B ∧ B ≤ m_nx M) ∧ (B ≤ v1 ∧ v1 < m_nx M ∧ m_tg M v1 = 37 ∧ cR M v1 2368 = 1002 ∧ cR M v1 2369 = 1009 ∧ cR M v1 2373 = us) ∧ (B ≤ us ∧ us < m_nx M ∧ m_tg M us = 1001 ∧ m_ln M us = 8) ∧ SNm M B v1 S ∧ (∀ x, Z x → 1334 ≤ x ∧ x < m_nx M ∧ ¬ (30 ≤ m_tg M x ∧ m_tg M x ≤ 36) ∧ m_tg M x ≠ 1001) ∧ (ALb M 1010 de ea ∧ (de = 1011 ∨ Z de)) ∧ ea.length = S.fs.length ∧ ∀ k, k < S.fs.length → EF M Z (ea.getD k 0) (S.fs.getD k fn0)
section
variable {M N : Mem} {B v1 us lo hi de : Nat} {S : Sc} {Z : Nat → Prop} {ea : List Nat}
theorem CF.ntx (c : CF M N lo hi us) (hB : m_tg M us = 1001) : nTx (pCk M lo hi us) (rCk M lo hi) M B := fun x i h1 h2 h3 => by
  unfold pCk rCk
  refine ⟨fun q => ?_, fun q => ?_⟩
  · rcases q with rfl | q <;> omega
  · omega
theorem CX.cf (h : CX M B v1 us S Z ea de) (c : CF M N lo hi us) (hlo : B ≤ lo) : CX N B v1 us S Z ea de := by
  obtain ⟨⟨a1, a2, a3, a4⟩, ⟨b1, b2, b3, b4, b5, b6⟩, ⟨c1, c2, c3, c4⟩, d1, e1, ⟨f1, f2⟩, g1, g2⟩ := h
  have pB : ∀ x i, pCk M lo hi us x i → B ≤ x := fun x i q => by unfold pCk at q; omega
  have rB : ∀ x i, rCk M lo hi x i → B ≤ x := fun x i q => by unfold rCk at q; omega
  have nn := c.1
  have rv : ∀ i, ¬ rCk M lo hi v1 i := fun i q => by unfold rCk at q; omega
  have st : ST N := a1.df c (fun p hp q => by have := rB _ _ q; have := stR_lt p hp; omega)
  have k0 : K0 N := a2.df a1 c (fun a i h1 q => by have := pB _ _ q; omega) (fun a i h1 q => by have := rB _ _ q; omega)
  have z1 : ∀ x, Z x → x < m_nx M := fun x q => by have := e1 x q; omega
  have pz : ∀ x i, Z x → ¬ pCk M lo hi us x i := fun x i q r => by
    have := e1 x q
    unfold pCk at r
    rcases r with r | r
    · rw [r] at this; omega
    · omega
  have rz : ∀ x i, Z x → ¬ rCk M lo hi x i := fun x i q r => by have := e1 x q; unfold rCk at r; omega
  have e1' : ∀ x, Z x → 1334 ≤ x ∧ x < m_nx N ∧ ¬ (30 ≤ m_tg N x ∧ m_tg N x ≤ 36) ∧ m_tg N x ≠ 1001 := fun x q => by
    have := e1 x q
    rw [(c.2.2 x (z1 x q)).1]
    exact ⟨this.1, by omega, this.2.2.1, this.2.2.2⟩
  refine ⟨⟨st, k0, a3, by omega⟩, ⟨b1, by omega, (c.2.2 v1 b2).1.trans b3, by rw [c.cR b2 (rv _)]; exact b4, by rw [c.cR b2 (rv _)]; exact b5, by rw [c.cR b2 (rv _)]; exact b6⟩, ⟨c1, by omega, (c.2.2 us c2).1.trans c3, (c.2.2 us c2).2.1.trans c4⟩, ?_, e1', ⟨f1.df c (fun q => by have := pB _ _ q; omega) (fun q => by have := rB _ _ q; omega) (fun i _ q => ?_), f2⟩, g1, fun k hk => (g2 k hk).df c z1 pz rz⟩
  · unfold SNm at d1 ⊢
    cases hn : S.nm with
    | some ns =>
      rw [hn] at d1
      dsimp only at d1 ⊢
      obtain ⟨ln, dn, en, lr, i1, ⟨i2, i2'⟩, i3, i4, i5, i6, ⟨i7, i7'⟩, i8, i9⟩ := d1
      refine ⟨ln, dn, en, lr, by rw [c.cR b2 (rv _)]; exact i1, ⟨i2, by omega⟩, i3.df c (fun q => ?_) (fun q => ?_) (fun i hd q => ?_), i4, fun k hk => (i5 k hk).df c (c.ntx c3), by rw [c.cR b2 (rv _)]; exact i6, ⟨i7, by omega⟩, i8.df c i7' (fun i q => ?_), i9⟩
      · unfold pCk at q
        have := i3.2.1
        rcases q with rfl | q <;> omega
      · unfold rCk at q
        have := i3.2.1
        omega
      · unfold rCk at q
        rcases i3.2.2.2.2 with w | w
        · omega
        · have := w.2.2.2.1; omega
      · unfold pCk at q
        have := i8.1
        rcases q with rfl | q <;> omega
    | none =>
      rw [hn] at d1
      dsimp only at d1 ⊢
      obtain ⟨i1, i2, ⟨i3, i4⟩, i5⟩ := d1
      have o0 := a1.1
      have u := c.2.2 1056 (by omega)
      refine ⟨by rw [c.cR b2 (rv _)]; exact i1, by rw [c.cR b2 (rv _)]; exact i2, ⟨u.2.1.trans i3, by rw [u.1]; exact i4⟩, fun n hn => ?_⟩
      have r := i5 n hn
      have er : cR N 1056 n = cR M 1056 n := c.cR (by omega) (fun q => by have := rB _ _ q; omega)
      rw [er]
      cases ho : S.op n with
      | none => rw [ho] at r; exact r
      | some l =>
        rw [ho] at r
        dsimp only at r ⊢
        exact ⟨r.1, (c.2.2 _ (by omega)).1.trans r.2.1, by rw [c.cI (by omega) (fun q => by have := pB _ _ q; omega)]; exact r.2.2⟩
  · have := rB _ _ q
    rcases f2 with w | w
    · omega
    · exact rz _ _ w q
theorem CX.elb (h : CX M B v1 us S Z ea de) (hS : S.ok) : ELb M S.fs := by
  obtain ⟨⟨a1, a2, a3, a4⟩, ⟨b1, b2, b3, b4, b5, b6⟩, ⟨c1, c2, c3, c4⟩, d1, e1, ⟨f1, f2⟩, g1, g2⟩ := h
  refine ⟨a1, de, ea, f1, g1, hS.2.1, fun k hk => ?_⟩
  obtain ⟨⟨p1, p2⟩, ⟨q1, q2, q3, q4⟩, p4, ⟨p5, p6⟩, p7⟩ := g2 k hk
  have G := hS.1.1 k hk
  exact ⟨p2, q4, (e1 _ q1).1, p6, G.2.2.2.2.2.2.2.2.2.1, G.2.2.2.2.2.2.2.2.1⟩
/-- a fault -/
theorem CX.wrong {α : Type} (h : CX M B v1 us S Z ea de) (p : Int32) : ((vg M v1 37).bind fun _ => (F_X36_wrong M v1 p).bind fun z => (ie z.2 z.1).bind fun _ => (some (.inr (z.1, z.2)) : Option (α ⊕ (Nat × Mem)))) = some (.inr (1003, eT M 2 p)) := by
  obtain ⟨⟨a1, a2, a3, a4⟩, ⟨b1, b2, b3, b4, b5, b6⟩, -⟩ := h
  have hs : ST (eT M 2 p) := a1
  unfold F_X36_wrong
  simp only [vg_of b3 (show x_isa 37 37 = true by decide), gr_of b3 (show x_fr 37 2368 = true by decide), b4, v1002 a1, E_at a1, Option.bind_some]
  unfold ie
  rw [if_pos (t1003 hs)]
  rfl
end
/-- which operands stand there -/
def Tx.us : Tx → Nat → Bool
  | .opd n _, k => decide (n = k)
  | .pre _ _ e, k => e.us k
  | .cst _ e, k => e.us k
  | .bin _ _ _ a b, k => a.us k || b.us k
  | .sho _ a b, k => a.us k || b.us k
  | .cnd _ c a b, k => c.us k || (a.us k || b.us k)
  | .bui _ _ r, k => r.us k
  | .cal _ _ r, k => r.us k
  | .acn _ e r, k => e.us k || r.us k
  | _, _ => false
/-- what a check comes to -/
def RC (M : Mem) (ea : List Nat) (lo hi us nn : Nat) (as : List Nat) (x : Option (Mem ⊕ (Nat × Mem))) : CkR → Prop
  | .inl q => ∃ N, x = some (.inr (1003, eT N 2 (iw (q : Int)))) ∧ CF M N lo hi us ∧ m_nx N ≤ m_nx M + nn ∧ m_sl N + 1 ≤ m_sl M + 10 * nn
  | .inr t => ∃ N, x = some (.inl N) ∧ CF M N lo hi us ∧ m_nx N ≤ m_nx M + nn ∧ m_sl N + 1 ≤ m_sl M + 10 * nn ∧ NTx N ea t lo hi as ∧ ∀ k, k < 8 → cI N us k = if t.us k = true then 1 else cI M us k
