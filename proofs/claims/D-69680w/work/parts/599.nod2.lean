/-! ===== FORMULAS, 24: the engine makes nodes ===== -/
theorem nTx_n2 {M : Mem} {B : Nat} : nTx n2 n2 M B := fun _ _ _ _ _ => ⟨fun q => q, fun q => q⟩
section
variable {M N : Mem} {B : Nat}
theorem NEx.n2 {e : Ex} {lo hi : Nat} {as : List Nat} (h : NEx M B e lo hi as) (d : Df n2 n2 n2 M N) : NEx N B e lo hi as := NEx.df d nTx_n2 e lo hi as (fun _ _ _ _ => ⟨fun q => q, fun q => q, fun q => q⟩) h
theorem NmW.n2 {s : Nat} {w : List Int32} (h : NmW M B s w) (d : Df n2 n2 n2 M N) : NmW N B s w := h.df d nTx_n2
theorem E_mkLit (p : Nat) (l : Int32) (b : Int64) : ∃ N, F_X30_init (mo M 31) (m_nx M) (iw (p : Int)) l b = some N ∧ NCl M N 31 ∧ NEx N B (.lit p l b) (m_nx M) (m_nx N) [m_nx M] := by
  have h0 := NCl.start M 31
  obtain ⟨e1, h1⟩ := E_nd0 h0 (by decide) (iw (p : Int))
  obtain ⟨A, hA⟩ : ∃ A, A = nd0 (mo M 31) (m_nx M) (iw (p : Int)) := ⟨_, rfl⟩
  rw [← hA] at e1 h1
  have h2 := h1.wI 1857 l
  have h3 := h2.wJ 1984 b
  obtain ⟨c1, c2⟩ := nd0_c (mo M 31) (m_nx M) (iw (p : Int))
  rw [← hA] at c1 c2
  refine ⟨_, ?_, h3, m_nx M, rfl, ⟨Nat.le_refl _, by have := h3.2.1; omega⟩, ⟨by have := h3.2.1; omega, h3.2.2.2, ?_, ?_⟩, ?_, ?_⟩
  · unfold F_X30_init
    rw [ng_of h0.2.2.2 (by decide), Option.bind_some, e1, Option.bind_some, pi_of l h1.2.2.2 (by decide) rfl, Option.bind_some, pj_of b h2.2.2.2 (by decide), Option.bind_some]
  · rw [cI_wJ, cI_wI, if_neg (by omega)]; exact c2
  · rw [cI_wJ, cI_wI, if_neg (by omega)]; exact c1
  · rw [cI_wJ, cI_wI, if_pos ⟨rfl, rfl⟩]
  · rw [cJ_wJ, if_pos ⟨rfl, rfl⟩]
theorem E_mkNam {s : Nat} {w : List Int32} (p : Nat) (hs : NmW M B s w) : ∃ N, F_X31_init (mo M 32) (m_nx M) (iw (p : Int)) s = some N ∧ NCl M N 32 ∧ NEx N B (.nam p w) (m_nx M) (m_nx N) [m_nx M] := by
  have h0 := NCl.start M 32
  obtain ⟨e1, h1⟩ := E_nd0 h0 (by decide) (iw (p : Int))
  obtain ⟨A, hA⟩ : ∃ A, A = nd0 (mo M 32) (m_nx M) (iw (p : Int)) := ⟨_, rfl⟩
  rw [← hA] at e1 h1
  have h2 := h1.wR 2048 s
  obtain ⟨c1, c2⟩ := nd0_c (mo M 32) (m_nx M) (iw (p : Int))
  rw [← hA] at c1 c2
  refine ⟨_, ?_, h2, m_nx M, rfl, ⟨Nat.le_refl _, by have := h2.2.1; omega⟩, ⟨by have := h2.2.1; omega, h2.2.2.2, ?_, ?_⟩, ?_⟩
  · unfold F_X31_init
    rw [ng_of h0.2.2.2 (by decide), Option.bind_some, e1, Option.bind_some, pr_of s h1.2.2.2 (by decide), Option.bind_some]
  · rw [cI_wR]; exact c2
  · rw [cI_wR]; exact c1
  · rw [cR_wR, if_pos ⟨rfl, rfl⟩]; exact hs.n2 h2.1
theorem E_mkPre {e : Ex} {lo c : Nat} (p : Nat) (s : Int32) (he : NEx M B e lo (m_nx M) [c]) (hx : e.isx) (hh : e.ht ≤ 10000) (hlo : lo ≤ m_nx M) (hs : x_fit (x_ft 1920) s = true) : ∃ N1 N, F_X29_init (mo M 30) (m_nx M) (iw (p : Int)) s c = some N1 ∧ vg N1 (m_nx M) 30 = some () ∧ F_X28_over N1 (m_nx M) c = some (m_nx M, N) ∧ NCl M N 30 ∧ NEx N B (.pre p s e) lo (m_nx N) [m_nx M] := by
  have h0 := NCl.start M 30
  obtain ⟨e1, h1⟩ := E_nd0 h0 (by decide) (iw (p : Int))
  obtain ⟨A, hA⟩ : ∃ A, A = nd0 (mo M 30) (m_nx M) (iw (p : Int)) := ⟨_, rfl⟩
  rw [← hA] at e1 h1
  have h2 := h1.wI 1920 s
  have h3 := h2.wR 1921 c
  obtain ⟨c1, c2⟩ := nd0_c (mo M 30) (m_nx M) (iw (p : Int))
  rw [← hA] at c1 c2
  obtain ⟨N1, hN1⟩ : ∃ N1, N1 = wR (wI A (m_nx M) 1920 s) (m_nx M) 1921 c := ⟨_, rfl⟩
  rw [← hN1] at h3
  obtain ⟨c', t, q, k1, k2, k3, k4, k5⟩ := NEx.one e hx (he.n2 h3.1)
  cases k1
  have i8 : cI N1 (m_nx M) 1858 = iw ((1 : Nat) : Int) := by rw [hN1, cI_wR, cI_wI, if_neg (by omega)]; exact c1
  have O := E_over (x := 1) (y := e.ht) h3.2.2.2 k3.2.1 (by decide) k2 i8 k3.2.2.2 (by omega) (by omega)
  have mx : max 1 (e.ht + 1) = e.ht + 1 := by omega
  rw [mx] at O
  have h4 := h3.wI 1858 (iw ((e.ht + 1 : Nat) : Int))
  refine ⟨N1, _, ?_, vg_of h3.2.2.2 (show x_isa 30 30 = true by decide), O, h4, m_nx M, c, m_nx M, rfl, he.n2 h4.1, ⟨hlo, Nat.le_refl _, by have := h4.2.1; omega⟩, ⟨by have := h4.2.1; omega, h4.2.2.2, ?_, ?_⟩, ?_, ?_⟩
  · unfold F_X29_init
    rw [ng_of h0.2.2.2 (by decide), Option.bind_some, e1, Option.bind_some, pi_of s h1.2.2.2 (show x_wi 30 1920 = true by decide) hs, Option.bind_some, pr_of c h2.2.2.2 (by decide), Option.bind_some, hN1]
  · rw [cI_wI, if_neg (by omega), hN1, cI_wR, cI_wI, if_neg (by omega)]; exact c2
  · rw [cI_wI, if_pos ⟨rfl, rfl⟩]
  · rw [cI_wI, if_neg (by omega), hN1, cI_wR, cI_wI, if_pos ⟨rfl, rfl⟩]
  · rw [cR_wI, hN1, cR_wR, if_pos ⟨rfl, rfl⟩]
theorem E_mkCst {e : Ex} {lo c : Nat} (p : Nat) (l : Int32) (he : NEx M B e lo (m_nx M) [c]) (hx : e.isx) (hh : e.ht ≤ 10000) (hlo : lo ≤ m_nx M) : ∃ N1 N, F_X33_init (mo M 34) (m_nx M) (iw (p : Int)) l c = some N1 ∧ vg N1 (m_nx M) 34 = some () ∧ F_X28_over N1 (m_nx M) c = some (m_nx M, N) ∧ NCl M N 34 ∧ NEx N B (.cst p l e) lo (m_nx N) [m_nx M] := by
  have h0 := NCl.start M 34
  obtain ⟨e1, h1⟩ := E_nd0 h0 (by decide) (iw (p : Int))
  obtain ⟨A, hA⟩ : ∃ A, A = nd0 (mo M 34) (m_nx M) (iw (p : Int)) := ⟨_, rfl⟩
  rw [← hA] at e1 h1
  have h2 := h1.wI 1857 l
  have h3 := h2.wR 2176 c
  obtain ⟨c1, c2⟩ := nd0_c (mo M 34) (m_nx M) (iw (p : Int))
  rw [← hA] at c1 c2
  obtain ⟨N1, hN1⟩ : ∃ N1, N1 = wR (wI A (m_nx M) 1857 l) (m_nx M) 2176 c := ⟨_, rfl⟩
  rw [← hN1] at h3
  obtain ⟨c', t, q, k1, k2, k3, k4, k5⟩ := NEx.one e hx (he.n2 h3.1)
  cases k1
  have i8 : cI N1 (m_nx M) 1858 = iw ((1 : Nat) : Int) := by rw [hN1, cI_wR, cI_wI, if_neg (by omega)]; exact c1
  have O := E_over (x := 1) (y := e.ht) h3.2.2.2 k3.2.1 (by decide) k2 i8 k3.2.2.2 (by omega) (by omega)
  have mx : max 1 (e.ht + 1) = e.ht + 1 := by omega
  rw [mx] at O
  have h4 := h3.wI 1858 (iw ((e.ht + 1 : Nat) : Int))
  refine ⟨N1, _, ?_, vg_of h3.2.2.2 (show x_isa 34 34 = true by decide), O, h4, m_nx M, c, m_nx M, rfl, he.n2 h4.1, ⟨hlo, Nat.le_refl _, by have := h4.2.1; omega⟩, ⟨by have := h4.2.1; omega, h4.2.2.2, ?_, ?_⟩, ?_, ?_⟩
  · unfold F_X33_init
    rw [ng_of h0.2.2.2 (by decide), Option.bind_some, e1, Option.bind_some, pi_of l h1.2.2.2 (by decide) rfl, Option.bind_some, pr_of c h2.2.2.2 (by decide), Option.bind_some, hN1]
  · rw [cI_wI, if_neg (by omega), hN1, cI_wR, cI_wI, if_neg (by omega)]; exact c2
  · rw [cI_wI, if_pos ⟨rfl, rfl⟩]
  · rw [cI_wI, if_neg (by omega), hN1, cI_wR, cI_wI, if_pos ⟨rfl, rfl⟩]
  · rw [cR_wI, hN1, cR_wR, if_pos ⟨rfl, rfl⟩]
theorem E_mkBin {x y : Ex} {lo m c d : Nat} (p : Nat) (o : Int32) (hx : NEx M B x lo m [c]) (hy : NEx M B y m (m_nx M) [d]) (ix : x.isx) (iy : y.isx) (h1x : x.ht ≤ 10000) (h1y : y.ht ≤ 10000) (hlo : lo ≤ m) (hm : m ≤ m_nx M) : ∃ N1 N2 N, F_X34_init (mo M 35) (m_nx M) (iw (p : Int)) o c d = some N1 ∧ vg N1 (m_nx M) 35 = some () ∧ F_X28_over N1 (m_nx M) c = some (m_nx M, N2) ∧ vg N2 (m_nx M) 29 = some () ∧ F_X28_over N2 (m_nx M) d = some (m_nx M, N) ∧ NCl M N 35 ∧ NEx N B (.bin p o x y) lo (m_nx N) [m_nx M] := by
  have h0 := NCl.start M 35
  obtain ⟨e1, h1⟩ := E_nd0 h0 (by decide) (iw (p : Int))
  obtain ⟨A, hA⟩ : ∃ A, A = nd0 (mo M 35) (m_nx M) (iw (p : Int)) := ⟨_, rfl⟩
  rw [← hA] at e1 h1
  have h2 := h1.wI 2240 o
  have h3 := h2.wR 2241 c
  have h4 := h3.wR 2242 d
  obtain ⟨c1, c2⟩ := nd0_c (mo M 35) (m_nx M) (iw (p : Int))
  rw [← hA] at c1 c2
  obtain ⟨N1, hN1⟩ : ∃ N1, N1 = wR (wR (wI A (m_nx M) 2240 o) (m_nx M) 2241 c) (m_nx M) 2242 d := ⟨_, rfl⟩
  rw [← hN1] at h4
  obtain ⟨c', t, q, k1, k2, k3, k4, k5⟩ := NEx.one x ix (hx.n2 h4.1)
  cases k1
  have i8 : cI N1 (m_nx M) 1858 = iw ((1 : Nat) : Int) := by rw [hN1, cI_wR, cI_wR, cI_wI, if_neg (by omega)]; exact c1
  have O := E_over (x := 1) (y := x.ht) h4.2.2.2 k3.2.1 (by decide) k2 i8 k3.2.2.2 (by omega) (by omega)
  have h5 := h4.wI 1858 (iw ((max 1 (x.ht + 1) : Nat) : Int))
  obtain ⟨N2, hN2⟩ : ∃ N2, N2 = wI N1 (m_nx M) 1858 (iw ((max 1 (x.ht + 1) : Nat) : Int)) := ⟨_, rfl⟩
  rw [← hN2] at O h5
  obtain ⟨d', t', q', j1, j2, j3, j4, j5⟩ := NEx.one y iy (hy.n2 h5.1)
  cases j1
  have O2 := E_over (x := max 1 (x.ht + 1)) (y := y.ht) h5.2.2.2 j3.2.1 (by decide) j2 (by rw [hN2, cI_wI, if_pos ⟨rfl, rfl⟩]) j3.2.2.2 (by omega) (by omega)
  have mx : max (max 1 (x.ht + 1)) (y.ht + 1) = max x.ht y.ht + 1 := by omega
  rw [mx] at O2
  have h6 := h5.wI 1858 (iw ((max x.ht y.ht + 1 : Nat) : Int))
  refine ⟨N1, N2, _, ?_, vg_of h4.2.2.2 (show x_isa 35 35 = true by decide), O, vg_of h5.2.2.2 (show x_isa 35 29 = true by decide), O2, h6, m_nx M, c, d, m, m_nx M, rfl, hx.n2 h6.1, hy.n2 h6.1, ⟨hlo, hm, Nat.le_refl _, by have := h6.2.1; omega⟩, ⟨by have := h6.2.1; omega, h6.2.2.2, ?_, ?_⟩, ?_, ?_, ?_⟩
  · unfold F_X34_init
    rw [ng_of h0.2.2.2 (by decide), Option.bind_some, e1, Option.bind_some, pi_of o h1.2.2.2 (by decide) rfl, Option.bind_some, pr_of c h2.2.2.2 (by decide), Option.bind_some, pr_of d h3.2.2.2 (by decide), Option.bind_some, hN1]
  · rw [cI_wI, if_neg (by omega), hN2, cI_wI, if_neg (by omega), hN1, cI_wR, cI_wR, cI_wI, if_neg (by omega)]; exact c2
  · rw [cI_wI, if_pos ⟨rfl, rfl⟩]
  · rw [cI_wI, if_neg (by omega), hN2, cI_wI, if_neg (by omega), hN1, cI_wR, cI_wR, cI_wI, if_pos ⟨rfl, rfl⟩]
  · rw [cR_wI, hN2, cR_wI, hN1, cR_wR, if_neg (by omega), cR_wR, if_pos ⟨rfl, rfl⟩]
  · rw [cR_wI, hN2, cR_wI, hN1, cR_wR, if_pos ⟨rfl, rfl⟩]
theorem E_mkCnd {z x y : Ex} {lo m0 m b c d : Nat} (p : Nat) (hz : NEx M B z lo m0 [b]) (hx : NEx M B x m0 m [c]) (hy : NEx M B y m (m_nx M) [d]) (iz : z.isx) (ix : x.isx) (iy : y.isx) (h1z : z.ht ≤ 10000) (h1x : x.ht ≤ 10000) (h1y : y.ht ≤ 10000) (hlo0 : lo ≤ m0) (hlo : m0 ≤ m) (hm : m ≤ m_nx M) : ∃ N1 N2 N3 N, F_X35_init (mo M 36) (m_nx M) (iw (p : Int)) b c d = some N1 ∧ vg N1 (m_nx M) 36 = some () ∧ F_X28_over N1 (m_nx M) b = some (m_nx M, N2) ∧ vg N2 (m_nx M) 29 = some () ∧ F_X28_over N2 (m_nx M) c = some (m_nx M, N3) ∧ vg N3 (m_nx M) 29 = some () ∧ F_X28_over N3 (m_nx M) d = some (m_nx M, N) ∧ NCl M N 36 ∧ NEx N B (.cnd p z x y) lo (m_nx N) [m_nx M] := by
  have h0 := NCl.start M 36
  obtain ⟨e1, h1⟩ := E_nd0 h0 (by decide) (iw (p : Int))
  obtain ⟨A, hA⟩ : ∃ A, A = nd0 (mo M 36) (m_nx M) (iw (p : Int)) := ⟨_, rfl⟩
  rw [← hA] at e1 h1
  have h2 := h1.wR 2304 b
  have h3 := h2.wR 2305 c
  have h4 := h3.wR 2306 d
  obtain ⟨c1, c2⟩ := nd0_c (mo M 36) (m_nx M) (iw (p : Int))
  rw [← hA] at c1 c2
  obtain ⟨N1, hN1⟩ : ∃ N1, N1 = wR (wR (wR A (m_nx M) 2304 b) (m_nx M) 2305 c) (m_nx M) 2306 d := ⟨_, rfl⟩
  rw [← hN1] at h4
  obtain ⟨b', t, q, k1, k2, k3, k4, k5⟩ := NEx.one z iz (hz.n2 h4.1)
  cases k1
  have i8 : cI N1 (m_nx M) 1858 = iw ((1 : Nat) : Int) := by rw [hN1, cI_wR, cI_wR, cI_wR]; exact c1
  have O := E_over (x := 1) (y := z.ht) h4.2.2.2 k3.2.1 (by decide) k2 i8 k3.2.2.2 (by omega) (by omega)
  have h5 := h4.wI 1858 (iw ((max 1 (z.ht + 1) : Nat) : Int))
  obtain ⟨N2, hN2⟩ : ∃ N2, N2 = wI N1 (m_nx M) 1858 (iw ((max 1 (z.ht + 1) : Nat) : Int)) := ⟨_, rfl⟩
  rw [← hN2] at O h5
  obtain ⟨c', t', q', j1, j2, j3, j4, j5⟩ := NEx.one x ix (hx.n2 h5.1)
  cases j1
  have O2 := E_over (x := max 1 (z.ht + 1)) (y := x.ht) h5.2.2.2 j3.2.1 (by decide) j2 (by rw [hN2, cI_wI, if_pos ⟨rfl, rfl⟩]) j3.2.2.2 (by omega) (by omega)
  have h6 := h5.wI 1858 (iw ((max (max 1 (z.ht + 1)) (x.ht + 1) : Nat) : Int))
  obtain ⟨N3, hN3⟩ : ∃ N3, N3 = wI N2 (m_nx M) 1858 (iw ((max (max 1 (z.ht + 1)) (x.ht + 1) : Nat) : Int)) := ⟨_, rfl⟩
  rw [← hN3] at O2 h6
  obtain ⟨d', t2, q2, l1, l2, l3, l4, l5⟩ := NEx.one y iy (hy.n2 h6.1)
  cases l1
  have O3 := E_over (x := max (max 1 (z.ht + 1)) (x.ht + 1)) (y := y.ht) h6.2.2.2 l3.2.1 (by decide) l2 (by rw [hN3, cI_wI, if_pos ⟨rfl, rfl⟩]) l3.2.2.2 (by omega) (by omega)
  have mx : max (max (max 1 (z.ht + 1)) (x.ht + 1)) (y.ht + 1) = max z.ht (max x.ht y.ht) + 1 := by omega
  rw [mx] at O3
  have h7 := h6.wI 1858 (iw ((max z.ht (max x.ht y.ht) + 1 : Nat) : Int))
  refine ⟨N1, N2, N3, _, ?_, vg_of h4.2.2.2 (show x_isa 36 36 = true by decide), O, vg_of h5.2.2.2 (show x_isa 36 29 = true by decide), O2, vg_of h6.2.2.2 (show x_isa 36 29 = true by decide), O3, h7, m_nx M, b, c, d, m0, m, m_nx M, rfl, hz.n2 h7.1, hx.n2 h7.1, hy.n2 h7.1, ⟨hlo0, hlo, hm, Nat.le_refl _, by have := h7.2.1; omega⟩, ⟨by have := h7.2.1; omega, h7.2.2.2, ?_, ?_⟩, ?_, ?_, ?_⟩
  · unfold F_X35_init
    rw [ng_of h0.2.2.2 (by decide), Option.bind_some, e1, Option.bind_some, pr_of b h1.2.2.2 (by decide), Option.bind_some, pr_of c h2.2.2.2 (by decide), Option.bind_some, pr_of d h3.2.2.2 (by decide), Option.bind_some, hN1]
  · rw [cI_wI, if_neg (by omega), hN3, cI_wI, if_neg (by omega), hN2, cI_wI, if_neg (by omega), hN1, cI_wR, cI_wR, cI_wR]; exact c2
  · rw [cI_wI, if_pos ⟨rfl, rfl⟩]
  · rw [cR_wI, hN3, cR_wI, hN2, cR_wI, hN1, cR_wR, if_neg (by omega), cR_wR, if_neg (by omega), cR_wR, if_pos ⟨rfl, rfl⟩]
  · rw [cR_wI, hN3, cR_wI, hN2, cR_wI, hN1, cR_wR, if_neg (by omega), cR_wR, if_pos ⟨rfl, rfl⟩]
  · rw [cR_wI, hN3, cR_wI, hN2, cR_wI, hN1, cR_wR, if_pos ⟨rfl, rfl⟩]
end
