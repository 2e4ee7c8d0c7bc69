/-! ===== TABLES, 50: rows are picked; the engine ===== -/
def pkc (d : TD) (ρ : Nat → Nat) (n : Nat) : List (List Int32 × Bool) := (List.range (d.1 * n)).map (fun i => cl d.2.2.2 (d.1 * ρ (i / d.1) + i % d.1))
def pkd (d : TD) (ρ : Nat → Nat) (n : Nat) : TD := (d.1, n, d.2.2.1, pkc d ρ n)
theorem pkc_len (d : TD) (ρ : Nat → Nat) (n : Nat) : (pkc d ρ n).length = d.1 * n := by unfold pkc; rw [List.length_map, List.length_range]
theorem pkc_at {d : TD} {ρ : Nat → Nat} {n r c : Nat} (hr : r < n) (hc : c < d.1) : cl (pkc d ρ n) (d.1 * r + c) = cl d.2.2.2 (d.1 * ρ r + c) := by
  have hk := cr_lt (R := n) hc hr
  unfold cl pkc
  rw [List.getD_eq_getElem?_getD, List.getElem?_map, List.getElem?_range hk]
  show cl d.2.2.2 (d.1 * ρ ((d.1 * r + c) / d.1) + (d.1 * r + c) % d.1) = _
  rw [Nat.mul_add_div (by omega), Nat.div_eq_of_lt hc, Nat.add_zero, Nat.mul_add_mod, Nat.mod_eq_of_lt hc]
  rfl
theorem pkd_gt {d : TD} {ρ : Nat → Nat} {n : Nat} (g : GT d) (hn : n < 500) (hρ : ∀ r, r < n → ρ r < d.2.1) : GT (pkd d ρ n) := by
  obtain ⟨g1, g2, g3, g4, g5, g6, g7⟩ := g
  refine ⟨g1, g2, hn, g4, pkc_len d ρ n, g6, fun k hk => ?_⟩
  have hk' : k < d.1 * n := hk
  have e : k = d.1 * (k / d.1) + k % d.1 := (Nat.div_add_mod k d.1).symm
  have h1 : k / d.1 < n := Nat.div_lt_of_lt_mul hk'
  have h2 : k % d.1 < d.1 := Nat.mod_lt _ (by omega)
  have ec : cl (pkc d ρ n) k = cl d.2.2.2 (d.1 * ρ (k / d.1) + k % d.1) := by
    have := pkc_at (ρ := ρ) h1 h2
    rw [← e] at this
    exact this
  show ascs (cl (pkc d ρ n) k).1 ∧ (cl (pkc d ρ n) k).1.length ≤ 40 ∧ ((cl (pkc d ρ n) k).2 = false → nosg (cl (pkc d ρ n) k).1)
  rw [ec]
  exact g7 _ (cr_lt h2 (hρ _ h1))
theorem sat_s {cs : List (List Int32 × Bool)} {k : Nat} (h : k < cs.length) : sat cs (k + 1) = sat cs k + (cl cs k).1.length := by
  unfold sat
  have e : cs.take (k + 1) = cs.take k ++ [cl cs k] := by
    rw [List.take_add_one]
    unfold cl
    rw [List.getElem?_eq_getElem h, List.getD_eq_getElem?_getD, List.getElem?_eq_getElem h]
    rfl
  rw [e, fla_app, List.length_append]
theorem sat_all (cs : List (List Int32 × Bool)) : sat cs cs.length = (fla cs).length := by unfold sat; rw [List.take_length]
theorem fla_two (hd cs : List (List Int32 × Bool)) : (fla (hd ++ cs)).length = (fla hd).length + (fla cs).length := by
  unfold fla
  rw [List.map_append, List.flatten_append, List.length_append]
theorem sat_b {cs : List (List Int32 × Bool)} (h : ∀ k, k < cs.length → (cl cs k).1.length ≤ 40) : ∀ k, k ≤ cs.length → sat cs k ≤ 40 * k
  | 0, _ => Nat.zero_le _
  | k + 1, hk => by
    have := sat_b h k (by omega)
    rw [sat_s (by omega)]
    have := h k (by omega)
    omega
theorem nl32 {x : Nat} (h : x < 2147483648) : (nl x).toInt32 = iw (x : Int) := by
  refine Int32.toInt_inj.mp ?_
  rw [Int64.toInt_toInt32, nl_int (by omega), iw_toInt (by omega) (by omega)]
  exact bw32 (by omega) (by omega)
/-- what picking may write -/
def pPk (W T : Nat) : Nat → Nat → Prop := fun x i => pWd W x i ∨ x = T + 1 ∨ x = T + 2 ∨ x = T + 3 ∨ x = T + 4
/-- a word of the old table is kept anew -/
theorem E_again {N : Mem} {W V s len : Nat} {w : List Int32} (h : ST N) (hv : cI N 1038 833 = iw (V : Int)) (hV : V + w.length ≤ 65536) (hw : ascs w) (e : WE N s w) (hs : s + w.length ≤ W) (hWV : W ≤ V) : ∃ N', F_X12_add N 1038 1039 (iw (s : Int)) (iw (w.length : Nat)) = some (iw (V : Int), N') ∧ ST N' ∧ Df (pWd V) n2 n2 N N' ∧ cI N' 1038 833 = iw ((V + w.length : Nat) : Int) ∧ (∀ j, j < w.length → cI N' 1039 (V + j) = wf w j) ∧ m_nx N' = m_nx N ∧ m_sl N' = m_sl N :=
  E_addW (M := N) (W := V) (n := w.length) (a := 1039) (p := s) (L := 65536) (u := wf w) h hv hV (t1039 h) (l1039 h) (by decide) (by omega) (fun _ => by omega) (by have := h.1; omega) (fun j hj => ⟨e.2 j hj, hw j hj⟩)
/-- words kept so far: their places in row a, their lengths in row b -/
def RWp (N : Mem) (V a b c : Nat) (ws : List (List Int32 × Bool)) : Prop := ∀ k, k < c → cI N b k = enc (cl ws k) ∧ ∃ s : Nat, cI N a k = iw (s : Int) ∧ s + (cl ws k).1.length ≤ V ∧ ∀ i, i < (cl ws k).1.length → cI N 1039 (s + i) = wf (cl ws k).1 i
theorem RWp.go {N N2 : Mem} {V a b c : Nat} {ws : List (List Int32 × Bool)} (h : RWp N V a b c ws) (hab : a ≠ b) (h1 : a ≠ 1039 ∧ b ≠ 1039) (hN : N2 = wI (wI N a c (iw (V : Int))) b c (enc (cl ws c))) {N0 : Mem} (d : Df (pWd V) n2 n2 N0 N) (h0 : 1334 ≤ m_nx N0) (hh : RWp N0 V a b c ws) (ha : 1334 ≤ a) (hb : 1334 ≤ b) (hw : ∀ j, j < (cl ws c).1.length → cI N 1039 (V + j) = wf (cl ws c).1 j) : RWp N2 (V + (cl ws c).1.length) a b (c + 1) ws := by
  intro k hk
  have c39 : ∀ i, cI N2 1039 i = cI N 1039 i := fun i => by rw [hN, cI_wI, if_neg (by omega), cI_wI, if_neg (by omega)]
  by_cases e : k = c
  · rw [e]
    refine ⟨by rw [hN, cI_wI, if_pos ⟨rfl, rfl⟩], V, by rw [hN, cI_wI, if_neg (by omega), cI_wI, if_pos ⟨rfl, rfl⟩], Nat.le_refl _, fun i hi => by rw [c39]; exact hw i hi⟩
  · obtain ⟨q1, s, q2, q3, q4⟩ := h k (by omega)
    exact ⟨by rw [hN, cI_wI, if_neg (by omega), cI_wI, if_neg (by omega)]; exact q1, s, by rw [hN, cI_wI, if_neg (by omega), cI_wI, if_neg (by omega)]; exact q2, by omega, fun i hi => by rw [c39]; exact q4 i hi⟩
theorem RWp.df {N N2 : Mem} {V a b c : Nat} {ws : List (List Int32 × Bool)} (h : RWp N V a b c ws) (d : Df (pWd V) n2 n2 N N2) (ha : 1334 ≤ a ∧ a < m_nx N) (hb : 1334 ≤ b ∧ b < m_nx N) : RWp N2 V a b c ws := fun k hk => by
  obtain ⟨q1, s, q2, q3, q4⟩ := h k hk
  exact ⟨by rw [d.cI hb.2 (fun q => by unfold pWd at q; omega)]; exact q1, s, by rw [d.cI ha.2 (fun q => by unfold pWd at q; omega)]; exact q2, q3, fun i hi => by rw [d.cI (by omega) (fun q => by unfold pWd at q; omega)]; exact q4 i hi⟩
/-- a word is kept for the new table -/
theorem E_keepw {N : Mem} {W V s a b c n : Nat} {ws : List (List Int32 × Bool)} (h : ST N) (hv : cI N 1038 833 = iw (V : Int)) (hV : V + (cl ws c).1.length ≤ 65536) (hw : ascs (cl ws c).1) (hl : (cl ws c).1.length ≤ 40) (e : WE N s (cl ws c).1) (hs : s + (cl ws c).1.length ≤ W) (hWV : W ≤ V) (hp : RWp N V a b c ws) (ha : 1334 ≤ a ∧ a < m_nx N) (hb : 1334 ≤ b ∧ b < m_nx N) (hab : a ≠ b) (ta : m_tg N a = 1005 ∧ m_ln N a = n) (tb' : m_tg N b = 1002 ∧ m_ln N b = n) (hc : c < n) (hn : n < 2147483648) :
    ∃ N1 N2 N3, F_X12_add N 1038 1039 (iw (s : Int)) (iw ((cl ws c).1.length : Nat)) = some (iw (V : Int), N1) ∧ si N1 a (iw (c : Int)) (iw (V : Int)) = some N2 ∧ sb N2 b (iw (c : Int)) (enc (cl ws c)) = some N3 ∧ ST N1 ∧ ST N2 ∧ ST N3 ∧ RWp N3 (V + (cl ws c).1.length) a b (c + 1) ws ∧ cI N3 1038 833 = iw ((V + (cl ws c).1.length : Nat) : Int) ∧ Df (fun x i => pWd V x i ∨ x = a) n2 n2 N N2 ∧ Df (fun x i => pWd V x i ∨ x = a ∨ x = b) n2 n2 N N3 ∧ m_nx N3 = m_nx N ∧ m_sl N3 = m_sl N := by
  have h0 := h.1
  obtain ⟨N1, f1, f2, f3, f4, f5, f6, f7⟩ := E_again (len := 0) h hv hV hw e hs hWV
  obtain ⟨N2, hN2⟩ : ∃ N2, N2 = wI N1 a c (iw (V : Int)) := ⟨_, rfl⟩
  obtain ⟨N3, hN3⟩ : ∃ N3, N3 = wI N2 b c (enc (cl ws c)) := ⟨_, rfl⟩
  have d2 : Df (fun x i => pWd V x i ∨ x = a) n2 n2 N N2 := (f3.mono (fun _ _ q => Or.inl q) (fun _ _ q => q) (fun _ _ q => q)).trans (by rw [hN2]; exact Df.wI _ (Or.inr rfl))
  have d3 : Df (fun x i => pWd V x i ∨ x = a ∨ x = b) n2 n2 N N3 := (d2.mono (fun _ _ q => q.imp id Or.inl) (fun _ _ q => q) (fun _ _ q => q)).trans (by rw [hN3]; exact Df.wI _ (Or.inr (Or.inr rfl)))
  have s2 : ST N2 := by rw [hN2]; exact f2
  have s3 : ST N3 := by rw [hN3]; exact s2
  refine ⟨N1, N2, N3, f1, by rw [si_of _ ((f3.2.2 a ha.2).1.trans ta.1) ((f3.2.2 a ha.2).2.1.trans ta.2) hc hn, ← hN2], by rw [sb_of _ ((d2.2.2 b hb.2).1.trans tb'.1) ((d2.2.2 b hb.2).2.1.trans tb'.2) hc hn, enc_b hl, ← hN3], f2, s2, s3, ?_, ?_, d2, d3, by rw [hN3, hN2]; exact f6, by rw [hN3, hN2]; exact f7⟩
  · exact (hp.df f3 ha hb).go hab (by omega) (by rw [hN3, hN2]) f3 h0 hp ha.1 hb.1 f5
  · rw [hN3, cI_wI, if_neg (by omega), hN2, cI_wI, if_neg (by omega)]
    exact f4
