/-! ===== TABLES, 41: the engine writes a table ===== -/
theorem pif_mr (p : Prop) : ∃ b : Bool, pif p (1 : Int32) 0 = mr b ∧ (b = true ↔ p) := by
  by_cases h : p
  · exact ⟨true, tpif h, by simp [h]⟩
  · exact ⟨false, fpif h, by simp [h]⟩
def Gd (v : List Int32) (g : Bool) : Prop := g = true ↔ v.length ≤ 30000
theorem Gd.say {v u : List Int32} {g f : Bool} (hg : Gd v g) (hf : Fg v.length (v ++ u) f) : Gd (v ++ u) (f && g) := by
  unfold Gd at *
  rw [Bool.and_eq_true, hf.2, hg, List.length_append]
  omega
theorem E_pg {M : Mem} {o : Nat} {v : List Int32} {g : Bool} (ob : OUT o 30000) (h : ST M) (e : EO M o 30000 v) (hg : Gd v g) (b : Int32) (hb : j_i2b b = b) : ∃ M' p, F_X15_put M o b = some (mr p, M') ∧ EO M' o 30000 (v ++ [b]) ∧ Gd (v ++ [b]) (p && g) ∧ ST M' ∧ Df (atO o) n2 n2 M M' ∧ m_nx M' = m_nx M ∧ m_sl M' = m_sl M := by
  obtain ⟨M', p1, p2, p3, p4, p5⟩ := E_putb ob h e b
  rw [hb] at p2
  refine ⟨M', _, p1, p2, ?_, h.n p3, p3, p4, p5⟩
  unfold Gd at *
  rw [Bool.and_eq_true, hg, decide_eq_true_iff, List.length_append, List.length_singleton]
  omega
/-- two flags -/
theorem two_fl {β : Type} (p g : Bool) (X : Int32 → β) : (if mr p = 0 then X 0 else if mr g = 0 then X 0 else X 1) = X (mr (p && g)) := by cases p <;> cases g <;> rfl
section
variable {M : Mem} {Z : Nat → Prop} {W T o : Nat} {d : TD}
theorem TE.ou {N : Mem} (te : TE M Z W T d) (h : ST M) (ob : OUT o 30000) (hZ : ∀ x, Z x → 1334 ≤ x ∧ x < m_nx M) (e : Df (atO o) n2 n2 M N) : TE N Z W T d := te.df e (fun x hx => (hZ x hx).2) (fun x i q k => by have := hZ x q; unfold atO at k; unfold OUT at ob; omega) (fun _ _ _ k => k) h.1 (fun i _ k => by unfold atO at k; unfold OUT at ob; omega)
theorem RW.at {a b n k : Nat} {ws : List (List Int32 × Bool)} (r : RW M Z W a b n ws) (hk : k < n) (hn : n < 2147483648) (hW : W ≤ 65536) : ∃ s : Nat, ai M a (iw (k : Int)) = some (iw (s : Int)) ∧ ab M b (iw (k : Int)) = some (enc (cl ws k)) ∧ WE M s (cl ws k).1 := by
  obtain ⟨⟨a1, a2, a3⟩, ⟨b1, b2, b3⟩, rk⟩ := r
  obtain ⟨r1, s, r2, r3, r4⟩ := rk k hk
  exact ⟨s, by rw [ai_of a2 a3 hk hn, r2], by rw [ab_of (Or.inr (Or.inl b2)) b3 hk hn, r1], by omega, r4⟩
theorem enc63 {c : List Int32 × Bool} (h1 : 1 ≤ c.1.length) (h2 : c.1.length ≤ 40) : enc c &&& 63 = iw (c.1.length : Nat) := by
  obtain ⟨e1, e2, e3, e4⟩ := enc_ok (show c.1.length < 64 by omega)
  unfold enc
  by_cases q : c.2 = true
  · rw [if_pos q]; exact e1
  · rw [if_neg q, if_neg (by omega)]; exact e2
/-- a name -/
theorem E_w38 {k5 : Mem → Nat → Nat → Nat → Int32 → Int32 → Option (Int32 × Mem)} {c : Nat} {v : List Int32} {g : Bool} (h : ST M) (gd : GT d) (hW : W ≤ 65536) (te : TE M Z W T d) (ob : OUT o 30000) (hc : c < d.1) (eo : EO M o 30000 v) (hg : Gd v g) : ∃ M' g', F_X11_write_b38 k5 M 1037 T o (mr g) (iw (c : Int)) = k5 M' 1037 T o (mr g') (iw ((c + 1 : Nat) : Int)) ∧ EO M' o 30000 (v ++ nmt d c) ∧ Gd (v ++ nmt d c) g' ∧ ST M' ∧ Df (atO o) n2 n2 M M' ∧ m_nx M' = m_nx M ∧ m_sl M' = m_sl M := by
  have g2 := gd.2.1
  have g6 := gd.2.2.2.2.2.1 c hc
  obtain ⟨s, r1, r2, r3⟩ := te.2.2.2.1.at hc (by omega) hW
  have x1 : gr M T 3394 = some (cR M T 3394) := gr_of te.1.2 (by decide)
  have x3 : gr M T 3395 = some (cR M T 3395) := gr_of te.1.2 (by decide)
  obtain ⟨b, pb, hb⟩ := pif_mr ((cl d.2.2.1 c).1.length = 0 ∨ hsg (cl d.2.2.1 c).1)
  have hb2 : (b = true) = hsg (cl d.2.2.1 c).1 := propext (hb.trans ⟨fun q => q.elim (fun q => by omega) id, Or.inr⟩)
  obtain ⟨M', f', q1, q2, q3, q4, q5, q6, q7⟩ := E_say (b := b) ob h g6.1 r3 eo
  rw [hb2] at q2 q3
  refine ⟨M', f' && g, ?_, q2, hg.say q3, q4, q5, q6, q7⟩
  unfold F_X11_write_b38 F_X11_write_b88 F_X11_write_b89
  simp only [x1, x3, r1, r2, enc63 g6.2.1 (show (cl d.2.2.1 c).1.length ≤ 40 by omega), v1037, h, E_needs h g6.1 r3, pb, q1, iw_succ, Option.bind_some]
  exact two_fl f' g (fun x => k5 M' 1037 T o x (iw ((c + 1 : Nat) : Int)))
theorem E_wnames (gd : GT d) (hW : W ≤ 65536) (ob : OUT o 30000) : ∀ (m N c : Nat) (v : List Int32) (g : Bool) (M : Mem), c + m = d.1 → ST M → TE M Z W T d → (∀ x, Z x → 1334 ≤ x ∧ x < m_nx M) → EO M o 30000 (lne (nmt d) c) → Gd (lne (nmt d) c) g → ∃ M' g', F_X11_write_b5 (N + 1 + m) M 1037 T o (mr g) (iw (c : Int)) = F_X11_write_b114 M' (mr g') 1037 T o ∧ EO M' o 30000 (lne (nmt d) d.1 ++ [10]) ∧ Gd (lne (nmt d) d.1 ++ [10]) g' ∧ ST M' ∧ Df (atO o) n2 n2 M M' ∧ m_nx M' = m_nx M ∧ m_sl M' = m_sl M
  | 0, N, c, v, g, M, hc, h, te, hZ, eo, hg => by
    have g2 := gd.2.1
    have st : F_X11_write_b5 (N + 1 + 0) M 1037 T o (mr g) (iw (c : Int)) = F_X11_write_b5_st (F_X11_write_b5 N) M 1037 T o (mr g) (iw (c : Int)) := rfl
    rw [st]
    unfold F_X11_write_b5_st F_X11_write_b113
    obtain ⟨M', p, p1, p2, p3, p4, p5, p6, p7⟩ := E_pg ob h eo hg 10 i2b34.2.2
    rw [show c = d.1 by omega] at p2 p3
    refine ⟨M', p && g, ?_, p2, p3, p4, p5, p6, p7⟩
    rw [gi_of te.1.2 (show x_fi 53 3392 = true by decide), te.2.1, Option.bind_some, if_neg (show ¬ iw (c : Int) < iw (d.1 : Int) by rw [iw_le4 (by omega) (by omega)]; omega), (ob.f h).2.2.2.1, Option.bind_some, p1, Option.bind_some]
    exact two_fl p g (fun x => F_X11_write_b114 M' x 1037 T o)
  | m + 1, N, c, v, g, M, hc, h, te, hZ, eo, hg => by
    have g2 := gd.2.1
    have st : F_X11_write_b5 (N + 1 + (m + 1)) M 1037 T o (mr g) (iw (c : Int)) = F_X11_write_b5_st (F_X11_write_b5 (N + 1 + m)) M 1037 T o (mr g) (iw (c : Int)) := rfl
    rw [st]
    unfold F_X11_write_b5_st
    rw [gi_of te.1.2 (show x_fi 53 3392 = true by decide), te.2.1, Option.bind_some, if_pos (show iw (c : Int) < iw (d.1 : Int) by rw [iw_le4 (by omega) (by omega)]; omega)]
    have fin : ∀ (A : Mem) (gA : Bool), ST A → Df (atO o) n2 n2 M A → m_nx A = m_nx M → m_sl A = m_sl M → EO A o 30000 (lne (nmt d) c ++ (if c = 0 then [] else [44])) → Gd (lne (nmt d) c ++ (if c = 0 then [] else [44])) gA → ∃ M' g', F_X11_write_b38 (F_X11_write_b5 (N + 1 + m)) A 1037 T o (mr gA) (iw (c : Int)) = F_X11_write_b114 M' (mr g') 1037 T o ∧ EO M' o 30000 (lne (nmt d) d.1 ++ [10]) ∧ Gd (lne (nmt d) d.1 ++ [10]) g' ∧ ST M' ∧ Df (atO o) n2 n2 M M' ∧ m_nx M' = m_nx M ∧ m_sl M' = m_sl M := fun A gA sA dA nA lA eA hA => by
      have tA := te.ou h ob hZ dA
      obtain ⟨B, gB, q1, q2, q3, q4, q5, q6, q7⟩ := E_w38 (k5 := F_X11_write_b5 (N + 1 + m)) sA gd hW tA ob (show c < d.1 by omega) eA hA
      have el : lne (nmt d) c ++ (if c = 0 then [] else [44]) ++ nmt d c = lne (nmt d) (c + 1) := by rw [List.append_assoc]; rfl
      rw [el] at q2 q3
      have dB := dA.trans q5
      obtain ⟨M', g', w1, w2, w3, w4, w5, w6, w7⟩ := E_wnames gd hW ob m N (c + 1) v gB B (by omega) q4 (te.ou h ob hZ dB) (fun x hx => by have := hZ x hx; omega) q2 q3
      exact ⟨M', g', q1.trans w1, w2, w3, w4, dB.trans w5, by omega, by omega⟩
    by_cases c0 : c = 0
    · rw [if_neg (show ¬ (0 : Int32) < iw (c : Int) by rw [c0]; decide)]
      exact fin M g h (Df.refl _ _ _ _) rfl rfl (by rw [if_pos c0, List.append_nil]; exact eo) (by rw [if_pos c0, List.append_nil]; exact hg)
    · rw [if_pos (show (0 : Int32) < iw (c : Int) by rw [show (0 : Int32) = iw ((0 : Nat) : Int) from rfl, iw_le4 (by omega) (by omega)]; omega), (ob.f h).2.2.2.1, Option.bind_some]
      obtain ⟨A, p, p1, p2, p3, p4, p5, p6, p7⟩ := E_pg ob h eo hg 44 i2b34.2.1
      rw [p1, Option.bind_some]
      obtain ⟨M', g', w1, w2⟩ := fin A (p && g) p4 p5 p6 p7 (by rw [if_neg c0]; exact p2) (by rw [if_neg c0]; exact p3)
      refine ⟨M', g', ?_, w2⟩
      rw [← w1]
      unfold F_X11_write_b36 F_X11_write_b37
      exact two_fl p g (fun x => F_X11_write_b38 (F_X11_write_b5 (N + 1 + m)) A 1037 T o x (iw (c : Int)))
theorem quo_lan {C R r c : Nat} {cs : List (List Int32 × Bool)} (hr : r < R) (hq : (cl cs (C * r + c)).2 = true) : lan C R cs c = 8 := by
  have e : own (cl cs (C * r + c)) = 8 := by unfold own; rw [if_pos hq]
  have nm : ¬ msg (cl cs (C * r + c)) := fun k => by have := k.2; rw [hq] at this; cases this
  have no : ∀ l, Lq l → ¬ ckl l C R cs c := fun l hl k => by
    have := k r hr nm
    unfold okl at this
    rw [e] at this
    rcases this with q | q | q
    · rcases hl with k | k | k | k <;> rw [k] at q <;> exact absurd q (by decide)
    · exact absurd q.2 (by decide)
    · exact q.2.1.elim (fun q => absurd q (by decide)) (fun q => absurd q (by decide))
  unfold lan
  rw [tpif ⟨r, hr, nm⟩, fpif (no 0 (Or.inl rfl)), fpif (no 4 (Or.inr (Or.inl rfl))), fpif (no 5 (Or.inr (Or.inr (Or.inl rfl)))), fpif (no 7 (Or.inr (Or.inr (Or.inr rfl))))]
/-- whether a cell is written in marks -/
theorem E_marked {r c : Nat} (h : ST M) (k0 : K0 M) (gd : GT d) (hW : W ≤ 65536) (te : TE M Z W T d) (hr : r < d.2.1) (hc : c < d.1) (nm : ¬ msg (cl d.2.2.2 (d.1 * r + c))) : F_X11_isMarked M 1037 T (iw (c : Int)) (iw ((d.1 * r + c : Nat) : Int)) = some (pif ((cl d.2.2.2 (d.1 * r + c)).2 = true ∨ blk (cl d.2.2.2 (d.1 * r + c)).1) 1 0) := by
  have g2 := gd.2.1
  have hk := cr_lt (R := d.2.1) hc hr
  have tc := te.c gd h k0 hW
  have tb := tc.b
  obtain ⟨g71, g72, g73⟩ := gd.2.2.2.2.2.2 _ hk
  obtain ⟨s, r1, r2, r3⟩ := te.2.2.2.2.1.at hk (by omega) hW
  obtain ⟨x1, x2, x3, x4, x5⟩ := tc.x hk
  have y1 : gr M T 3398 = some (cR M T 3398) := gr_of te.1.2 (by decide)
  obtain ⟨b6, b7, b8⟩ := te.2.2.2.2.2.1
  have y2 : ai M (cR M T 3398) (iw (c : Int)) = some (lan d.1 d.2.1 d.2.2.2 c) := by rw [ai_of b7 b8 hc (by omega), te.2.2.2.2.2.2 c hc]
  have n1 : ¬ (1 : Int32) = 0 := by decide
  unfold F_X11_isMarked F_X11_isMarked_b43 F_X11_isMarked_b44
  simp only [x3, r1, x5, E_clen tc hk, v1037, h, E_needs h g71 r3, Option.bind_some]
  by_cases c1 : (cl d.2.2.2 (d.1 * r + c)).1.length = 0 ∨ hsg (cl d.2.2.2 (d.1 * r + c)).1
  · rw [tpif c1, if_neg n1, tpif]
    cases hq : (cl d.2.2.2 (d.1 * r + c)).2 with
    | true => exact Or.inl rfl
    | false =>
      refine Or.inr ?_
      rcases c1 with q | ⟨i, q1, q2⟩ | q
      · exact absurd (show msg _ from ⟨q, hq⟩) nm
      · have ng := g73 hq i q1
        have ha := g71 i q1
        rcases q2 with q2 | q2
        · exact absurd ((asc_c ha (c := 34) (by decide)).mp q2) ng.1
        · exact absurd ((asc_c ha (c := 44) (by decide)).mp q2) ng.2
      · exact q
  · rw [fpif c1, if_pos rfl]
    simp only [y1, y2, E_quo tc hk, x5, Option.bind_some]
    cases hq : (cl d.2.2.2 (d.1 * r + c)).2 with
    | true =>
      rw [if_pos (quo_lan hr hq), if_neg (show ¬ mr true = 0 by decide), tpif (Or.inl rfl)]
      rfl
    | false =>
      rw [fpif (show ¬ (false = true ∨ blk (cl d.2.2.2 (d.1 * r + c)).1) from fun q => q.elim (fun q => by cases q) (fun q => c1 (Or.inr (Or.inr q))))]
      by_cases c8 : lan d.1 d.2.1 d.2.2.2 c = 8
      · rw [if_pos c8, if_pos (show mr false = 0 from rfl)]; rfl
      · rw [if_neg c8]; rfl
theorem K0.ou {N : Mem} (k0 : K0 M) (h : ST M) (ob : OUT o 30000) (e : Df (atO o) n2 n2 M N) : K0 N := k0.df h e (fun a i q k => by unfold atO at k; unfold OUT at ob; omega) (fun _ _ _ k => k)
/-- a cell -/
theorem E_w167 {k118 : Mem → Nat → Nat → Nat → Int32 → Int32 → Option (Int32 × Mem)} {k134 : Mem → Nat → Nat → Nat → Int32 → Int32 → Int32 → Option (Int32 × Mem)} {r c : Nat} {v : List Int32} {g : Bool} (h : ST M) (k0 : K0 M) (gd : GT d) (hW : W ≤ 65536) (te : TE M Z W T d) (ob : OUT o 30000) (hr : r < d.2.1) (hc : c < d.1) (eo : EO M o 30000 v) (hg : Gd v g) : ∃ M' g', F_X11_write_b167 k118 k134 M 1037 T o (mr g) (iw (r : Int)) (iw (c : Int)) = k134 M' 1037 T o (mr g') (iw (r : Int)) (iw ((c + 1 : Nat) : Int)) ∧ EO M' o 30000 (v ++ rwt d r c) ∧ Gd (v ++ rwt d r c) g' ∧ ST M' ∧ Df (atO o) n2 n2 M M' ∧ m_nx M' = m_nx M ∧ m_sl M' = m_sl M := by
  have g2 := gd.2.1
  have hk := cr_lt (R := d.2.1) hc hr
  have tc := te.c gd h k0 hW
  have tb := tc.b
  obtain ⟨g71, g72, g73⟩ := gd.2.2.2.2.2.2 _ hk
  obtain ⟨s, r1, r2, r3⟩ := te.2.2.2.2.1.at hk (by omega) hW
  obtain ⟨x1, x2, x3, x4, x5⟩ := tc.x hk
  have n1 : ¬ (1 : Int32) = 0 := by decide
  unfold F_X11_write_b167 F_X11_write_b226 F_X11_write_b227 F_X11_write_b228
  simp only [tc.g.2.1, x5, iw_nml, iw_nad, E_miss tc hk, Option.bind_some]
  by_cases nm : msg (cl d.2.2.2 (d.1 * r + c))
  · rw [tpif nm, if_neg n1, iw_succ]
    have em : rwt d r c = [] := by
      have nb : ¬ ((cl d.2.2.2 (d.1 * r + c)).2 = true ∨ blk (cl d.2.2.2 (d.1 * r + c)).1) := fun q => q.elim (fun q => by have := nm.2; rw [q] at this; cases this) (fun q => by have := q.1; have := nm.1; omega)
      unfold rwt cltx wtx mkx
      rw [fpif nb, nm.1]
      rfl
    rw [em, List.append_nil]
    exact ⟨M, g, rfl, eo, hg, h, Df.refl _ _ _ _, rfl, rfl⟩
  · rw [fpif nm, if_pos rfl]
    obtain ⟨b, pb, hb⟩ := pif_mr ((cl d.2.2.2 (d.1 * r + c)).2 = true ∨ blk (cl d.2.2.2 (d.1 * r + c)).1)
    obtain ⟨M', f', q1, q2, q3, q4, q5, q6, q7⟩ := E_say (b := b) ob h g71 r3 eo
    rw [propext hb] at q2 q3
    refine ⟨M', f' && g, ?_, q2, hg.say q3, q4, q5, q6, q7⟩
    simp only [x3, r1, E_clen tc hk, v1037, h, E_marked h k0 gd hW te hr hc nm, pb, q1, iw_succ, Option.bind_some]
    exact two_fl f' g (fun x => k134 M' 1037 T o x (iw (r : Int)) (iw ((c + 1 : Nat) : Int)))
theorem E_wrow {k118 : Mem → Nat → Nat → Nat → Int32 → Int32 → Option (Int32 × Mem)} {r : Nat} {v : List Int32} (gd : GT d) (hW : W ≤ 65536) (ob : OUT o 30000) (hr : r < d.2.1) : ∀ (m N c : Nat) (g : Bool) (M : Mem), c + m = d.1 → ST M → K0 M → TE M Z W T d → (∀ x, Z x → 1334 ≤ x ∧ x < m_nx M) → EO M o 30000 (v ++ lne (rwt d r) c) → Gd (v ++ lne (rwt d r) c) g → ∃ M' g', F_X11_write_b134 k118 (N + 1 + m) M 1037 T o (mr g) (iw (r : Int)) (iw (c : Int)) = k118 M' 1037 T o (mr g') (iw ((r + 1 : Nat) : Int)) ∧ EO M' o 30000 (v ++ (lne (rwt d r) d.1 ++ [10])) ∧ Gd (v ++ (lne (rwt d r) d.1 ++ [10])) g' ∧ ST M' ∧ Df (atO o) n2 n2 M M' ∧ m_nx M' = m_nx M ∧ m_sl M' = m_sl M
  | 0, N, c, g, M, hc, h, k0, te, hZ, eo, hg => by
    have g2 := gd.2.1
    have st : F_X11_write_b134 k118 (N + 1 + 0) M 1037 T o (mr g) (iw (r : Int)) (iw (c : Int)) = F_X11_write_b134_st k118 (F_X11_write_b134 k118 N) M 1037 T o (mr g) (iw (r : Int)) (iw (c : Int)) := rfl
    rw [st]
    unfold F_X11_write_b134_st F_X11_write_b251 F_X11_write_b252
    obtain ⟨M', p, p1, p2, p3, p4, p5, p6, p7⟩ := E_pg ob h eo hg 10 i2b34.2.2
    rw [show c = d.1 by omega, List.append_assoc] at p2 p3
    refine ⟨M', p && g, ?_, p2, p3, p4, p5, p6, p7⟩
    rw [gi_of te.1.2 (show x_fi 53 3392 = true by decide), te.2.1, Option.bind_some, if_neg (show ¬ iw (c : Int) < iw (d.1 : Int) by rw [iw_le4 (by omega) (by omega)]; omega), (ob.f h).2.2.2.1, Option.bind_some, p1, Option.bind_some]
    simp only [iw_succ]
    exact two_fl p g (fun x => k118 M' 1037 T o x (iw ((r + 1 : Nat) : Int)))
  | m + 1, N, c, g, M, hc, h, k0, te, hZ, eo, hg => by
    have g2 := gd.2.1
    have st : F_X11_write_b134 k118 (N + 1 + (m + 1)) M 1037 T o (mr g) (iw (r : Int)) (iw (c : Int)) = F_X11_write_b134_st k118 (F_X11_write_b134 k118 (N + 1 + m)) M 1037 T o (mr g) (iw (r : Int)) (iw (c : Int)) := rfl
    rw [st]
    unfold F_X11_write_b134_st
    rw [gi_of te.1.2 (show x_fi 53 3392 = true by decide), te.2.1, Option.bind_some, if_pos (show iw (c : Int) < iw (d.1 : Int) by rw [iw_le4 (by omega) (by omega)]; omega)]
    have fin : ∀ (A : Mem) (gA : Bool), ST A → Df (atO o) n2 n2 M A → m_nx A = m_nx M → m_sl A = m_sl M → EO A o 30000 (v ++ lne (rwt d r) c ++ (if c = 0 then [] else [44])) → Gd (v ++ lne (rwt d r) c ++ (if c = 0 then [] else [44])) gA → ∃ M' g', F_X11_write_b167 k118 (F_X11_write_b134 k118 (N + 1 + m)) A 1037 T o (mr gA) (iw (r : Int)) (iw (c : Int)) = k118 M' 1037 T o (mr g') (iw ((r + 1 : Nat) : Int)) ∧ EO M' o 30000 (v ++ (lne (rwt d r) d.1 ++ [10])) ∧ Gd (v ++ (lne (rwt d r) d.1 ++ [10])) g' ∧ ST M' ∧ Df (atO o) n2 n2 M M' ∧ m_nx M' = m_nx M ∧ m_sl M' = m_sl M := fun A gA sA dA nA lA eA hA => by
      have tA := te.ou h ob hZ dA
      obtain ⟨B, gB, q1, q2, q3, q4, q5, q6, q7⟩ := E_w167 (k118 := k118) (k134 := F_X11_write_b134 k118 (N + 1 + m)) sA (k0.ou h ob dA) gd hW tA ob hr (show c < d.1 by omega) eA hA
      have el : v ++ lne (rwt d r) c ++ (if c = 0 then [] else [44]) ++ rwt d r c = v ++ lne (rwt d r) (c + 1) := by rw [List.append_assoc, List.append_assoc]; rfl
      rw [el] at q2 q3
      have dB := dA.trans q5
      obtain ⟨M', g', w1, w2, w3, w4, w5, w6, w7⟩ := E_wrow (k118 := k118) (v := v) gd hW ob hr m N (c + 1) gB B (by omega) q4 (k0.ou h ob dB) (te.ou h ob hZ dB) (fun x hx => by have := hZ x hx; omega) q2 q3
      exact ⟨M', g', q1.trans w1, w2, w3, w4, dB.trans w5, by omega, by omega⟩
    by_cases c0 : c = 0
    · rw [if_neg (show ¬ (0 : Int32) < iw (c : Int) by rw [c0]; decide)]
      exact fin M g h (Df.refl _ _ _ _) rfl rfl (by rw [if_pos c0, List.append_nil]; exact eo) (by rw [if_pos c0, List.append_nil]; exact hg)
    · rw [if_pos (show (0 : Int32) < iw (c : Int) by rw [show (0 : Int32) = iw ((0 : Nat) : Int) from rfl, iw_le4 (by omega) (by omega)]; omega), (ob.f h).2.2.2.1, Option.bind_some]
      obtain ⟨A, p, p1, p2, p3, p4, p5, p6, p7⟩ := E_pg ob h eo hg 44 i2b34.2.1
      rw [p1, Option.bind_some]
      obtain ⟨M', g', w1, w2⟩ := fin A (p && g) p4 p5 p6 p7 (by rw [if_neg c0]; exact p2) (by rw [if_neg c0]; exact p3)
      refine ⟨M', g', ?_, w2⟩
      rw [← w1]
      unfold F_X11_write_b165 F_X11_write_b166
      exact two_fl p g (fun x => F_X11_write_b167 k118 (F_X11_write_b134 k118 (N + 1 + m)) A 1037 T o x (iw (r : Int)) (iw (c : Int)))
theorem lnx_e {t : Nat → List Int32} {C : Nat} (h : 1 ≤ C) : lnx t C 0 = lne t C ++ [10] := by
  obtain ⟨m, rfl⟩ : ∃ m, C = m + 1 := ⟨C - 1, by omega⟩
  have := lne_x (t := t) m 0
  rw [if_pos rfl, Nat.zero_add] at this
  exact this
theorem E_wrows (gd : GT d) (hW : W ≤ 65536) (ob : OUT o 30000) : ∀ (m N r : Nat) (v : List Int32) (g : Bool) (M : Mem), r + m = d.2.1 → ST M → K0 M → TE M Z W T d → (∀ x, Z x → 1334 ≤ x ∧ x < m_nx M) → EO M o 30000 v → Gd v g → ∃ M' f, F_X11_write_b118 (N + 1 + m) M 1037 T o (mr g) (iw (r : Int)) = some (mr f, M') ∧ (f = true ↔ (v ++ rwx d m r).length ≤ 30000) ∧ (f = true → EO M' o 30000 (v ++ rwx d m r)) ∧ ST M' ∧ Df (atO o) n2 n2 M M' ∧ m_nx M' = m_nx M ∧ m_sl M' = m_sl M
  | 0, N, r, v, g, M, hr, h, k0, te, hZ, eo, hg => by
    have g3 := gd.2.2.1
    have st : F_X11_write_b118 (N + 1 + 0) M 1037 T o (mr g) (iw (r : Int)) = F_X11_write_b118_st (F_X11_write_b118 N) M 1037 T o (mr g) (iw (r : Int)) := rfl
    rw [st]
    unfold F_X11_write_b118_st F_X11_write_b259
    rw [gi_of te.1.2 (show x_fi 53 3393 = true by decide), te.2.2.1, Option.bind_some, if_neg (show ¬ iw (r : Int) < iw (d.2.1 : Int) by rw [iw_le4 (by omega) (by omega)]; omega), mr_1]
    refine ⟨M, g, rfl, ?_, fun _ => ?_, h, Df.refl _ _ _ _, rfl, rfl⟩
    · show g = true ↔ (v ++ []).length ≤ 30000
      rw [List.append_nil]; exact hg
    · show EO M o 30000 (v ++ [])
      rw [List.append_nil]; exact eo
  | m + 1, N, r, v, g, M, hr, h, k0, te, hZ, eo, hg => by
    have g3 := gd.2.2.1
    have g1 := gd.1
    have g2 := gd.2.1
    have st : F_X11_write_b118 (N + 1 + (m + 1)) M 1037 T o (mr g) (iw (r : Int)) = F_X11_write_b118_st (F_X11_write_b118 (N + 1 + m)) M 1037 T o (mr g) (iw (r : Int)) := rfl
    rw [st]
    unfold F_X11_write_b118_st F_X11_write_b259
    rw [gi_of te.1.2 (show x_fi 53 3393 = true by decide), te.2.2.1, Option.bind_some, if_pos (show iw (r : Int) < iw (d.2.1 : Int) by rw [iw_le4 (by omega) (by omega)]; omega)]
    cases g with
    | false =>
      rw [if_pos (show mr false = 0 from rfl), mr_1]
      have hlt : ¬ v.length ≤ 30000 := fun q => by have := hg.mpr q; cases this
      refine ⟨M, false, rfl, ⟨fun q => (by cases q), fun q => ?_⟩, fun q => (by cases q), h, Df.refl _ _ _ _, rfl, rfl⟩
      rw [List.length_append] at q
      omega
    | true =>
      rw [if_neg (show ¬ mr true = 0 by decide)]
      obtain ⟨K, hK⟩ : ∃ K, K + 1 + d.1 = xN := ⟨xN - 1 - d.1, by have : xN = 1099511627776 := rfl; omega⟩
      have l0 : v ++ lne (rwt d r) 0 = v := List.append_nil v
      obtain ⟨A, gA, q1, q2, q3, q4, q5, q6, q7⟩ := E_wrow (k118 := F_X11_write_b118 (N + 1 + m)) (v := v) gd hW ob (show r < d.2.1 by omega) d.1 K 0 true M (by omega) h k0 te hZ (by rw [l0]; exact eo) (by rw [l0]; exact hg)
      rw [hK] at q1
      rw [← lnx_e g1] at q2 q3
      obtain ⟨M', f, w1, w2, w3, w4, w5, w6, w7⟩ := E_wrows gd hW ob m N (r + 1) _ gA A (by omega) q4 (k0.ou h ob q5) (te.ou h ob hZ q5) (fun x hx => by have := hZ x hx; omega) q2 q3
      rw [List.append_assoc] at w2 w3
      exact ⟨M', f, q1.trans w1, w2, w3, w4, q5.trans w5, by omega, by omega⟩
theorem E_write (h : ST M) (k0 : K0 M) (gd : GT d) (hW : W ≤ 65536) (te : TE M Z W T d) (hZ : ∀ x, Z x → 1334 ≤ x ∧ x < m_nx M) (ob : OUT o 30000) (eo : EO M o 30000 []) : ∃ M' f, F_X11_write M 1037 T o = some (mr f, M') ∧ (f = true ↔ (ttt d).length ≤ 30000) ∧ (f = true → EO M' o 30000 (ttt d)) ∧ ST M' ∧ Df (atO o) n2 n2 M M' ∧ m_nx M' = m_nx M ∧ m_sl M' = m_sl M := by
  have g1 := gd.1
  have g2 := gd.2.1
  have g3 := gd.2.2.1
  obtain ⟨K, hK⟩ : ∃ K, K + 1 + d.1 = xN := ⟨xN - 1 - d.1, by have : xN = 1099511627776 := rfl; omega⟩
  obtain ⟨A, gA, q1, q2, q3, q4, q5, q6, q7⟩ := E_wnames gd hW ob d.1 K 0 [] true M (by omega) h te hZ eo ⟨fun _ => Nat.zero_le _, fun _ => rfl⟩
  rw [hK] at q1
  rw [← lnx_e g1] at q2 q3
  obtain ⟨K2, hK2⟩ : ∃ K, K + 1 + d.2.1 = xN := ⟨xN - 1 - d.2.1, by have : xN = 1099511627776 := rfl; omega⟩
  obtain ⟨M', f, w1, w2, w3, w4, w5, w6, w7⟩ := E_wrows gd hW ob d.2.1 K2 0 _ gA A (by omega) q4 (k0.ou h ob q5) (te.ou h ob hZ q5) (fun x hx => by have := hZ x hx; omega) q2 q3
  rw [hK2] at w1
  exact ⟨M', f, Eq.trans q1 w1, w2, w3, w4, q5.trans w5, by omega, by omega⟩
end
