/-! ===== TABLES, 42: the model writes a table ===== -/
/-- bytes put; of those beyond the bound only the number is kept -/
def MX (M : Mem) (o : Nat) (vs : List Int32) : Prop := cI M o 1281 = iw (vs.length : Nat) ∧ ∀ i, i < vs.length → i < 30000 → cI M (o + 1) i = vs.getD i 0
theorem M_addx {M : Mem} {o : Nat} {vs : List Int32} (ob : BYT o) (h : ST M) (e : MX M o vs) (hl : vs.length ≤ 1000000) (b : Int32) (hb : j_i2b b = b) : ∃ M', F_X19_add M o b = some M' ∧ MX M' o (vs ++ [b]) ∧ ST M' ∧ Df (atB o) n2 n2 M M' ∧ m_nx M' = m_nx M ∧ m_sl M' = m_sl M := by
  by_cases c : vs.length < 30000
  · obtain ⟨M', q1, q2, q3, q4, q5⟩ := M_addb ob h ⟨e.1, fun i hi => e.2 i hi (by omega)⟩ c b
    rw [hb] at q2
    exact ⟨M', q1, ⟨q2.1, fun i hi _ => q2.2 i hi⟩, h.n q3, q3, q4, q5⟩
  · obtain ⟨f1, f2, f3, f4, f5, f6, f7, f8⟩ := ob.f h
    obtain ⟨B, hB⟩ : ∃ B, B = wI M o 1281 (iw ((vs.length + 1 : Nat) : Int)) := ⟨_, rfl⟩
    have hl2 : (vs ++ [b]).length = vs.length + 1 := by rw [List.length_append, List.length_singleton]
    have dB : Df (atB o) n2 n2 M B := by rw [hB]; exact Df.wI _ (Or.inl ⟨rfl, rfl⟩)
    refine ⟨B, ?_, ⟨by rw [hB, cI_wI, if_pos ⟨rfl, rfl⟩, hl2], fun i hi h3 => ?_⟩, h.n dB, dB, by rw [hB]; rfl, by rw [hB]; rfl⟩
    · unfold F_X19_add F_X19_add_b21
      simp only [f2, e.1, Option.bind_some]
      rw [if_neg (show ¬ iw (vs.length : Nat) < 30000 by rw [show (30000 : Int32) = iw ((30000 : Nat) : Int) from rfl, iw_le4 (by omega) (by omega)]; exact c), iw_succ, f3, Option.bind_some, ← hB]
    · rw [hB, cI_wI, if_neg (by omega), getD_snoc, if_neg (by omega)]
      exact e.2 i (by omega) h3
theorem escf_len (w : List Int32) : ∀ (m i : Nat), (escf w m i).length ≤ 2 * m
  | 0, i => Nat.le_refl _
  | m + 1, i => by
    have ih := escf_len w m (i + 1)
    unfold escf
    rw [List.length_append, List.length_cons]
    by_cases c : wf w i = 34
    · rw [if_pos c, List.length_singleton]; omega
    · rw [if_neg c, List.length_nil]; omega
theorem mkx_len (b : Prop) : (mkx b).length ≤ 1 := by
  unfold mkx
  by_cases c : b
  · rw [tpif c]; exact Nat.le_refl _
  · rw [fpif c]; exact Nat.zero_le _
theorem wtx_len {w : List Int32} {b : Prop} (h : w.length ≤ 40) : (wtx w b).length ≤ 82 := by
  unfold wtx
  rw [List.length_append, List.length_append]
  have := escf_len w w.length 0
  have := mkx_len b
  omega
theorem lnx_len {t : Nat → List Int32} : ∀ (m c : Nat), (∀ i, c ≤ i → i < c + m → (t i).length ≤ 82) → (lnx t m c).length ≤ 83 * m
  | 0, c, _ => Nat.le_refl _
  | m + 1, c, h => by
    have ih := lnx_len (t := t) m (c + 1) (fun i h1 h2 => h i (by omega) (by omega))
    have h0 := h c (by omega) (by omega)
    unfold lnx
    rw [List.length_append, List.length_cons]
    omega
theorem nmt_len {d : TD} (g : GT d) {c : Nat} (hc : c < d.1) : (nmt d c).length ≤ 82 := wtx_len (by have := (g.2.2.2.2.2.1 c hc).2.2; omega)
theorem rwt_len {d : TD} (g : GT d) {r c : Nat} (hr : r < d.2.1) (hc : c < d.1) : (rwt d r c).length ≤ 82 := wtx_len ((g.2.2.2.2.2.2 _ (cr_lt hc hr)).2.1)
/-- the model's word -/
theorem M_wword_l {o e : Nat} {w : List Int32} {b : Bool} (ob : BYT o) (hw : ascs w) (hl : w.length ≤ 40) : ∀ (m N i : Nat) (v : List Int32) (M : Mem), i + m = w.length → ST M → cR M 1068 1126 = o → (∀ N, Df (atB o) n2 n2 M N → SB N e w) → MX M o v → v.length + 2 * m ≤ 900000 → ∃ M', F_X16_writeWord_b15 (N + 1 + m) M 1068 e (mr b) (iw (i : Int)) = some M' ∧ MX M' o (v ++ (escf w m i ++ mkx (b = true))) ∧ ST M' ∧ Df (atB o) n2 n2 M M' ∧ m_nx M' = m_nx M ∧ m_sl M' = m_sl M
  | 0, N, i, v, M, hi, h, hr, hs, mx, hb => by
    have sw := hs M (Df.refl _ _ _ _)
    have st : F_X16_writeWord_b15 (N + 1 + 0) M 1068 e (mr b) (iw (i : Int)) = F_X16_writeWord_b15_st (F_X16_writeWord_b15 N) M 1068 e (mr b) (iw (i : Int)) := rfl
    rw [st]
    unfold F_X16_writeWord_b15_st F_X16_writeWord_b73
    rw [sw.vg, Option.bind_some, J_len sw, Option.bind_some, if_neg (show ¬ iw (i : Int) < iw (w.length : Nat) by rw [iw_le4 (by omega) (by omega)]; omega)]
    cases b with
    | false =>
      have em : escf w 0 i ++ mkx (false = true) = [] := by unfold escf mkx; rw [fpif (by decide)]; rfl
      rw [em, List.append_nil, if_pos (show mr false = 0 from rfl)]
      exact ⟨M, rfl, mx, h, Df.refl _ _ _ _, rfl, rfl⟩
    | true =>
      obtain ⟨M', p1, p2, p3, p4, p5, p6⟩ := M_addx ob h mx (by omega) 34 i2b34.1
      have em : escf w 0 i ++ mkx (true = true) = [34] := by unfold escf mkx; rw [tpif rfl]; rfl
      rw [em, if_neg (show ¬ mr true = 0 by decide), g1068_1126 h, hr, Option.bind_some, (ob.f h).2.2.2.1, Option.bind_some, p1, Option.bind_some]
      exact ⟨M', rfl, p2, p3, p4, p5, p6⟩
  | m + 1, N, i, v, M, hi, h, hr, hs, mx, hb => by
    have h0 := h.1
    have sw := hs M (Df.refl _ _ _ _)
    have st : F_X16_writeWord_b15 (N + 1 + (m + 1)) M 1068 e (mr b) (iw (i : Int)) = F_X16_writeWord_b15_st (F_X16_writeWord_b15 (N + 1 + m)) M 1068 e (mr b) (iw (i : Int)) := rfl
    rw [st]
    unfold F_X16_writeWord_b15_st
    have hasc := hw i (by omega)
    rw [sw.vg, Option.bind_some, J_len sw, Option.bind_some, if_pos (show iw (i : Int) < iw (w.length : Nat) by rw [iw_le4 (by omega) (by omega)]; omega), Option.bind_some, wch sw hw (show i < w.length by omega), Option.bind_some]
    have b42 : ∀ (A : Mem) (u : List Int32), ST A → Df (atB o) n2 n2 M A → MX A o u → u.length + 2 * m + 1 ≤ 900000 → ∃ M', F_X16_writeWord_b42 (F_X16_writeWord_b15 (N + 1 + m)) A 1068 e (mr b) (iw (i : Int)) = some M' ∧ MX M' o (u ++ (wf w i :: (escf w m (i + 1) ++ mkx (b = true)))) ∧ ST M' ∧ Df (atB o) n2 n2 M M' ∧ m_nx M' = m_nx A ∧ m_sl M' = m_sl A := fun A u sA dA mA lA => by
      have nA := dA.1
      obtain ⟨B, p1, p2, p3, p4, p5, p6⟩ := M_addx ob sA mA (by omega) (wf w i) hasc.ok.2.2.2
      have hul : (u ++ [wf w i]).length = u.length + 1 := by rw [List.length_append, List.length_singleton]
      have rA : cR A 1068 1126 = o := by rw [dA.cR (by omega) (fun q => q)]; exact hr
      obtain ⟨M', q1, q2, q3, q4, q5, q6⟩ := M_wword_l (e := e) (b := b) ob hw hl m N (i + 1) (u ++ [wf w i]) B (by omega) p3 (by rw [p4.cR (by omega) (fun q => q)]; exact rA) (fun N' dN => hs N' ((dA.trans p4).trans dN)) p2 (by omega)
      rw [List.append_assoc] at q2
      refine ⟨M', ?_, q2, q3, (dA.trans p4).trans q4, by omega, by omega⟩
      unfold F_X16_writeWord_b42
      simp only [g1068_1126, sA, rA, (hs A dA).vg, wch (hs A dA) hw (show i < w.length by omega), (ob.f sA).2.2.2.1, p1, iw_succ, Option.bind_some]
      exact q1
    by_cases c34 : wf w i = 34
    · obtain ⟨B, p1, p2, p3, p4, p5, p6⟩ := M_addx ob h mx (by omega) 34 i2b34.1
      have hul : (v ++ [34]).length = v.length + 1 := by rw [List.length_append, List.length_singleton]
      rw [if_pos c34, g1068_1126 h, hr, Option.bind_some, (ob.f h).2.2.2.1, Option.bind_some, p1, Option.bind_some]
      obtain ⟨M', q1, q2, q3, q4, q5, q6⟩ := b42 B (v ++ [34]) p3 p4 p2 (by omega)
      have em : v ++ [34] ++ (wf w i :: (escf w m (i + 1) ++ mkx (b = true))) = v ++ (escf w (m + 1) i ++ mkx (b = true)) := by
        show _ = v ++ (((if wf w i = 34 then [34] else []) ++ (wf w i :: escf w m (i + 1))) ++ mkx (b = true))
        rw [if_pos c34]
        simp only [List.append_assoc, List.singleton_append, List.cons_append]
      rw [em] at q2
      exact ⟨M', q1, q2, q3, q4, by omega, by omega⟩
    · rw [if_neg c34]
      obtain ⟨M', q1, q2, q3, q4, q5, q6⟩ := b42 M v h (Df.refl _ _ _ _) mx (by omega)
      have em : v ++ (wf w i :: (escf w m (i + 1) ++ mkx (b = true))) = v ++ (escf w (m + 1) i ++ mkx (b = true)) := by
        show _ = v ++ (((if wf w i = 34 then [34] else []) ++ (wf w i :: escf w m (i + 1))) ++ mkx (b = true))
        rw [if_neg c34]
        rfl
      rw [em] at q2
      exact ⟨M', q1, q2, q3, q4, q5, q6⟩
theorem M_wword {M : Mem} {o e : Nat} {w v : List Int32} {b : Bool} (ob : BYT o) (h : ST M) (hw : ascs w) (hl : w.length ≤ 40) (hr : cR M 1068 1126 = o) (hs : ∀ N, Df (atB o) n2 n2 M N → SB N e w) (mx : MX M o v) (hb : v.length ≤ 800000) : ∃ M', F_X16_writeWord M 1068 e (mr b) = some M' ∧ MX M' o (v ++ wtx w (b = true)) ∧ ST M' ∧ Df (atB o) n2 n2 M M' ∧ m_nx M' = m_nx M ∧ m_sl M' = m_sl M := by
  have h0 := h.1
  obtain ⟨K, hK⟩ : ∃ K, K + 1 + w.length = xN := ⟨xN - 1 - w.length, by have : xN = 1099511627776 := rfl; omega⟩
  unfold F_X16_writeWord F_X16_writeWord_b13
  cases b with
  | false =>
    rw [if_pos (show mr false = 0 from rfl)]
    obtain ⟨M', q1, q2, q3, q4, q5, q6⟩ := M_wword_l (e := e) (b := false) ob hw hl w.length K 0 v M (by omega) h hr hs mx (by omega)
    rw [hK] at q1
    have em : wtx w (false = true) = escf w w.length 0 ++ mkx (false = true) := by unfold wtx mkx; rw [fpif (by decide)]; rfl
    rw [em]
    exact ⟨M', q1, q2, q3, q4, q5, q6⟩
  | true =>
    obtain ⟨B, p1, p2, p3, p4, p5, p6⟩ := M_addx ob h mx (by omega) 34 i2b34.1
    have hul : (v ++ [34]).length = v.length + 1 := by rw [List.length_append, List.length_singleton]
    rw [if_neg (show ¬ mr true = 0 by decide), g1068_1126 h, hr, Option.bind_some, (ob.f h).2.2.2.1, Option.bind_some, p1, Option.bind_some]
    obtain ⟨M', q1, q2, q3, q4, q5, q6⟩ := M_wword_l (e := e) (b := true) ob hw hl w.length K 0 (v ++ [34]) B (by omega) p3 (by rw [p4.cR (by omega) (fun q => q)]; exact hr) (fun N dN => hs N (p4.trans dN)) p2 (by omega)
    rw [hK] at q1
    have em : v ++ [34] ++ (escf w w.length 0 ++ mkx (true = true)) = v ++ wtx w (true = true) := by
      unfold wtx mkx
      rw [tpif rfl]
      simp only [List.append_assoc]
    rw [em] at q2
    exact ⟨M', q1, q2, q3, p4.trans q4, by omega, by omega⟩
theorem M_blank {M : Mem} {e : Nat} {w : List Int32} (sw : SB M e w) (hw : ascs w) (hl : w.length ≤ 40) : F_X16_isBlankAtEnds M e = some (pif (blk w) 1 0) := by
  unfold F_X16_isBlankAtEnds F_X16_isBlankAtEnds_b36 F_X16_isBlankAtEnds_b32 F_X16_isBlankAtEnds_b37
  rw [sw.vg, Option.bind_some, J_len sw, Option.bind_some]
  by_cases c0 : 0 < w.length
  · have a0 := wch sw hw c0
    rw [show iw ((0 : Nat) : Int) = 0 from rfl] at a0
    have a1 := wch sw hw (show w.length - 1 < w.length by omega)
    have ei : iw (w.length : Nat) - 1 = iw ((w.length - 1 : Nat) : Int) := by rw [show (1 : Int32) = iw ((1 : Nat) : Int) from rfl, iw_nsub (by omega)]
    rw [if_pos (show (0 : Int32) < iw (w.length : Nat) by rw [show (0 : Int32) = iw ((0 : Nat) : Int) from rfl, iw_le4 (by omega) (by omega)]; exact c0), Option.bind_some, a0, Option.bind_some]
    by_cases c1 : wf w 0 = 32
    · rw [if_pos c1, tpif (show blk w from ⟨c0, Or.inl c1⟩)]; rfl
    · rw [if_neg c1, Option.bind_some, Option.bind_some, Option.bind_some, ei, a1, Option.bind_some]
      by_cases c2 : wf w (w.length - 1) = 32
      · rw [if_pos c2, tpif (show blk w from ⟨c0, Or.inr c2⟩)]; rfl
      · rw [if_neg c2, fpif (fun q => q.2.elim c1 c2)]; rfl
  · rw [if_neg (show ¬ (0 : Int32) < iw (w.length : Nat) by rw [show (0 : Int32) = iw ((0 : Nat) : Int) from rfl, iw_le4 (by omega) (by omega)]; exact c0), fpif (fun q => c0 q.1)]; rfl
theorem M_hasS {M : Mem} {e : Nat} {w : List Int32} (sw : SB M e w) (hw : ascs w) (hl : w.length ≤ 40) : F_X16_hasSigns M e = some (pif (hsg w) 1 0) := by
  have loop : ∀ (m N i : Nat), i + m = w.length → (∀ j, j < i → ¬ (wf w j = 34 ∨ wf w j = 44)) → F_X16_hasSigns_b2 (N + 1 + m) M e (iw (i : Int)) = some (pif (hsg w) 1 0) := by
    intro m
    induction m with
    | zero =>
      intro N i hi hb
      show F_X16_hasSigns_b2_st (F_X16_hasSigns_b2 N) M e (iw (i : Int)) = _
      unfold F_X16_hasSigns_b2_st
      rw [sw.vg, Option.bind_some, J_len sw, Option.bind_some, if_neg (by rw [iw_le4 (by omega) (by omega)]; omega), M_blank sw hw hl, Option.bind_some]
      by_cases c : blk w
      · rw [tpif c, tpif (show hsg w from Or.inr c)]; rfl
      · rw [fpif c, fpif (fun q => q.elim (fun ⟨j, q1, q2⟩ => hb j (by omega) q2) c)]; rfl
    | succ m ih =>
      intro N i hi hb
      show F_X16_hasSigns_b2_st (F_X16_hasSigns_b2 (N + 1 + m)) M e (iw (i : Int)) = _
      unfold F_X16_hasSigns_b2_st F_X16_hasSigns_b30
      rw [sw.vg, Option.bind_some, J_len sw, Option.bind_some, if_pos (show iw (i : Int) < iw (w.length : Nat) by rw [iw_le4 (by omega) (by omega)]; omega), Option.bind_some, wch sw hw (show i < w.length by omega), Option.bind_some]
      by_cases d1 : wf w i = 34
      · rw [if_pos d1, tpif (show hsg w from Or.inl ⟨i, by omega, Or.inl d1⟩)]
      · rw [if_neg d1, Option.bind_some, Option.bind_some]
        by_cases d2 : wf w i = 44
        · rw [if_pos d2, tpif (show hsg w from Or.inl ⟨i, by omega, Or.inr d2⟩)]
        · rw [if_neg d2]
          simp only [iw_succ]
          exact ih N (i + 1) (by omega) (fun j hj => by
            by_cases k : j = i
            · rw [k]; exact fun q => q.elim d1 d2
            · exact hb j (by omega))
  obtain ⟨K, hK⟩ : ∃ K, K + 1 + w.length = xN := ⟨xN - 1 - w.length, by have : xN = 1099511627776 := rfl; omega⟩
  have := loop w.length K 0 (by omega) (fun j hj => by omega)
  rw [hK] at this
  exact this
section
variable {M : Mem} {Z : Nat → Prop} {T o : Nat} {d : TD}
theorem noZ_B {N : Mem} (ob : BYT o) (hZ : ∀ x, Z x → 1334 ≤ x ∧ x < m_nx M) : (∀ x, Z x → x < m_nx M) ∧ ∀ x i, Z x → ¬ atB o x i := ⟨fun x hx => (hZ x hx).2, fun x i q k => by have := hZ x q; unfold atB at k; unfold BYT at ob; omega⟩
theorem TMt.ob {N : Mem} (tm : TMt M Z T d) (ob : BYT o) (hZ : ∀ x, Z x → 1334 ≤ x ∧ x < m_nx M) (e : Df (atB o) n2 n2 M N) : TMt N Z T d := tm.df e (noZ_B (N := N) ob hZ).1 (noZ_B (N := N) ob hZ).2 (fun _ _ _ k => k)
theorem K0.ob {N : Mem} (k0 : K0 M) (h : ST M) (ob : BYT o) (e : Df (atB o) n2 n2 M N) : K0 N := k0.df h e (fun a i q k => by unfold atB at k; unfold BYT at ob; omega) (fun _ _ _ k => k)
theorem M_wnames (gd : GT d) (ob : BYT o) : ∀ (m N c : Nat) (v : List Int32) (M : Mem), c + m = d.1 → ST M → K0 M → TMt M Z T d → (∀ x, Z x → 1334 ≤ x ∧ x < m_nx M) → cR M 1068 1126 = o → MX M o v → v.length + 83 * m ≤ 800000 → ∃ M', F_X16_write_b41 (N + 1 + m) M 1068 T (iw (d.1 : Int)) (iw (c : Int)) = F_X16_write_b109 xN M' 1068 T (iw (d.1 : Int)) 0 ∧ MX M' o (v ++ lnx (nmt d) m c) ∧ ST M' ∧ Df (atB o) n2 n2 M M' ∧ m_nx M' = m_nx M ∧ m_sl M' = m_sl M
  | 0, N, c, v, M, hc, h, k0, tm, hZ, hr, mx, hb => by
    have g2 := gd.2.1
    have st : F_X16_write_b41 (N + 1 + 0) M 1068 T (iw (d.1 : Int)) (iw (c : Int)) = F_X16_write_b41_st (F_X16_write_b41 N) M 1068 T (iw (d.1 : Int)) (iw (c : Int)) := rfl
    rw [st]
    unfold F_X16_write_b41_st
    rw [if_neg (show ¬ iw (c : Int) < iw (d.1 : Int) by rw [iw_le4 (by omega) (by omega)]; omega)]
    refine ⟨M, rfl, ?_, h, Df.refl _ _ _ _, rfl, rfl⟩
    show MX M o (v ++ [])
    rw [List.append_nil]; exact mx
  | m + 1, N, c, v, M, hc, h, k0, tm, hZ, hr, mx, hb => by
    have h0 := h.1
    have g2 := gd.2.1
    have g6 := gd.2.2.2.2.2.1 c (by omega)
    have st : F_X16_write_b41 (N + 1 + (m + 1)) M 1068 T (iw (d.1 : Int)) (iw (c : Int)) = F_X16_write_b41_st (F_X16_write_b41 (N + 1 + m)) M 1068 T (iw (d.1 : Int)) (iw (c : Int)) := rfl
    rw [st]
    obtain ⟨⟨ln, dn, en, lc, dc, ec, q⟩, -⟩ := id tm
    obtain ⟨q1, q2, q3, q4, q5, q6, q7⟩ := (q.c gd k0 hZ).g
    have nm := q.2.2.2.2.2.2.2.1 c (by omega)
    have al := q.2.2.2.1.2.2
    have hlen := q.2.2.2.2.2.1
    have gt' := al.get (show c < en.length by omega)
    have hcc : cc M (en.getD c 0) 76 = some () := by unfold cc; rw [if_pos (Or.inr (by rw [nm.2.1]; decide))]
    have hs : ∀ N, Df (atB o) n2 n2 M N → SB N (en.getD c 0) (cl d.2.2.1 c).1 := fun N dN => (nm.df dN (noZ_B (N := N) ob hZ).1 (noZ_B (N := N) ob hZ).2 (fun _ _ _ k => k)).2.2.2
    obtain ⟨b, pb, hbb⟩ := pif_mr (hsg (cl d.2.2.1 c).1)
    have ww := M_wword (b := b) ob h g6.1 (show (cl d.2.2.1 c).1.length ≤ 40 by omega) hr hs mx (by omega)
    rw [propext hbb] at ww
    obtain ⟨A, w1, w2, w3, w4, w5, w6⟩ := ww
    have el : wtx (cl d.2.2.1 c).1 (hsg (cl d.2.2.1 c).1) = nmt d c := rfl
    rw [el] at w2
    have hl1 := nmt_len gd (show c < d.1 by omega)
    have hv1 : (v ++ nmt d c).length ≤ v.length + 82 := by rw [List.length_append]; omega
    have rA : cR A 1068 1126 = o := by rw [w4.cR (by omega) (fun q => q)]; exact hr
    have fin : ∀ x : Int32, x = (if m = 0 then 10 else 44) → ∃ M', F_X16_write_b97 (F_X16_write_b41 (N + 1 + m)) A o x 1068 T (iw (d.1 : Int)) (iw (c : Int)) = F_X16_write_b109 xN M' 1068 T (iw (d.1 : Int)) 0 ∧ MX M' o (v ++ lnx (nmt d) (m + 1) c) ∧ ST M' ∧ Df (atB o) n2 n2 M M' ∧ m_nx M' = m_nx M ∧ m_sl M' = m_sl M := fun x hx => by
      obtain ⟨B, p1, p2, p3, p4, p5, p6⟩ := M_addx ob w3 w2 (by omega) x (by rw [hx]; by_cases c : m = 0; rw [if_pos c]; exact i2b34.2.2; rw [if_neg c]; exact i2b34.2.1)
      have dB := w4.trans p4
      have hv2 : (v ++ nmt d c ++ [x]).length ≤ v.length + 83 := by rw [List.length_append, List.length_singleton]; omega
      obtain ⟨M', r1, r2, r3, r4, r5, r6⟩ := M_wnames gd ob m N (c + 1) (v ++ nmt d c ++ [x]) B (by omega) p3 (k0.ob h ob dB) (tm.ob ob hZ dB) (fun y hy => by have := hZ y hy; omega) (by rw [p4.cR (by omega) (fun q => q)]; exact rA) p2 (by omega)
      have em : v ++ nmt d c ++ [x] ++ lnx (nmt d) m (c + 1) = v ++ lnx (nmt d) (m + 1) c := by
        show _ = v ++ (nmt d c ++ ((if m = 0 then 10 else 44) :: lnx (nmt d) m (c + 1)))
        rw [← hx]
        simp only [List.append_assoc, List.singleton_append]
      rw [em] at r2
      refine ⟨M', ?_, r2, r3, dB.trans r4, by omega, by omega⟩
      unfold F_X16_write_b97
      rw [(ob.f w3).2.2.2.1, Option.bind_some, p1, Option.bind_some]
      simp only [iw_succ]
      exact r1
    unfold F_X16_write_b41_st
    rw [if_pos (show iw (c : Int) < iw (d.1 : Int) by rw [iw_le4 (by omega) (by omega)]; omega)]
    simp only [q1, q3, gt', hcc, M_hasS nm.2.2.2 g6.1 (show (cl d.2.2.1 c).1.length ≤ 40 by omega), pb, v1068, h, w1, g1068_1126, w3, rA, Option.bind_some]
    rw [show iw (d.1 : Int) - 1 = iw ((d.1 - 1 : Nat) : Int) by rw [show (1 : Int32) = iw ((1 : Nat) : Int) from rfl, iw_nsub (by omega)]]
    by_cases cm : m = 0
    · rw [if_neg (show ¬ iw (c : Int) < iw ((d.1 - 1 : Nat) : Int) by rw [iw_le4 (by omega) (by omega)]; omega)]
      exact fin 10 (by rw [if_pos cm])
    · rw [if_pos (show iw (c : Int) < iw ((d.1 - 1 : Nat) : Int) by rw [iw_le4 (by omega) (by omega)]; omega)]
      exact fin 44 (by rw [if_neg cm])
theorem M_wrow {k109 : Mem → Nat → Nat → Int32 → Int32 → Option (Int32 × Mem)} {r : Nat} (gd : GT d) (ob : BYT o) (hrr : r < d.2.1) : ∀ (m N c : Nat) (v : List Int32) (M : Mem), c + m = d.1 → ST M → K0 M → TMt M Z T d → (∀ x, Z x → 1334 ≤ x ∧ x < m_nx M) → cR M 1068 1126 = o → MX M o v → v.length + 83 * m ≤ 800000 → ∃ M', F_X16_write_b134 k109 (N + 1 + m) M 1068 T (iw (d.1 : Int)) (iw (r : Int)) (iw (c : Int)) = k109 M' 1068 T (iw (d.1 : Int)) (iw ((r + 1 : Nat) : Int)) ∧ MX M' o (v ++ lnx (rwt d r) m c) ∧ ST M' ∧ Df (atB o) n2 n2 M M' ∧ m_nx M' = m_nx M ∧ m_sl M' = m_sl M
  | 0, N, c, v, M, hc, h, k0, tm, hZ, hr, mx, hb => by
    have g2 := gd.2.1
    have st : F_X16_write_b134 k109 (N + 1 + 0) M 1068 T (iw (d.1 : Int)) (iw (r : Int)) (iw (c : Int)) = F_X16_write_b134_st k109 (F_X16_write_b134 k109 N) M 1068 T (iw (d.1 : Int)) (iw (r : Int)) (iw (c : Int)) := rfl
    rw [st]
    unfold F_X16_write_b134_st
    rw [if_neg (show ¬ iw (c : Int) < iw (d.1 : Int) by rw [iw_le4 (by omega) (by omega)]; omega)]
    simp only [iw_succ]
    refine ⟨M, rfl, ?_, h, Df.refl _ _ _ _, rfl, rfl⟩
    show MX M o (v ++ [])
    rw [List.append_nil]; exact mx
  | m + 1, N, c, v, M, hc, h, k0, tm, hZ, hr, mx, hb => by
    have h0 := h.1
    have g2 := gd.2.1
    have hk := cr_lt (R := d.2.1) (show c < d.1 by omega) hrr
    obtain ⟨g71, g72, g73⟩ := gd.2.2.2.2.2.2 _ hk
    have st : F_X16_write_b134 k109 (N + 1 + (m + 1)) M 1068 T (iw (d.1 : Int)) (iw (r : Int)) (iw (c : Int)) = F_X16_write_b134_st k109 (F_X16_write_b134 k109 (N + 1 + m)) M 1068 T (iw (d.1 : Int)) (iw (r : Int)) (iw (c : Int)) := rfl
    rw [st]
    obtain ⟨⟨ln, dn, en, lc, dc, ec, q⟩, -⟩ := id tm
    have tc := q.c gd k0 hZ
    obtain ⟨q1, q2, q3, q4, q5, q6, q7⟩ := tc.g
    obtain ⟨a1, a2⟩ := M_atT tc hrr (show c < d.1 by omega)
    have cm := q.2.2.2.2.2.2.2.2 _ hk
    obtain ⟨e1, e2, e3, e4⟩ := a2.g
    have hs : ∀ N, Df (atB o) n2 n2 M N → SB N (cR M (ec.getD (d.1 * r + c) 0) 3584) (cl d.2.2.2 (d.1 * r + c)).1 := fun N dN => (cm.2.2.2.df dN (noZ_B (N := N) ob hZ).1 (noZ_B (N := N) ob hZ).2 (fun _ _ _ k => k)).2.2.2
    obtain ⟨b, pb, hbb⟩ := pif_mr ((cl d.2.2.2 (d.1 * r + c)).2 = true ∨ blk (cl d.2.2.2 (d.1 * r + c)).1)
    have ww := M_wword (b := b) ob h g71 g72 hr hs mx (by omega)
    rw [propext hbb] at ww
    obtain ⟨A, w1, w2, w3, w4, w5, w6⟩ := ww
    have el : wtx (cl d.2.2.2 (d.1 * r + c)).1 ((cl d.2.2.2 (d.1 * r + c)).2 = true ∨ blk (cl d.2.2.2 (d.1 * r + c)).1) = rwt d r c := rfl
    rw [el] at w2
    have hl1 := rwt_len gd hrr (show c < d.1 by omega)
    have hv1 : (v ++ rwt d r c).length ≤ v.length + 82 := by rw [List.length_append]; omega
    have rA : cR A 1068 1126 = o := by rw [w4.cR (by omega) (fun q => q)]; exact hr
    have fin : ∀ x : Int32, x = (if m = 0 then 10 else 44) → ∃ M', F_X16_write_b202 k109 (F_X16_write_b134 k109 (N + 1 + m)) A o x 1068 T (iw (d.1 : Int)) (iw (r : Int)) (iw (c : Int)) = k109 M' 1068 T (iw (d.1 : Int)) (iw ((r + 1 : Nat) : Int)) ∧ MX M' o (v ++ lnx (rwt d r) (m + 1) c) ∧ ST M' ∧ Df (atB o) n2 n2 M M' ∧ m_nx M' = m_nx M ∧ m_sl M' = m_sl M := fun x hx => by
      obtain ⟨B, p1, p2, p3, p4, p5, p6⟩ := M_addx ob w3 w2 (by omega) x (by rw [hx]; by_cases c : m = 0; rw [if_pos c]; exact i2b34.2.2; rw [if_neg c]; exact i2b34.2.1)
      have dB := w4.trans p4
      have hv2 : (v ++ rwt d r c ++ [x]).length ≤ v.length + 83 := by rw [List.length_append, List.length_singleton]; omega
      obtain ⟨M', r1, r2, r3, r4, r5, r6⟩ := M_wrow (k109 := k109) gd ob hrr m N (c + 1) (v ++ rwt d r c ++ [x]) B (by omega) p3 (k0.ob h ob dB) (tm.ob ob hZ dB) (fun y hy => by have := hZ y hy; omega) (by rw [p4.cR (by omega) (fun q => q)]; exact rA) p2 (by omega)
      have em : v ++ rwt d r c ++ [x] ++ lnx (rwt d r) m (c + 1) = v ++ lnx (rwt d r) (m + 1) c := by
        show _ = v ++ (rwt d r c ++ ((if m = 0 then 10 else 44) :: lnx (rwt d r) m (c + 1)))
        rw [← hx]
        simp only [List.append_assoc, List.singleton_append]
      rw [em] at r2
      refine ⟨M', ?_, r2, r3, dB.trans r4, by omega, by omega⟩
      unfold F_X16_write_b202
      rw [(ob.f w3).2.2.2.1, Option.bind_some, p1, Option.bind_some]
      simp only [iw_succ]
      exact r1
    have b180 : ∃ M', F_X16_write_b180 k109 (F_X16_write_b134 k109 (N + 1 + m)) M 1068 (cR M (ec.getD (d.1 * r + c) 0) 3584) (mr b) 1068 T (iw (d.1 : Int)) (iw (r : Int)) (iw (c : Int)) = k109 M' 1068 T (iw (d.1 : Int)) (iw ((r + 1 : Nat) : Int)) ∧ MX M' o (v ++ lnx (rwt d r) (m + 1) c) ∧ ST M' ∧ Df (atB o) n2 n2 M M' ∧ m_nx M' = m_nx M ∧ m_sl M' = m_sl M := by
      unfold F_X16_write_b180
      simp only [v1068, h, w1, g1068_1126, w3, rA, Option.bind_some]
      rw [show iw (d.1 : Int) - 1 = iw ((d.1 - 1 : Nat) : Int) by rw [show (1 : Int32) = iw ((1 : Nat) : Int) from rfl, iw_nsub (by omega)]]
      by_cases cm : m = 0
      · rw [if_neg (show ¬ iw (c : Int) < iw ((d.1 - 1 : Nat) : Int) by rw [iw_le4 (by omega) (by omega)]; omega)]
        exact fin 10 (by rw [if_pos cm])
      · rw [if_pos (show iw (c : Int) < iw ((d.1 - 1 : Nat) : Int) by rw [iw_le4 (by omega) (by omega)]; omega)]
        exact fin 44 (by rw [if_neg cm])
    unfold F_X16_write_b134_st
    rw [if_pos (show iw (c : Int) < iw (d.1 : Int) by rw [iw_le4 (by omega) (by omega)]; omega)]
    simp only [q7, a1, e1, e2, Option.bind_some]
    cases hq : (cl d.2.2.2 (d.1 * r + c)).2 with
    | true =>
      have eb : b = true := hbb.mpr (Or.inl hq)
      rw [eb] at b180
      rw [if_neg (show ¬ mr true = 0 by decide)]
      exact b180
    | false =>
      rw [if_pos (show mr false = 0 from rfl), M_blank cm.2.2.2.2.2.2 g71 g72, Option.bind_some]
      by_cases cb : blk (cl d.2.2.2 (d.1 * r + c)).1
      · have eb : b = true := hbb.mpr (Or.inr cb)
        rw [eb] at b180
        rw [tpif cb, if_neg (show ¬ (1 : Int32) = 0 by decide)]
        exact b180
      · have eb : b = false := by
          cases b with
          | false => rfl
          | true => exact absurd (hbb.mp rfl) (fun k => k.elim (fun k => by rw [hq] at k; cases k) cb)
        rw [eb] at b180
        rw [fpif cb, if_pos rfl]
        exact b180
theorem M_wrows (gd : GT d) (ob : BYT o) : ∀ (m N r : Nat) (v : List Int32) (M : Mem), r + m = d.2.1 → ST M → K0 M → TMt M Z T d → (∀ x, Z x → 1334 ≤ x ∧ x < m_nx M) → cR M 1068 1126 = o → MX M o v → v.length ≤ 100000 → ∃ M' u, F_X16_write_b109 (N + 1 + m) M 1068 T (iw (d.1 : Int)) (iw (r : Int)) = F_X16_write_b217 M' 1068 ∧ MX M' o u ∧ u.length ≤ 100000 ∧ (((v ++ rwx d m r).length ≤ 30000 ∧ u = v ++ rwx d m r) ∨ (30000 < (v ++ rwx d m r).length ∧ 30000 < u.length)) ∧ ST M' ∧ Df (atB o) n2 n2 M M' ∧ m_nx M' = m_nx M ∧ m_sl M' = m_sl M
  | 0, N, r, v, M, hc, h, k0, tm, hZ, hr, mx, hb => by
    have g3 := gd.2.2.1
    obtain ⟨r1, r2, -⟩ := tm.rows gd k0 hZ
    have st : F_X16_write_b109 (N + 1 + 0) M 1068 T (iw (d.1 : Int)) (iw (r : Int)) = F_X16_write_b109_st (F_X16_write_b109 N) M 1068 T (iw (d.1 : Int)) (iw (r : Int)) := rfl
    rw [st]
    unfold F_X16_write_b109_st
    rw [r2, Option.bind_some, r1, Option.bind_some, if_neg (show ¬ iw (r : Int) < iw (d.2.1 : Int) by rw [iw_le4 (by omega) (by omega)]; omega)]
    have em : v ++ rwx d 0 r = v := List.append_nil v
    rw [em]
    refine ⟨M, v, rfl, mx, hb, ?_, h, Df.refl _ _ _ _, rfl, rfl⟩
    by_cases c : v.length ≤ 30000
    · exact Or.inl ⟨c, rfl⟩
    · exact Or.inr ⟨by omega, by omega⟩
  | m + 1, N, r, v, M, hc, h, k0, tm, hZ, hr, mx, hb => by
    have h0 := h.1
    have g2 := gd.2.1
    have g3 := gd.2.2.1
    obtain ⟨r1, r2, -⟩ := tm.rows gd k0 hZ
    have st : F_X16_write_b109 (N + 1 + (m + 1)) M 1068 T (iw (d.1 : Int)) (iw (r : Int)) = F_X16_write_b109_st (F_X16_write_b109 (N + 1 + m)) M 1068 T (iw (d.1 : Int)) (iw (r : Int)) := rfl
    rw [st]
    unfold F_X16_write_b109_st
    rw [r2, Option.bind_some, r1, Option.bind_some, if_pos (show iw (r : Int) < iw (d.2.1 : Int) by rw [iw_le4 (by omega) (by omega)]; omega), g1068_1126 h, hr, Option.bind_some, (ob.f h).2.1, Option.bind_some, mx.1]
    by_cases c3 : 30000 < v.length
    · rw [if_pos (show (30000 : Int32) < iw (v.length : Nat) by rw [show (30000 : Int32) = iw ((30000 : Nat) : Int) from rfl, iw_le4 (by omega) (by omega)]; exact c3)]
      exact ⟨M, v, rfl, mx, hb, Or.inr ⟨by rw [List.length_append]; omega, c3⟩, h, Df.refl _ _ _ _, rfl, rfl⟩
    · rw [if_neg (show ¬ (30000 : Int32) < iw (v.length : Nat) by rw [show (30000 : Int32) = iw ((30000 : Nat) : Int) from rfl, iw_le4 (by omega) (by omega)]; exact c3)]
      obtain ⟨K, hK⟩ : ∃ K, K + 1 + d.1 = xN := ⟨xN - 1 - d.1, by have : xN = 1099511627776 := rfl; omega⟩
      obtain ⟨A, w1, w2, w3, w4, w5, w6⟩ := M_wrow (k109 := F_X16_write_b109 (N + 1 + m)) gd ob (show r < d.2.1 by omega) d.1 K 0 v M (by omega) h k0 tm hZ hr mx (by omega)
      rw [hK] at w1
      have hl := lnx_len (t := rwt d r) d.1 0 (fun i _ hi => rwt_len gd (by omega) (by omega))
      obtain ⟨M', u, x1, x2, x3, x4, x5, x6, x7, x8⟩ := M_wrows gd ob m N (r + 1) (v ++ lnx (rwt d r) d.1 0) A (by omega) w3 (k0.ob h ob w4) (tm.ob ob hZ w4) (fun y hy => by have := hZ y hy; omega) (by rw [w4.cR (by omega) (fun q => q)]; exact hr) w2 (by rw [List.length_append]; omega)
      have em : v ++ lnx (rwt d r) d.1 0 ++ rwx d m (r + 1) = v ++ rwx d (m + 1) r := by rw [List.append_assoc]; rfl
      rw [em] at x4
      exact ⟨M', u, Eq.trans w1 x1, x2, x3, x4, x5, w4.trans x6, by omega, by omega⟩
end
