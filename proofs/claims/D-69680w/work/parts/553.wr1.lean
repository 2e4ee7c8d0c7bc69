/-! ===== TABLES, 40: a table's text; the engine says a word ===== -/
def escf (w : List Int32) : Nat → Nat → List Int32
  | 0, _ => []
  | m + 1, i => (if wf w i = 34 then [34] else []) ++ (wf w i :: escf w m (i + 1))
noncomputable def mkx (b : Prop) : List Int32 := pif b [34] []
/-- a word as it is written -/
noncomputable def wtx (w : List Int32) (b : Prop) : List Int32 := mkx b ++ (escf w w.length 0 ++ mkx b)
def blk (w : List Int32) : Prop := 0 < w.length ∧ (wf w 0 = 32 ∨ wf w (w.length - 1) = 32)
def hsg (w : List Int32) : Prop := (∃ i, i < w.length ∧ (wf w i = 34 ∨ wf w i = 44)) ∨ blk w
/-- columns, each with what stands behind it -/
def lnx (t : Nat → List Int32) : Nat → Nat → List Int32
  | 0, _ => []
  | m + 1, c => t c ++ ((if m = 0 then 10 else 44) :: lnx t m (c + 1))
/-- columns, with what stands ahead of each -/
def lne (t : Nat → List Int32) : Nat → List Int32
  | 0 => []
  | c + 1 => lne t c ++ ((if c = 0 then [] else [44]) ++ t c)
theorem lne_x {t : Nat → List Int32} : ∀ (m c : Nat), lne t c ++ ((if c = 0 then [] else [44]) ++ lnx t (m + 1) c) = lne t (c + m + 1) ++ [10]
  | 0, c => by
    show lne t c ++ ((if c = 0 then [] else [44]) ++ (t c ++ [10])) = (lne t c ++ ((if c = 0 then [] else [44]) ++ t c)) ++ [10]
    simp only [List.append_assoc]
  | m + 1, c => by
    have ih := lne_x (t := t) m (c + 1)
    rw [if_neg (by omega), show c + 1 + m + 1 = c + (m + 1) + 1 by omega] at ih
    rw [← ih]
    show lne t c ++ ((if c = 0 then [] else [44]) ++ (t c ++ (44 :: lnx t (m + 1) (c + 1)))) = (lne t c ++ ((if c = 0 then [] else [44]) ++ t c)) ++ ([44] ++ lnx t (m + 1) (c + 1))
    simp only [List.append_assoc]
    rfl
noncomputable def cltx (c : List Int32 × Bool) : List Int32 := wtx c.1 (c.2 = true ∨ blk c.1)
noncomputable def nmt (d : TD) (c : Nat) : List Int32 := wtx (cl d.2.2.1 c).1 (hsg (cl d.2.2.1 c).1)
noncomputable def rwt (d : TD) (r c : Nat) : List Int32 := cltx (cl d.2.2.2 (d.1 * r + c))
noncomputable def rwx (d : TD) : Nat → Nat → List Int32
  | 0, _ => []
  | m + 1, r => lnx (rwt d r) d.1 0 ++ rwx d m (r + 1)
noncomputable def ttt (d : TD) : List Int32 := lnx (nmt d) d.1 0 ++ rwx d d.2.1 0
/-- the flag of a word: whether its own bytes found room -/
def Fg (L : Nat) (v : List Int32) (f : Bool) : Prop := L ≤ v.length ∧ (f = true ↔ v.length ≤ 30000 ∨ v.length = L)
theorem E_pf {M : Mem} {o L : Nat} {v : List Int32} {f : Bool} (ob : OUT o 30000) (h : ST M) (e : EO M o 30000 v) (g : Fg L v f) (b : Int32) (hb : j_i2b b = b) : ∃ M' p, F_X15_put M o b = some (mr p, M') ∧ (p = true ↔ (v ++ [b]).length ≤ 30000) ∧ EO M' o 30000 (v ++ [b]) ∧ Fg L (v ++ [b]) (p && f) ∧ ST M' ∧ Df (atO o) n2 n2 M M' ∧ m_nx M' = m_nx M ∧ m_sl M' = m_sl M := by
  obtain ⟨M', p1, p2, p3, p4, p5⟩ := E_putb ob h e b
  rw [hb] at p2
  have hl : (v ++ [b]).length = v.length + 1 := by rw [List.length_append, List.length_singleton]
  have hp : decide (v.length < 30000) = true ↔ (v ++ [b]).length ≤ 30000 := by rw [decide_eq_true_iff, hl]; omega
  refine ⟨M', _, p1, hp, p2, ⟨by have := g.1; omega, ?_⟩, h.n p3, p3, p4, p5⟩
  rw [Bool.and_eq_true, hp, g.2, hl]
  have := g.1
  omega
theorem i2b34 : j_i2b 34 = 34 ∧ j_i2b 44 = 44 ∧ j_i2b 10 = 10 := by decide
theorem WE.o {M N : Mem} {s o : Nat} {w : List Int32} (e : WE M s w) (h : ST M) (ob : OUT o 30000) (d : Df (atO o) n2 n2 M N) : WE N s w := ⟨e.1, fun i hi => by
  have h0 := h.1
  rw [d.cI (by omega) (fun q => by unfold atO at q; unfold OUT at ob; omega)]
  exact e.2 i hi⟩
/-- the signs of a word -/
theorem E_say_l {o s L : Nat} {w : List Int32} {b : Bool} (ob : OUT o 30000) (hw : ascs w) : ∀ (m N i : Nat) (v : List Int32) (f : Bool) (M : Mem), i + m = w.length → ST M → WE M s w → EO M o 30000 v → Fg L v f → ∃ M' f', F_X11_say_b24 (N + 1 + m) M 1037 o (iw (s : Int)) (iw (w.length : Nat)) (mr b) (mr f) (iw (i : Int)) = some (mr f', M') ∧ EO M' o 30000 (v ++ (escf w m i ++ mkx (b = true))) ∧ Fg L (v ++ (escf w m i ++ mkx (b = true))) f' ∧ ST M' ∧ Df (atO o) n2 n2 M M' ∧ m_nx M' = m_nx M ∧ m_sl M' = m_sl M
  | 0, N, i, v, f, M, hi, h, e, eo, g => by
    have hl := e.1
    have n1 : ¬ (1 : Int32) = 0 := by decide
    have b119 : ∀ (A : Mem) (g : Bool), F_X11_say_b119 A (mr g) = some (mr g, A) := fun A g => by cases g <;> rfl
    obtain ⟨vO, o2⟩ : vg M o 16 = some () ∧ True := ⟨(ob.f h).2.2.2.1, trivial⟩
    have st : F_X11_say_b24 (N + 1 + 0) M 1037 o (iw (s : Int)) (iw (w.length : Nat)) (mr b) (mr f) (iw (i : Int)) = F_X11_say_b24_st (F_X11_say_b24 N) M 1037 o (iw (s : Int)) (iw (w.length : Nat)) (mr b) (mr f) (iw (i : Int)) := rfl
    rw [st]
    unfold F_X11_say_b24_st
    rw [if_neg (show ¬ iw (i : Int) < iw (w.length : Nat) by rw [iw_le4 (by omega) (by omega)]; omega)]
    cases b with
    | false =>
      rw [if_pos (show mr false = 0 from rfl), b119]
      have em : escf w 0 i ++ mkx (false = true) = [] := by unfold escf mkx; rw [fpif (by decide)]; rfl
      rw [em, List.append_nil]
      exact ⟨M, f, rfl, eo, g, h, Df.refl _ _ _ _, rfl, rfl⟩
    | true =>
      rw [if_neg (show ¬ mr true = 0 by decide), vO, Option.bind_some]
      obtain ⟨M', p, p1, p0, p2, p3, p4, p5, p6, p7⟩ := E_pf ob h eo g 34 i2b34.1
      have em : escf w 0 i ++ mkx (true = true) = [34] := by unfold escf mkx; rw [tpif rfl]; rfl
      rw [em, p1, Option.bind_some]
      refine ⟨M', p && f, ?_, p2, p3, p4, p5, p6, p7⟩
      cases p with
      | false => rfl
      | true => rw [if_neg (show ¬ mr true = 0 by decide), b119]; rfl
  | m + 1, N, i, v, f, M, hi, h, e, eo, g => by
    have hl := e.1
    have st : F_X11_say_b24 (N + 1 + (m + 1)) M 1037 o (iw (s : Int)) (iw (w.length : Nat)) (mr b) (mr f) (iw (i : Int)) = F_X11_say_b24_st (F_X11_say_b24 (N + 1 + m)) M 1037 o (iw (s : Int)) (iw (w.length : Nat)) (mr b) (mr f) (iw (i : Int)) := rfl
    rw [st]
    unfold F_X11_say_b24_st
    rw [if_pos (show iw (i : Int) < iw (w.length : Nat) by rw [iw_le4 (by omega) (by omega)]; omega)]
    have hasc := hw i (by omega)
    -- the sign itself
    have b68 : ∀ (A : Mem) (u : List Int32) (fl : Bool), ST A → WE A s w → EO A o 30000 u → Fg L u fl → ∃ M' f', F_X11_say_b68 (F_X11_say_b24 (N + 1 + m)) A 1037 o (iw (s : Int)) (iw (w.length : Nat)) (mr b) (mr fl) (iw (i : Int)) = some (mr f', M') ∧ EO M' o 30000 (u ++ (wf w i :: (escf w m (i + 1) ++ mkx (b = true)))) ∧ Fg L (u ++ (wf w i :: (escf w m (i + 1) ++ mkx (b = true)))) f' ∧ ST M' ∧ Df (atO o) n2 n2 A M' ∧ m_nx M' = m_nx A ∧ m_sl M' = m_sl A := fun A u fl sA eA oA gA => by
      obtain ⟨B, p, p1, p0, p2, p3, p4, p5, p6, p7⟩ := E_pf ob sA oA gA (wf w i) hasc.ok.2.2.2
      obtain ⟨M', f', q1, q2, q3, q4, q5, q6, q7⟩ := E_say_l ob hw m N (i + 1) (u ++ [wf w i]) (p && fl) B (by omega) p4 (eA.o sA ob p5) p2 p3
      rw [List.append_assoc] at q2 q3
      refine ⟨M', f', ?_, q2, q3, q4, p5.trans q5, by omega, by omega⟩
      unfold F_X11_say_b68 F_X11_say_b96 F_X11_say_b97
      simp only [g1037_769, g1038_832, sA, iw_nad, eA.ab sA (show i < w.length by omega), (ob.f sA).2.2.2.1, p1, iw_succ, Option.bind_some]
      rw [← q1]
      cases p with
      | false => rfl
      | true =>
        rw [if_neg (show ¬ mr true = 0 by decide)]
        cases fl with
        | false => rfl
        | true => rfl
    simp only [g1037_769, g1038_832, h, iw_nad, e.ab h (show i < w.length by omega), Option.bind_some]
    by_cases c34 : wf w i = 34
    · rw [if_pos c34, (ob.f h).2.2.2.1, Option.bind_some]
      obtain ⟨B, p, p1, p0, p2, p3, p4, p5, p6, p7⟩ := E_pf ob h eo g 34 i2b34.1
      rw [p1, Option.bind_some]
      obtain ⟨M', f', q1, q2, q3, q4, q5, q6, q7⟩ := b68 B (v ++ [34]) (p && f) p4 (e.o h ob p5) p2 p3
      have em : v ++ [34] ++ (wf w i :: (escf w m (i + 1) ++ mkx (b = true))) = v ++ (escf w (m + 1) i ++ mkx (b = true)) := by
        show _ = v ++ (((if wf w i = 34 then [34] else []) ++ (wf w i :: escf w m (i + 1))) ++ mkx (b = true))
        rw [if_pos c34]
        simp only [List.append_assoc, List.singleton_append, List.cons_append]
      rw [em] at q2 q3
      refine ⟨M', f', ?_, q2, q3, q4, p5.trans q5, by omega, by omega⟩
      rw [← q1]
      unfold F_X11_say_b65 F_X11_say_b66
      cases p with
      | false => rfl
      | true =>
        rw [if_neg (show ¬ mr true = 0 by decide)]
        cases f with
        | false => rfl
        | true => rfl
    · rw [if_neg c34]
      obtain ⟨M', f', q1, q2, q3, q4, q5, q6, q7⟩ := b68 M v f h e eo g
      have em : v ++ (wf w i :: (escf w m (i + 1) ++ mkx (b = true))) = v ++ (escf w (m + 1) i ++ mkx (b = true)) := by
        show _ = v ++ (((if wf w i = 34 then [34] else []) ++ (wf w i :: escf w m (i + 1))) ++ mkx (b = true))
        rw [if_neg c34]
        rfl
      rw [em] at q2 q3
      exact ⟨M', f', q1, q2, q3, q4, q5, q6, q7⟩
theorem E_say {M : Mem} {o s : Nat} {w v : List Int32} {b : Bool} (ob : OUT o 30000) (h : ST M) (hw : ascs w) (e : WE M s w) (eo : EO M o 30000 v) : ∃ M' f', F_X11_say M 1037 o (iw (s : Int)) (iw (w.length : Nat)) (mr b) = some (mr f', M') ∧ EO M' o 30000 (v ++ wtx w (b = true)) ∧ Fg v.length (v ++ wtx w (b = true)) f' ∧ ST M' ∧ Df (atO o) n2 n2 M M' ∧ m_nx M' = m_nx M ∧ m_sl M' = m_sl M := by
  have hl := e.1
  obtain ⟨K, hK⟩ : ∃ K, K + 1 + w.length = xN := ⟨xN - 1 - w.length, by have : xN = 1099511627776 := rfl; omega⟩
  have g0 : Fg v.length v true := ⟨Nat.le_refl _, by simp⟩
  unfold F_X11_say F_X11_say_b14 F_X11_say_b19
  cases b with
  | false =>
    rw [if_pos (show mr false = 0 from rfl)]
    obtain ⟨M', f', q1, q2, q3, q4, q5, q6, q7⟩ := E_say_l (b := false) ob hw w.length K 0 v true M (by omega) h e eo g0
    rw [hK] at q1
    have em : wtx w (false = true) = escf w w.length 0 ++ mkx (false = true) := by unfold wtx mkx; rw [fpif (by decide)]; rfl
    rw [em]
    exact ⟨M', f', q1, q2, q3, q4, q5, q6, q7⟩
  | true =>
    rw [if_neg (show ¬ mr true = 0 by decide), (ob.f h).2.2.2.1, Option.bind_some]
    obtain ⟨B, p, p1, p0, p2, p3, p4, p5, p6, p7⟩ := E_pf ob h eo g0 34 i2b34.1
    rw [p1, Option.bind_some]
    obtain ⟨M', f', q1, q2, q3, q4, q5, q6, q7⟩ := E_say_l (b := true) ob hw w.length K 0 (v ++ [34]) (p && true) B (by omega) p4 (e.o h ob p5) p2 p3
    rw [hK] at q1
    have em : v ++ [34] ++ (escf w w.length 0 ++ mkx (true = true)) = v ++ wtx w (true = true) := by
      unfold wtx mkx
      rw [tpif rfl]
      simp only [List.append_assoc]
    rw [em] at q2 q3
    refine ⟨M', f', ?_, q2, q3, q4, p5.trans q5, by omega, by omega⟩
    rw [← q1]
    cases p with
    | false => rfl
    | true => rfl
/-- whether a word is written in marks whatever it means -/
theorem E_needs {M : Mem} {s : Nat} {w : List Int32} (h : ST M) (hw : ascs w) (e : WE M s w) : F_X11_needsMarks M 1037 (iw (s : Int)) (iw (w.length : Nat)) = some (pif (w.length = 0 ∨ hsg w) 1 0) := by
  have hl := e.1
  unfold F_X11_needsMarks F_X11_needsMarks_b36
  by_cases c0 : w.length = 0
  · rw [if_pos (show iw (w.length : Nat) = 0 by rw [c0]; rfl), tpif (Or.inl c0)]
  · rw [if_neg (show ¬ iw (w.length : Nat) = 0 by rw [show (0 : Int32) = iw ((0 : Nat) : Int) from rfl, iw_eq (by omega) (by omega) (by omega) (by omega)]; omega)]
    have a0 := e.ab h (show 0 < w.length by omega)
    rw [Nat.add_zero] at a0
    have a1 := e.ab h (show w.length - 1 < w.length by omega)
    have ei : iw (s : Int) + iw (w.length : Nat) - 1 = iw ((s + (w.length - 1) : Nat) : Int) := by
      rw [iw_nad, show (1 : Int32) = iw ((1 : Nat) : Int) from rfl, iw_nsub (by omega), show s + w.length - 1 = s + (w.length - 1) by omega]
    simp only [g1037_769, g1038_832, h, a0, ei, a1, Option.bind_some]
    by_cases c1 : wf w 0 = 32
    · rw [if_pos c1, tpif (show w.length = 0 ∨ hsg w from Or.inr (Or.inr ⟨by omega, Or.inl c1⟩))]
    · rw [if_neg c1]
      by_cases c2 : wf w (w.length - 1) = 32
      · rw [if_pos c2, tpif (show w.length = 0 ∨ hsg w from Or.inr (Or.inr ⟨by omega, Or.inr c2⟩))]
      · rw [if_neg c2]
        have loop : ∀ (m N i : Nat), i + m = w.length → (∀ j, j < i → ¬ (wf w j = 34 ∨ wf w j = 44)) → F_X11_needsMarks_b40 (N + 1 + m) M 1037 (iw (s : Int)) (iw (w.length : Nat)) (iw (i : Int)) = some (pif (w.length = 0 ∨ hsg w) 1 0) := by
          intro m
          induction m with
          | zero =>
            intro N i hi hb
            show F_X11_needsMarks_b40_st (F_X11_needsMarks_b40 N) M 1037 (iw (s : Int)) (iw (w.length : Nat)) (iw (i : Int)) = _
            unfold F_X11_needsMarks_b40_st
            rw [if_neg (by rw [iw_le4 (by omega) (by omega)]; omega), fpif]
            rintro (q | ⟨j, q1, q2⟩ | q)
            · exact c0 q
            · exact hb j (by omega) q2
            · exact q.2.elim c1 c2
          | succ m ih =>
            intro N i hi hb
            show F_X11_needsMarks_b40_st (F_X11_needsMarks_b40 (N + 1 + m)) M 1037 (iw (s : Int)) (iw (w.length : Nat)) (iw (i : Int)) = _
            unfold F_X11_needsMarks_b40_st F_X11_needsMarks_b77
            rw [if_pos (show iw (i : Int) < iw (w.length : Nat) by rw [iw_le4 (by omega) (by omega)]; omega)]
            simp only [g1037_769, g1038_832, h, iw_nad, e.ab h (show i < w.length by omega), Option.bind_some]
            by_cases d1 : wf w i = 34
            · rw [if_pos d1, tpif (show w.length = 0 ∨ hsg w from Or.inr (Or.inl ⟨i, by omega, Or.inl d1⟩))]
            · rw [if_neg d1]
              by_cases d2 : wf w i = 44
              · rw [if_pos d2, tpif (show w.length = 0 ∨ hsg w from Or.inr (Or.inl ⟨i, by omega, Or.inr d2⟩))]
              · rw [if_neg d2, iw_succ]
                exact ih N (i + 1) (by omega) (fun j hj => by
                  by_cases k : j = i
                  · rw [k]; exact fun q => q.elim d1 d2
                  · exact hb j (by omega))
        obtain ⟨K, hK⟩ : ∃ K, K + 1 + w.length = xN := ⟨xN - 1 - w.length, by have : xN = 1099511627776 := rfl; omega⟩
        have := loop w.length K 0 (by omega) (fun j hj => by omega)
        rw [hK] at this
        exact this
