/-! ===== GROUPS, 1: keys in order, folds ===== -/
def upj (f : Nat → Int64) (g : Nat) (v : Int64) : Nat → Int64 := fun x => if x = g then v else f x
noncomputable def gst (w k : Int32) (kv wv : Nat → Int64) : Nat → Option (Nat × (Nat → Int64) × (Nat → Int64))
  | 0 => some (0, fun _ => 0, fun _ => 0)
  | q + 1 => match gst w k kv wv q with
    | none => none
    | some st => if q = 0 ∨ kv q ≠ st.2.1 (st.1 - 1) then (match foS w k (foB w k (wv q)) (wv q) with
        | none => none
        | some r => some (st.1 + 1, upj st.2.1 st.1 (kv q), upj st.2.2 st.1 r))
      else (match foS w k (st.2.2 (st.1 - 1)) (wv q) with
        | none => none
        | some r => some (st.1, st.2.1, upj st.2.2 (st.1 - 1) r))
theorem gst_s {w k : Int32} {kv wv : Nat → Int64} {q : Nat} {st : Nat × (Nat → Int64) × (Nat → Int64)} (h : gst w k kv wv q = some st) : gst w k kv wv (q + 1) = if q = 0 ∨ kv q ≠ st.2.1 (st.1 - 1) then (match foS w k (foB w k (wv q)) (wv q) with
        | none => none
        | some r => some (st.1 + 1, upj st.2.1 st.1 (kv q), upj st.2.2 st.1 r))
      else (match foS w k (st.2.2 (st.1 - 1)) (wv q) with
        | none => none
        | some r => some (st.1, st.2.1, upj st.2.2 (st.1 - 1) r)) := by
  show (match gst w k kv wv q with | none => none | some st => _) = _
  rw [h]
theorem gst_no {w k : Int32} {kv wv : Nat → Int64} {q : Nat} (h : gst w k kv wv q = none) : ∀ e, gst w k kv wv (q + e) = none
  | 0 => h
  | e + 1 => by
    show (match gst w k kv wv (q + e) with | none => none | some st => _) = _
    rw [gst_no h e]
/-- a new group, or one more of the last -/
theorem gst_new {w k : Int32} {kv wv : Nat → Int64} {q g : Nat} {ka fa : Nat → Int64} (h : gst w k kv wv q = some (g, ka, fa)) (hn : q = 0 ∨ kv q ≠ ka (g - 1)) : (∀ r, foS w k (foB w k (wv q)) (wv q) = some r → gst w k kv wv (q + 1) = some (g + 1, upj ka g (kv q), upj fa g r)) ∧ (foS w k (foB w k (wv q)) (wv q) = none → gst w k kv wv (q + 1) = none) := by
  have e := gst_s h
  rw [if_pos hn] at e
  exact ⟨fun r hr => by rw [e, hr], fun hr => by rw [e, hr]⟩
theorem gst_old {w k : Int32} {kv wv : Nat → Int64} {q g : Nat} {ka fa : Nat → Int64} (h : gst w k kv wv q = some (g, ka, fa)) (hn : ¬ (q = 0 ∨ kv q ≠ ka (g - 1))) : (∀ r, foS w k (fa (g - 1)) (wv q) = some r → gst w k kv wv (q + 1) = some (g, ka, upj fa (g - 1) r)) ∧ (foS w k (fa (g - 1)) (wv q) = none → gst w k kv wv (q + 1) = none) := by
  have e := gst_s h
  rw [if_neg hn] at e
  exact ⟨fun r hr => by rw [e, hr], fun hr => by rw [e, hr]⟩
/-- what holds of groups -/
theorem gst_inv {w k kd : Int32} {kv wv : Nat → Int64} {n : Nat} (hw : Wy w) (hk : Lk k) (ht : foT w k = true) (h8 : w ≠ 8) (hkv : ∀ q, q < n → vb kd (kv q)) (hwv : ∀ q, q < n → vb k (wv q)) : ∀ (q : Nat), q ≤ n → ∀ g ka fa, gst w k kv wv q = some (g, ka, fa) → g ≤ q ∧ (0 < q → 0 < g) ∧ ∀ x, x < g → vb kd (ka x) ∧ foV w k q (fa x)
  | 0, _, g, ka, fa, h => by
    have h : some ((0 : Nat), (fun _ => (0 : Int64)), (fun _ => (0 : Int64))) = some (g, ka, fa) := h
    have : g = 0 := by injection h with h; injection h with h1 h2; exact h1.symm
    subst this
    exact ⟨Nat.le_refl _, fun q => by omega, fun x hx => by omega⟩
  | q + 1, hq, g, ka, fa, h => by
    cases hp : gst w k kv wv q with
    | none => rw [gst_no hp 1] at h; cases h
    | some st =>
      obtain ⟨g0, ka0, fa0⟩ := st
      obtain ⟨i1, i2, i3⟩ := gst_inv hw hk ht h8 hkv hwv q (by omega) g0 ka0 fa0 hp
      have fV : ∀ v, foV w k q v → foV w k (q + 1) v := fun v hv => ⟨hv.1, fun e => by obtain ⟨c, c1, c2⟩ := hv.2 e; exact ⟨c, by omega, c2⟩⟩
      by_cases hn : q = 0 ∨ kv q ≠ ka0 (g0 - 1)
      · obtain ⟨n1, n2'⟩ := gst_new hp hn
        cases hr : foS w k (foB w k (wv q)) (wv q) with
        | none => rw [n2' hr] at h; cases h
        | some r =>
          rw [n1 r hr] at h
          injection h with h
          injection h with h1 h2
          injection h2 with h2 h3
          subst h1 h2 h3
          have hfr := foS_vb hw hk ht h8 (foB_V hw hk ht h8 (hwv q (by omega))) (hwv q (by omega)) hr
          refine ⟨by omega, fun _ => by omega, fun x hx => ?_⟩
          unfold upj
          by_cases c : x = g0
          · rw [if_pos c, if_pos c]
            exact ⟨hkv q (by omega), ⟨hfr.1, fun e => by obtain ⟨c, c1, c2⟩ := hfr.2 e; exact ⟨c, by omega, c2⟩⟩⟩
          · rw [if_neg c, if_neg c]
            exact ⟨(i3 x (by omega)).1, fV _ (i3 x (by omega)).2⟩
      · obtain ⟨n1, n2'⟩ := gst_old hp hn
        have hg0 : 0 < g0 := i2 (by omega)
        cases hr : foS w k (fa0 (g0 - 1)) (wv q) with
        | none => rw [n2' hr] at h; cases h
        | some r =>
          rw [n1 r hr] at h
          injection h with h
          injection h with h1 h2
          injection h2 with h2 h3
          subst h1 h2 h3
          have hfr := foS_vb hw hk ht h8 (i3 (g0 - 1) (by omega)).2 (hwv q (by omega)) hr
          refine ⟨by omega, fun _ => hg0, fun x hx => ?_⟩
          unfold upj
          by_cases c : x = g0 - 1
          · rw [if_pos c]
            exact ⟨(i3 x (by omega)).1, hfr⟩
          · rw [if_neg c]
            exact ⟨(i3 x (by omega)).1, fV _ (i3 x (by omega)).2⟩
section GRP
variable {ok bk ov bv : Nat} {kd k : Int32} {nk nv : Nat} {zk zv : Nat → Nat} {sk' tk sv tv : Nat → Int32} {xk yk xv yv : Int32} {ck dk Lk' cv dv' Lv : Nat} {pk pv w : Int32} {keys vals : Nat → Int64} {n : Nat}
/-- the engine within a group -/
theorem E_gin {k144 : Mem → Nat → Int32 → Nat → Nat → Int32 → Int32 → Int32 → Int32 → Option (Int32 × Mem)} {M : Mem} {a g : Nat} {ka fa : Nat → Int64} (hw : Wy w) (hk : Lk k) (ht : foT w k = true) (h8 : w ≠ 8) (hn : n ≤ 4096) (hkv : ∀ q, q < n → vb kd (keys q)) (hvv : ∀ q, q < n → vb k (vals q)) (s : OS M 1022 1023 1058 n kd 0 keys (srt 0 kd keys n)) (gv : GP M ov bv k nv zv sv tv xv yv cv dv' Lv pv) (hp : prd zv nv = n) (hval : ∀ x, x < n → cJ M cv (gpos nv zv sv xv x) = vals x)
    (ha : a < n) (hga : gst w k (fun q => keys (srt 0 kd keys n q)) (fun q => vals (srt 0 kd keys n q)) a = some (g, ka, fa)) (hnew : a = 0 ∨ keys (srt 0 kd keys n a) ≠ ka (g - 1)) :
    ∀ (e N b : Nat) (so : Int64), b + e = n → e + 1 ≤ N → a ≤ b → ((b = a ∧ so = foB w k (vals (srt 0 kd keys n a))) ∨ (a < b ∧ gst w k (fun q => keys (srt 0 kd keys n q)) (fun q => vals (srt 0 kd keys n q)) b = some (g + 1, upj ka g (keys (srt 0 kd keys n a)), upj fa g so))) →
    (∃ (b' : Nat) (so' : Int64), a < b' ∧ b' ≤ n ∧ gst w k (fun q => keys (srt 0 kd keys n q)) (fun q => vals (srt 0 kd keys n q)) b' = some (g + 1, upj ka g (keys (srt 0 kd keys n a)), upj fa g so') ∧ (b' = n ∨ keys (srt 0 kd keys n b') ≠ keys (srt 0 kd keys n a)) ∧
      F_X0_groups_b181 k144 N M 1000 w ok ov (iw (n : Int)) (foL w k) (iw (g : Int)) (iw (a : Int)) (iw (b : Int)) so = F_X0_groups_b273 k144 M 1000 w ok ov (iw (n : Int)) (foL w k) (iw (g : Int)) (iw (a : Int)) (iw (b' : Int)) so') ∨
    (gst w k (fun q => keys (srt 0 kd keys n q)) (fun q => vals (srt 0 kd keys n q)) n = none ∧ F_X0_groups_b181 k144 N M 1000 w ok ov (iw (n : Int)) (foL w k) (iw (g : Int)) (iw (a : Int)) (iw (b : Int)) so = some (-8, eT M 8 (-1))) := by
  have ob : OB 1022 1023 1024 := Or.inl ⟨rfl, rfl, rfl⟩
  obtain ⟨s1, -⟩ := srt_ok (kd := kd) (v := keys) hn
  have s' := s
  obtain ⟨o1, o2, o3, o4, o5, o6, o7, o8, o9⟩ := s'
  obtain ⟨b1, b2, b3, b4, b5, b6, b7, b8, b9, b10⟩ := ob.f o1
  have atq : ∀ q, q < n → F_X7_at M 1022 (iw (q : Int)) = some (iw (srt 0 kd keys n q : Nat)) := fun q hq => by
    unfold F_X7_at
    simp only [b1, Option.bind_some]
    rw [ai_of b7 b8 (show q < 4096 by omega) (by decide), o9 q hq]
    rfl
  have alq : ∀ q, q < n → al M 1058 (iw (srt 0 kd keys n q : Nat)) = some (keys (srt 0 kd keys n q)) := fun q hq => by
    have := s1 q hq
    rw [al_of o5 rfl (by omega) (by omega), o8 _ this]
  have gtq : ∀ q, q < n → F_X21_get M ov (iw (srt 0 kd keys n q : Nat)) = some (vals (srt 0 kd keys n q)) := fun q hq => by
    have := s1 q hq
    rw [(gv.get (by omega)).2.1, hval _ this]
  intro e
  induction e with
  | zero =>
    intro N b so h1 hN h2 h3
    obtain ⟨N, rfl⟩ : ∃ x, N = x + 1 := ⟨N - 1, by omega⟩
    left
    rcases h3 with h3 | h3
    · omega
    · refine ⟨b, so, h3.1, by omega, h3.2, Or.inl (by omega), ?_⟩
      show F_X0_groups_b181_st k144 (F_X0_groups_b181 k144 N) M _ _ _ _ _ _ _ _ _ _ = _
      unfold F_X0_groups_b181_st
      rw [if_neg (by rw [iw_le4 (by omega) (by omega)]; omega)]
  | succ e ih =>
    intro N b so h1 hN h2 h3
    obtain ⟨N, rfl⟩ : ∃ x, N = x + 1 := ⟨N - 1, by omega⟩
    have hb : b < n := by omega
    have hsb := s1 b hb
    have head : F_X0_groups_b181 k144 (N + 1) M 1000 w ok ov (iw (n : Int)) (foL w k) (iw (g : Int)) (iw (a : Int)) (iw (b : Int)) so = if keys (srt 0 kd keys n b) = keys (srt 0 kd keys n a) then tc (F_X51_add M w k (foL w k) so (vals (srt 0 kd keys n b)) 1002) (fun z32 => F_X0_groups_b181 k144 N z32.2 1000 w ok ov (iw (n : Int)) (foL w k) (iw (g : Int)) (iw (a : Int)) (iw (b : Int) + 1) z32.1) (fun z33 => F_X0_groups_b256 z33.2 z33.1 1000) else F_X0_groups_b273 k144 M 1000 w ok ov (iw (n : Int)) (foL w k) (iw (g : Int)) (iw (a : Int)) (iw (b : Int)) so := by
      show F_X0_groups_b181_st k144 (F_X0_groups_b181 k144 N) M _ _ _ _ _ _ _ _ _ _ = _
      unfold F_X0_groups_b181_st
      rw [if_pos (by rw [iw_le4 (by omega) (by omega)]; exact hb)]
      simp only [g1000_82, g1000_74, g1000_67, o1, v1022, atq b hb, atq a ha, alq b hb, alq a ha, gtq b hb, gi_of gv.1.2.2.1 (show x_fi 22 1408 = true by decide), gv.1.2.2.2.1, vg_of gv.1.2.2.1 (show x_isa 22 22 = true by decide), Option.bind_some]
    by_cases ck : keys (srt 0 kd keys n b) = keys (srt 0 kd keys n a)
    · rw [if_pos ck] at head
      -- the step, whichever
      have hso : foV w k b so := by
        rcases h3 with ⟨q1, q2⟩ | ⟨q1, q2⟩
        · rw [q2]
          have := foB_V hw hk ht h8 (hvv _ (s1 a ha))
          exact ⟨this.1, fun e => by obtain ⟨c, c1, c2⟩ := this.2 e; exact ⟨c, by omega, c2⟩⟩
        · have := ((gst_inv hw hk ht h8 (fun q hq => hkv _ (s1 q hq)) (fun q hq => hvv _ (s1 q hq)) b (by omega) _ _ _ q2).2.2 g (by omega)).2
          unfold upj at this
          rw [if_pos rfl] at this
          exact this
      have stp : (∀ r, foS w k so (vals (srt 0 kd keys n b)) = some r → gst w k (fun q => keys (srt 0 kd keys n q)) (fun q => vals (srt 0 kd keys n q)) (b + 1) = some (g + 1, upj ka g (keys (srt 0 kd keys n a)), upj fa g r)) ∧ (foS w k so (vals (srt 0 kd keys n b)) = none → gst w k (fun q => keys (srt 0 kd keys n q)) (fun q => vals (srt 0 kd keys n q)) (b + 1) = none) := by
        rcases h3 with ⟨q1, q2⟩ | ⟨q1, q2⟩
        · subst q1
          rw [q2]
          exact gst_new hga hnew
        · have hold := gst_old q2 (by
            rintro (c | c)
            · omega
            · apply c
              show keys (srt 0 kd keys n b) = upj ka g (keys (srt 0 kd keys n a)) (g + 1 - 1)
              unfold upj
              rw [if_pos (by omega)]
              exact ck)
          have e1 : upj fa g so (g + 1 - 1) = so := by unfold upj; rw [if_pos (by omega)]
          have e2 : ∀ r, upj (upj fa g so) (g + 1 - 1) r = upj fa g r := fun r => by
            funext x
            unfold upj
            by_cases c : x = g
            · rw [if_pos (by omega), if_pos c]
            · rw [if_neg (by omega), if_neg c, if_neg c]
          rw [e1] at hold
          exact ⟨fun r hr => by rw [hold.1 r hr, e2], hold.2⟩
      rw [E_fadd hw hk ht h8 hso.1 (hvv _ hsb)] at head
      cases hr : foS w k so (vals (srt 0 kd keys n b)) with
      | none =>
        right
        rw [hr] at head
        have hno := gst_no (stp.2 hr) (n - (b + 1))
        rw [show b + 1 + (n - (b + 1)) = n by omega] at hno
        refine ⟨hno, ?_⟩
        rw [head]
        show tc (eTh M 1002 8) _ _ = _
        have s2 : ST (eT M 8 (-1)) := o1
        rw [eTh_of o1, tc_inr]
        simp only [F_X0_groups_b256, g1000_67, g1002_129, s2, (eT_c M 8 (-1)).1, Option.bind_some]
      | some r =>
        rw [hr] at head
        have h' : F_X0_groups_b181 k144 (N + 1) M 1000 w ok ov (iw (n : Int)) (foL w k) (iw (g : Int)) (iw (a : Int)) (iw (b : Int)) so = F_X0_groups_b181 k144 N M 1000 w ok ov (iw (n : Int)) (foL w k) (iw (g : Int)) (iw (a : Int)) (iw ((b + 1 : Nat) : Int)) r := by
          rw [head]
          show tc (some (Sum.inl (r, M))) _ _ = _
          rw [tc_inl, iw_succ]
        rw [h']
        exact ih N (b + 1) r (by omega) (by omega) (by omega) (Or.inr ⟨by omega, stp.1 r hr⟩)
    · rw [if_neg ck] at head
      left
      rcases h3 with ⟨q1, q2⟩ | ⟨q1, q2⟩
      · rw [q1] at ck
        exact absurd rfl ck
      · exact ⟨b, so, q1, by omega, q2, Or.inr ck, head⟩
/-- the engine group by group -/
theorem E_gout (hw : Wy w) (hk : Lk k) (ht : foT w k = true) (h8 : w ≠ 8) (hn : n ≤ 4096) (hkv : ∀ q, q < n → vb kd (keys q)) (hvv : ∀ q, q < n → vb k (vals q)) (hp : prd zv nv = n) : ∀ (e N a g : Nat) (ka fa : Nat → Int64) (M : Mem), n - a ≤ e → a ≤ n → OS M 1022 1023 1058 n kd 0 keys (srt 0 kd keys n) → GP M ov bv k nv zv sv tv xv yv cv dv' Lv pv → (∀ x, x < n → cJ M cv (gpos nv zv sv xv x) = vals x) →
    gst w k (fun q => keys (srt 0 kd keys n q)) (fun q => vals (srt 0 kd keys n q)) a = some (g, ka, fa) → (a = 0 ∨ a = n ∨ keys (srt 0 kd keys n a) ≠ ka (g - 1)) → (∀ x, x < g → cJ M 1057 x = ka x ∧ cJ M 1057 (4096 + x) = fa x) →
    (∃ M' g' ka' fa' N', gst w k (fun q => keys (srt 0 kd keys n q)) (fun q => vals (srt 0 kd keys n q)) n = some (g', ka', fa') ∧ F_X0_groups_b144 (N + 1 + e) M 1000 w ok ov (iw (n : Int)) (foL w k) (iw (g : Int)) (iw (a : Int)) = F_X0_groups_b144 (N' + 1) M' 1000 w ok ov (iw (n : Int)) (foL w k) (iw (g' : Nat)) (iw (n : Int)) ∧ Df (at1 1002) (at1 1057) n2 M M' ∧ m_nx M' = m_nx M ∧ m_sl M' = m_sl M ∧ ∀ x, x < g' → cJ M' 1057 x = ka' x ∧ cJ M' 1057 (4096 + x) = fa' x) ∨
    (gst w k (fun q => keys (srt 0 kd keys n q)) (fun q => vals (srt 0 kd keys n q)) n = none ∧ ∃ M', F_X0_groups_b144 (N + 1 + e) M 1000 w ok ov (iw (n : Int)) (foL w k) (iw (g : Int)) (iw (a : Int)) = some (-8, M') ∧ Df (at1 1002) (at1 1057) n2 M M' ∧ m_nx M' = m_nx M ∧ m_sl M' = m_sl M) := by
  have hxN : xN = 1099511627776 := rfl
  have ob : OB 1022 1023 1024 := Or.inl ⟨rfl, rfl, rfl⟩
  obtain ⟨s1, -⟩ := srt_ok (kd := kd) (v := keys) hn
  intro e
  induction e with
  | zero =>
    intro N a g ka fa M h1 h2 s gv hval hga hnew hrow
    have : a = n := by omega
    subst this
    left
    exact ⟨M, g, ka, fa, N, hga, rfl, Df.refl _ _ _ _, rfl, rfl, hrow⟩
  | succ e ih =>
    intro N a g ka fa M h1 h2 s gv hval hga hnew hrow
    by_cases can : a = n
    · subst can
      left
      exact ⟨M, g, ka, fa, N + (e + 1), hga, by rw [show N + (e + 1) + 1 = N + 1 + (e + 1) by omega], Df.refl _ _ _ _, rfl, rfl, hrow⟩
    have ha : a < n := by omega
    have hnew' : a = 0 ∨ keys (srt 0 kd keys n a) ≠ ka (g - 1) := by
      rcases hnew with q | q | q
      · exact Or.inl q
      · exact absurd q can
      · exact Or.inr q
    have s' := s
    obtain ⟨o1, o2, o3, o4, o5, o6, o7, o8, o9⟩ := s'
    obtain ⟨b1, b2, b3, b4, b5, b6, b7, b8, b9, b10⟩ := ob.f o1
    have hsa := s1 a ha
    have ata : F_X7_at M 1022 (iw (a : Int)) = some (iw (srt 0 kd keys n a : Nat)) := by
      unfold F_X7_at
      simp only [b1, Option.bind_some]
      rw [ai_of b7 b8 (show a < 4096 by omega) (by decide), o9 a ha]
      rfl
    have ala : al M 1058 (iw (srt 0 kd keys n a : Nat)) = some (keys (srt 0 kd keys n a)) := by rw [al_of o5 rfl (by omega) (by omega), o8 _ hsa]
    have gta : F_X21_get M ov (iw (srt 0 kd keys n a : Nat)) = some (vals (srt 0 kd keys n a)) := by rw [(gv.get (by omega)).2.1, hval _ hsa]
    have hgi := gst_inv hw hk ht h8 (fun q hq => hkv _ (s1 q hq)) (fun q hq => hvv _ (s1 q hq)) a h2 g ka fa hga
    have head : F_X0_groups_b144 (N + 1 + (e + 1)) M 1000 w ok ov (iw (n : Int)) (foL w k) (iw (g : Int)) (iw (a : Int)) = F_X0_groups_b181 (F_X0_groups_b144 (N + 1 + e)) xN M 1000 w ok ov (iw (n : Int)) (foL w k) (iw (g : Int)) (iw (a : Int)) (iw (a : Int)) (foB w k (vals (srt 0 kd keys n a))) := by
      show F_X0_groups_b144_st (F_X0_groups_b144 (N + 1 + e)) M _ _ _ _ _ _ _ _ = _
      unfold F_X0_groups_b144_st
      rw [if_pos (by rw [iw_le4 (by omega) (by omega)]; exact ha)]
      simp only [g1000_74, o1, v1022, ata, gta, vg_of gv.1.2.2.1 (show x_isa 22 22 = true by decide), E_begin hw h8, Option.bind_some]
    rw [head]
    rcases E_gin (ok := ok) (k144 := F_X0_groups_b144 (N + 1 + e)) hw hk ht h8 hn hkv hvv s gv hp hval ha hga hnew' (n - a) xN a _ (by omega) (by omega) (Nat.le_refl _) (Or.inl ⟨rfl, rfl⟩) with ⟨b', so', p1, p2, p3, p4, p5⟩ | ⟨p1, p2⟩
    · rw [p5]
      obtain ⟨M1, hM1⟩ : ∃ M1, M1 = wJ M 1057 g (keys (srt 0 kd keys n a)) := ⟨_, rfl⟩
      obtain ⟨M2, hM2⟩ : ∃ M2, M2 = wJ M1 1057 (4096 + g) so' := ⟨_, rfl⟩
      have d1 : Df n2 (at1 1057) n2 M M1 := by rw [hM1]; exact Df.wJ _ rfl
      have d2 : Df n2 (at1 1057) n2 M M2 := d1.trans (by rw [hM2]; exact Df.wJ _ rfl)
      have sM1 : ST M1 := o1.n d1
      have q1 : sj M 1057 (iw (g : Int)) (keys (srt 0 kd keys n a)) = some M1 := by rw [hM1]; exact sj_of _ (t1057 o1) (l1057 o1) (by omega) (by decide)
      have q2 : sj M1 1057 ((4096 : Int32) + iw (g : Int)) so' = some M2 := by rw [show (4096 : Int32) = iw ((4096 : Nat) : Int) from rfl, iw_nad, hM2]; exact sj_of _ (t1057 sM1) (l1057 sM1) (by omega) (by decide)
      have tail : F_X0_groups_b273 (F_X0_groups_b144 (N + 1 + e)) M 1000 w ok ov (iw (n : Int)) (foL w k) (iw (g : Int)) (iw (a : Int)) (iw (b' : Int)) so' = F_X0_groups_b144 (N + 1 + e) M2 1000 w ok ov (iw (n : Int)) (foL w k) (iw ((g + 1 : Nat) : Int)) (iw (b' : Int)) := by
        simp only [F_X0_groups_b273, g1000_81, g1000_82, g1000_74, o1, v1022, ata, ala, q1, sM1, q2, iw_succ, Option.bind_some]
      rw [tail]
      have cpv := gv.2.2.2.2.2.2.2.1
      have row2 : ∀ x, x < g + 1 → cJ M2 1057 x = upj ka g (keys (srt 0 kd keys n a)) x ∧ cJ M2 1057 (4096 + x) = upj fa g so' x := fun x hx => by
        rw [hM2, hM1, cJ_wJ, cJ_wJ, cJ_wJ, cJ_wJ]
        unfold upj
        by_cases c : x = g
        · rw [if_neg (fun q => by omega), if_pos ⟨rfl, c⟩, if_pos c, if_pos ⟨rfl, by omega⟩, if_pos c]
          exact ⟨rfl, rfl⟩
        · rw [if_neg (fun q => by omega), if_neg (fun q => by omega), if_neg c, if_neg (fun q => by omega), if_neg (fun q => by omega), if_neg c]
          exact hrow x (by omega)
      have d2' : Df (at1 1002) (at1 1057) n2 M M2 := d2.mono (fun _ _ q => q.elim) (fun _ _ q => q) (fun _ _ q => q)
      have n2' : m_nx M2 = m_nx M := by rw [hM2, hM1]; rfl
      have l2' : m_sl M2 = m_sl M := by rw [hM2, hM1]; rfl
      have hnn : b' = 0 ∨ b' = n ∨ keys (srt 0 kd keys n b') ≠ upj ka g (keys (srt 0 kd keys n a)) (g + 1 - 1) := by
        rcases p4 with q | q
        · exact Or.inr (Or.inl q)
        · right; right
          unfold upj
          rw [if_pos (by omega)]
          exact q
      rcases ih N b' (g + 1) _ _ M2 (by omega) p2 (s.j57 d2 rfl) (gv.df d2 qt_n2 (qt_at1 (by decide)) qt_n2) (fun x hx => by rw [d2.cJ cpv.2.1 (qt_at1 (by decide) _ _ cpv.1)]; exact hval x hx) p3 hnn row2 with ⟨M', g', ka', fa', N', r1, r2, r3, r4, r5, r6⟩ | ⟨r1, M', r2, r3, r4, r5⟩
      · left
        exact ⟨M', g', ka', fa', N', r1, r2, d2'.trans r3, by omega, by omega, r6⟩
      · right
        exact ⟨r1, M', r2, d2'.trans r3, by omega, by omega⟩
    · right
      exact ⟨p1, eT M 8 (-1), p2, (eT_d2 M 8 (-1)).mono (fun _ _ q => q) (fun _ _ q => q.elim) (fun _ _ q => q), rfl, rfl⟩
end GRP
