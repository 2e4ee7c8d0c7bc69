/-! ===== FORMULAS, 85: the engine reads all functions ===== -/
/-- a draft whose cells lie from lo to hi -/
def DRg (lo hi B : Nat) (d : Dft) (a : Nat) (M : Mem) : Prop := ∃ nl dn lr pr en b l2 h2, DRh M lo B a nl dn lr pr en d.ln d.nm d.pl d.ps ∧ (a < hi ∧ nl < hi ∧ dn < hi ∧ lr < hi ∧ pr < hi) ∧ cR M a 1799 = b ∧ NEx M B d.bd l2 h2 [b] ∧ d.bd.isx ∧ lo ≤ l2 ∧ h2 ≤ hi
theorem DRf.g {H B a : Nat} {d : Dft} {M : Mem} (h : DRf H B d a M) : DRg H (m_nx M) B d a M := by
  obtain ⟨nl, dn, lr, pr, en, b, l2, h2, h1, h3, h4, h5, h6, h7⟩ := h
  obtain ⟨t1, t2⟩ := h1.2.2.1.1.1.tg
  exact ⟨nl, dn, lr, pr, en, b, l2, h2, h1, ⟨h1.1.2.1, h1.2.2.1.1.1.1, (t2 h1.2.2.1.2.2.2).2, h1.2.2.2.1.2.1, h1.2.2.2.2.1.2.1⟩, h3, h4, h5, h6, h7⟩
section
variable {M N : Mem} {P Q R : Nat → Nat → Prop} {B : Nat}
theorem DRg.df {lo hi a : Nat} {d : Dft} (h : DRg lo hi B d a M) (df : Df P Q R M N) (hS : nTx P R M B) (hI : ∀ x i, lo ≤ x → x < hi → ¬ P x i ∧ ¬ Q x i ∧ ¬ R x i) : DRg lo hi B d a N := by
  obtain ⟨nl, dn, lr, pr, en, b, l2, h2, h1, ⟨k1, k2, k3, k4, k5⟩, h3, h4, h5, h6, h7⟩ := h
  obtain ⟨⟨a1, a2, a3⟩, ⟨b1, b2, b3, b4, b5, b6, b7⟩, ⟨c1, c2, c3, c4⟩, ⟨d1, d2, d3, d4⟩, ⟨e1, e2, e3, e4⟩, f1, g1, g2, g3⟩ := h1
  have nn := df.1
  have pa := fun i => (hI a i a1 k1).1
  have ra := fun i => (hI a i a1 k1).2.2
  refine ⟨nl, dn, lr, pr, en, b, l2, h2, ⟨⟨a1, by omega, (df.2.2 a a2).1.trans a3⟩, ⟨by rw [df.cI a2 (pa _)]; exact b1, by rw [df.cR a2 (ra _)]; exact b2.df df hS, by rw [df.cI a2 (pa _)]; exact b3, by rw [df.cR a2 (ra _)]; exact b4, by rw [df.cR a2 (ra _)]; exact b5, by rw [df.cR a2 (ra _)]; exact b6, by rw [df.cI a2 (pa _)]; exact b7⟩, ⟨(c1.df df (hI nl _ c2 k2).1 (hI nl _ c2 k2).2.2 (fun i hi => (hI dn i c3 k3).2.2)).1, c2, c3, c4⟩, ⟨d1, by omega, (df.2.2 lr d2).1.trans d3, (df.2.2 lr d2).2.1.trans d4⟩, ⟨e1, by omega, (df.2.2 pr e2).1.trans e3, (df.2.2 pr e2).2.1.trans e4⟩, f1, g1, g2, fun i hi => ⟨(g3 i hi).1.df df hS, by rw [df.cI d2 (hI lr i d1 k4).1]; exact (g3 i hi).2.1, by rw [df.cI e2 (hI pr i e1 k5).1]; exact (g3 i hi).2.2⟩⟩, ⟨k1, k2, k3, k4, k5⟩, by rw [df.cR a2 (ra _)]; exact h3, NEx.df df hS d.bd l2 h2 [b] (fun x i x1 x2 => hI x i (by omega) (by omega)) h4, h5, h6, h7⟩
/-- drafts, one behind the other; the list's row lies elsewhere -/
def DRs (M : Mem) (B da : Nat) : List Dft → Nat → Nat → List Nat → Prop
  | [], lo, hi, as => as = [] ∧ lo ≤ hi
  | d :: ds, lo, hi, as => ∃ a as' l m, as = a :: as' ∧ (lo ≤ l ∧ l ≤ m) ∧ DRg l m B d a M ∧ ¬ (l ≤ da ∧ da < m) ∧ DRs M B da ds m hi as'
theorem DRs.le {da : Nat} : ∀ (ds : List Dft) {lo hi : Nat} {as : List Nat}, DRs M B da ds lo hi as → lo ≤ hi
  | [], _, _, _, h => h.2
  | d :: ds, _, _, _, ⟨_, _, _, _, _, h2, _, _, h7⟩ => by have := DRs.le ds h7; omega
theorem DRs.len {da : Nat} : ∀ (ds : List Dft) {lo hi : Nat} {as : List Nat}, DRs M B da ds lo hi as → as.length = ds.length
  | [], _, _, _, h => by rw [h.1]; rfl
  | d :: ds, _, _, _, ⟨_, _, _, _, rfl, _, _, _, h7⟩ => by rw [List.length_cons, List.length_cons, DRs.len ds h7]
theorem DRs.snoc {da a l m : Nat} {d : Dft} (hd : DRg l m B d a M) (hlm : l ≤ m) (h2 : ¬ (l ≤ da ∧ da < m)) : ∀ (ds : List Dft) {lo hi : Nat} {as : List Nat}, DRs M B da ds lo hi as → hi ≤ l → DRs M B da (ds ++ [d]) lo m (as ++ [a])
  | [], lo, hi, as, h, hl => by
    obtain ⟨rfl, h4⟩ := h
    exact ⟨a, [], l, m, rfl, ⟨by omega, hlm⟩, hd, h2, rfl, Nat.le_refl _⟩
  | x :: ds, lo, hi, _, ⟨b, as', l', m', rfl, h3, h4, h5, h8⟩, hl => ⟨b, as' ++ [a], l', m', rfl, h3, h4, h5, DRs.snoc hd hlm h2 ds h8 hl⟩
theorem DRs.rr {da da' : Nat} : ∀ (ds : List Dft) {lo hi : Nat} {as : List Nat}, DRs M B da ds lo hi as → (da' = da ∨ hi ≤ da') → DRs M B da' ds lo hi as
  | [], _, _, _, h, _ => h
  | d :: ds, _, _, _, ⟨b, as', l', m', rfl, h3, h4, h5, h8⟩, k => ⟨b, as', l', m', rfl, h3, h4, by rcases k with rfl | k; exact h5; have := DRs.le ds h8; omega, DRs.rr ds h8 k⟩
theorem DRs.hi {da : Nat} : ∀ (ds : List Dft) {lo hi hi' : Nat} {as : List Nat}, DRs M B da ds lo hi as → hi ≤ hi' → DRs M B da ds lo hi' as
  | [], _, _, _, _, h, k => ⟨h.1, by have := h.2; omega⟩
  | d :: ds, _, _, _, _, ⟨b, as', l', m', rfl, h3, h4, h5, h8⟩, k => ⟨b, as', l', m', rfl, h3, h4, h5, DRs.hi ds h8 k⟩
theorem DRs.df {da : Nat} (df : Df P Q R M N) (hS : nTx P R M B) : ∀ (ds : List Dft) {lo hi : Nat} {as : List Nat}, (∀ x i, lo ≤ x → x < hi → x ≠ da → ¬ P x i ∧ ¬ Q x i ∧ ¬ R x i) → DRs M B da ds lo hi as → DRs N B da ds lo hi as
  | [], _, _, _, _, h => h
  | d :: ds, lo, hi, _, hI, ⟨b, as', l', m', rfl, h3, h4, h5, h8⟩ => by
    have le := DRs.le ds h8
    exact ⟨b, as', l', m', rfl, h3, h4.df df hS (fun x i x1 x2 => hI x i (by omega) (by omega) (fun q => h5 (by rw [← q]; exact ⟨x1, x2⟩))), h5, DRs.df df hS ds (fun x i x1 x2 => hI x i (by omega) x2) h8⟩
end
/-- room while drafts are read -/
def WL (M0 M : Mem) (f : Nat → Int32) (n k dd : Nat) : Prop := Df pK qK rK M0 M ∧ m_nx M + 70 * LT f n k ≤ m_nx M0 + 70 * LT f n 0 + 100 ∧ m_sl M + 300 * LT f n k ≤ m_sl M0 + 300 * LT f n 0 + rcs M dd + 400
/-- what reading all functions comes to -/
def RFs (M0 : Mem) (B ld : Nat) (f : Nat → Int32) (n : Nat) (x : Option ((Nat × Mem) ⊕ (Nat × Mem))) : Nat ⊕ List Dft → Prop
  | .inl q => ∃ M', x = some (.inr (1003, eT M' 1 (iw (q : Int)))) ∧ Df pK qK rK M0 M' ∧ TBk M' f n ∧ m_nx M' ≤ m_nx M0 + 70 * LT f n 0 + 100 ∧ m_sl M' ≤ m_sl M0 + 300 * LT f n 0 + 1000
  | .inr ds => ∃ M' dd ed lo, x = some (.inl (ld, M')) ∧ Df pK qK rK M0 M' ∧ TBk M' f n ∧ (m_tg M' 4 = 1091 ∧ m_ln M' 4 = 0) ∧ (AP M' ld dd ed ∧ m_nx M0 ≤ ld ∧ m_nx M0 ≤ dd ∧ ld < lo) ∧ DRs M' B dd ds lo (m_nx M') ed ∧ m_nx M' ≤ m_nx M0 + 70 * LT f n 0 + 100 ∧ m_sl M' ≤ m_sl M0 + 300 * LT f n 0 + 1000
section
variable {M0 : Mem} {B v0 n ld lo room : Nat} {f : Nat → Int32}
theorem E_functions_l (h0 : 1334 ≤ m_nx M0) (hr : room ≤ 40) : ∀ (m fu : Nat) (acc : List Dft) (M : Mem) (k dd : Nat) (ed : List Nat), acc.length + m = 41 → m ≤ fu → 1 ≤ m → acc.length ≤ room → SP M B v0 f n k → (m_nx M0 ≤ v0 ∧ cR M v0 1730 = ld) → WL M0 M f n k dd → (AP M ld dd ed ∧ m_nx M0 ≤ ld ∧ m_nx M0 ≤ dd ∧ 1334 ≤ dd ∧ ld < lo) → DRs M B dd acc lo (m_nx M) ed → RFs M0 B ld f n (F_X26_functions_b0 fu M v0 (iw (room : Int))) (pFs room m acc (tks f n k)) := by
  intro m
  induction m with
  | zero => intro fu acc M k dd ed h1 h2 h3; omega
  | succ m ih =>
    intro fu acc M k dd ed hm hf _ hac h hvv wl hA hD
    obtain ⟨fu, rfl⟩ : ∃ j, fu = j + 1 := ⟨fu - 1, by omega⟩
    have hk := h.2.2.1
    have hB := h.2.2.2.2.1.1
    obtain ⟨hA1, hA2, hA3, hA4, hA5⟩ := hA
    have le : ed.length = acc.length := DRs.len acc hD
    have rb := hA1.rcb
    have tv := h.2.2.2.1.1
    have g1730 : gr M v0 1730 = some ld := by rw [gr_of tv (show x_fr 27 1730 = true by decide), hvv.2]
    obtain ⟨t1, t2⟩ := hA1.1.tg
    have sz : F_J6_size M ld = some (iw (acc.length : Int)) := by rw [hA1.1.size, le]
    have hwl := wl.2.2
    have hwn := wl.2.1
    show RFs M0 B ld f n (F_X26_functions_b0_st (F_X26_functions_b0 fu) M v0 (iw (room : Int))) (if (hdt (tks f n k)).kd = 0 then .inr acc else if acc.length = room then .inl (hdt (tks f n k)).pl else sthen (pFn (tks f n k)) fun q => pFs room m (acc ++ [q.1]) q.2)
    unfold F_X26_functions_b0_st
    rw [h.g, Option.bind_some, g1012_387 h.st, Option.bind_some, h.1.2.1, hdt_tks f hk]
    by_cases c0 : (tok f n k).kd = 0
    · rw [if_pos c0, if_pos c0, g1730, Option.bind_some]
      exact ⟨M, dd, ed, lo, rfl, wl.1, h.1.1, h.2.2.2.2.2, ⟨hA1, hA2, hA3, hA5⟩, hD, by omega, by omega⟩
    rw [if_neg c0, if_neg c0, g1730, Option.bind_some, vg_of t1 (show x_isa 67 67 = true by decide), Option.bind_some, sz, Option.bind_some]
    have ei : (iw (acc.length : Int) = iw (room : Int)) ↔ acc.length = room := by rw [iw_eq (by omega) (by omega) (by omega) (by omega)]; omega
    by_cases cr : acc.length = room
    · rw [if_pos (ei.mpr cr), if_pos cr, Option.bind_some, E_wrongK h.st, h.1.2.2.1]
      exact ⟨M, rfl, wl.1, h.1.1, by omega, by omega⟩
    rw [if_neg (fun q => cr (ei.mp q)), if_neg cr, Option.bind_some, h.v, Option.bind_some]
    have R := E_function h
    cases hp : pFn (tks f n k) with
    | inl q =>
      rw [hp] at R
      obtain ⟨O, o1, o2, o3, o4, o5⟩ := R
      exact ⟨O, by rw [o1]; rfl, wl.1.trans o2, o3, by omega, by omega⟩
    | inr dr =>
      obtain ⟨d, r⟩ := dr
      rw [hp] at R
      obtain ⟨k', O, rfl, o2, o3, o4, o5⟩ := R
      show RFs M0 B ld f n _ (pFs room m (acc ++ [d]) (tks f n k'))
      have m1 : 1 ≤ m := by omega
      rcases o5 with ⟨c1, c2⟩ | ⟨c1, a, c2, c3, c4, c5⟩
      · obtain ⟨m', rfl⟩ : ∃ m', m = m' + 1 := ⟨m - 1, by omega⟩
        have e : pFs room (m' + 1) (acc ++ [d]) (tks f n k') = .inl (tok f n k').pl := by
          show (if (hdt (tks f n k')).kd = 0 then _ else if (acc ++ [d]).length = room then _ else sthen (pFn (tks f n k')) _) = _
          have nl5 : isLn (tok f n k') = false := by unfold isLn; rw [c1]; simp
          have pf : pFn (tks f n k') = .inl (tok f n k').pl := by
            unfold pFn
            rw [hdt_tks f o2, if_neg (by rw [nl5]; decide)]
          rw [hdt_tks f o2, if_neg (by rw [c1]; decide), pf]
          split <;> rfl
        rw [e, c2]
        have q1 := o3.2.1
        have q2 := o3.2.2
        exact ⟨O, rfl, wl.1.trans o3.1, o4, by omega, by omega⟩
      · rw [c2, tb_l]
        have nMO := o3.1.1
        have st0 := h.st.1
        have hS := nTx_K (M := M) hB
        have AO := hA1.df o3.1 (fun q => by unfold pK at q; omega) (fun q => by unfold rK at q; omega) (fun i hi q => by unfold rK at q; omega)
        have DO : DRs O B dd acc lo (m_nx M) ed := DRs.df o3.1 hS acc (fun x i x1 x2 x3 => ⟨fun q => by unfold pK at q; omega, fun q => by unfold qK at q; omega, fun q => by unfold rK at q; omega⟩) hD
        have G := c5.g
        obtain ⟨nl, dn, lr, pr, en, b, l2, h2, dr1, -⟩ := c5
        obtain ⟨N, dd', n1, n2', n3, n4, n5, n6, n7⟩ := AO.1.add c3.st.1 c3.2.2.2.2.2 (by omega) (v := a) (Or.inr ⟨dr1.1.2.1, by rw [dr1.1.2.2]; decide⟩)
        have tO : m_tg O ld = 67 := AO.1.1.tg.1
        have tdO := AO.1.1.tg.2 hA4
        dsimp only
        rw [vg_of tO (show x_isa 67 67 = true by decide), Option.bind_some, n1, Option.bind_some]
        have rw' : ∀ x i, ((x = ld ∧ i = 4288) ∨ (x = dd ∧ 1334 ≤ dd)) → x = ld ∨ x = dd := fun x i q => by omega
        have hSN : nTx (at1 ld) (fun x i => (x = ld ∧ i = 4288) ∨ (x = dd ∧ 1334 ≤ dd)) O B := fun x i x1 x2 x3 => ⟨fun u => by unfold at1 at u; rw [u, tO] at x3; omega, fun u => by
          rcases rw' x i u with u | u
          · rw [u, tO] at x3; omega
          · rw [u, tdO.1] at x3; omega⟩
        have tv' := c3.2.2.2.1.1
        have hN : SP N B v0 f n k' := c3.dfg n4 (fun x i hx => ⟨fun u => by unfold at1 at u; omega, fun u => u, fun u => by rcases rw' x i u with u | u <;> omega⟩) hSN (fun i u => by
          rcases rw' v0 i u with u | u
          · rw [u, tO] at tv'; omega
          · rw [u, tdO.1] at tv'; omega)
        have cv : cR N v0 1730 = ld := by
          have vM : v0 < m_nx M := h.2.2.2.1.2.2.2
          rw [n4.cR (by omega) (fun u => by
            rcases rw' v0 _ u with u | u
            · rw [u, tO] at tv'; omega
            · rw [u, tdO.1] at tv'; omega), o3.1.cR vM (fun u => by unfold rK at u; omega)]
          exact hvv.2
        have ddM : dd < m_nx M := (t2 hA4).2
        have G' : DRg (m_nx M) (m_nx O) B d a N := G.df n4 hSN (fun x i x1 x2 => ⟨fun u => by unfold at1 at u; have := hA1.1.1; omega, fun u => u, fun u => by have := hA1.1.1; rcases rw' x i u with u | u <;> omega⟩)
        have DN : DRs N B dd acc lo (m_nx M) ed := DRs.df n4 hSN acc (fun x i x1 x2 x3 => ⟨fun u => by unfold at1 at u; omega, fun u => u, fun u => by rcases rw' x i u with u | u <;> omega⟩) DO
        have DN2 : DRs N B dd' (acc ++ [d]) lo (m_nx N) (ed ++ [a]) := by
          have z1 := DRs.snoc G' nMO (by omega) acc DN (Nat.le_refl _)
          have z2 : DRs N B dd' (acc ++ [d]) lo (m_nx O) (ed ++ [a]) := DRs.rr (acc ++ [d]) z1 (by rcases n3 with q | q; exact Or.inl q; exact Or.inr q)
          exact DRs.hi (acc ++ [d]) z2 n4.1
        have la : (acc ++ [d]).length = acc.length + 1 := by rw [List.length_append, List.length_singleton]
        refine ih fu (acc ++ [d]) N k' dd' (ed ++ [a]) (by omega) (by omega) m1 (by omega) hN ⟨hvv.1, cv⟩ ⟨?_, ?_, ?_⟩ ⟨n2', hA2, ?_, n7, hA5⟩ DN2
        · exact (wl.1.trans o3.1).then n4 (fun x i hx u => by unfold at1 at u; omega) (fun _ _ _ u => u.elim) (fun x i hx u => by rcases rw' x i u with u | u <;> omega)
        · have := c4.2.1; omega
        · have z1 := c4.2.2
          have z2 := AO.2
          omega
        · rcases n3 with q | q
          · rw [q]; exact hA3
          · have := wl.1.1; omega
end
