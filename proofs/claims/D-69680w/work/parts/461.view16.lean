/-! ===== VIEWS, 16: the model makes a view ===== -/
theorem AR.dfn {M0 M M' : Mem} {y : Nat} {g : Nat → Int} (r : AR M0 M y g) (d : Df n2 n2 n2 M M') : AR M0 M' y g := by
  obtain ⟨r1, r2, r3, r4, r5⟩ := r
  have dd := d.2.2 y r2
  exact ⟨r1, Nat.lt_of_lt_of_le r2 d.1, dd.1.trans r3, dd.2.1.trans r4, fun i hi => by rw [d.cI r2 (fun q => q)]; exact r5 i hi⟩
theorem getD_mid {α : Type} {pre l : List α} {x d : α} : (pre ++ x :: l).getD pre.length d = x := by
  rw [List.getD_eq_getElem?_getD, List.getElem?_append_right (Nat.le_refl _), Nat.sub_self]
  rfl
theorem VMo.dn {Mi M1 M : Mem} {v4 v5 w : Nat} {σ : VS} (v : VMo M1 M v4 v5 w σ) (d : Df n2 n2 n2 Mi M1) (h4 : m_nx Mi ≤ v4) (h5 : m_nx Mi ≤ v5) : Df n2 n2 n2 Mi M := Df.then d v.2.1 (fun x i hx q => by unfold p45 at q; omega) (fun _ _ _ q => q) (fun _ _ _ q => q)
section
variable {M0 Mi M1 : Mem} {own o L d v4 v5 w nn c0 : Nat} {es : List Nat} {its : List (Nat → Int)} {k b0 p0 v3 : Int32} {z : Nat → Nat} {t : Nat → Int32}
theorem M_vlp (g : GM Mi own k nn z t b0 c0 p0) (hnn : nn ≤ 4) (hz : ∀ i, i < nn → z i ≤ 4096) (ls : LIt M0 Mi o L d es its) (hI : ∀ it, it ∈ its → IT it) (hlen : its.length + 8 = w) (hw : w < 100000) (dd : Df n2 n2 n2 Mi M1) (h4 : m_nx Mi ≤ v4) (h5 : m_nx Mi ≤ v5) : ∀ (l pre : List (Nat → Int)) (N : Nat) (σ : VS) (M : Mem), its = pre ++ l → VMo M1 M v4 v5 w σ → σ.1 ≤ pre.length → σ.2.1 ≤ nn →
    (∀ p, vall nn z t l σ = .inl p → ∃ M', F_X16_viewed_b37 (N + 1 + l.length) M 1068 own L v3 v4 v5 (iw (σ.1 : Nat)) (iw (σ.2.1 : Nat)) σ.2.2.1 (iw (pre.length : Nat)) = some (.inr (m_nx M', mT M' 1 (iw (p : Int)))) ∧ ∃ σ', VMo M1 M' v4 v5 w σ') ∧
    (∀ σ', vall nn z t l σ = .inr σ' → ∃ M', F_X16_viewed_b37 (N + 1 + l.length) M 1068 own L v3 v4 v5 (iw (σ.1 : Nat)) (iw (σ.2.1 : Nat)) σ.2.2.1 (iw (pre.length : Nat)) = F_X16_viewed_b461 xN M' 1068 own v3 v4 v5 (iw (σ'.1 : Nat)) (iw (σ'.2.1 : Nat)) σ'.2.2.1 ∧ VMo M1 M' v4 v5 w σ' ∧ σ'.1 ≤ its.length ∧ σ'.2.1 ≤ nn) := by
  obtain ⟨l1, l2, l3, l4, l5, l6⟩ := ls
  intro l
  induction l with
  | nil =>
    intro pre N σ M he v hs hd
    rw [List.append_nil] at he
    refine ⟨fun p hp => (by cases hp), fun σ' hσ => ?_⟩
    have hσ' : σ = σ' := Sum.inr.inj hσ
    subst hσ'
    have al : AL M L d es := l1.df (v.dn dd h4 h5) (fun q => q) (fun q => q) (fun i _ q => q)
    refine ⟨M, ?_, v, by rw [he]; exact hs, hd⟩
    show F_X16_viewed_b37_st (F_X16_viewed_b37 N) M 1068 own L v3 v4 v5 _ _ _ _ = _
    unfold F_X16_viewed_b37_st
    simp only [vg_of al.2.1 (show x_isa 67 67 = true by decide), al.size, Option.bind_some]
    have hpe : pre.length = es.length := by rw [l4, he]
    rw [if_neg (by rw [iw_le4 (by omega) (by omega)]; omega)]
  | cons it l ih =>
    intro pre N σ M he v hs hd
    have dn := v.dn dd h4 h5
    have al : AL M L d es := l1.df dn (fun q => q) (fun q => q) (fun i _ q => q)
    have hpl : pre.length < es.length := by rw [l4, he, List.length_append]; show _ < _ + (l.length + 1); omega
    have hgi : its.getD pre.length (fun _ => 0) = it := by rw [he]; exact getD_mid
    have r : AR M0 M (es.getD pre.length 0) it := by
      have := (l6 pre.length hpl).dfn dn
      rw [hgi] at this
      exact this
    obtain ⟨s1, s2⟩ := M_vstep (k37 := F_X16_viewed_b37 (N + 1 + l.length)) (v3 := v3) v (g.df dn qt_n2 qt_n2) hnn hz al hpl rfl r (hI it (by rw [he]; exact List.mem_append_right _ (List.mem_cons_self ..))) (by rw [l4] at hpl; omega) hw hd
    have st : F_X16_viewed_b37 (N + 1 + (it :: l).length) M 1068 own L v3 v4 v5 (iw (σ.1 : Nat)) (iw (σ.2.1 : Nat)) σ.2.2.1 (iw (pre.length : Nat)) = F_X16_viewed_b37_st (F_X16_viewed_b37 (N + 1 + l.length)) M 1068 own L v3 v4 v5 (iw (σ.1 : Nat)) (iw (σ.2.1 : Nat)) σ.2.2.1 (iw (pre.length : Nat)) := rfl
    have ev : vall nn z t (it :: l) σ = match vap nn z t it σ with | .inl p => .inl p | .inr σ' => vall nn z t l σ' := rfl
    rw [st, ev]
    cases hp : vap nn z t it σ with
    | inl p =>
      refine ⟨fun q hq => ?_, fun σ' hσ => by cases hσ⟩
      cases hq
      exact ⟨M, s1 p hp, σ, v⟩
    | inr σ1 =>
      obtain ⟨A, y1, y2, y3, y4⟩ := s2 σ1 hp
      have hl1 : (pre ++ [it]).length = pre.length + 1 := by rw [List.length_append]; rfl
      obtain ⟨w1, w2⟩ := ih (pre ++ [it]) N σ1 A (by rw [he, List.append_assoc]; rfl) y2 (by rw [hl1]; omega) y4
      rw [hl1] at w1 w2
      rw [y1]
      exact ⟨w1, w2⟩
theorem M_vrest (g : GM Mi own k nn z t b0 c0 p0) (hnn : nn ≤ 4) (hw : w < 100000) (dd : Df n2 n2 n2 Mi M1) (h4 : m_nx Mi ≤ v4) (h5 : m_nx Mi ≤ v5) : ∀ (r N : Nat) (σ : VS) (M : Mem), σ.2.1 + r = nn → VMo M1 M v4 v5 w σ → σ.1 + r ≤ w → ∃ M', F_X16_viewed_b461 (N + 1 + r) M 1068 own v3 v4 v5 (iw (σ.1 : Nat)) (iw (σ.2.1 : Nat)) σ.2.2.1 = F_X16_viewed_b461 (N + 1) M' 1068 own v3 v4 v5 (iw ((vrs z t r σ).1 : Nat)) (iw (nn : Int)) (vrs z t r σ).2.2.1 ∧ VMo M1 M' v4 v5 w (vrs z t r σ) ∧ (vrs z t r σ).1 = σ.1 + r
  | 0, N, σ, M, hr, v, hb => by
    refine ⟨M, ?_, v, rfl⟩
    rw [show nn = σ.2.1 by omega]
    rfl
  | r + 1, N, σ, M, hr, v, hb => by
    have dn := v.dn dd h4 h5
    have gM := g.df dn qt_n2 qt_n2
    obtain ⟨g1, g2, g3, g4, g5, g6, g7, g8, g9⟩ := id gM
    obtain ⟨u1, u2, u3, u4, u5, u6, u7, u8, u9, u10, u11⟩ := id v
    have hd : σ.2.1 < nn := by omega
    have s4 : ∀ x, si M v4 (iw (σ.1 : Nat)) x = some (wI M v4 σ.1 x) := fun x => si_of x u5 u6 (by omega) (by omega)
    have vA := v.put (z σ.2.1) (t σ.2.1) (σ.2.1 + 1) σ.2.2.1
    have s5 : ∀ x, si (wI M v4 σ.1 (iw (z σ.2.1 : Nat))) v5 (iw (σ.1 : Nat)) x = some (wI (wI M v4 σ.1 (iw (z σ.2.1 : Nat))) v5 σ.1 x) := fun x => si_of x u7 u8 (by omega) (by omega)
    have t14 : ai (wI M v4 σ.1 (iw (z σ.2.1 : Nat))) (cR M own 1474) (iw (σ.2.1 : Nat)) = some (t σ.2.1) := by
      obtain ⟨y1, y2, y3, y4, y5⟩ := (g.df (Df.refl n2 n2 n2 Mi) qt_n2 qt_n2).2.2.2.2.2.1
      have e14 : cR M own 1474 = cR Mi own 1474 := dn.cR g.2.1 (fun q => q)
      have dx := dn.2.2 _ y2
      rw [e14, ai_of (n := nn) (by show m_tg M _ = 1005; rw [dx.1]; exact y3) (by show m_ln M _ = nn; rw [dx.2.1]; exact y4) hd (by omega), cI_wI, if_neg (by omega), dn.cI y2 (fun q => q), y5 _ hd]
    have hd1 : F_X16_viewed_b461 (N + 1 + (r + 1)) M 1068 own v3 v4 v5 (iw (σ.1 : Nat)) (iw (σ.2.1 : Nat)) σ.2.2.1 = F_X16_viewed_b461 (N + 1 + r) (wI (wI M v4 σ.1 (iw (z σ.2.1 : Nat))) v5 σ.1 (t σ.2.1)) 1068 own v3 v4 v5 (iw ((σ.1 + 1 : Nat) : Int)) (iw ((σ.2.1 + 1 : Nat) : Int)) σ.2.2.1 := by
      show F_X16_viewed_b461_st (F_X16_viewed_b461 (N + 1 + r)) M 1068 own v3 v4 v5 _ _ _ = _
      unfold F_X16_viewed_b461_st
      simp only [vg_of g3 (show x_isa 23 23 = true by decide), M_vaxes gM, Option.bind_some]
      rw [if_pos (by rw [iw_le4 (by omega) (by omega)]; exact hd)]
      simp only [gr_of g3 (show x_fr 23 1473 = true by decide), g5.ai hnn hd, s4, Option.bind_some]
      have tg' : m_tg (wI M v4 σ.1 (iw (z σ.2.1 : Nat))) own = 23 := g3
      simp only [gr_of tg' (show x_fr 23 1474 = true by decide), cR_wI, t14, s5, iw_succ, Option.bind_some]
    obtain ⟨M', y1, y2, y3⟩ := M_vrest g hnn hw dd h4 h5 r N (σ.1 + 1, σ.2.1 + 1, σ.2.2.1, putn σ.2.2.2.1 σ.1 (z σ.2.1), putn σ.2.2.2.2 σ.1 (t σ.2.1)) _ (by show σ.2.1 + 1 + r = nn; omega) vA (by show σ.1 + 1 + r ≤ w; omega)
    refine ⟨M', by rw [hd1]; exact y1, y2, ?_⟩
    show (vrs z t r (σ.1 + 1, σ.2.1 + 1, σ.2.2.1, putn σ.2.2.2.1 σ.1 (z σ.2.1), putn σ.2.2.2.2 σ.1 (t σ.2.1))).1 = _
    rw [y3]
    show σ.1 + 1 + r = _
    omega
end
