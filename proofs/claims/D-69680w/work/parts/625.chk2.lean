/-! ===== FORMULAS, 50: what is checked has its lanes right ===== -/
theorem tk_als : ∀ (r : Tx) (ls : List Int32), r.isr → ls.length = r.lns.length → (r.tk ls).als = r.lns.zip ls
  | .anl, ls, _, h => rfl
  | .acn t e r, ls, hr, h => by
    cases ls with
    | nil => cases h
    | cons x xs =>
      show (e.ln, x) :: (r.tk xs).als = (e.ln, x) :: r.lns.zip xs
      rw [tk_als r xs hr (by simpa [Tx.lns] using h)]
theorem tk_wt {fs : List Fn} {ps : List Int32} {op : Nat → Int32 → Prop} : ∀ (r : Tx) (ls : List Int32), r.isr → wt fs ps op r → wt fs ps op (r.tk ls) ∧ (r.tk ls).isr ∧ (r.tk ls).ht = r.ht ∧ (r.tk ls).nn = r.nn
  | .anl, ls, _, h => ⟨trivial, trivial, rfl, rfl⟩
  | .acn t e r, ls, hr, h => by
    obtain ⟨a1, a2, a3, a4⟩ := tk_wt r ls.tail hr h.2.2.1
    exact ⟨⟨h.1, h.2.1, a1, a2⟩, a2, by show max e.ht (r.tk ls.tail).ht = max e.ht r.ht; rw [a3], by show e.nn + (r.tk ls.tail).nn = e.nn + r.nn; rw [a4]⟩
theorem isSh_d (o : Int32) : isSh o ↔ o = 6 ∨ o = 7 ∨ o = 8 := Iff.rfl
theorem op_cases {o : Int32} (h1 : 1 ≤ o) (h2 : o ≤ 19) : o = 1 ∨ o = 2 ∨ o = 3 ∨ o = 4 ∨ o = 5 ∨ o = 6 ∨ o = 7 ∨ o = 8 ∨ o = 9 ∨ o = 10 ∨ o = 11 ∨ o = 12 ∨ o = 13 ∨ o = 14 ∨ o = 15 ∨ o = 16 ∨ o = 17 ∨ o = 18 ∨ o = 19 := by
  have i1 : (1 : Int) ≤ o.toInt := Int32.le_iff_toInt_le.mp h1
  have i2 : o.toInt ≤ 19 := Int32.le_iff_toInt_le.mp h2
  have e : ∀ j : Int, o.toInt = j → o = iw j := fun j q => by rw [← iw_of o, q]
  rcases (show o.toInt = 1 ∨ o.toInt = 2 ∨ o.toInt = 3 ∨ o.toInt = 4 ∨ o.toInt = 5 ∨ o.toInt = 6 ∨ o.toInt = 7 ∨ o.toInt = 8 ∨ o.toInt = 9 ∨ o.toInt = 10 ∨ o.toInt = 11 ∨ o.toInt = 12 ∨ o.toInt = 13 ∨ o.toInt = 14 ∨ o.toInt = 15 ∨ o.toInt = 16 ∨ o.toInt = 17 ∨ o.toInt = 18 ∨ o.toInt = 19 by omega) with q | q | q | q | q | q | q | q | q | q | q | q | q | q | q | q | q | q | q
  all_goals (have := e _ q; subst this; decide)
theorem ckB_wt {o : Int32} {a b t : Tx} (h1 : 1 ≤ o ∧ o ≤ 19) (h : ckB o a b = some t) : (∃ i l, t = .bin o i l a b ∧ tyb o a.ln b.ln i l) ∨ (t = .sho o a b ∧ (o = 18 ∨ o = 19) ∧ a.ln = 0 ∧ b.ln = 0) := by
  unfold ckB at h
  split at h
  · rename_i q
    split at h
    · rename_i q2
      cases h
      exact Or.inr ⟨rfl, q, q2⟩
    · cases h
  rename_i n1
  left
  split at h
  · rename_i q
    split at h
    · rename_i q2
      cases h
      exact ⟨_, _, rfl, Or.inl ⟨q, q2.1, q2.2, rfl, rfl⟩⟩
    · cases h
  rename_i n2
  split at h
  · rename_i q
    split at h
    · rename_i q2
      cases h
      exact ⟨_, _, rfl, Or.inr (Or.inl ⟨h1.1, q, q2.1, q2.2, rfl, rfl⟩)⟩
    · cases h
  rename_i n3
  split at h
  · rename_i q
    have o9 : 9 ≤ o := by
      rcases op_cases h1.1 h1.2 with rfl | rfl | rfl | rfl | rfl | rfl | rfl | rfl | rfl | rfl | rfl | rfl | rfl | rfl | rfl | rfl | rfl | rfl | rfl <;> first | decide | (exfalso; revert n1 n2 n3 q; decide)
    split at h
    · rename_i q2
      cases h
      exact ⟨_, _, rfl, Or.inr (Or.inr (Or.inl ⟨o9, q, q2.1, q2.2, rfl, rfl⟩))⟩
    · cases h
  rename_i n4
  split at h
  · rename_i q
    have o9 : 13 ≤ o := by
      rcases op_cases h1.1 h1.2 with rfl | rfl | rfl | rfl | rfl | rfl | rfl | rfl | rfl | rfl | rfl | rfl | rfl | rfl | rfl | rfl | rfl | rfl | rfl <;> first | decide | (exfalso; revert n1 n2 n3 n4 q; decide)
    split at h
    · rename_i q2
      cases h
      exact ⟨_, _, rfl, Or.inr (Or.inr (Or.inr (Or.inl ⟨o9, q, q2.1, q2.2, rfl, rfl⟩)))⟩
    · split at h
      · rename_i q2
        cases h
        exact ⟨_, _, rfl, Or.inr (Or.inr (Or.inr (Or.inr (Or.inl ⟨o9, q, q2.1, q2.2, rfl, rfl⟩))))⟩
      · cases h
  rename_i n5
  have o9 : 15 ≤ o ∧ o ≤ 17 := by
    rcases op_cases h1.1 h1.2 with rfl | rfl | rfl | rfl | rfl | rfl | rfl | rfl | rfl | rfl | rfl | rfl | rfl | rfl | rfl | rfl | rfl | rfl | rfl <;> first | decide | (exfalso; revert n1 n2 n3 n4 n5; decide)
  split at h
  · rename_i q2
    cases h
    exact ⟨_, _, rfl, Or.inr (Or.inr (Or.inr (Or.inr (Or.inr (Or.inl ⟨o9.1, o9.2, q2.1, q2.2, rfl, rfl⟩)))))⟩
  · split at h
    · rename_i q2
      cases h
      exact ⟨_, _, rfl, Or.inr (Or.inr (Or.inr (Or.inr (Or.inr (Or.inr ⟨o9.1, o9.2, q2.1, q2.2, rfl, rfl⟩)))))⟩
    · cases h
theorem ckN_wt {S : Sc} {w : List Int32} {t : Tx} (hS : S.ok) (h : ckN S w = some t) : wt S.fs S.ps (fun n l => S.op n = some l) t ∧ t.isx ∧ t.ht = 1 ∧ t.nn = 1 := by
  unfold ckN at h
  split at h
  · rename_i ns hn
    split at h
    · rename_i k hk
      cases h
      have k1 := fdl_lt _ _ _ hk
      have k2 := hS.2.2.1 ns hn
      have k3 : k < S.ps.length := by omega
      exact ⟨⟨k3, rfl, hS.2.2.2.1 _ (getD_in k3)⟩, trivial, rfl, rfl⟩
    · cases h
  · split at h
    · split at h
      · rename_i q
        cases h
        refine ⟨?_, trivial, rfl, rfl⟩
        show ((w.getD 0 0).toInt - 105).toNat < 4
        omega
      · split at h
        · rename_i q
          split at h
          · rename_i l hl
            cases h
            refine ⟨⟨?_, hl, hS.2.2.2.2 _ _ hl⟩, trivial, rfl, rfl⟩
            omega
          · cases h
        · cases h
    · cases h
theorem ckF_wt {S : Sc} {w : List Int32} {r t : Tx} (hS : S.ok) (hr : wt S.fs S.ps (fun n l => S.op n = some l) r) (ir : r.isr) (h : ckF S w r = some t) : wt S.fs S.ps (fun n l => S.op n = some l) t ∧ t.isx ∧ t.ht = r.ht + 1 ∧ t.nn = r.nn + 1 := by
  unfold ckF at h
  split at h
  · rename_i f hf
    split at h
    · rename_i i hi
      cases h
      have f1 := fdl_lt _ _ _ hf
      have f2 : (wds (cty 50).1 15 0).length = 15 := by decide +kernel
      obtain ⟨a1, a2, a3, a4⟩ := tk_wt r (List.replicate r.lns.length i) ir hr
      have az := tk_als r (List.replicate r.lns.length i) ir (by rw [List.length_replicate])
      obtain ⟨q, rfl⟩ := blkL_some hi
      refine ⟨⟨a1, a2, by omega, ?_, ?_, ?_⟩, trivial, by show (r.tk _).ht + 1 = _; rw [a3], by show (r.tk _).nn + 1 = _; rw [a4]⟩
      · rw [az, List.length_zip, List.length_replicate, Nat.min_self]; exact q.1
      · intro p hp
        rw [az] at hp
        obtain ⟨p1, p2⟩ := List.of_mem_zip hp
        exact ⟨List.eq_of_mem_replicate p2, q.2 _ p1⟩
      · have gl : ∀ k, k < r.lns.length → (((r.tk (List.replicate r.lns.length (if 11 ≤ f then 7 else wdk (r.lns.getD 0 0) (r.lns.getD (r.lns.length - 1) 0)))).als.getD k (0, 0)).1 = r.lns.getD k 0) := fun k hk => by
          rw [az, List.getD_eq_getElem?_getD, List.getElem?_eq_getElem (by rw [List.length_zip, List.length_replicate]; omega), Option.getD_some, List.getElem_zip]
          show r.lns[k] = r.lns.getD k 0
          rw [List.getD_eq_getElem?_getD, List.getElem?_eq_getElem hk, Option.getD_some]
        have l1 : 1 ≤ r.lns.length := by rw [q.1]; split <;> omega
        have l2 : (r.tk (List.replicate r.lns.length (if 11 ≤ f then 7 else wdk (r.lns.getD 0 0) (r.lns.getD (r.lns.length - 1) 0)))).als.length = r.lns.length := by rw [az, List.length_zip, List.length_replicate, Nat.min_self]
        rw [l2, gl 0 (by omega), gl _ (by omega)]
    · cases h
  · split at h
    · rename_i k hk
      cases h
      obtain ⟨k1, ⟨k2, k3, k4⟩, k5⟩ := chb_some hk
      obtain ⟨a1, a2, a3, a4⟩ := tk_wt r (S.fs.getD k fn0).ps ir hr
      have az := tk_als r (S.fs.getD k fn0).ps ir k3.symm
      refine ⟨⟨a1, a2, k1, rfl, ?_, ?_⟩, trivial, by show (r.tk _).ht + 1 = _; rw [a3], by show (r.tk _).nn + 1 = _; rw [a4]⟩
      · rw [az]
        exact List.map_snd_zip (Nat.le_of_eq k3.symm)
      · intro p hp
        rw [az] at hp
        obtain ⟨j, hj, rfl⟩ := List.mem_iff_getElem.mp hp
        rw [List.length_zip] at hj
        have j1 : j < r.lns.length := by omega
        have j2 : j < (S.fs.getD k fn0).ps.length := by omega
        have := k4 j j1
        rw [List.getD_eq_getElem?_getD, List.getElem?_eq_getElem j1, Option.getD_some, List.getD_eq_getElem?_getD (l := (S.fs.getD k fn0).ps), List.getElem?_eq_getElem j2, Option.getD_some] at this
        rw [List.getElem_zip]
        exact this
    · cases h
/-- what is checked has its lanes right -/
theorem ck_wt {S : Sc} (hS : S.ok) : ∀ (e : Ex) (t : Tx), e.gd → ck S e = .inr t → wt S.fs S.ps (fun n l => S.op n = some l) t ∧ (e.isx → t.isx) ∧ (e.isr → t.isr ∧ t.lns.length = e.cnt) ∧ t.ht = e.ht ∧ t.nn = e.nn
  | .lit p l b, t, g, h => by
    cases h
    exact ⟨g, fun _ => trivial, fun q => q.elim, rfl, rfl⟩
  | .nam p w, t, g, h => by
    obtain ⟨a1, a2, a3, a4⟩ := ckN_wt hS (oft_r h)
    exact ⟨a1, fun _ => a2, fun q => q.elim, a3, a4⟩
  | .pre p s e, t, g, h => by
    obtain ⟨u, h1, h2⟩ := cthen_r h
    obtain ⟨a1, a2, a3, a4, a5⟩ := ck_wt hS e u g.2.1 h1
    have h3 := oft_r h2
    have ux := a2 g.2.2
    have fin : ∀ s' l', ((s' = 33 ∧ u.ln = 0 ∧ l' = 0) ∨ (s' = 45 ∧ isNk u.ln ∧ l' = wdk u.ln 4) ∨ (s' = 126 ∧ isWk u.ln ∧ l' = wdk u.ln 4)) → some (Tx.pre s' l' u) = some t → wt S.fs S.ps (fun n l => S.op n = some l) t ∧ ((Ex.pre p s e).isx → t.isx) ∧ ((Ex.pre p s e).isr → t.isr ∧ t.lns.length = (Ex.pre p s e).cnt) ∧ t.ht = (Ex.pre p s e).ht ∧ t.nn = (Ex.pre p s e).nn := fun s' l' hq he => by
      cases he
      exact ⟨⟨a1, ux, hq⟩, fun _ => trivial, fun q => q.elim, by show u.ht + 1 = e.ht + 1; rw [a4], by show u.nn + 1 = e.nn + 1; rw [a5]⟩
    unfold ckP at h3
    split at h3
    · split at h3
      · rename_i q
        exact fin _ _ (Or.inl ⟨rfl, q, rfl⟩) h3
      · cases h3
    · split at h3
      · split at h3
        · rename_i q
          exact fin _ _ (Or.inr (Or.inr ⟨rfl, q, rfl⟩)) h3
        · cases h3
      · split at h3
        · rename_i q
          exact fin _ _ (Or.inr (Or.inl ⟨rfl, q, rfl⟩)) h3
        · cases h3
  | .cst p l e, t, g, h => by
    obtain ⟨u, h1, h2⟩ := cthen_r h
    obtain ⟨a1, a2, a3, a4, a5⟩ := ck_wt hS e u g.2.1 h1
    have h3 := oft_r h2
    unfold ckC at h3
    split at h3
    · rename_i q
      cases h3
      exact ⟨⟨a1, a2 g.2.2, g.1, q⟩, fun _ => trivial, fun q => q.elim, by show u.ht + 1 = e.ht + 1; rw [a4], by show u.nn + 1 = e.nn + 1; rw [a5]⟩
    · cases h3
  | .bin p o a b, t, g, h => by
    obtain ⟨u, h1, h2⟩ := cthen_r h
    obtain ⟨v, h3, h4⟩ := cthen_r h2
    obtain ⟨a1, a2, a3, a4, a5⟩ := ck_wt hS a u g.2.1.1 h1
    obtain ⟨b1, b2, b3, b4, b5⟩ := ck_wt hS b v g.2.2.1 h3
    rcases ckB_wt g.1 (oft_r h4) with ⟨i, l, rfl, q⟩ | ⟨rfl, q1, q2, q3⟩
    · exact ⟨⟨a1, a2 g.2.1.2, b1, b2 g.2.2.2, q⟩, fun _ => trivial, fun q => q.elim, by show max u.ht v.ht + 1 = max a.ht b.ht + 1; rw [a4, b4], by show u.nn + v.nn + 1 = a.nn + b.nn + 1; rw [a5, b5]⟩
    · exact ⟨⟨a1, a2 g.2.1.2, b1, b2 g.2.2.2, q1, q2, q3⟩, fun _ => trivial, fun q => q.elim, by show max u.ht v.ht + 1 = max a.ht b.ht + 1; rw [a4, b4], by show u.nn + v.nn + 1 = a.nn + b.nn + 1; rw [a5, b5]⟩
  | .cnd p c a b, t, g, h => by
    obtain ⟨x, h1, h2⟩ := cthen_r h
    obtain ⟨u, h3, h4⟩ := cthen_r h2
    obtain ⟨v, h5, h6⟩ := cthen_r h4
    obtain ⟨c1, c2, c3, c4, c5⟩ := ck_wt hS c x g.1.1 h1
    obtain ⟨a1, a2, a3, a4, a5⟩ := ck_wt hS a u g.2.1.1 h3
    obtain ⟨b1, b2, b3, b4, b5⟩ := ck_wt hS b v g.2.2.1 h5
    have h7 := oft_r h6
    unfold ckD at h7
    split at h7
    · rename_i q
      cases h7
      refine ⟨⟨c1, c2 g.1.2, a1, a2 g.2.1.2, b1, b2 g.2.2.2, q.1, ?_⟩, fun _ => trivial, fun q => q.elim, by show max x.ht (max u.ht v.ht) + 1 = max c.ht (max a.ht b.ht) + 1; rw [a4, b4, c4], by show x.nn + u.nn + v.nn + 1 = c.nn + a.nn + b.nn + 1; rw [a5, b5, c5]⟩
      by_cases q2 : u.ln = v.ln
      · rw [if_pos q2]
        exact Or.inl ⟨q2, rfl⟩
      · rw [if_neg q2]
        have := q.2.resolve_left q2
        exact Or.inr ⟨this.1, this.2, q2, rfl⟩
    · cases h7
  | .cal p w r, t, g, h => by
    obtain ⟨u, h1, h2⟩ := cthen_r h
    obtain ⟨a1, a2, a3, a4, a5⟩ := ck_wt hS r u g.2.1 h1
    obtain ⟨b1, b2, b3, b4⟩ := ckF_wt hS a1 (a3 g.2.2.1).1 (oft_r h2)
    exact ⟨b1, fun _ => b2, fun q => q.elim, by rw [b3, a4]; rfl, by rw [b4, a5]; rfl⟩
  | .anl, t, g, h => by
    cases h
    exact ⟨trivial, fun q => q.elim, fun _ => ⟨trivial, rfl⟩, rfl, rfl⟩
  | .acn e r, t, g, h => by
    obtain ⟨u, h1, h2⟩ := cthen_r h
    obtain ⟨v, h3, h4⟩ := cthen_r h2
    obtain ⟨a1, a2, a3, a4, a5⟩ := ck_wt hS e u g.1.1 h1
    obtain ⟨b1, b2, b3, b4, b5⟩ := ck_wt hS r v g.2.1 h3
    cases h4
    obtain ⟨b6, b7⟩ := b3 g.2.2
    exact ⟨⟨a1, a2 g.1.2, b1, b6⟩, fun q => q.elim, fun _ => ⟨b6, by show v.lns.length + 1 = r.cnt + 1; rw [b7]⟩, by show max u.ht v.ht = max e.ht r.ht; rw [a4, b4], by show u.nn + v.nn = e.nn + r.nn; rw [a5, b5]⟩
