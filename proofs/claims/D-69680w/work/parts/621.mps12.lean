/-! ===== FORMULAS, 46: the model's arguments ===== -/
theorem row_itm : ∀ (es : List Ex) (e : Ex), itm (Ex.row (es ++ [e])) = itm (Ex.row es) ++ itm e
  | [], e => by show itm e ++ [] = [] ++ itm e; rw [List.append_nil, List.nil_append]
  | x :: es, e => by
    show itm x ++ itm (Ex.row (es ++ [e])) = (itm x ++ itm (Ex.row es)) ++ itm e
    rw [row_itm es e, List.append_assoc]
theorem row_cnt : ∀ es : List Ex, (Ex.row es).cnt = es.length
  | [] => rfl
  | x :: es => by show (Ex.row es).cnt + 1 = _; rw [row_cnt es]; rfl
section
variable {B0 B1 : Mem} {v0 lt dt : Nat} {et : List Nat} {T : List Tok} {li : Nat} {re rp ru : Mem → Nat → Int32 → Option (Mem ⊕ (Nat × Mem))} {rb : Mem → Nat → Int32 → Int32 → Option (Mem ⊕ (Nat × Mem))}
theorem M_args {E : PRs} {dep : Int32} (hT : TkOK T) (hE : SimM B0 B1 v0 lt dt et T li (fun M => re M v0 dep) E) {M0 : Mem} {i0 d0 j0 : Nat} {I0 : List Itm} (hI0 : I0.length + 4 * (T.length - i0) ≤ 40000) (hj : j0 < T.length) (h1 : (T.getD j0 tok0).kd = 1) :
    ∀ (m N : Nat) (es : List Ex) (M : Mem) (i di : Nat) (ei : List Nat), T.length - i + 1 ≤ m → m + 1 ≤ N → PM B0 B1 True M v0 lt dt et T i li di ei (I0 ++ itm (Ex.row es)) → WM M0 M d0 di i0 i → (itm (Ex.row es)).length ≤ 2 * (i - i0) → RMm B0 B1 v0 lt dt et T li M0 i0 d0 I0 (F_X40_primary_b167 rp ru rb re N M v0 (et.getD j0 0) dep (iw (es.length : Int))) (pAr E (T.getD j0 tok0).pl (T.getD j0 tok0).wd m es (T.drop i)) := by
  intro m
  induction m with
  | zero => intro N es M i di ei hm; omega
  | succ m ih =>
    intro N es M i di ei hm hN h w hla
    obtain ⟨N', rfl⟩ : ∃ N', N = N' + 1 := ⟨N - 1, by omega⟩
    have w1 := w.1
    have t5 := h.2.2.2.2.2.2.2.1.2.2.1
    have hi := h.2.2.2.2.2.2.2.1.2.1
    have lJ : (I0 ++ itm (Ex.row es)).length ≤ I0.length + 2 * (i - i0) := by rw [List.length_append]; omega
    show RMm B0 B1 v0 lt dt et T li M0 i0 d0 I0 (F_X40_primary_b167_st rp ru rb re (F_X40_primary_b167 rp ru rb re N') M v0 (et.getD j0 0) dep (iw (es.length : Int))) (pthen (E (T.drop i)) fun e r => if isS (hdt r) 33 = true then pAr E (T.getD j0 tok0).pl (T.getD j0 tok0).wd m (es ++ [e]) r.tail else if isS (hdt r) 30 = true then .inr (.cal (T.getD j0 tok0).pl (T.getD j0 tok0).wd (Ex.row (es ++ [e])), r.tail) else .inl (hdt r).pl)
    unfold F_X40_primary_b167_st F_X40_primary_b253
    rw [h.v, Option.bind_some]
    refine RMm.th w lJ (hE M i di ei _ h (by omega)) (fun e k dk ek O q1 q2 q3 q4 q5 => ?_)
    have x1 := q4.1
    have hk := q2.2.2.2.2.2.2.2.1.2.1
    have u2 := q3.2.1
    have u3 := q3.2.2
    have hes : (es ++ [e]).length = es.length + 1 := by rw [List.length_append, List.length_singleton]
    have q2' : PM B0 B1 True O v0 lt dt et T k li dk ek (I0 ++ itm (Ex.row (es ++ [e]))) := by rw [row_itm]; simpa only [List.append_assoc] using q2
    have lr : (itm (Ex.row (es ++ [e]))).length ≤ 2 * (k - i0) := by rw [row_itm, List.length_append]; omega
    rw [hdt_drop, tail_drop]
    simp only [q2'.v, iw_succ, Option.bind_some]
    rcases M_goneP q2' hT (s := 33) (by decide) (by decide) with ⟨c, g⟩ | ⟨c, G, g, g2, g3, g4, g5⟩
    · rw [g, Option.bind_some, c, if_neg (show ¬ false = true by decide)]
      simp only [if_true]
      rw [q2'.v, Option.bind_some]
      rcases M_signP q2' hT (s := 30) (by decide) (by decide) with ⟨c3, f⟩ | ⟨c3, H, f, f2, f3, f4, f5⟩
      · rw [f, c3, if_neg (show ¬ false = true by decide)]
        exact RMm.err rfl q2' q3 (by rw [List.length_append]; omega)
      · rw [f, c3, if_pos rfl, tb_l]
        have kH := f2.2.2.2.2.2.2.2.1.2.2.2 j0 hj
        have wd := kH.2.2.2.2.2.1 (Or.inl h1)
        simp only [gi_of kH.1.2.2 (show x_fi 43 2753 = true by decide), kH.2.2.1, gr_of kH.1.2.2 (show x_fr 43 2754 = true by decide), f2.v, Option.bind_some]
        obtain ⟨P, dP, eP, p1, p2, p3, p4, p5⟩ := M_itemP (t := { op := 3, pl := (T.getD j0 tok0).pl, wd := (T.getD j0 tok0).wd, n := iw ((es.length + 1 : Nat) : Int) }) (s := cR H (et.getD j0 0) 2754) f2 (fun _ => wd) (fun q => absurd (Or.inr rfl) q) (by rw [List.length_append]; omega) trivial
        rw [show F_X40_item H v0 3 (iw ((T.getD j0 tok0).pl : Int)) (cR H (et.getD j0 0) 2754) (iw ((es.length + 1 : Nat) : Int)) 0 = some P from p1, Option.bind_some]
        refine ⟨P, k + 1, dP, eP, rfl, rfl, ?_, ⟨by omega, by omega, by omega⟩, ?_⟩
        · show PM B0 B1 True P v0 lt dt et T (k + 1) li dP eP (I0 ++ (itm (Ex.row (es ++ [e])) ++ [{ op := 3, pl := (T.getD j0 tok0).pl, wd := (T.getD j0 tok0).wd, n := iw ((Ex.row (es ++ [e])).cnt : Int) }]))
          rw [row_cnt, hes]
          simpa only [List.append_assoc] using p2
        · show (itm (Ex.row (es ++ [e])) ++ [({ op := 3, pl := (T.getD j0 tok0).pl, wd := (T.getD j0 tok0).wd, n := iw ((Ex.row (es ++ [e])).cnt : Int) } : Itm)]).length ≤ _
          rw [List.length_append, List.length_singleton]
          omega
    · rw [g, Option.bind_some, c, if_pos rfl]
      rw [if_neg (show ¬ (1 : Int32) = 0 by decide), ← hes]
      exact ih N' (es ++ [e]) G (k + 1) dk ek (by omega) (by omega) g2 ⟨by omega, by omega, by omega⟩ (by omega)
end
