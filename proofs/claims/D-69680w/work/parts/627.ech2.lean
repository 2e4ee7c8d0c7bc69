/-! ===== FORMULAS, 52: the engine checks, its parts ===== -/
theorem x_isNum {k : Int32} (h : Lk k) : F_X20_isNumber k = some (mr (decide (isNk k))) := by
  rcases h with rfl | rfl | rfl | rfl | rfl | rfl | rfl | rfl <;> decide +kernel
theorem x_isWh {k : Int32} (h : Lk k) : F_X20_isWhole_2 k = some (mr (decide (isWk k))) := by
  rcases h with rfl | rfl | rfl | rfl | rfl | rfl | rfl | rfl <;> decide +kernel
theorem x_wider {k j : Int32} (h : Lk k) (h2 : Lk j) : F_X23_wider k j = some (wdk k j) := by
  rcases h with rfl | rfl | rfl | rfl | rfl | rfl | rfl | rfl <;> rcases h2 with rfl | rfl | rfl | rfl | rfl | rfl | rfl | rfl <;> decide +kernel
theorem mr_an1 (b : Bool) : mr b &&& 1 = mr b := by cases b <;> decide
theorem mr_if {α : Type} {b : Bool} {x y : α} : (if mr b = 0 then x else y) = if b = true then y else x := by cases b <;> rfl
theorem nd_fi {t : Nat} (h : 30 ≤ t ∧ t ≤ 36) : x_fi t 1857 = true ∧ x_fi t 1856 = true ∧ x_wi t 1857 = true ∧ x_isa t 29 = true ∧ x_cast t 29 = true := by
  rcases (show t = 30 ∨ t = 31 ∨ t = 32 ∨ t = 33 ∨ t = 34 ∨ t = 35 ∨ t = 36 by omega) with rfl | rfl | rfl | rfl | rfl | rfl | rfl <;> decide
section
variable {M N : Mem} {a t : Nat} {l : Int32}
theorem E_nNum (ht : m_tg M a = t) (h : 30 ≤ t ∧ t ≤ 36) (hl : cI M a 1857 = l) (hk : Lk l) : F_X28_isNumber M a = some (mr (decide (isNk l))) := by
  unfold F_X28_isNumber
  rw [gi_of ht (nd_fi h).1, Option.bind_some, hl, x_isNum hk, Option.bind_some, mr_an1]
theorem E_nWh (ht : m_tg M a = t) (h : 30 ≤ t ∧ t ≤ 36) (hl : cI M a 1857 = l) (hk : Lk l) : F_X28_isWhole M a = some (mr (decide (isWk l))) := by
  unfold F_X28_isWhole
  rw [gi_of ht (nd_fi h).1, Option.bind_some, hl, x_isWh hk, Option.bind_some, mr_an1]
theorem E_nTr (ht : m_tg M a = t) (h : 30 ≤ t ∧ t ≤ 36) (hl : cI M a 1857 = l) : F_X28_isTruth M a = some (mr (decide (l = 0))) := by
  unfold F_X28_isTruth F_X28_isTruth_b12
  rw [gi_of ht (nd_fi h).1, Option.bind_some, hl]
  by_cases q : l = 0
  · rw [if_pos q, decide_eq_true q]; rfl
  · rw [if_neg q, decide_eq_false q]; rfl
end
section
variable {M N : Mem} {B v1 us lo hi de nn nn1 lo1 hi1 : Nat} {S : Sc} {Z : Nat → Prop} {ea as as1 : List Nat}
theorem RC.err (c : CF M N lo hi us) (r1 : m_nx N ≤ m_nx M + nn) (r2 : m_sl N + 1 ≤ m_sl M + 10 * nn) {q : Nat} {x : Option (Mem ⊕ (Nat × Mem))} (hx : x = some (.inr (1003, eT N 2 (iw (q : Int))))) : RC M ea lo hi us nn as x (.inl q) := ⟨N, hx, c, r1, r2⟩
/-- a part was checked -/
theorem RC.th {O : Mem} {nn0 : Nat} {x : Option (Mem ⊕ (Nat × Mem))} {res : CkR} {y : Mem → Option (Mem ⊕ (Nat × Mem))} {K : Tx → CkR} (c0 : CF M O lo hi us) (r1 : m_nx O ≤ m_nx M + nn0) (r2 : m_sl O ≤ m_sl M + 10 * nn0) (h : RC O ea lo1 hi1 us nn1 as1 x res) (h1 : lo ≤ lo1) (h2 : hi1 ≤ hi) (h3 : nn0 + nn1 ≤ nn)
    (hg : ∀ t N, res = .inr t → CF O N lo1 hi1 us → CF M N lo hi us → m_nx N ≤ m_nx M + (nn0 + nn1) → m_sl N ≤ m_sl M + 10 * (nn0 + nn1) → NTx N ea t lo1 hi1 as1 → (∀ k, k < 8 → cI N us k = if t.us k = true then 1 else cI O us k) → RC M ea lo hi us nn as (y N) (K t)) : RC M ea lo hi us nn as (tb x y) (cthen res K) := by
  cases res with
  | inl q =>
    obtain ⟨N, n1, n2, n3, n4⟩ := h
    exact ⟨N, by rw [n1]; rfl, c0.trans n2 h1 h2, by omega, by omega⟩
  | inr t =>
    obtain ⟨N, n1, n2, n3, n4, n5, n6⟩ := h
    rw [n1]
    exact hg t N rfl n2 (c0.trans n2 h1 h2) (by omega) (by omega) n5 n6
theorem E_par_l {ns : List (List Int32)} {ln dn s : Nat} {en : List Nat} {w : List Int32} (hv : m_tg M v1 = 37) (h1 : cR M v1 2371 = ln) (h2 : AL M ln dn en) (h3 : en.length = ns.length) (h4 : ∀ k, k < ns.length → NmW M B (en.getD k 0) (ns.getD k [])) (hB : 1334 ≤ B) (hs : SB M s w) (hs1 : 1000 ≤ s) : ∀ (m n i : Nat), i + m = ns.length → m + 1 ≤ n → F_X36_parameter_b2 n M v1 s (iw (i : Int)) = some (match fdl w (ns.drop i) i with
    | some k => iw (k : Int)
    | none => -1) := by
  have L := h2.len
  intro m
  induction m with
  | zero =>
    intro n i hi hn
    obtain ⟨n', rfl⟩ : ∃ n', n = n' + 1 := ⟨n - 1, by omega⟩
    show F_X36_parameter_b2_st _ M v1 s _ = _
    unfold F_X36_parameter_b2_st
    simp only [gr_of hv (show x_fr 37 2371 = true by decide), h1, vg_of h2.2.1 (show x_isa 67 67 = true by decide), h2.size, Option.bind_some]
    rw [if_neg (by rw [iw_le4 (by omega) (by omega)]; omega), List.drop_eq_nil_of_le (by omega)]
    rfl
  | succ m ih =>
    intro n i hi hn
    obtain ⟨n', rfl⟩ : ∃ n', n = n' + 1 := ⟨n - 1, by omega⟩
    have nw := h4 i (by omega)
    have I := ih n' (i + 1) (by omega) (by omega)
    have dr : ns.drop i = ns.getD i [] :: ns.drop (i + 1) := by
      rw [List.getD_eq_getElem?_getD, List.getElem?_eq_getElem (by omega), Option.getD_some]
      exact List.drop_eq_getElem_cons (by omega)
    show F_X36_parameter_b2_st _ M v1 s _ = _
    unfold F_X36_parameter_b2_st
    simp only [gr_of hv (show x_fr 37 2371 = true by decide), h1, vg_of h2.2.1 (show x_isa 67 67 = true by decide), h2.size, h2.get (show i < en.length by omega), cc_of nw.1.2.1 (show x_cast 76 76 = true by decide), vg_of nw.1.2.1 (show x_isa 76 76 = true by decide), J_eqs nw.1.1 hs (ac_big (by have := nw.1.2.2.1.1; omega) hs1) (show s ≠ 0 by omega), Option.bind_some]
    rw [if_pos (by rw [iw_le4 (by omega) (by omega)]; omega), dr]
    show _ = some (match (if ns.getD i [] = w then some i else fdl w (ns.drop (i + 1)) (i + 1)) with
      | some k => iw (k : Int)
      | none => -1)
    by_cases q : ns.getD i [] = w
    · rw [pif_pos q, if_neg (show ¬ (1 : Int32) = 0 by decide), if_pos q]
    · rw [pif_neg q, if_pos rfl, if_neg q, iw_succ]
      exact I
end
