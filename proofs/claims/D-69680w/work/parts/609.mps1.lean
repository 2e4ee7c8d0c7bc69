/-! ===== FORMULAS, 34: the model's items; its parser stands at a token ===== -/
/-- an item: 1 a constant, 2 a name, 3 a call, 4 ahead, 5 a cast, 6 between, 7 8 short, 9 10 11 a choice -/
structure Itm where
  op : Int32
  pl : Nat
  wd : List Int32 := []
  sg : Nat := 20
  n : Int32 := 0
  bt : Int64 := 0
def itm0 : Itm := { op := 0, pl := 0 }
/-- the text of a sign ahead, by its character -/
def txS (s : Int32) : Nat := if s = 45 then 34 else if s = 33 then 23 else 64
/-- how many arguments -/
def Ex.cnt : Ex → Nat
  | .acn _ r => r.cnt + 1
  | _ => 0
/-- an expression as items, operands first -/
def itm : Ex → List Itm
  | .lit p l b => [{ op := 1, pl := p, n := l, bt := b }]
  | .nam p w => [{ op := 2, pl := p, wd := w }]
  | .pre p s e => itm e ++ [{ op := 4, pl := p, sg := txS s }]
  | .cst p l e => itm e ++ [{ op := 5, pl := p, n := l }]
  | .bin p o a b => if o = 18 ∨ o = 19 then itm a ++ [{ op := 7, pl := p, sg := sgT o }] ++ itm b ++ [{ op := 8, pl := p, sg := sgT o }] else itm a ++ itm b ++ [{ op := 6, pl := p, sg := sgT o }]
  | .cnd p c a b => itm c ++ [{ op := 9, pl := p }] ++ itm a ++ [{ op := 10, pl := p }] ++ itm b ++ [{ op := 11, pl := p }]
  | .cal p w r => itm r ++ [{ op := 3, pl := p, wd := w, n := iw (r.cnt : Int) }]
  | .anl => []
  | .acn e r => itm e ++ itm r
/-- an item of the model -/
def IMm (M : Mem) (B a : Nat) (t : Itm) : Prop := (B ≤ a ∧ a < m_nx M ∧ m_tg M a = 45) ∧ cI M a 2880 = t.op ∧ cI M a 2881 = iw (t.pl : Int) ∧ cI M a 2883 = t.n ∧ cJ M a 2884 = t.bt ∧ ((t.op = 2 ∨ t.op = 3) → WDm M B (cR M a 2882) t.wd) ∧ (¬ (t.op = 2 ∨ t.op = 3) → cR M a 2882 = t.sg)
/-- what the parser may change of the cells of B1: its own place, its list of items, texts' hashes -/
def pKm1 (B1 : Mem) (v0 li : Nat) : Nat → Nat → Prop := fun x _ => x = v0 ∨ x = li ∨ (1334 ≤ x ∧ m_tg B1 x = 76)
def rKm1 (v0 li : Nat) : Nat → Nat → Prop := fun x i => (x = v0 ∧ i = 2627) ∨ (x = li ∧ i = 4288)
/-- from B1 to M little has changed, and words are words still -/
def KFm (B0 B1 M : Mem) (v0 li di : Nat) : Prop := m_nx B0 ≤ m_nx B1 ∧ (1334 ≤ di → m_nx B1 ≤ di) ∧ Df (pKm1 B1 v0 li) n2 (rKm1 v0 li) B1 M ∧ ∀ s w, WDm B1 (m_nx B0) s w → WDm M (m_nx B0) s w
/-- the model's parser v0 over the tokens T, at token i, with the items I -/
def PM (B0 B1 : Mem) (g : Prop) (M : Mem) (v0 lt dt : Nat) (et : List Nat) (T : List Tok) (i li di : Nat) (ei : List Nat) (I : List Itm) : Prop :=
  (1334 ≤ m_nx B0 ∧ Df n2 n2 n2 B0 M ∧ ST M ∧ K0 M ∧ m_tg M 4 = 1091 ∧ m_ln M 4 = 0 ∧ KFm B0 B1 M v0 li di) ∧ (m_nx B0 ≤ v0 ∧ v0 < m_nx M ∧ m_tg M v0 = 41) ∧ (cR M v0 2624 = 1075 ∧ cR M v0 2625 = lt ∧ cI M v0 2626 = iw (i : Int) ∧ (g → cR M v0 2627 = li)) ∧
  (AL M lt dt et ∧ m_nx B0 ≤ lt ∧ (1334 ≤ dt → m_nx B0 ≤ dt)) ∧ (AP M li di ei ∧ m_nx B0 ≤ li ∧ (1334 ≤ di → m_nx B0 ≤ di)) ∧ lt ≠ li ∧ (dt = di → dt = 4) ∧
  (et.length = T.length ∧ i < T.length ∧ T.length ≤ 5000 ∧ ∀ j, j < T.length → TKm M (m_nx B0) (et.getD j 0) (T.getD j tok0)) ∧ ei.length = I.length ∧ ∀ j, j < I.length → IMm M (m_nx B0) (ei.getD j 0) (I.getD j itm0)
section
variable {B0 B1 M : Mem} {g : Prop} {v0 lt dt i li di : Nat} {et ei : List Nat} {T : List Tok} {I : List Itm}
theorem PM.v (h : PM B0 B1 g M v0 lt dt et T i li di ei I) : vg M v0 41 = some () := vg_of h.2.1.2.2 (show x_isa 41 41 = true by decide)
theorem M_tokenP (h : PM B0 B1 g M v0 lt dt et T i li di ei I) : F_X40_token M v0 = some (et.getD i 0) := by
  obtain ⟨b, ⟨v1, v2, v3⟩, ⟨c1, c2, c3, c4⟩, ⟨l1, l2, l3⟩, p, q, r, ⟨t1, t2, t3, t4⟩, s⟩ := h
  unfold F_X40_token
  simp only [gr_of v3 (show x_fr 41 2625 = true by decide), gi_of v3 (show x_fi 41 2626 = true by decide), c2, c3, vg_of l1.2.1 (show x_isa 67 67 = true by decide), l1.get (show i < et.length by omega), cc_of (t4 i t2).1.2.2 (show x_cast 43 43 = true by decide), Option.bind_some]
theorem M_isSignP (h : PM B0 B1 g M v0 lt dt et T i li di ei I) (hT : (T.getD i tok0).kd = 4 → 20 ≤ (T.getD i tok0).sg ∧ (T.getD i tok0).sg < 65) {s : Nat} (s1 : 20 ≤ s) (s2 : s < 65) : F_X40_isSign M v0 s = some (mr (isS (T.getD i tok0) s)) := by
  have hv := h.v
  have ht := M_tokenP h
  obtain ⟨b, ⟨v1, v2, v3⟩, ⟨c1, c2, c3, c4⟩, ⟨l1, l2, l3⟩, p, q, r, ⟨t1, t2, t3, t4⟩, s⟩ := h
  obtain ⟨k1, k2, k3, k4, k5, k6, k7, k8⟩ := t4 i t2
  unfold F_X40_isSign F_X40_isSign_b29 F_X40_isSign_b30
  simp only [hv, ht, gi_of k1.2.2 (show x_fi 43 2752 = true by decide), gr_of k1.2.2 (show x_fr 43 2754 = true by decide), k2, Option.bind_some]
  by_cases c4 : (T.getD i tok0).kd = 4
  · obtain ⟨r1, r2⟩ := hT c4
    rw [if_pos c4, k7 c4, b.2.2.2.1.vg r1 r2, Option.bind_some, b.2.2.2.1.eq r1 r2 s1 s2, Option.bind_some]
    unfold isS
    by_cases e : (T.getD i tok0).sg = ‹Nat›
    · rw [if_pos e, if_neg (by decide), decide_eq_true ⟨c4, e⟩]; rfl
    · rw [if_neg e, if_pos rfl, decide_eq_false (fun w => e w.2)]; rfl
  · rw [if_neg c4]
    unfold isS
    rw [decide_eq_false (fun w => c4 w.1)]
    rfl
end
