/-! ===== JOINING, 1: matches in order ===== -/
/-- places that hold a value, rising -/
def mfl (v : Nat → Int64) (t : Int64) : Nat → Nat → List Nat
  | 0, _ => []
  | e + 1, j => if v j = t then j :: mfl v t e (j + 1) else mfl v t e (j + 1)
theorem mfl_mem {v : Nat → Int64} {t : Int64} : ∀ (e j x : Nat), x ∈ mfl v t e j ↔ j ≤ x ∧ x < j + e ∧ v x = t
  | 0, j, x => by
    show x ∈ ([] : List Nat) ↔ _
    exact ⟨fun h => (by cases h), fun h => (by omega)⟩
  | e + 1, j, x => by
    show x ∈ (if v j = t then j :: mfl v t e (j + 1) else mfl v t e (j + 1)) ↔ _
    by_cases c : v j = t
    · rw [if_pos c, List.mem_cons, mfl_mem e (j + 1) x]
      constructor
      · rintro (h | h)
        · rw [h]; exact ⟨Nat.le_refl _, by omega, c⟩
        · exact ⟨by omega, by omega, h.2.2⟩
      · intro h
        by_cases e' : x = j
        · exact Or.inl e'
        · exact Or.inr ⟨by omega, by omega, h.2.2⟩
    · rw [if_neg c, mfl_mem e (j + 1) x]
      constructor
      · intro h
        exact ⟨by omega, by omega, h.2.2⟩
      · intro h
        by_cases e' : x = j
        · rw [e'] at h; exact absurd h.2.2 c
        · exact ⟨by omega, by omega, h.2.2⟩
theorem mfl_pw {v : Nat → Int64} {t : Int64} : ∀ (e j : Nat), (mfl v t e j).Pairwise (· < ·)
  | 0, j => List.Pairwise.nil
  | e + 1, j => by
    show (if v j = t then j :: mfl v t e (j + 1) else mfl v t e (j + 1)).Pairwise (· < ·)
    by_cases c : v j = t
    · rw [if_pos c]
      refine List.Pairwise.cons (fun x hx => ?_) (mfl_pw e (j + 1))
      have := (mfl_mem e (j + 1) x).mp hx
      omega
    · rw [if_neg c]
      exact mfl_pw e (j + 1)
/-- from a place on in sorted order, as long as they hold it -/
def ewl (P : Nat → Nat) (v : Nat → Int64) (t : Int64) (m : Nat) : Nat → Nat → List Nat
  | 0, _ => []
  | e + 1, k => if v (P k) = t then P k :: ewl P v t m e (k + 1) else []
theorem sx_ext : ∀ (L E : List Nat), L.Pairwise (· < ·) → E.Pairwise (· < ·) → (∀ x, x ∈ L ↔ x ∈ E) → L = E
  | [], [], _, _, _ => rfl
  | [], y :: E, _, _, h => by
    have := (h y).mpr (List.mem_cons_self ..)
    cases this
  | x :: L, [], _, _, h => by
    have := (h x).mp (List.mem_cons_self ..)
    cases this
  | x :: L, y :: E, h1, h2, h => by
    rw [List.pairwise_cons] at h1 h2
    have e : x = y := by
      have a1 := (h x).mp (List.mem_cons_self ..)
      have a2 := (h y).mpr (List.mem_cons_self ..)
      rw [List.mem_cons] at a1 a2
      rcases a1 with a1 | a1
      · exact a1
      · rcases a2 with a2 | a2
        · exact a2.symm
        · have := h1.1 y a2
          have := h2.1 x a1
          omega
    subst e
    rw [sx_ext L E h1.2 h2.2 (fun z => ?_)]
    constructor
    · intro hz
      have := (h z).mp (List.mem_cons_of_mem _ hz)
      rw [List.mem_cons] at this
      rcases this with a | a
      · have := h1.1 z hz
        omega
      · exact a
    · intro hz
      have := (h z).mpr (List.mem_cons_of_mem _ hz)
      rw [List.mem_cons] at this
      rcases this with a | a
      · have := h2.1 z hz
        omega
      · exact a
theorem ewl_mem {P : Nat → Nat} {v : Nat → Int64} {t : Int64} {m : Nat} : ∀ (e k x : Nat), x ∈ ewl P v t m e k → ∃ q, k ≤ q ∧ q < k + e ∧ x = P q ∧ v x = t
  | 0, k, x, h => by cases h
  | e + 1, k, x, h => by
    have h : x ∈ (if v (P k) = t then P k :: ewl P v t m e (k + 1) else []) := h
    by_cases c : v (P k) = t
    · rw [if_pos c, List.mem_cons] at h
      rcases h with h | h
      · exact ⟨k, Nat.le_refl _, by omega, h, by rw [h]; exact c⟩
      · obtain ⟨q, q1, q2, q3, q4⟩ := ewl_mem e (k + 1) x h
        exact ⟨q, by omega, by omega, q3, q4⟩
    · rw [if_neg c] at h
      cases h
theorem ewl_in {P : Nat → Nat} {v : Nat → Int64} {t : Int64} {m : Nat} : ∀ (e k q : Nat), k ≤ q → q < k + e → (∀ y, k ≤ y → y ≤ q → v (P y) = t) → P q ∈ ewl P v t m e k
  | 0, k, q, h1, h2, _ => by omega
  | e + 1, k, q, h1, h2, h3 => by
    show P q ∈ (if v (P k) = t then P k :: ewl P v t m e (k + 1) else [])
    rw [if_pos (h3 k (Nat.le_refl _) h1), List.mem_cons]
    by_cases c : q = k
    · left; rw [c]
    · right; exact ewl_in e (k + 1) q (by omega) (by omega) (fun y y1 y2 => h3 y (by omega) y2)
theorem ewl_pw {P : Nat → Nat} {v : Nat → Int64} {t : Int64} {m : Nat} (hs : ∀ q q', q < q' → q' < m → v (P q) = t → v (P q') = t → P q < P q') : ∀ (e k : Nat), k + e ≤ m → (ewl P v t m e k).Pairwise (· < ·)
  | 0, k, _ => List.Pairwise.nil
  | e + 1, k, h => by
    show (if v (P k) = t then P k :: ewl P v t m e (k + 1) else []).Pairwise (· < ·)
    by_cases c : v (P k) = t
    · rw [if_pos c]
      refine List.Pairwise.cons (fun x hx => ?_) (ewl_pw hs e (k + 1) (by omega))
      obtain ⟨q, q1, q2, q3, q4⟩ := ewl_mem e (k + 1) x hx
      rw [q3] at q4 ⊢
      exact hs k q (by omega) (by omega) c q4
    · rw [if_neg c]
      exact List.Pairwise.nil
/-- both ways give the same matches -/
theorem join_eq {kd : Int32} {v : Nat → Int64} {t : Int64} {m f : Nat} (hk : Lk kd) (hm : m ≤ 4096) (hv : ∀ i, i < m → vb kd (v i)) (ht : vb kd t) (hf : f ≤ m)
    (f1 : ∀ q, q < f → lnT kd (v (srt 0 kd v m q)) < lnT kd t) (f2 : ∀ q, f ≤ q → q < m → ¬ lnT kd (v (srt 0 kd v m q)) < lnT kd t) : ewl (srt 0 kd v m) v t m (m - f) f = mfl v t m 0 := by
  obtain ⟨s1, s2⟩ := srt_ok (kd := kd) (v := v) hm
  refine sx_ext _ _ (ewl_pw (fun q q' a1 a2 a3 a4 => ?_) _ _ (by omega)) (mfl_pw _ _) (fun x => ⟨fun hx => ?_, fun hx => ?_⟩)
  · have := s2 q q' a1 a2
    unfold lex2 at this
    simp only [a3, a4] at this
    omega
  · obtain ⟨q, q1, q2, q3, q4⟩ := ewl_mem _ _ x hx
    exact (mfl_mem m 0 x).mpr ⟨Nat.zero_le _, by rw [q3]; have := s1 q (by omega); omega, q4⟩
  · have hx' := (mfl_mem m 0 x).mp hx
    obtain ⟨q, q1, q2⟩ := srt_surj (kd := kd) (v := v) hm x (by omega)
    have hkx : lnT kd (v (srt 0 kd v m q)) = lnT kd t := by rw [q2, hx'.2.2]
    have hfq : f ≤ q := by
      rcases Nat.lt_or_ge q f with c | c
      · have := f1 q c
        omega
      · exact c
    rw [← q2]
    refine ewl_in _ _ q hfq (by omega) (fun y y1 y2 => ?_)
    have hge := f2 y y1 (by omega)
    have hle : lnT kd (v (srt 0 kd v m y)) ≤ lnT kd (v (srt 0 kd v m q)) := by
      by_cases c : y = q
      · rw [c]; omega
      · have := s2 y q (by omega) q1
        dsimp only [lex2] at this
        omega
    exact (lnT_inj hk (hv _ (s1 y (by omega))) ht).mp (by omega)
/-- pairs in a row -/
def PR (M : Mem) (arr : Nat) (ps : List (Nat × Nat)) : Prop := ∀ x, x < ps.length → cJ M arr (2 * x) = (iw ((ps.getD x (0, 0)).1 : Nat)).toInt64 ∧ cJ M arr (2 * x + 1) = (iw ((ps.getD x (0, 0)).2 : Nat)).toInt64
theorem PR.snoc {M : Mem} {arr i j : Nat} {ps : List (Nat × Nat)} (h : PR M arr ps) : PR (wJ (wJ M arr (2 * ps.length) (iw (i : Int)).toInt64) arr (2 * ps.length + 1) (iw (j : Int)).toInt64) arr (ps ++ [(i, j)]) := by
  intro x hx
  rw [List.length_append, List.length_singleton] at hx
  rw [List.getD_eq_getElem?_getD, cJ_wJ, cJ_wJ, cJ_wJ, cJ_wJ]
  by_cases c : x = ps.length
  · subst c
    rw [List.getElem?_append_right (Nat.le_refl _), Nat.sub_self]
    rw [if_neg (fun q => by omega), if_pos ⟨rfl, rfl⟩, if_pos ⟨rfl, rfl⟩]
    exact ⟨rfl, rfl⟩
  · rw [List.getElem?_append_left (by omega), if_neg (fun q => by omega), if_neg (fun q => by omega), if_neg (fun q => by omega), if_neg (fun q => by omega), ← List.getD_eq_getElem?_getD]
    exact h x (by omega)
