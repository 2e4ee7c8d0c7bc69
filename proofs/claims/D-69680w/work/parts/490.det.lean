/-! ===== EXACT SOLUTIONS, 1: determinants, and elimination without fractions ===== -/
abbrev Vc := Nat → Int
def lap (f : List Vc → Int) (a : Vc → Int) : List Vc → Int
  | [] => 0
  | r :: R => a r * f R - lap (fun S => f (r :: S)) a R
def dvt : List Nat → List Vc → Int
  | [], [] => 1
  | [], _ :: _ => 0
  | c :: C, R => lap (dvt C) (fun v => v c) R
def cmb (α : Int) (u : Vc) (β : Int) (v : Vc) : Vc := fun j => α * u j + β * v j
def LinF (f : List Vc → Int) : Prop := ∀ X Y u v α β, f (X ++ cmb α u β v :: Y) = α * f (X ++ u :: Y) + β * f (X ++ v :: Y)
def AltF (f : List Vc → Int) : Prop := ∀ X Y u, f (X ++ u :: u :: Y) = 0
theorem lap_lin (a : Vc → Int) (α β : Int) : ∀ (Y : List Vc) (f g : List Vc → Int), lap (fun S => α * f S + β * g S) a Y = α * lap f a Y + β * lap g a Y := by
  intro Y
  induction Y with
  | nil => intro f g; simp [lap]
  | cons y Y ih =>
    intro f g
    show a y * (α * f Y + β * g Y) - lap (fun S => α * f (y :: S) + β * g (y :: S)) a Y = α * (a y * f Y - lap (fun S => f (y :: S)) a Y) + β * (a y * g Y - lap (fun S => g (y :: S)) a Y)
    rw [ih (fun S => f (y :: S)) (fun S => g (y :: S))]
    have e1 : a y * (α * f Y) = α * (a y * f Y) := by rw [← Int.mul_assoc, ← Int.mul_assoc, Int.mul_comm (a y)]
    have e2 : a y * (β * g Y) = β * (a y * g Y) := by rw [← Int.mul_assoc, ← Int.mul_assoc, Int.mul_comm (a y)]
    rw [Int.mul_add, Int.mul_sub, Int.mul_sub, e1, e2]
    omega
theorem lap_zero (a : Vc → Int) : ∀ (Y : List Vc) (f : List Vc → Int), (∀ S, f S = 0) → lap f a Y = 0 := by
  intro Y
  induction Y with
  | nil => intro f _; rfl
  | cons y Y ih =>
    intro f hf
    show a y * f Y - lap (fun S => f (y :: S)) a Y = 0
    rw [ih _ (fun S => hf (y :: S)), hf, Int.mul_zero, Int.sub_zero]
theorem lap_a0 (a : Vc → Int) : ∀ (Y : List Vc) (f : List Vc → Int), (∀ y ∈ Y, a y = 0) → lap f a Y = 0 := by
  intro Y
  induction Y with
  | nil => intro f _; rfl
  | cons y Y ih =>
    intro f hf
    show a y * f Y - lap (fun S => f (y :: S)) a Y = 0
    rw [ih _ (fun z hz => hf z (List.mem_cons_of_mem _ hz)), hf y (List.mem_cons_self ..), Int.zero_mul, Int.sub_zero]
theorem lap_Lin {a : Vc → Int} (ha : ∀ α u β v, a (cmb α u β v) = α * a u + β * a v) : ∀ (X : List Vc) (f : List Vc → Int), LinF f → ∀ Y u v α β, lap f a (X ++ cmb α u β v :: Y) = α * lap f a (X ++ u :: Y) + β * lap f a (X ++ v :: Y) := by
  intro X
  induction X with
  | nil =>
    intro f hf Y u v α β
    show a (cmb α u β v) * f Y - lap (fun S => f (cmb α u β v :: S)) a Y = α * (a u * f Y - lap (fun S => f (u :: S)) a Y) + β * (a v * f Y - lap (fun S => f (v :: S)) a Y)
    have e : (fun S => f (cmb α u β v :: S)) = fun S => α * f (u :: S) + β * f (v :: S) := funext fun S => hf [] S u v α β
    rw [e, lap_lin a α β Y (fun S => f (u :: S)) (fun S => f (v :: S)), ha, Int.add_mul, Int.mul_sub, Int.mul_sub, Int.mul_assoc, Int.mul_assoc]
    omega
  | cons x X ih =>
    intro f hf Y u v α β
    show a x * f (X ++ cmb α u β v :: Y) - lap (fun S => f (x :: S)) a (X ++ cmb α u β v :: Y) = α * (a x * f (X ++ u :: Y) - lap (fun S => f (x :: S)) a (X ++ u :: Y)) + β * (a x * f (X ++ v :: Y) - lap (fun S => f (x :: S)) a (X ++ v :: Y))
    rw [ih (fun S => f (x :: S)) (fun X' Y' u' v' α' β' => hf (x :: X') Y' u' v' α' β'), hf X Y u v α β, Int.mul_add, Int.mul_sub, Int.mul_sub]
    have e1 : a x * (α * f (X ++ u :: Y)) = α * (a x * f (X ++ u :: Y)) := by rw [← Int.mul_assoc, ← Int.mul_assoc, Int.mul_comm (a x)]
    have e2 : a x * (β * f (X ++ v :: Y)) = β * (a x * f (X ++ v :: Y)) := by rw [← Int.mul_assoc, ← Int.mul_assoc, Int.mul_comm (a x)]
    rw [e1, e2]
    omega
theorem lap_Alt {a : Vc → Int} : ∀ (X : List Vc) (f : List Vc → Int), AltF f → ∀ Y u, lap f a (X ++ u :: u :: Y) = 0 := by
  intro X
  induction X with
  | nil =>
    intro f hf Y u
    show a u * f (u :: Y) - (a u * f (u :: Y) - lap (fun S => f (u :: u :: S)) a Y) = 0
    rw [lap_zero a Y (fun S => f (u :: u :: S)) (fun S => hf [] S u)]
    omega
  | cons x X ih =>
    intro f hf Y u
    show a x * f (X ++ u :: u :: Y) - lap (fun S => f (x :: S)) a (X ++ u :: u :: Y) = 0
    rw [ih (fun S => f (x :: S)) (fun X' Y' u' => hf (x :: X') Y' u'), hf X Y u, Int.mul_zero, Int.sub_zero]
theorem dvt_Lin : ∀ C, LinF (dvt C) := by
  intro C
  induction C with
  | nil =>
    intro X Y u v α β
    have z : ∀ w : Vc, dvt [] (X ++ w :: Y) = 0 := fun w => by cases X <;> rfl
    rw [z, z, z]
    omega
  | cons c C ih =>
    intro X Y u v α β
    exact lap_Lin (a := fun v => v c) (fun _ _ _ _ => rfl) X (dvt C) ih Y u v α β
theorem dvt_Alt : ∀ C, AltF (dvt C) := by
  intro C
  induction C with
  | nil =>
    intro X Y u
    cases X <;> rfl
  | cons c C ih => exact fun X Y u => lap_Alt X (dvt C) ih Y u
theorem swp {f : List Vc → Int} (hl : LinF f) (ha : AltF f) (X Y : List Vc) (u v : Vc) : f (X ++ u :: v :: Y) = - f (X ++ v :: u :: Y) := by
  have e0 := ha X Y (cmb 1 u 1 v)
  have e1 := hl X (cmb 1 u 1 v :: Y) u v 1 1
  have e2 := hl (X ++ [u]) Y u v 1 1
  have e3 := hl (X ++ [v]) Y u v 1 1
  simp only [List.append_assoc, List.cons_append, List.nil_append] at e2 e3
  have a1 := ha X Y u
  have a2 := ha X Y v
  rw [e1, e2, e3, a1, a2] at e0
  omega
theorem rep {f : List Vc → Int} (hl : LinF f) (ha : AltF f) (u : Vc) : ∀ (Y X Z : List Vc), f (X ++ u :: (Y ++ u :: Z)) = 0 := by
  intro Y
  induction Y with
  | nil => exact fun X Z => ha X Z u
  | cons y Y ih =>
    intro X Z
    have e := ih (X ++ [y]) Z
    simp only [List.append_assoc, List.cons_append, List.nil_append] at e ⊢
    rw [swp hl ha, e]
    rfl
/-- a row and a multiple of another one -/
theorem op1 {f : List Vc → Int} (hl : LinF f) (ha : AltF f) {X Y : List Vc} {v : Vc} (hv : v ∈ X ∨ v ∈ Y) (α β : Int) (w : Vc) : f (X ++ cmb α w β v :: Y) = α * f (X ++ w :: Y) := by
  rw [hl]
  have z : f (X ++ v :: Y) = 0 := by
    rcases hv with hv | hv
    · obtain ⟨s, t, rfl⟩ := List.append_of_mem hv
      have := rep hl ha v t s Y
      simp only [List.append_assoc, List.cons_append] at this ⊢
      exact this
    · obtain ⟨s, t, rfl⟩ := List.append_of_mem hv
      exact rep hl ha v s X t
  rw [z]
  omega
def cno (k : Nat) : List Nat → Nat
  | [] => 0
  | r :: R => (if r = k then 0 else 1) + cno k R
theorem cno_not {k : Nat} : ∀ R : List Nat, k ∉ R → cno k R = R.length := by
  intro R
  induction R with
  | nil => intro _; rfl
  | cons r R ih =>
    intro h
    have h1 : r ≠ k := fun e => h (e ▸ List.mem_cons_self ..)
    have h2 := ih (fun e => h (List.mem_cons_of_mem _ e))
    simp only [cno, if_neg h1, h2, List.length_cons]
    omega
theorem cno_mem {k : Nat} : ∀ R : List Nat, R.Nodup → k ∈ R → cno k R + 1 = R.length := by
  intro R
  induction R with
  | nil => intro _ h; exact absurd h (List.not_mem_nil)
  | cons r R ih =>
    intro hn h
    rw [List.nodup_cons] at hn
    by_cases e : r = k
    · subst e
      simp only [cno, if_true, cno_not R hn.1, List.length_cons]
      omega
    · have h2 := ih hn.2 ((List.mem_cons.mp h).resolve_left (fun q => e q.symm))
      simp only [cno, if_neg e, List.length_cons]
      omega
theorem rowop {f : List Vc → Int} (hl : LinF f) (ha : AltF f) {A N : Nat → Vc} {k : Nat} {p : Int} {s : Nat → Int} (hk : N k = A k) : ∀ (R2 R1 : List Nat), (∀ r ∈ R2, r ≠ k → N r = cmb p (A r) (s r) (A k)) → k ∈ R1 ++ R2 → (R1 ++ R2).Nodup → f ((R1 ++ R2).map N) = p ^ cno k R2 * f (R1.map N ++ R2.map A) := by
  intro R2
  induction R2 with
  | nil =>
    intro R1 _ _ _
    simp [cno]
  | cons r R2 ih =>
    intro R1 hN hm hn
    have h1 := ih (R1 ++ [r]) (fun x hx => hN x (List.mem_cons_of_mem _ hx)) (by simpa using hm) (by simpa using hn)
    simp only [List.append_assoc, List.cons_append, List.nil_append] at h1
    rw [h1]
    have e0 : (R1 ++ [r]).map N ++ R2.map A = R1.map N ++ N r :: R2.map A := by simp
    rw [e0]
    by_cases e : r = k
    · subst e
      rw [hk]
      simp only [cno, if_true, Nat.zero_add, List.map_cons]
    · have hv : A k ∈ R1.map N ∨ A k ∈ R2.map A := by
        rcases List.mem_append.mp hm with q | q
        · exact Or.inl (List.mem_map.mpr ⟨k, q, hk⟩)
        · exact Or.inr (List.mem_map.mpr ⟨k, (List.mem_cons.mp q).resolve_left (fun z => e z.symm), rfl⟩)
      rw [hN r (List.mem_cons_self ..) e, op1 hl ha hv]
      simp only [cno, if_neg e, List.map_cons]
      rw [Nat.add_comm 1, Int.pow_succ, Int.mul_assoc]
theorem rowop' {C : List Nat} {A N : Nat → Vc} {k : Nat} {p : Int} {s : Nat → Int} {R : List Nat} (hk : N k = A k) (hN : ∀ r ∈ R, r ≠ k → N r = cmb p (A r) (s r) (A k)) (hm : k ∈ R) (hn : R.Nodup) : dvt C (R.map N) = p ^ (R.length - 1) * dvt C (R.map A) := by
  have := rowop (f := dvt C) (dvt_Lin C) (dvt_Alt C) (s := s) hk R [] hN (by simpa using hm) (by simpa using hn)
  have c := cno_mem R hn hm
  rw [show cno k R = R.length - 1 by omega] at this
  simpa using this
/-- amounts -/
theorem lap_le {a : Vc → Int} {b F : Nat} {g : Vc → Prop} : ∀ (R : List Vc) (f : List Vc → Int), (∀ v ∈ R, g v ∧ (a v).natAbs ≤ b) → (∀ S, S.length + 1 = R.length → (∀ v ∈ S, g v) → (f S).natAbs ≤ F) → (lap f a R).natAbs ≤ R.length * (b * F) := by
  intro R
  induction R with
  | nil => intro f _ _; simp [lap]
  | cons r R ih =>
    intro f hR hf
    show (a r * f R - lap (fun S => f (r :: S)) a R).natAbs ≤ _
    have h1 := ih (fun S => f (r :: S)) (fun v hv => hR v (List.mem_cons_of_mem _ hv)) (fun S hS hg => hf (r :: S) (by simp only [List.length_cons]; omega) (fun v hv => by
      rcases List.mem_cons.mp hv with q | q
      · rw [q]; exact (hR r (List.mem_cons_self ..)).1
      · exact hg v q))
    have h2 := hf R (by simp only [List.length_cons]) (fun v hv => (hR v (List.mem_cons_of_mem _ hv)).1)
    have h3 : (a r * f R).natAbs ≤ b * F := by
      rw [Int.natAbs_mul]
      exact Nat.mul_le_mul (hR r (List.mem_cons_self ..)).2 h2
    have h4 : (R.length + 1) * (b * F) = R.length * (b * F) + b * F := by rw [Nat.add_mul, Nat.one_mul]
    simp only [List.length_cons, h4]
    omega
def fct : Nat → Nat
  | 0 => 1
  | n + 1 => (n + 1) * fct n
theorem dvt_le {b : Nat} : ∀ (C : List Nat) (R : List Vc), R.length = C.length → (∀ v ∈ R, ∀ c ∈ C, (v c).natAbs ≤ b) → (dvt C R).natAbs ≤ fct R.length * b ^ R.length := by
  intro C
  induction C with
  | nil =>
    intro R hR _
    have : R = [] := List.length_eq_zero_iff.mp hR
    subst this
    simp [dvt, fct]
  | cons c C ih =>
    intro R hR hb
    have h1 := lap_le (a := fun v => v c) (b := b) (F := fct C.length * b ^ C.length) (g := fun v => ∀ c ∈ C, (v c).natAbs ≤ b) R (dvt C) (fun v hv => ⟨fun d hd => hb v hv d (List.mem_cons_of_mem _ hd), hb v hv c (List.mem_cons_self ..)⟩) (fun S hS hg => by
      have hl : S.length = C.length := by simp only [List.length_cons] at hR; omega
      have := ih S hl (fun v hv d hd => hg v hv d hd)
      rw [hl] at this
      exact this)
    refine Nat.le_trans h1 (Nat.le_of_eq ?_)
    simp only [List.length_cons] at hR
    rw [hR]
    show (C.length + 1) * (b * (fct C.length * b ^ C.length)) = (C.length + 1) * fct C.length * b ^ (C.length + 1)
    rw [Nat.pow_succ, Nat.mul_assoc, ← Nat.mul_assoc b, Nat.mul_comm b, Nat.mul_assoc, Nat.mul_comm b]
/-- the diagonal -/
def prI : List Int → Int
  | [] => 1
  | x :: L => x * prI L
theorem dvt_diag {N : Nat → Vc} {i j : Nat} : ∀ S : List Nat, (S ++ [i]).Nodup → (∀ s ∈ S, ∀ t ∈ S ++ [i], t ≠ s → N t s = 0) → dvt (S ++ [j]) ((S ++ [i]).map N) = prI (S.map (fun s => N s s)) * N i j := by
  intro S
  induction S with
  | nil =>
    intro _ _
    show N i j * 1 - 0 = 1 * N i j
    omega
  | cons s S ih =>
    intro hn hz
    have h1 := ih (by simp only [List.cons_append, List.nodup_cons] at hn; exact hn.2) (fun x hx t ht => hz x (List.mem_cons_of_mem _ hx) t (List.mem_cons_of_mem _ ht))
    show N s s * dvt (S ++ [j]) ((S ++ [i]).map N) - lap (fun T => dvt (S ++ [j]) (N s :: T)) (fun v => v s) ((S ++ [i]).map N) = N s s * prI (S.map (fun s => N s s)) * N i j
    rw [lap_a0 _ _ _ (fun y hy => by
      obtain ⟨t, ht, rfl⟩ := List.mem_map.mp hy
      refine hz s (List.mem_cons_self ..) t (List.mem_cons_of_mem _ ht) (fun e => ?_)
      simp only [List.cons_append, List.nodup_cons] at hn
      exact hn.1 (e ▸ ht)), h1, Int.sub_zero, Int.mul_assoc]

/-! elimination -/
theorem prI_rep {x : Int} {g : Nat → Int} : ∀ S : List Nat, (∀ s ∈ S, g s = x) → prI (S.map g) = x ^ S.length := by
  intro S
  induction S with
  | nil => intro _; exact (Int.pow_zero x).symm
  | cons s S ih =>
    intro h
    show g s * prI (S.map g) = x ^ (S.length + 1)
    rw [ih (fun t ht => h t (List.mem_cons_of_mem _ ht)), h s (List.mem_cons_self ..), Int.pow_succ, Int.mul_comm]
theorem prI_one {x p : Int} {g : Nat → Int} {k : Nat} (hk : g k = p) : ∀ S : List Nat, S.Nodup → k ∈ S → (∀ s ∈ S, s ≠ k → g s = x) → prI (S.map g) = x ^ (S.length - 1) * p := by
  intro S
  induction S with
  | nil => intro _ h; exact absurd h (List.not_mem_nil)
  | cons s S ih =>
    intro hn hm h
    rw [List.nodup_cons] at hn
    by_cases e : s = k
    · subst e
      show g s * prI (S.map g) = _
      rw [prI_rep S (fun t ht => h t (List.mem_cons_of_mem _ ht) (fun q => hn.1 (q ▸ ht))), hk, Int.mul_comm]
      rfl
    · have hm' := (List.mem_cons.mp hm).resolve_left (fun q => e q.symm)
      have l0 : 0 < S.length := List.length_pos_of_mem hm'
      show g s * prI (S.map g) = _
      rw [ih hn.2 hm' (fun t ht => h t (List.mem_cons_of_mem _ ht)), h s (List.mem_cons_self ..) e, ← Int.mul_assoc]
      congr 1
      rw [Int.mul_comm, ← Int.pow_succ]
      congr 1
      simp only [List.length_cons]
      omega
/-- after k steps: what A has become of A0, q the last pivot -/
def Ba (n b k : Nat) (q : Int) (A A0 : Nat → Vc) : Prop :=
  q ≠ 0 ∧ (∀ s, s < k → ∀ i, i < n → i ≠ s → A i s = 0) ∧ (∀ s, s < k → A s s = q) ∧
  (∀ C R, R.Nodup → (∀ r ∈ R, r < n) → (∀ s, s < k → s ∈ R) → R ≠ [] → dvt C (R.map A) = q ^ (R.length - 1) * dvt C (R.map A0)) ∧
  (∀ i, i < n → ∀ j, j ≤ n → (A0 i j).natAbs ≤ b) ∧ (∀ i, i < n → ∀ j, j ≤ n → (A i j).natAbs ≤ fct n * b ^ n)
theorem Ba.q0 {n b k : Nat} {q : Int} {A A0 : Nat → Vc} (h : Ba n b k q A A0) : q ≠ 0 := h.1
theorem Ba.z {n b k : Nat} {q : Int} {A A0 : Nat → Vc} (h : Ba n b k q A A0) : ∀ s, s < k → ∀ i, i < n → i ≠ s → A i s = 0 := h.2.1
theorem Ba.d {n b k : Nat} {q : Int} {A A0 : Nat → Vc} (h : Ba n b k q A A0) : ∀ s, s < k → A s s = q := h.2.2.1
theorem Ba.e {n b k : Nat} {q : Int} {A A0 : Nat → Vc} (h : Ba n b k q A A0) : ∀ C R, R.Nodup → (∀ r ∈ R, r < n) → (∀ s, s < k → s ∈ R) → R ≠ [] → dvt C (R.map A) = q ^ (R.length - 1) * dvt C (R.map A0) := h.2.2.2.1
theorem Ba.bb {n b k : Nat} {q : Int} {A A0 : Nat → Vc} (h : Ba n b k q A A0) : ∀ i, i < n → ∀ j, j ≤ n → (A0 i j).natAbs ≤ b := h.2.2.2.2.1
theorem Ba.cc {n b k : Nat} {q : Int} {A A0 : Nat → Vc} (h : Ba n b k q A A0) : ∀ i, i < n → ∀ j, j ≤ n → (A i j).natAbs ≤ fct n * b ^ n := h.2.2.2.2.2
theorem fct_pos : ∀ n, 0 < fct n := by
  intro n
  induction n with
  | zero => exact Nat.one_pos
  | succ n ih => exact Nat.mul_pos (Nat.succ_pos n) ih
theorem fct_mono : ∀ {m n : Nat}, m ≤ n → fct m ≤ fct n := by
  intro m n h
  induction h with
  | refl => exact Nat.le_refl _
  | step _ ih => exact Nat.le_trans ih (by show _ ≤ (_ + 1) * fct _; exact Nat.le_mul_of_pos_left _ (Nat.succ_pos _))
theorem Ba.start {n b : Nat} {A : Nat → Vc} (hb : 1 ≤ b) (h : ∀ i, i < n → ∀ j, j ≤ n → (A i j).natAbs ≤ b) : Ba n b 0 1 A A := by
  refine ⟨by decide, fun s hs => absurd hs (by omega), fun s hs => absurd hs (by omega), fun C R _ _ _ _ => by rw [Int.one_pow, Int.one_mul], h, fun i hi j hj => Nat.le_trans (h i hi j hj) ?_⟩
  have h1 : b ^ 1 ≤ b ^ n := Nat.pow_le_pow_right hb (by omega)
  rw [Nat.pow_one] at h1
  exact Nat.le_trans h1 (Nat.le_mul_of_pos_left _ (fct_pos n))
def swr (k r i : Nat) : Nat := if i = k then r else if i = r then k else i
theorem swr_swr (k r i : Nat) : swr k r (swr k r i) = i := by
  unfold swr
  by_cases h1 : i = k
  · subst h1
    by_cases h2 : r = i
    · subst h2; simp
    · simp [h2]
  · by_cases h2 : i = r
    · subst h2; simp [h1]
    · simp [h1, h2]
theorem swr_lt {n k r i : Nat} (hk : k < n) (hr : r < n) (hi : i < n) : swr k r i < n := by
  unfold swr
  split
  · exact hr
  · split
    · exact hk
    · exact hi
theorem Ba.swap {n b k : Nat} {q : Int} {A A0 : Nat → Vc} (h : Ba n b k q A A0) {r : Nat} (hk : k < n) (hr : r < n) (hkr : k ≤ r) : Ba n b k q (fun i => A (swr k r i)) (fun i => A0 (swr k r i)) := by
  have fix : ∀ s, s < k → swr k r s = s := fun s hs => by unfold swr; rw [if_neg (by omega), if_neg (by omega)]
  have ne : ∀ s, s < k → ∀ i, i ≠ s → swr k r i ≠ s := fun s hs i hi e => by
    have := congrArg (swr k r) e
    rw [swr_swr, fix s hs] at this
    exact hi this
  refine ⟨h.q0, fun s hs i hi his => h.z s hs _ (swr_lt hk hr hi) (ne s hs i his), fun s hs => by show A (swr k r s) s = q; rw [fix s hs]; exact h.d s hs, fun C R hn hR hs h0 => ?_, fun i hi j hj => h.bb _ (swr_lt hk hr hi) j hj, fun i hi j hj => h.cc _ (swr_lt hk hr hi) j hj⟩
  have e1 : R.map (fun i => A (swr k r i)) = (R.map (swr k r)).map A := by rw [List.map_map]; rfl
  have e2 : R.map (fun i => A0 (swr k r i)) = (R.map (swr k r)).map A0 := by rw [List.map_map]; rfl
  rw [e1, e2]
  have := h.e C (R.map (swr k r)) (by
    rw [List.Nodup, List.pairwise_map]
    exact hn.imp (fun {a b} hab e => hab (by rw [← swr_swr k r a, e, swr_swr]))) (fun x hx => by
    obtain ⟨y, hy, rfl⟩ := List.mem_map.mp hx
    exact swr_lt hk hr (hR y hy)) (fun s hs' => List.mem_map.mpr ⟨s, hs s hs', fix s hs'⟩) (by
    intro e
    exact h0 (List.map_eq_nil_iff.mp e))
  rw [List.length_map] at this
  exact this
/-- the numbers below m, without i -/
def wo (i : Nat) : Nat → List Nat
  | 0 => []
  | m + 1 => if m = i then wo i m else m :: wo i m
theorem wo_mem {i : Nat} : ∀ {m x : Nat}, x ∈ wo i m ↔ x < m ∧ x ≠ i := by
  intro m
  induction m with
  | zero => intro x; simp [wo]
  | succ m ih =>
    intro x
    unfold wo
    split
    · rename_i e
      rw [ih]
      omega
    · rename_i e
      rw [List.mem_cons, ih]
      omega
theorem wo_nd {i : Nat} : ∀ m, (wo i m).Nodup := by
  intro m
  induction m with
  | zero => exact List.nodup_nil
  | succ m ih =>
    unfold wo
    split
    · exact ih
    · rw [List.nodup_cons]
      exact ⟨fun q => by have := (wo_mem.mp q).1; omega, ih⟩
theorem wo_len {i : Nat} : ∀ m, (wo i m).length + (if i < m then 1 else 0) = m := by
  intro m
  induction m with
  | zero => rfl
  | succ m ih =>
    unfold wo
    split
    · rename_i e
      subst e
      rw [if_pos (Nat.lt_succ_self m)]
      rw [if_neg (Nat.lt_irrefl m)] at ih
      omega
    · rename_i e
      simp only [List.length_cons]
      by_cases c : i < m
      · rw [if_pos c] at ih
        rw [if_pos (by omega)]
        omega
      · rw [if_neg c] at ih
        rw [if_neg (by omega)]
        omega
theorem Ba.quo {n b k : Nat} {q : Int} {A A0 : Nat → Vc} (h : Ba n b k q A A0) (hb : 1 ≤ b) (hk : k < n) (hp : A k k ≠ 0) {i : Nat} (hi : i < n) (hik : i ≠ k) (j : Nat) : ∃ D : Int, A k k * A i j - A i k * A k j = q * D ∧ (j ≤ n → D.natAbs ≤ fct n * b ^ n) := by
  obtain ⟨N, hN⟩ : ∃ N : Nat → Vc, N = fun t => if t = k then A k else cmb (A k k) (A t) (- A t k) (A k) := ⟨_, rfl⟩
  have Nk : N k = A k := by rw [hN]; simp
  have Nt : ∀ t, t ≠ k → N t = cmb (A k k) (A t) (- A t k) (A k) := fun t ht => by rw [hN]; simp [ht]
  obtain ⟨S, hS⟩ : ∃ S, S = wo i (k + 1) := ⟨_, rfl⟩
  have mS : ∀ x, x ∈ S ↔ x < k + 1 ∧ x ≠ i := fun x => by rw [hS]; exact wo_mem
  have kS : k ∈ S := (mS k).mpr ⟨Nat.lt_succ_self k, fun e => hik e.symm⟩
  have lS := wo_len (i := i) (k + 1)
  rw [← hS] at lS
  have ndS : S.Nodup := by rw [hS]; exact wo_nd _
  have nd : (S ++ [i]).Nodup := by
    rw [List.nodup_append]
    refine ⟨ndS, by simp, fun x hx y hy e => ?_⟩
    rw [List.mem_singleton] at hy
    subst hy
    subst e
    exact ((mS x).mp hx).2 rfl
  have lt : ∀ r ∈ S ++ [i], r < n := fun r hr => by
    rcases List.mem_append.mp hr with hr | hr
    · have := (mS r).mp hr; omega
    · rw [List.mem_singleton.mp hr]; exact hi
  have hall : ∀ s, s < k → s ∈ S ++ [i] := fun s hs => by
    by_cases c : s = i
    · exact List.mem_append_right _ (by rw [c]; exact List.mem_singleton.mpr rfl)
    · exact List.mem_append_left _ ((mS s).mpr ⟨by omega, c⟩)
  have len : (S ++ [i]).length = S.length + 1 := by simp
  have lpos : 0 < S.length := List.length_pos_of_mem kS
  -- the determinant, two ways
  have d1 := rowop' (C := S ++ [j]) (A := A) (N := N) (k := k) (p := A k k) (s := fun t => - A t k) (R := S ++ [i]) Nk (fun r _ hr => Nt r hr) (List.mem_append_left _ kS) nd
  rw [h.e (S ++ [j]) (S ++ [i]) nd lt hall (by simp), len, Nat.add_sub_cancel] at d1
  have d2 := dvt_diag (N := N) (i := i) (j := j) S nd (fun s hs t ht hts => by
    have hs' := (mS s).mp hs
    by_cases c : s = k
    · subst c
      rw [Nt t hts]
      show A s s * A t s + - A t s * A s s = 0
      rw [Int.neg_mul, Int.mul_comm (A t s)]
      omega
    · have hsk : s < k := by omega
      have e1 : A k s = 0 := h.z s hsk k hk (fun e => c e.symm)
      by_cases c2 : t = k
      · rw [c2, Nk]; exact e1
      · rw [Nt t c2]
        show A k k * A t s + - A t k * A k s = 0
        rw [e1, h.z s hsk t (lt t ht) hts, Int.mul_zero, Int.mul_zero]
        rfl)
  rw [prI_one (x := A k k * q) (p := A k k) (g := fun s => N s s) (k := k) (by show N k k = A k k; rw [Nk]) S ndS kS (fun s hs hsk => by
    have hs' := (mS s).mp hs
    have hlt : s < k := by omega
    show N s s = _
    rw [Nt s hsk]
    show A k k * A s s + - A s k * A k s = A k k * q
    rw [h.z s hlt k hk (fun e => hsk e.symm), h.d s hlt, Int.mul_zero, Int.add_zero])] at d2
  obtain ⟨D, hD⟩ : ∃ D, D = dvt (S ++ [j]) ((S ++ [i]).map A0) := ⟨_, rfl⟩
  rw [← hD] at d1
  obtain ⟨e, he⟩ : ∃ e, S.length = e + 1 := ⟨S.length - 1, by omega⟩
  rw [he, Nat.add_sub_cancel] at d2
  rw [he] at d1
  have key : (A k k) ^ (e + 1) * q ^ e * (N i j) = (A k k) ^ (e + 1) * q ^ e * (q * D) := by
    have : (A k k * q) ^ e * A k k * N i j = A k k ^ (e + 1) * (q ^ (e + 1) * D) := by rw [← d2, d1]
    rw [Int.mul_pow] at this
    rw [Int.pow_succ (A k k), Int.pow_succ q] at this
    rw [Int.pow_succ]
    have r1 : A k k ^ e * A k k * q ^ e * N i j = A k k ^ e * q ^ e * A k k * N i j := by rw [Int.mul_right_comm (A k k ^ e)]
    rw [r1, this]
    simp only [Int.mul_assoc]
  have nz : (A k k) ^ (e + 1) * q ^ e ≠ 0 := Int.mul_ne_zero (Int.pow_ne_zero hp) (Int.pow_ne_zero h.q0)
  have fin := Int.eq_of_mul_eq_mul_left nz key
  rw [Nt i hik] at fin
  refine ⟨D, ?_, fun hj => ?_⟩
  · rw [← fin]
    show A k k * A i j - A i k * A k j = A k k * A i j + - A i k * A k j
    rw [Int.neg_mul]
    omega
  · have ln : (S ++ [i]).length ≤ n := by
      rw [len]
      by_cases c : i < k + 1
      · rw [if_pos c] at lS; omega
      · rw [if_neg c] at lS; omega
    have := dvt_le (b := b) (S ++ [j]) ((S ++ [i]).map A0) (by simp) (fun v hv c hc => by
      obtain ⟨t, ht, rfl⟩ := List.mem_map.mp hv
      refine h.bb t (lt t ht) c ?_
      rcases List.mem_append.mp hc with q | q
      · have := (mS c).mp q; omega
      · rw [List.mem_singleton.mp q]; exact hj)
    rw [← hD, List.length_map] at this
    exact Nat.le_trans this (Nat.mul_le_mul (fct_mono ln) (Nat.pow_le_pow_right hb ln))
theorem Ba.step {n b k : Nat} {q : Int} {A A0 A' : Nat → Vc} (h : Ba n b k q A A0) (hb : 1 ≤ b) (hk : k < n) (hp : A k k ≠ 0) (h1 : A' k = A k) (h2 : ∀ i, i < n → i ≠ k → ∀ j, q * A' i j = A k k * A i j - A i k * A k j) : Ba n b (k + 1) (A k k) A' A0 := by
  have hq := h.q0
  have z0 : ∀ i j, i < n → i ≠ k → A k k * A i j - A i k * A k j = 0 → A' i j = 0 := fun i j hi hik e => by
    have := h2 i hi hik j
    rw [e] at this
    exact (Int.mul_eq_zero.mp this).resolve_left hq
  refine ⟨hp, fun s hs i hi his => ?_, fun s hs => ?_, fun C R hn hR hs h0 => ?_, h.bb, fun i hi j hj => ?_⟩
  · by_cases c : i = k
    · subst c
      rw [h1]
      exact h.z s (by omega) i hi his
    · refine z0 i s hi c ?_
      by_cases c2 : s = k
      · subst c2
        rw [Int.mul_comm]
        omega
      · rw [h.z s (by omega) i hi his, h.z s (by omega) k hk (fun e => c2 e.symm), Int.mul_zero, Int.mul_zero]
        rfl
  · by_cases c : s = k
    · subst c
      rw [h1]
    · have e := h2 s (by omega) c s
      rw [h.z s (by omega) k hk (fun e => c e.symm), h.d s (by omega), Int.mul_zero, Int.sub_zero, Int.mul_comm (A k k)] at e
      exact Int.eq_of_mul_eq_mul_left hq e
  · obtain ⟨N, hN⟩ : ∃ N : Nat → Vc, N = fun t => if t = k then A k else cmb (A k k) (A t) (- A t k) (A k) := ⟨_, rfl⟩
    have Nk : N k = A k := by rw [hN]; simp
    have Nt : ∀ t, t ≠ k → N t = cmb (A k k) (A t) (- A t k) (A k) := fun t ht => by rw [hN]; simp [ht]
    have hkR := hs k (Nat.lt_succ_self k)
    have d1 := rowop' (C := C) (A := A) (N := N) (k := k) (p := A k k) (s := fun t => - A t k) (R := R) Nk (fun r _ hr => Nt r hr) hkR hn
    have d2 := rowop' (C := C) (A := A') (N := N) (k := k) (p := q) (s := fun _ => 0) (R := R) (by rw [Nk, h1]) (fun r hr hrk => by
      rw [Nt r hrk]
      funext j
      show A k k * A r j + - A r k * A k j = q * A' r j + 0 * A' k j
      rw [h2 r (hR r hr) hrk j, Int.neg_mul]
      omega) hkR hn
    rw [h.e C R hn hR (fun s hs' => hs s (by omega)) h0] at d1
    rw [d1] at d2
    have : q ^ (R.length - 1) * dvt C (R.map A') = q ^ (R.length - 1) * (A k k ^ (R.length - 1) * dvt C (R.map A0)) := by
      rw [← d2, ← Int.mul_assoc, ← Int.mul_assoc, Int.mul_comm (A k k ^ _)]
    exact Int.eq_of_mul_eq_mul_left (Int.pow_ne_zero hq) this
  · by_cases c : i = k
    · subst c
      rw [h1]
      exact h.cc i hi j hj
    · obtain ⟨D, e1, e2⟩ := h.quo hb hk hp hi c j
      have := h2 i hi c j
      rw [e1] at this
      rw [Int.eq_of_mul_eq_mul_left hq this]
      exact e2 hj
