/-! ===== the interpreter's laws ===== -/
theorem ob_mono {α β : Type} {o : Option α} {f g : α → Option β} {r : β} (h : o.bind f = some r) (hf : ∀ a, f a = some r → g a = some r) : o.bind g = some r := by
  cases o with
  | none => cases h
  | some a => exact hf a h
theorem x_thr_mono {X Y : xC → xS → Option (xO × Mem)} {K : xM} {pc a : Nat} {M : Mem} {r : xO × Mem} (hX : ∀ c s, X c s = some r → Y c s = some r) (h : x_thr X K pc a M = some r) : x_thr Y K pc a M = some r := by
  unfold x_thr at h ⊢
  revert h
  cases x_hd K pc with
  | none => exact id
  | some b => exact hX _ _
theorem x_step_mono {P : Nat → Option xM} {X Y : Nat → xM → xC → xL → xS → Mem → Option (xO × Mem)} (hX : ∀ d K cs L S M r, X d K cs L S M = some r → Y d K cs L S M = some r) {d : Nat} {K : xM} {cs : xC} {L : xL} {S : xS} {M : Mem} {r : xO × Mem} (h : x_step P X d K cs L S M = some r) : x_step P Y d K cs L S M = some r := by
  unfold x_step at h ⊢
  match cs with
  | [] => exact h
  | (pc, i, r1, r2) :: cs =>
    dsimp only at h ⊢
    generalize k1 i = k at h ⊢
    match k with
    | 0 => exact ob_mono h fun _ => hX _ _ _ _ _ _ _
    | 1 =>
      refine ob_mono h fun q hq => ?_
      by_cases hb : q.1 = true
      · rw [if_pos hb] at hq ⊢; exact hX _ _ _ _ _ _ _ hq
      · rw [if_neg hb] at hq; cases hq
    | 2 => exact ob_mono h fun _ => hX _ _ _ _ _ _ _
    | 3 => exact ob_mono h fun _ => hX _ _ _ _ _ _ _
    | 4 =>
      refine ob_mono h fun q hq => ?_
      by_cases hm : 900 ≤ q.1 ∧ q.1 < 1000
      · rw [if_pos hm] at hq ⊢
        exact ob_mono hq fun _ => hX _ _ _ _ _ _ _
      · rw [if_neg hm] at hq ⊢
        by_cases hd : d = 0
        · rw [if_pos hd] at hq; cases hq
        · rw [if_neg hd] at hq ⊢
          refine ob_mono hq fun K' hK' => ?_
          by_cases hsp : (x_spread q.2.1).length ≤ K'.2.2.2.1
          case neg => rw [if_neg hsp] at hK'; cases hK'
          rw [if_pos hsp] at hK' ⊢
          cases hc : X (d - 1) K' (x_bk K' 0) (x_entry q.2.1 K'.2.2.2.1) [] M with
          | none => rw [hc] at hK'; cases hK'
          | some z =>
            rw [hc] at hK'
            rw [hX _ _ _ _ _ _ _ hc]
            obtain ⟨o, M'⟩ := z
            cases o with
            | inl v => exact hX _ _ _ _ _ _ _ hK'
            | inr a =>
              have hK' : x_thr (fun c s => X d K c L s M') K pc a M' = some r := hK'
              exact x_thr_mono (Y := fun c s => Y d K c L s M') (fun _ _ => hX _ _ _ _ _ _ _) hK'
    | 5 => exact h
    | k + 6 =>
      refine ob_mono h fun a ha => ?_
      by_cases ht : m_tg M a = 64
      · rw [if_pos ht] at ha ⊢; exact x_thr_mono (fun _ _ => hX _ _ _ _ _ _ _) ha
      · rw [if_neg ht] at ha; cases ha
theorem exec_mono {P : Nat → Option xM} : ∀ (n d : Nat) (K : xM) (cs : xC) (L : xL) (S : xS) (M : Mem) (r : xO × Mem), exec P n d K cs L S M = some r → exec P (n + 1) d K cs L S M = some r := by
  intro n
  induction n with
  | zero => intro d K cs L S M r h; cases h
  | succ n ih => intro d K cs L S M r h; exact x_step_mono ih h
theorem exec_le {P : Nat → Option xM} {n m d : Nat} {K : xM} {cs : xC} {L : xL} {S : xS} {M : Mem} {r : xO × Mem} (hnm : n ≤ m) (h : exec P n d K cs L S M = some r) : exec P m d K cs L S M = some r := by
  obtain ⟨k, rfl⟩ := Nat.exists_eq_add_of_le hnm
  clear hnm
  induction k with
  | zero => exact h
  | succ k ih => exact exec_mono _ _ _ _ _ _ _ _ ih
/-- what the interpreter comes to -/
def Ev (P : Nat → Option xM) (d : Nat) (K : xM) (cs : xC) (L : xL) (S : xS) (M : Mem) (r : xO × Mem) : Prop := ∃ n, exec P n d K cs L S M = some r
/-- a computation 'x' is followed by the code: whatever x comes to, the interpreter comes to ('o': how an answer is an outcome) -/
def Sim {τ : Type} (P : Nat → Option xM) (d : Nat) (K : xM) (cs : xC) (L : xL) (S : xS) (M : Mem) (o : τ → xO × Mem) (x : Option τ) : Prop := ∀ t, x = some t → Ev P d K cs L S M (o t)
/-- a call of method m with arguments A is followed -/
def Cl {τ : Type} (P : Nat → Option xM) (d m : Nat) (A : List Value) (M : Mem) (o : τ → xO × Mem) (x : Option τ) : Prop := ∀ t, x = some t → ∃ K, P m = some K ∧ (x_spread A).length ≤ K.2.2.2.1 ∧ Ev P d K (x_bk K 0) (x_entry A K.2.2.2.1) [] M (o t)
section SIM
variable {τ : Type} {P : Nat → Option xM} {d : Nat} {K : xM} {cs : xC} {L L' : xL} {S S' : xS} {M M' : Mem} {o : τ → xO × Mem} {x y : Option τ} {pc r1 r2 : Nat} {i : Instr}
theorem Sim.none : Sim P d K cs L S M o none := fun r h => by cases h
theorem Cl.of {m : Nat} {A : List Value} (hP : P m = some K) (hA : Nat.ble (x_spread A).length K.2.2.2.1 = true) (h : Sim P d K (x_bk K 0) (x_entry A K.2.2.2.1) [] M o x) : Cl P d m A M o x := fun t ht => ⟨K, hP, Nat.ble_eq.mp hA, h t ht⟩
theorem x_go {X : xO × Mem} (h : ∃ n, x_step P (exec P n) d K ((pc, i, r1, r2) :: cs) L S M = some X) : Ev P d K ((pc, i, r1, r2) :: cs) L S M X := by
  obtain ⟨n, hn⟩ := h
  exact ⟨n + 1, hn⟩
theorem r_bk {b : Nat} {c : xC} (h : x_bk K b = c) (k : Sim P d K c L S M o x) : Sim P d K (x_bk K b) L S M o x := h ▸ k
theorem r_st (hk : k1 i = 0) (h : st1 i r1 r2 L S = some (L', S')) (k : Sim P d K cs L' S' M o x) : Sim P d K ((pc, i, r1, r2) :: cs) L S M o x := by
  intro r hr
  obtain ⟨n, hn⟩ := k r hr
  refine x_go ⟨n, ?_⟩
  unfold x_step; dsimp only; rw [hk]; (try dsimp only); rw [h]; exact hn
theorem r_gd {b : Bool} (hk : k1 i = 1) (h : gd1 i S = some (b, S')) (k : Sim P d K cs L S' M o x) : Sim P d K ((pc, i, r1, r2) :: cs) L S M o (if b = true then x else none) := by
  intro r hr
  cases b with
  | false => simp at hr
  | true =>
    rw [if_pos rfl] at hr
    obtain ⟨n, hn⟩ := k r hr
    refine x_go ⟨n, ?_⟩
    unfold x_step; dsimp only; rw [hk]; (try dsimp only); rw [h]; exact hn
theorem r_me (hk : k1 i = 2) (h : me1 i r1 S M = some (S', M')) (k : Sim P d K cs L S' M' o x) : Sim P d K ((pc, i, r1, r2) :: cs) L S M o x := by
  intro r hr
  obtain ⟨n, hn⟩ := k r hr
  refine x_go ⟨n, ?_⟩
  unfold x_step; dsimp only; rw [hk]; (try dsimp only); rw [h]; exact hn
/-- an instruction on memory that asks a primitive -/
theorem r_mb {α : Type} {p : Option α} {F : α → xS × Mem} {k : α → Option τ} (hk : k1 i = 2) (h : ∀ a, p = some a → me1 i r1 S M = some (F a)) (kk : ∀ a, Sim P d K cs L (F a).1 (F a).2 o (k a)) : Sim P d K ((pc, i, r1, r2) :: cs) L S M o (p.bind k) := by
  intro r hr
  cases hp : p with
  | none => rw [hp] at hr; cases hr
  | some a =>
    rw [hp] at hr
    exact r_me (L := L) hk (h a hp) (kk a) r hr
theorem r_jm {b : Nat} (hk : k1 i = 3) (h : jm1 K i r1 r2 S = some (b, S')) (k : Sim P d K (x_bk K b) L S' M o x) : Sim P d K ((pc, i, r1, r2) :: cs) L S M o x := by
  intro r hr
  obtain ⟨n, hn⟩ := k r hr
  refine x_go ⟨n, ?_⟩
  unfold x_step; dsimp only; rw [hk]; (try dsimp only); rw [h]; exact hn
theorem r_if {c : Prop} [Decidable c] {b1 b2 : Nat} (hk : k1 i = 3) (h : jm1 K i r1 r2 S = some (if c then b1 else b2, S')) (k1' : Sim P d K (x_bk K b1) L S' M o x) (k2 : Sim P d K (x_bk K b2) L S' M o y) : Sim P d K ((pc, i, r1, r2) :: cs) L S M o (if c then x else y) := by
  by_cases hc : c
  · rw [if_pos hc] at h ⊢
    exact r_jm hk h k1'
  · rw [if_neg hc] at h ⊢
    exact r_jm hk h k2
theorem r_ret {t : τ} (hk : k1 i = 5) (h : ret1 K i S = some (o t).1) (hM : (o t).2 = M) : Sim P d K ((pc, i, r1, r2) :: cs) L S M o (some t) := by
  intro r hr
  cases hr
  refine x_go ⟨0, ?_⟩
  unfold x_step; dsimp only; rw [hk]; (try dsimp only); rw [h, ← hM]; rfl
theorem r_thrown {a : Nat} {t : τ} (h : x_hd K pc = none) (ho : o t = (.inr a, M)) (X : xC → xS → Option (xO × Mem)) : x_thr X K pc a M = some (o t) := by
  unfold x_thr; rw [h, ho]
/-- athrow that leaves the method -/
theorem r_athrow {a : Nat} {t : τ} (hk : k1 i = 6) (hh : x_hd K pc = none) (ho : o t = (.inr a, M)) : Sim P d K ((pc, i, r1, r2) :: cs) L (.ref a :: S) M o ((ie M a).bind fun _ => some t) := by
  intro r hr
  unfold ie at hr
  by_cases ht : m_tg M a = 64
  · rw [if_pos ht] at hr
    cases hr
    refine x_go ⟨0, ?_⟩
    unfold x_step; dsimp only; rw [hk]; (try dsimp only)
    show (if m_tg M a = 64 then _ else none) = _
    rw [if_pos ht]
    exact r_thrown hh ho _
  · rw [if_neg ht] at hr; cases hr
/-- a native -/
theorem r_na {α : Type} {m : Nat} {A : List Value} {p : Option α} {F : α → Option Value × Mem} {k : α → Option τ} (hk : k1 i = 4) (hc : ca1 i r1 r2 S M = some (m, A, S')) (hm : 900 ≤ m ∧ m < 1000) (h : ∀ a, p = some a → nat1 m A M = some (F a)) (kk : ∀ a, Sim P d K cs L ((F a).1.toList ++ S') (F a).2 o (k a)) : Sim P d K ((pc, i, r1, r2) :: cs) L S M o (p.bind k) := by
  intro r hr
  cases hp : p with
  | none => rw [hp] at hr; cases hr
  | some a =>
    rw [hp] at hr
    obtain ⟨n, hn⟩ := kk a r hr
    refine x_go ⟨n, ?_⟩
    unfold x_step; dsimp only; rw [hk]; (try dsimp only); rw [hc]
    show (if 900 ≤ m ∧ m < 1000 then _ else _) = _
    rw [if_pos hm, h a hp]; exact hn
/-- a call -/
theorem r_ca {σ : Type} {m : Nat} {A : List Value} {f : Option σ} {o' : σ → xO × Mem} {k : σ → Option τ} (hk : k1 i = 4) (hc : ca1 i r1 r2 S M = some (m, A, S')) (hm : ¬ (900 ≤ m ∧ m < 1000)) (hf : Cl P d m A M o' f)
    (kk : ∀ a, (∀ v M', o' a = (.inl v, M') → Sim P (d + 1) K cs L (v.toList ++ S') M' o (k a)) ∧ (∀ q M', o' a = (.inr q, M') → (x_hd K pc = none ∧ ∃ t, k a = some t ∧ o t = (.inr q, M')) ∨ ∃ b, x_hd K pc = some b ∧ Sim P (d + 1) K (x_bk K b) L [.ref q] M' o (k a))) :
    Sim P (d + 1) K ((pc, i, r1, r2) :: cs) L S M o (f.bind k) := by
  intro r hr
  cases hp : f with
  | none => rw [hp] at hr; cases hr
  | some a =>
    rw [hp] at hr
    obtain ⟨K', hK', hsp, n1, h1⟩ := hf a hp
    have step : ∀ n, n1 ≤ n → x_step P (exec P n) (d + 1) K ((pc, i, r1, r2) :: cs) L S M = (match (o' a).1 with
          | .inl v => exec P n (d + 1) K cs L (v.toList ++ S') (o' a).2
          | .inr q => x_thr (fun c s => exec P n (d + 1) K c L s (o' a).2) K pc q (o' a).2) := by
      intro n hn
      unfold x_step; dsimp only; rw [hk]; (try dsimp only); rw [hc]
      show (if 900 ≤ m ∧ m < 1000 then _ else _) = _
      rw [if_neg hm, if_neg (by omega), hK']
      show (if (x_spread A).length ≤ K'.2.2.2.1 then (exec P n (d + 1 - 1) K' (x_bk K' 0) (x_entry A K'.2.2.2.1) [] M).bind _ else none) = _
      rw [if_pos hsp]
      rw [Nat.add_sub_cancel, exec_le hn h1]; rfl
    cases ho : o' a with
    | mk z M' =>
    rw [ho] at step
    cases z with
    | inl v =>
      obtain ⟨n2, h2⟩ := (kk a).1 v M' ho r hr
      exact x_go ⟨n1 + n2, (step _ (by omega)).trans (exec_le (by omega) h2)⟩
    | inr q =>
      rcases (kk a).2 q M' ho with ⟨hh, t, ht, hot⟩ | ⟨b, hh, hb⟩
      · have ht' : k a = some r := hr
        rw [ht] at ht'
        cases ht'
        exact x_go ⟨n1, (step _ (Nat.le_refl _)).trans (by show x_thr _ K pc q M' = _; exact r_thrown hh hot _)⟩
      · obtain ⟨n2, h2⟩ := hb r hr
        refine x_go ⟨n1 + n2, (step _ (by omega)).trans ?_⟩
        show x_thr _ K pc q M' = _
        unfold x_thr; rw [hh]; exact exec_le (by omega) h2
end SIM
