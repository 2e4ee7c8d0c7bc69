/-! ===== ORDERS, 4: what sorting gives is in order, stable, and all places -/
def lex2 (key : Nat → Int) (x y : Nat) : Prop := key x < key y ∨ (key x = key y ∧ x < y)
theorem lex2_trans {key : Nat → Int} {x y z : Nat} (h1 : lex2 key x y) (h2 : lex2 key y z) : lex2 key x z := by
  unfold lex2 at *
  omega
theorem mgl_keep {lt : Nat → Nat → Bool} {P : Nat → Nat} {mid to : Nat} : ∀ (e k a b : Nat) (O : Nat → Nat) (q : Nat), q < k → mgl lt P mid to e k a b O q = O q
  | 0, k, a, b, O, q, h => rfl
  | e + 1, k, a, b, O, q, h => by
    show (if a = mid ∨ (b < to ∧ lt (P b) (P a) = true) then mgl lt P mid to e (k + 1) a (b + 1) (upn O k (P b)) else mgl lt P mid to e (k + 1) (a + 1) b (upn O k (P a))) q = O q
    have up : ∀ x, upn O k x q = O q := fun x => by unfold upn; rw [if_neg (by omega)]
    split
    · rw [mgl_keep e (k + 1) a (b + 1) _ q (by omega), up]
    · rw [mgl_keep e (k + 1) (a + 1) b _ q (by omega), up]
theorem mgl_ok {key : Nat → Int} {P : Nat → Nat} {fr mid to : Nat} (hP1 : ∀ q, fr ≤ q → q < mid → fr ≤ P q ∧ P q < mid) (hP2 : ∀ q, mid ≤ q → q < to → mid ≤ P q ∧ P q < to) (s1 : ∀ q q', fr ≤ q → q < q' → q' < mid → lex2 key (P q) (P q')) (s2 : ∀ q q', mid ≤ q → q < q' → q' < to → lex2 key (P q) (P q')) (hfm : fr ≤ mid) (hmt : mid ≤ to) :
    ∀ (e k a b : Nat) (O : Nat → Nat), k + e = to → k + mid = a + b → fr ≤ a → a ≤ mid → mid ≤ b → b ≤ to → (∀ q, fr ≤ q → q < k → fr ≤ O q ∧ O q < to) → (∀ q q', fr ≤ q → q < q' → q' < k → lex2 key (O q) (O q')) → (∀ q x, fr ≤ q → q < k → (a ≤ x → x < mid → lex2 key (O q) (P x)) ∧ (b ≤ x → x < to → lex2 key (O q) (P x))) →
    (∀ q, fr ≤ q → q < to → fr ≤ mgl (ltB 0 key) P mid to e k a b O q ∧ mgl (ltB 0 key) P mid to e k a b O q < to) ∧ (∀ q q', fr ≤ q → q < q' → q' < to → lex2 key (mgl (ltB 0 key) P mid to e k a b O q) (mgl (ltB 0 key) P mid to e k a b O q'))
  | 0, k, a, b, O, h1, h2, h3, h4, h5, h6, i1, i2, i3 => by
    have : k = to := by omega
    subst this
    exact ⟨i1, i2⟩
  | e + 1, k, a, b, O, h1, h2, h3, h4, h5, h6, i1, i2, i3 => by
    -- one more that is below all the rest
    have step : ∀ y a' b', a ≤ a' → b ≤ b' → (fr ≤ y ∧ y < to) → (∀ q, fr ≤ q → q < k → lex2 key (O q) y) → (∀ x, (a' ≤ x → x < mid → lex2 key y (P x)) ∧ (b' ≤ x → x < to → lex2 key y (P x))) →
        (∀ q, fr ≤ q → q < k + 1 → fr ≤ upn O k y q ∧ upn O k y q < to) ∧ (∀ q q', fr ≤ q → q < q' → q' < k + 1 → lex2 key (upn O k y q) (upn O k y q')) ∧ (∀ q x, fr ≤ q → q < k + 1 → (a' ≤ x → x < mid → lex2 key (upn O k y q) (P x)) ∧ (b' ≤ x → x < to → lex2 key (upn O k y q) (P x))) := by
      intro y a' b' ha hb hy hO hx
      have u1 : ∀ q, q < k → upn O k y q = O q := fun q hq => by unfold upn; rw [if_neg (by omega)]
      have u2 : upn O k y k = y := by unfold upn; rw [if_pos rfl]
      refine ⟨fun q q1 q2 => ?_, fun q q' q1 q2 q3 => ?_, fun q x q1 q2 => ?_⟩
      · by_cases c : q = k
        · rw [c, u2]; exact hy
        · rw [u1 q (by omega)]; exact i1 q q1 (by omega)
      · by_cases c : q' = k
        · rw [c, u2, u1 q (by omega)]; exact hO q q1 (by omega)
        · rw [u1 q (by omega), u1 q' (by omega)]; exact i2 q q' q1 q2 (by omega)
      · by_cases c : q = k
        · rw [c, u2]; exact hx x
        · rw [u1 q (by omega)]
          have := i3 q x q1 (by omega)
          exact ⟨fun w1 w2 => this.1 (by omega) w2, fun w1 w2 => this.2 (by omega) w2⟩
    have lt0 : ∀ x y, ltB 0 key x y = true ↔ key x < key y := fun x y => by unfold ltB; rw [if_pos rfl, decide_eq_true_eq]
    show (∀ q, fr ≤ q → q < to → fr ≤ (if a = mid ∨ (b < to ∧ ltB 0 key (P b) (P a) = true) then mgl (ltB 0 key) P mid to e (k + 1) a (b + 1) (upn O k (P b)) else mgl (ltB 0 key) P mid to e (k + 1) (a + 1) b (upn O k (P a))) q ∧ (if a = mid ∨ (b < to ∧ ltB 0 key (P b) (P a) = true) then mgl (ltB 0 key) P mid to e (k + 1) a (b + 1) (upn O k (P b)) else mgl (ltB 0 key) P mid to e (k + 1) (a + 1) b (upn O k (P a))) q < to) ∧ (∀ q q', fr ≤ q → q < q' → q' < to → lex2 key ((if a = mid ∨ (b < to ∧ ltB 0 key (P b) (P a) = true) then mgl (ltB 0 key) P mid to e (k + 1) a (b + 1) (upn O k (P b)) else mgl (ltB 0 key) P mid to e (k + 1) (a + 1) b (upn O k (P a))) q) ((if a = mid ∨ (b < to ∧ ltB 0 key (P b) (P a) = true) then mgl (ltB 0 key) P mid to e (k + 1) a (b + 1) (upn O k (P b)) else mgl (ltB 0 key) P mid to e (k + 1) (a + 1) b (upn O k (P a))) q'))
    by_cases c : a = mid ∨ (b < to ∧ ltB 0 key (P b) (P a) = true)
    · have hb : b < to := by rcases c with c | c <;> omega
      have hPb := hP2 b h5 hb
      obtain ⟨j1, j2, j3⟩ := step (P b) a (b + 1) (Nat.le_refl _) (by omega) ⟨by omega, by omega⟩ (fun q q1 q2 => (i3 q b q1 q2).2 (Nat.le_refl _) hb) (fun x => ⟨fun w1 w2 => by
        rcases c with c | c
        · omega
        · have hk := (lt0 _ _).mp c.2
          by_cases e' : x = a
          · rw [e']; exact Or.inl hk
          · have := s1 a x h3 (by omega) w2
            unfold lex2 at *
            omega, fun w1 w2 => s2 b x h5 (by omega) w2⟩)
      rw [if_pos c]
      exact mgl_ok hP1 hP2 s1 s2 hfm hmt e (k + 1) a (b + 1) _ (by omega) (by omega) h3 h4 (by omega) (by omega) j1 j2 j3
    · have ha : a < mid := by
        rcases Nat.lt_or_ge a mid with q | q
        · exact q
        · exact absurd (Or.inl (by omega)) c
      have hPa := hP1 a h3 ha
      obtain ⟨j1, j2, j3⟩ := step (P a) (a + 1) b (by omega) (Nat.le_refl _) ⟨by omega, by omega⟩ (fun q q1 q2 => (i3 q a q1 q2).1 (Nat.le_refl _) ha) (fun x => ⟨fun w1 w2 => s1 a x h3 (by omega) w2, fun w1 w2 => by
        have hPx := hP2 x (by omega) w2
        have hk : ¬ key (P b) < key (P a) := fun q => c (Or.inr ⟨by omega, (lt0 _ _).mpr q⟩)
        by_cases e' : x = b
        · rw [e'] at hPx ⊢
          unfold lex2
          omega
        · have := s2 b x h5 (by omega) w2
          unfold lex2 at *
          omega⟩)
      rw [if_neg c]
      exact mgl_ok hP1 hP2 s1 s2 hfm hmt e (k + 1) (a + 1) b _ (by omega) (by omega) (by omega) (by omega) h5 h6 j1 j2 j3
/-- runs in order -/
def BS (key : Nat → Int) (P : Nat → Nat) (b n : Nat) : Prop := (∀ q, q < n → P q < n ∧ P q / b = q / b) ∧ ∀ q q', q < q' → q' < n → q / b = q' / b → lex2 key (P q) (P q')
theorem dvb {q b t : Nat} (hb : 0 < b) : q / b = t ↔ t * b ≤ q ∧ q < t * b + b := by
  rw [Nat.div_eq_iff hb]
  omega
theorem psl_ok {key : Nat → Int} {P : Nat → Nat} {b n : Nat} (hb : 1 ≤ b) (hP : BS key P b n) : ∀ (f t : Nat) (O : Nat → Nat), n < t * (2 * b) + 2 * b * f + 1 → (∀ q, q < t * (2 * b) → q < n → O q < n ∧ O q / (2 * b) = q / (2 * b)) → (∀ q q', q < q' → q' < t * (2 * b) → q' < n → q / (2 * b) = q' / (2 * b) → lex2 key (O q) (O q')) → BS key (psl (ltB 0 key) P b n f (t * (2 * b)) O) (2 * b) n
  | 0, t, O, h1, h2, h3 => ⟨fun q hq => h2 q (by omega) hq, fun q q' a1 a2 a3 => h3 q q' a1 (by omega) a2 a3⟩
  | f + 1, t, O, h1, h2, h3 => by
    have ep : psl (ltB 0 key) P b n (f + 1) (t * (2 * b)) O = if t * (2 * b) < n then psl (ltB 0 key) P b n f (t * (2 * b) + 2 * b) (mgl (ltB 0 key) P (min (t * (2 * b) + b) n) (min (t * (2 * b) + 2 * b) n) (min (t * (2 * b) + 2 * b) n - t * (2 * b)) (t * (2 * b)) (t * (2 * b)) (min (t * (2 * b) + b) n) O) else O := rfl
    rw [ep]
    by_cases c : t * (2 * b) < n
    · rw [if_pos c]
      obtain ⟨F, hF⟩ : ∃ F, F = t * (2 * b) := ⟨_, rfl⟩
      have hF2 : F = 2 * t * b := by rw [hF, ← Nat.mul_assoc, Nat.mul_comm t 2]
      have hF3 : (2 * t + 1) * b = F + b := by rw [Nat.add_mul, Nat.one_mul, hF2]
      rw [← hF] at c h1 h2 h3 ⊢
      obtain ⟨p1, p2⟩ := hP
      have blk : ∀ q, F ≤ q → q < F + b → q < n → F ≤ P q ∧ P q < F + b ∧ q / b = 2 * t := fun q q1 q2 q3 => by
        have e1 : q / b = 2 * t := (dvb hb).mpr ⟨by omega, by omega⟩
        have e2 := (p1 q q3).2
        rw [e1] at e2
        have := (dvb hb).mp e2
        exact ⟨by omega, by omega, e1⟩
      have blk2 : ∀ q, F + b ≤ q → q < F + 2 * b → q < n → F + b ≤ P q ∧ P q < F + 2 * b ∧ q / b = 2 * t + 1 := fun q q1 q2 q3 => by
        have e1 : q / b = 2 * t + 1 := (dvb hb).mpr ⟨by omega, by omega⟩
        have e2 := (p1 q q3).2
        rw [e1] at e2
        have := (dvb hb).mp e2
        exact ⟨by omega, by omega, e1⟩
      obtain ⟨m1, m2⟩ := mgl_ok (key := key) (P := P) (fr := F) (mid := min (F + b) n) (to := min (F + 2 * b) n) (fun q q1 q2 => by have := blk q q1 (by omega) (by omega); have := (p1 q (by omega)).1; omega) (fun q q1 q2 => by have := blk2 q (by omega) (by omega) (by omega); have := (p1 q (by omega)).1; omega)
        (fun q q' q1 q2 q3 => p2 q q' q2 (by omega) (by rw [(blk q q1 (by omega) (by omega)).2.2, (blk q' (by omega) (by omega) (by omega)).2.2])) (fun q q' q1 q2 q3 => p2 q q' q2 (by omega) (by rw [(blk2 q (by omega) (by omega) (by omega)).2.2, (blk2 q' (by omega) (by omega) (by omega)).2.2])) (by omega) (by omega)
        (min (F + 2 * b) n - F) F F (min (F + b) n) O (by omega) (by omega) (Nat.le_refl _) (by omega) (Nat.le_refl _) (by omega) (fun q q1 q2 => by omega) (fun q q' q1 q2 q3 => by omega) (fun q x q1 q2 => by omega)
      obtain ⟨O', hO'⟩ : ∃ O', O' = mgl (ltB 0 key) P (min (F + b) n) (min (F + 2 * b) n) (min (F + 2 * b) n - F) F F (min (F + b) n) O := ⟨_, rfl⟩
      rw [← hO'] at m1 m2 ⊢
      have kp : ∀ q, q < F → O' q = O q := fun q hq => by rw [hO']; exact mgl_keep _ _ _ _ _ q hq
      have hs : F + 2 * b = (t + 1) * (2 * b) := by rw [Nat.add_mul, Nat.one_mul, hF]
      have dq : ∀ q, F ≤ q → q < F + 2 * b → q / (2 * b) = t := fun q q1 q2 => (dvb (by omega)).mpr ⟨by omega, by omega⟩
      rw [hs]
      refine psl_ok hb ⟨p1, p2⟩ f (t + 1) O' ?_ (fun q q1 q2 => ?_) (fun q q' q1 q2 q3 q4 => ?_)
      · rw [← hs]
        have : 2 * b * (f + 1) = 2 * b * f + 2 * b := Nat.mul_succ _ _
        omega
      · rw [← hs] at q1
        by_cases cq : q < F
        · rw [kp q cq]
          exact h2 q cq q2
        · have := m1 q (by omega) (by omega)
          exact ⟨by omega, by rw [dq q (by omega) q1, dq (O' q) (by omega) (by omega)]⟩
      · rw [← hs] at q2
        by_cases cq : q' < F
        · rw [kp q (by omega), kp q' cq]
          exact h3 q q' q1 cq q3 q4
        · by_cases cq2 : q < F
          · exfalso
            rw [dq q' (by omega) q2] at q4
            have := (dvb (by omega)).mp q4
            omega
          · exact m2 q q' (by omega) q1 (by omega)
    · rw [if_neg c]
      exact ⟨fun q hq => h2 q (by omega) hq, fun q q' a1 a2 a3 => h3 q q' a1 (by omega) a2 a3⟩
theorem srl_ok {key : Nat → Int} {n : Nat} : ∀ (f b : Nat) (P : Nat → Nat), n ≤ b * 2 ^ f → 1 ≤ b → BS key P b n → (∀ q, q < n → srl (ltB 0 key) n f b P q < n) ∧ ∀ q q', q < q' → q' < n → lex2 key (srl (ltB 0 key) n f b P q) (srl (ltB 0 key) n f b P q')
  | 0, b, P, h1, h2, h3 => by
    have hz : ∀ q, q < n → q / b = 0 := fun q hq => Nat.div_eq_of_lt (by simp at h1; omega)
    exact ⟨fun q hq => (h3.1 q hq).1, fun q q' a1 a2 => h3.2 q q' a1 a2 (by rw [hz q (by omega), hz q' a2])⟩
  | f + 1, b, P, h1, h2, h3 => by
    have ep : srl (ltB 0 key) n (f + 1) b P = if b < n then srl (ltB 0 key) n f (2 * b) (psl (ltB 0 key) P b n (n + 1) 0 P) else P := rfl
    rw [ep]
    by_cases c : b < n
    · rw [if_pos c]
      have := psl_ok (key := key) h2 h3 (n + 1) 0 P (by
        rw [Nat.zero_mul]
        have := Nat.le_mul_of_pos_left (n + 1) (show 0 < 2 * b by omega)
        omega) (fun q q1 q2 => by omega) (fun q q' q1 q2 => by omega)
      rw [Nat.zero_mul] at this
      exact srl_ok f (2 * b) _ (by rw [Nat.mul_comm 2 b, Nat.mul_assoc, ← Nat.pow_succ']; exact h1) (by omega) this
    · rw [if_neg c]
      have hz : ∀ q, q < n → q / b = 0 := fun q hq => Nat.div_eq_of_lt (by omega)
      exact ⟨fun q hq => (h3.1 q hq).1, fun q q' a1 a2 => h3.2 q q' a1 a2 (by rw [hz q (by omega), hz q' a2])⟩
theorem srt_ok {kd : Int32} {v : Nat → Int64} {n : Nat} (hn : n ≤ 4096) : (∀ q, q < n → srt 0 kd v n q < n) ∧ ∀ q q', q < q' → q' < n → lex2 (fun i => lnT kd (v i)) (srt 0 kd v n q) (srt 0 kd v n q') := by
  refine srl_ok 13 1 id (by omega) (by decide) ⟨fun q hq => ⟨hq, rfl⟩, fun q q' a1 a2 a3 => ?_⟩
  rw [Nat.div_one, Nat.div_one] at a3
  omega
/-- all places are there -/
theorem inj_surj : ∀ (n : Nat) (f : Nat → Nat), (∀ q, q < n → f q < n) → (∀ q q', q < q' → q' < n → f q ≠ f q') → ∀ y, y < n → ∃ q, q < n ∧ f q = y
  | 0, f, _, _, y, hy => absurd hy (by omega)
  | n + 1, f, h1, h2, y, hy => by
    have hz := h1 n (by omega)
    have hne : ∀ q, q < n → f q ≠ f n := fun q hq => h2 q n hq (by omega)
    have ih := inj_surj n (fun q => if f q = n then f n else f q) (fun q hq => by
      show (if f q = n then f n else f q) < n
      have := h1 q (by omega)
      have := hne q hq
      split <;> omega) (fun q q' a1 a2 => by
      show (if f q = n then f n else f q) ≠ (if f q' = n then f n else f q')
      have e1 := h2 q q' a1 (by omega)
      have e2 := hne q (by omega)
      have e3 := hne q' a2
      split <;> split <;> omega)
    by_cases c : y = f n
    · exact ⟨n, by omega, c.symm⟩
    · by_cases c2 : y = n
      · -- the one that is mapped to n
        have hfn : f n < n := by omega
        obtain ⟨q, q1, q2⟩ := ih (f n) hfn
        have q2 : (if f q = n then f n else f q) = f n := q2
        by_cases c3 : f q = n
        · exact ⟨q, by omega, by omega⟩
        · rw [if_neg c3] at q2
          exact absurd q2 (hne q q1)
      · obtain ⟨q, q1, q2⟩ := ih y (by omega)
        have q2 : (if f q = n then f n else f q) = y := q2
        by_cases c3 : f q = n
        · rw [if_pos c3] at q2
          exact absurd q2.symm c
        · rw [if_neg c3] at q2
          exact ⟨q, by omega, q2⟩
theorem srt_surj {kd : Int32} {v : Nat → Int64} {n : Nat} (hn : n ≤ 4096) : ∀ y, y < n → ∃ q, q < n ∧ srt 0 kd v n q = y := by
  obtain ⟨s1, s2⟩ := srt_ok (kd := kd) (v := v) hn
  refine inj_surj n _ s1 (fun q q' a1 a2 e => ?_)
  have := s2 q q' a1 a2
  rw [e] at this
  unfold lex2 at this
  omega
