/-! the sum -/
noncomputable def sm1 (s : Int64) (b : Int32) : Int64 := (j_lshl (s ^^^ (b &&& 255).toInt64) 27 ||| j_lushr (s ^^^ (b &&& 255).toInt64) 37) * (-7046029254386353131)
theorem sm1_d (s : Int64) (b : Int32) : (j_lshl (s ^^^ (b &&& 255).toInt64) 27 ||| j_lushr (s ^^^ (b &&& 255).toInt64) 37) * (-7046029254386353131) = sm1 s b := by rw [sm1]
def fldr (h : Int64 → Int32 → Int64) (f : Nat → Int32) : Nat → Nat → Int64 → Int64
  | 0, _, s => s
  | e + 1, i, s => fldr h f e (i + 1) (h s (f i))
theorem fldr_s (h : Int64 → Int32 → Int64) (f : Nat → Int32) (e i : Nat) (s : Int64) : fldr h f (e + 1) i s = fldr h f e (i + 1) (h s (f i)) := rfl
theorem fldr_0 (h : Int64 → Int32 → Int64) (f : Nat → Int32) (i : Nat) (s : Int64) : fldr h f 0 i s = s := rfl
theorem fldr_congr {h : Int64 → Int32 → Int64} {f g : Nat → Int32} : ∀ (e i : Nat) (s : Int64), (∀ x, i ≤ x → x < i + e → f x = g x) → fldr h f e i s = fldr h g e i s
  | 0, _, _, _ => rfl
  | e + 1, i, s, q => by
    rw [fldr_s, fldr_s, q i (Nat.le_refl _) (by omega)]
    exact fldr_congr e (i + 1) _ (fun x h1 h2 => q x (by omega) (by omega))
theorem E_sum_loop {M : Mem} {a cap to : Nat} (ht : m_tg M a = 1002) (hl : m_ln M a = cap) (hc : to ≤ cap) (hc2 : cap ≤ 60000) : ∀ (e N i : Nat) (s : Int64), i + e = to → e + 1 ≤ N → F_X14_sum_b5 N M a (iw (to : Int)) s (iw (i : Int)) = some (fldr sm1 (cI M a) e i s)
  | 0, N, i, s, h1, h2 => by
    obtain ⟨N, rfl⟩ : ∃ y, N = y + 1 := ⟨N - 1, by omega⟩
    show F_X14_sum_b5_st (F_X14_sum_b5 N) M _ _ _ _ = _
    unfold F_X14_sum_b5_st
    rw [if_neg (by rw [iw_le4 (by omega) (by omega)]; omega), fldr_0]
  | e + 1, N, i, s, h1, h2 => by
    obtain ⟨N, rfl⟩ : ∃ y, N = y + 1 := ⟨N - 1, by omega⟩
    show F_X14_sum_b5_st (F_X14_sum_b5 N) M _ _ _ _ = _
    unfold F_X14_sum_b5_st
    rw [if_pos (by rw [iw_le4 (by omega) (by omega)]; omega), ab_of (Or.inr (Or.inl ht)) hl (by omega) (by omega)]
    simp only [Option.bind_some]
    rw [iw_succ, sm1_d, fldr_s]
    exact E_sum_loop ht hl hc hc2 e N (i + 1) _ (by omega) (by omega)
theorem rot27 (x : Int64) : F_J20_rotateLeft x 27 = some (j_lshl x 27 ||| j_lushr x 37) := by
  unfold F_J20_rotateLeft
  have e : j_lushr x (-(27 : Int32)) = j_lushr x 37 := by
    unfold j_lushr
    rw [show ((-(27 : Int32)).toInt64.toUInt64 &&& Int64.toUInt64 63) = ((37 : Int32).toInt64.toUInt64 &&& Int64.toUInt64 63) by decide]
  rw [e]
theorem M_sum_loop {M : Mem} {fr : Int32} {to : Nat} (h : ST M) (hl : cI M 1068 1131 = iw (to : Int)) (hc : to ≤ 60000) : ∀ (e N i : Nat) (s : Int64), i + e = to → e + 1 ≤ N → F_X16_keep_b226 N M 1068 fr s (iw (i : Int)) = (F_X16_logNumber M 1068 (fldr sm1 (cI M 1329) e i s) 8).bind fun z24 => F_X16_keep_b279 xN z24 1068 fr fr
  | 0, N, i, s, h1, h2 => by
    obtain ⟨N, rfl⟩ : ∃ y, N = y + 1 := ⟨N - 1, by omega⟩
    show F_X16_keep_b226_st (F_X16_keep_b226 N) M _ _ _ _ = _
    unfold F_X16_keep_b226_st
    simp only [g1068_1131, h, hl, Option.bind_some]
    rw [if_neg (by rw [iw_le4 (by omega) (by omega)]; omega)]
    rw [v1068 h, fldr_0]
    rfl
  | e + 1, N, i, s, h1, h2 => by
    obtain ⟨N, rfl⟩ : ∃ y, N = y + 1 := ⟨N - 1, by omega⟩
    show F_X16_keep_b226_st (F_X16_keep_b226 N) M _ _ _ _ = _
    unfold F_X16_keep_b226_st
    simp only [g1068_1131, h, hl, Option.bind_some]
    rw [if_pos (by rw [iw_le4 (by omega) (by omega)]; omega)]
    simp only [g1068_1129, h, ab_of (Or.inr (Or.inl (t1329 h))) (l1329 h) (show i < 60000 by omega) (by decide), rot27, iw_succ, Option.bind_some]
    rw [sm1_d, fldr_s]
    exact M_sum_loop h hl hc e N (i + 1) _ (by omega) (by omega)
