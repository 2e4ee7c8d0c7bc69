/-! ===== rows for recursion and for throws that are caught in their own method ===== -/
def xR : Nat := 1500
theorem vgn {M : Mem} {b r : Nat} (h : vg M b 29 = some ()) : (Nat.ble 900 (r + 1000 * m_tg M b) && Nat.blt (r + 1000 * m_tg M b) 1000) = false := by
  unfold vg at h
  by_cases hc : x_isa (m_tg M b) 29 = true
  · have h2 := hc
    have h29 : 29 ≤ m_tg M b := by
      rcases Nat.lt_or_ge (m_tg M b) 29 with hlt | hge
      · have h3 : ∀ t, t < 29 → x_isa t 29 = false := by decide
        rw [h3 _ hlt] at h2
        cases h2
      · exact hge
    rw [Bool.and_eq_false_iff]
    right
    cases hb : Nat.blt (r + 1000 * m_tg M b) 1000 with
    | false => rfl
    | true =>
      have := Nat.ble_eq.mp hb
      omega
  · rw [if_neg hc] at h; cases h
section ROWS2
variable {τ : Type} {P : Nat → Option xM} {d : Nat} {K : xM} {cs : xC} {L : xL} {S : xS} {M : Mem} {o : τ → xO × Mem} {x : Option τ} {pc r1 r2 m : Nat} {A : List Value}
theorem Cl.none : Cl P d m A M o none := fun t h => by cases h
/-- athrow that is caught in the method -/
theorem r_athrowC {i : Instr} {a b : Nat} (hk : k1 i = 6) (hh : x_hd K pc = some b) (k : Sim P d K (x_bk K b) L [.ref a] M o x) : Sim P d K ((pc, i, r1, r2) :: cs) L (.ref a :: S) M o ((ie M a).bind fun _ => x) := by
  intro r hr
  unfold ie at hr
  by_cases ht : m_tg M a = 64
  · rw [if_pos ht] at hr
    obtain ⟨n, hn⟩ := k r hr
    refine x_go ⟨n, ?_⟩
    unfold x_step; dsimp only; rw [hk]; (try dsimp only)
    show (if m_tg M a = 64 then _ else none) = _
    rw [if_pos ht]
    unfold x_thr; rw [hh]; exact hn
  · rw [if_neg ht] at hr; cases hr
end ROWS2
