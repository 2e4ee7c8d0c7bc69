/-! ===== typed primitives, outcomes and rows for the generated functions ===== -/
def xN : Nat := 1099511627776
abbrev oI : Int32 × Mem → xO × Mem := fun z => (.inl (some (.int z.1)), z.2)
abbrev oJ : Int64 × Mem → xO × Mem := fun z => (.inl (some (.long z.1)), z.2)
abbrev oF : UInt32 × Mem → xO × Mem := fun z => (.inl (some (.float z.1)), z.2)
abbrev oD : UInt64 × Mem → xO × Mem := fun z => (.inl (some (.double z.1)), z.2)
abbrev oA : Nat × Mem → xO × Mem := fun z => (.inl (some (.ref z.1)), z.2)
abbrev oV : Mem → xO × Mem := fun z => (.inl none, z)
abbrev oi (M : Mem) : Int32 → xO × Mem := fun z => (.inl (some (.int z)), M)
abbrev oj (M : Mem) : Int64 → xO × Mem := fun z => (.inl (some (.long z)), M)
abbrev of (M : Mem) : UInt32 → xO × Mem := fun z => (.inl (some (.float z)), M)
abbrev od (M : Mem) : UInt64 → xO × Mem := fun z => (.inl (some (.double z)), M)
abbrev oa (M : Mem) : Nat → xO × Mem := fun z => (.inl (some (.ref z)), M)
abbrev ov (M : Mem) : Unit → xO × Mem := fun _ => (.inl none, M)
/-- with a throw -/
def oT {σ : Type} (o : σ → xO × Mem) (z : σ ⊕ (Nat × Mem)) : xO × Mem := match z with
  | .inl z => o z
  | .inr z => (.inr z.1, z.2)
/-- a thrower called where nothing catches -/
def tb {α γ : Type} (f : Option (α ⊕ (Nat × Mem))) (k : α → Option (γ ⊕ (Nat × Mem))) : Option (γ ⊕ (Nat × Mem)) := f.bind fun t => match t with
  | .inl z => k z
  | .inr z => some (.inr z)
/-- a thrower called under a handler -/
def tc {α γ : Type} (f : Option (α ⊕ (Nat × Mem))) (k : α → Option γ) (h : Nat × Mem → Option γ) : Option γ := f.bind fun t => match t with
  | .inl z => k z
  | .inr z => h z
section ROWS
variable {τ σ : Type} {P : Nat → Option xM} {d : Nat} {K : xM} {cs : xC} {L L' : xL} {S S' : xS} {M M' : Mem} {o : τ → xO × Mem} {x y : Option τ} {pc r1 r2 m : Nat} {A : List Value}
/-! straight rows (printed by a program) -/
theorem r_iadd {u v : Int32} (k : Sim P d K cs L (.int (u + v) :: S) M o x) : Sim P d K ((pc, .iadd, r1, r2) :: cs) L (.int v :: .int u :: S) M o x := r_st rfl rfl k
theorem r_isub {u v : Int32} (k : Sim P d K cs L (.int (u - v) :: S) M o x) : Sim P d K ((pc, .isub, r1, r2) :: cs) L (.int v :: .int u :: S) M o x := r_st rfl rfl k
theorem r_imul {u v : Int32} (k : Sim P d K cs L (.int (u * v) :: S) M o x) : Sim P d K ((pc, .imul, r1, r2) :: cs) L (.int v :: .int u :: S) M o x := r_st rfl rfl k
theorem r_iand {u v : Int32} (k : Sim P d K cs L (.int (u &&& v) :: S) M o x) : Sim P d K ((pc, .iand, r1, r2) :: cs) L (.int v :: .int u :: S) M o x := r_st rfl rfl k
theorem r_ior {u v : Int32} (k : Sim P d K cs L (.int (u ||| v) :: S) M o x) : Sim P d K ((pc, .ior, r1, r2) :: cs) L (.int v :: .int u :: S) M o x := r_st rfl rfl k
theorem r_ixor {u v : Int32} (k : Sim P d K cs L (.int (u ^^^ v) :: S) M o x) : Sim P d K ((pc, .ixor, r1, r2) :: cs) L (.int v :: .int u :: S) M o x := r_st rfl rfl k
theorem r_ishl {u v : Int32} (k : Sim P d K cs L (.int (j_ishl u v) :: S) M o x) : Sim P d K ((pc, .ishl, r1, r2) :: cs) L (.int v :: .int u :: S) M o x := r_st rfl rfl k
theorem r_ishr {u v : Int32} (k : Sim P d K cs L (.int (j_ishr u v) :: S) M o x) : Sim P d K ((pc, .ishr, r1, r2) :: cs) L (.int v :: .int u :: S) M o x := r_st rfl rfl k
theorem r_iushr {u v : Int32} (k : Sim P d K cs L (.int (j_iushr u v) :: S) M o x) : Sim P d K ((pc, .iushr, r1, r2) :: cs) L (.int v :: .int u :: S) M o x := r_st rfl rfl k
theorem r_ladd {u v : Int64} (k : Sim P d K cs L (.long (u + v) :: S) M o x) : Sim P d K ((pc, .ladd, r1, r2) :: cs) L (.long v :: .long u :: S) M o x := r_st rfl rfl k
theorem r_lsub {u v : Int64} (k : Sim P d K cs L (.long (u - v) :: S) M o x) : Sim P d K ((pc, .lsub, r1, r2) :: cs) L (.long v :: .long u :: S) M o x := r_st rfl rfl k
theorem r_lmul {u v : Int64} (k : Sim P d K cs L (.long (u * v) :: S) M o x) : Sim P d K ((pc, .lmul, r1, r2) :: cs) L (.long v :: .long u :: S) M o x := r_st rfl rfl k
theorem r_land {u v : Int64} (k : Sim P d K cs L (.long (u &&& v) :: S) M o x) : Sim P d K ((pc, .land, r1, r2) :: cs) L (.long v :: .long u :: S) M o x := r_st rfl rfl k
theorem r_lor {u v : Int64} (k : Sim P d K cs L (.long (u ||| v) :: S) M o x) : Sim P d K ((pc, .lor, r1, r2) :: cs) L (.long v :: .long u :: S) M o x := r_st rfl rfl k
theorem r_lxor {u v : Int64} (k : Sim P d K cs L (.long (u ^^^ v) :: S) M o x) : Sim P d K ((pc, .lxor, r1, r2) :: cs) L (.long v :: .long u :: S) M o x := r_st rfl rfl k
theorem r_lshl {u : Int64} {v : Int32} (k : Sim P d K cs L (.long (j_lshl u v) :: S) M o x) : Sim P d K ((pc, .lshl, r1, r2) :: cs) L (.int v :: .long u :: S) M o x := r_st rfl rfl k
theorem r_lshr {u : Int64} {v : Int32} (k : Sim P d K cs L (.long (j_lshr u v) :: S) M o x) : Sim P d K ((pc, .lshr, r1, r2) :: cs) L (.int v :: .long u :: S) M o x := r_st rfl rfl k
theorem r_lushr {u : Int64} {v : Int32} (k : Sim P d K cs L (.long (j_lushr u v) :: S) M o x) : Sim P d K ((pc, .lushr, r1, r2) :: cs) L (.int v :: .long u :: S) M o x := r_st rfl rfl k
theorem r_ineg {u : Int32} (k : Sim P d K cs L (.int (-u) :: S) M o x) : Sim P d K ((pc, .ineg, r1, r2) :: cs) L (.int u :: S) M o x := r_st rfl rfl k
theorem r_lneg {u : Int64} (k : Sim P d K cs L (.long (-u) :: S) M o x) : Sim P d K ((pc, .lneg, r1, r2) :: cs) L (.long u :: S) M o x := r_st rfl rfl k
theorem r_lcmp {u v : Int64} (k : Sim P d K cs L (.int (lg_cmp u v) :: S) M o x) : Sim P d K ((pc, .lcmp, r1, r2) :: cs) L (.long v :: .long u :: S) M o x := r_st rfl rfl k
theorem r_i2l {u : Int32} (k : Sim P d K cs L (.long u.toInt64 :: S) M o x) : Sim P d K ((pc, .i2l, r1, r2) :: cs) L (.int u :: S) M o x := r_st rfl rfl k
theorem r_l2i {u : Int64} (k : Sim P d K cs L (.int u.toInt32 :: S) M o x) : Sim P d K ((pc, .l2i, r1, r2) :: cs) L (.long u :: S) M o x := r_st rfl rfl k
theorem r_i2b {u : Int32} (k : Sim P d K cs L (.int (j_i2b u) :: S) M o x) : Sim P d K ((pc, .i2b, r1, r2) :: cs) L (.int u :: S) M o x := r_st rfl rfl k
theorem r_i2s {u : Int32} (k : Sim P d K cs L (.int (j_i2s u) :: S) M o x) : Sim P d K ((pc, .i2s, r1, r2) :: cs) L (.int u :: S) M o x := r_st rfl rfl k
theorem r_i2c {u : Int32} (k : Sim P d K cs L (.int (j_i2c u) :: S) M o x) : Sim P d K ((pc, .i2c, r1, r2) :: cs) L (.int u :: S) M o x := r_st rfl rfl k
theorem r_i2d {u : Int32} (k : Sim P d K cs L (.double (FP.i2d u) :: S) M o x) : Sim P d K ((pc, .i2d, r1, r2) :: cs) L (.int u :: S) M o x := r_st rfl rfl k
theorem r_l2d {u : Int64} (k : Sim P d K cs L (.double (FP.l2d u) :: S) M o x) : Sim P d K ((pc, .l2d, r1, r2) :: cs) L (.long u :: S) M o x := r_st rfl rfl k
theorem r_l2f {u : Int64} (k : Sim P d K cs L (.float (FP.l2f u) :: S) M o x) : Sim P d K ((pc, .l2f, r1, r2) :: cs) L (.long u :: S) M o x := r_st rfl rfl k
theorem r_d2l {u : UInt64} (k : Sim P d K cs L (.long (FP.d2l u) :: S) M o x) : Sim P d K ((pc, .d2l, r1, r2) :: cs) L (.double u :: S) M o x := r_st rfl rfl k
theorem r_d2i {u : UInt64} (k : Sim P d K cs L (.int (FP.d2i u) :: S) M o x) : Sim P d K ((pc, .d2i, r1, r2) :: cs) L (.double u :: S) M o x := r_st rfl rfl k
theorem r_dneg {u : UInt64} (k : Sim P d K cs L (.double (FP.dneg u) :: S) M o x) : Sim P d K ((pc, .dneg, r1, r2) :: cs) L (.double u :: S) M o x := r_st rfl rfl k
theorem r_dcmp {u v : UInt64} {op : CmpOp} (k : Sim P d K cs L (.int (j_dcmp u v op) :: S) M o x) : Sim P d K ((pc, .dcmp op, r1, r2) :: cs) L (.double v :: .double u :: S) M o x := r_st rfl rfl k
theorem r_null  (k : Sim P d K cs L (.ref 0 :: S) M o x) : Sim P d K ((pc, .aconst_null, r1, r2) :: cs) L (S) M o x := r_st rfl rfl k
theorem r_ldcR {n : Nat} (k : Sim P d K cs L (.ref r1 :: S) M o x) : Sim P d K ((pc, .ldc n, r1, 1) :: cs) L S M o x := r_st rfl rfl k
theorem r_ldcwR {n : Nat} (k : Sim P d K cs L (.ref r1 :: S) M o x) : Sim P d K ((pc, .ldc_w n, r1, 1) :: cs) L S M o x := r_st rfl rfl k
theorem r_getsR {n : Nat} (k : Sim P d K cs L (.ref r1 :: S) M o x) : Sim P d K ((pc, .getstatic n, r1, 1) :: cs) L S M o x := r_st rfl rfl k
theorem r_iload {j : Nat} {v : Int32} (h : xg L j = some (.int v)) (k : Sim P d K cs L (.int v :: S) M o x) : Sim P d K ((pc, .iload j, r1, r2) :: cs) L S M o x := r_st rfl (by show x_iload L S j = _; unfold x_iload; rw [h]) k
theorem r_iload_n {j : Fin 4} {v : Int32} (h : xg L j = some (.int v)) (k : Sim P d K cs L (.int v :: S) M o x) : Sim P d K ((pc, .iload_n j, r1, r2) :: cs) L S M o x := r_st rfl (by show x_iload L S j = _; unfold x_iload; rw [h]) k
theorem r_lload {j : Nat} {v : Int64} (h : xg L j = some (.long v)) (k : Sim P d K cs L (.long v :: S) M o x) : Sim P d K ((pc, .lload j, r1, r2) :: cs) L S M o x := r_st rfl (by show x_lload L S j = _; unfold x_lload; rw [h]) k
theorem r_lload_n {j : Fin 4} {v : Int64} (h : xg L j = some (.long v)) (k : Sim P d K cs L (.long v :: S) M o x) : Sim P d K ((pc, .lload_n j, r1, r2) :: cs) L S M o x := r_st rfl (by show x_lload L S j = _; unfold x_lload; rw [h]) k
theorem r_fload {j : Nat} {v : UInt32} (h : xg L j = some (.float v)) (k : Sim P d K cs L (.float v :: S) M o x) : Sim P d K ((pc, .fload j, r1, r2) :: cs) L S M o x := r_st rfl (by show x_fload L S j = _; unfold x_fload; rw [h]) k
theorem r_dload {j : Nat} {v : UInt64} (h : xg L j = some (.double v)) (k : Sim P d K cs L (.double v :: S) M o x) : Sim P d K ((pc, .dload j, r1, r2) :: cs) L S M o x := r_st rfl (by show x_dload L S j = _; unfold x_dload; rw [h]) k
theorem r_dload_n {j : Fin 4} {v : UInt64} (h : xg L j = some (.double v)) (k : Sim P d K cs L (.double v :: S) M o x) : Sim P d K ((pc, .dload_n j, r1, r2) :: cs) L S M o x := r_st rfl (by show x_dload L S j = _; unfold x_dload; rw [h]) k
theorem r_aload {j : Nat} {v : Nat} (h : xg L j = some (.ref v)) (k : Sim P d K cs L (.ref v :: S) M o x) : Sim P d K ((pc, .aload j, r1, r2) :: cs) L S M o x := r_st rfl (by show x_aload L S j = _; unfold x_aload; rw [h]) k
theorem r_aload_n {j : Fin 4} {v : Nat} (h : xg L j = some (.ref v)) (k : Sim P d K cs L (.ref v :: S) M o x) : Sim P d K ((pc, .aload_n j, r1, r2) :: cs) L S M o x := r_st rfl (by show x_aload L S j = _; unfold x_aload; rw [h]) k
theorem r_idiv {u v : Int32} (k : Sim P d K cs L (.int (u / v) :: S) M o x) : Sim P d K ((pc, .idiv, r1, r2) :: cs) L (.int v :: .int u :: S) M o (if v = 0 then none else x) := by
  have h := r_gd (P := P) (d := d) (K := K) (cs := cs) (L := L) (M := M) (o := o) (x := x) (pc := pc) (r1 := r1) (r2 := r2) (i := .idiv) (S := .int v :: .int u :: S) rfl rfl k
  by_cases hv : v = 0 <;> simpa [hv] using h
theorem r_irem {u v : Int32} (k : Sim P d K cs L (.int (j_irem u v) :: S) M o x) : Sim P d K ((pc, .irem, r1, r2) :: cs) L (.int v :: .int u :: S) M o (if v = 0 then none else x) := by
  have h := r_gd (P := P) (d := d) (K := K) (cs := cs) (L := L) (M := M) (o := o) (x := x) (pc := pc) (r1 := r1) (r2 := r2) (i := .irem) (S := .int v :: .int u :: S) rfl rfl k
  by_cases hv : v = 0 <;> simpa [hv] using h
theorem r_ldiv {u v : Int64} (k : Sim P d K cs L (.long (u / v) :: S) M o x) : Sim P d K ((pc, .ldiv, r1, r2) :: cs) L (.long v :: .long u :: S) M o (if v = 0 then none else x) := by
  have h := r_gd (P := P) (d := d) (K := K) (cs := cs) (L := L) (M := M) (o := o) (x := x) (pc := pc) (r1 := r1) (r2 := r2) (i := .ldiv) (S := .long v :: .long u :: S) rfl rfl k
  by_cases hv : v = 0 <;> simpa [hv] using h
theorem r_lrem {u v : Int64} (k : Sim P d K cs L (.long (j_lrem u v) :: S) M o x) : Sim P d K ((pc, .lrem, r1, r2) :: cs) L (.long v :: .long u :: S) M o (if v = 0 then none else x) := by
  have h := r_gd (P := P) (d := d) (K := K) (cs := cs) (L := L) (M := M) (o := o) (x := x) (pc := pc) (r1 := r1) (r2 := r2) (i := .lrem) (S := .long v :: .long u :: S) rfl rfl k
  by_cases hv : v = 0 <;> simpa [hv] using h
theorem r_dadd {u v : UInt64} (k : Sim P d K cs L (.double (FP.dadd u v) :: S) M o x) : Sim P d K ((pc, .dadd, r1, r2) :: cs) L (.double v :: .double u :: S) M o (if x_n64 (FP.dadd u v) = true then x else none) := r_gd rfl rfl k
theorem r_dsub {u v : UInt64} (k : Sim P d K cs L (.double (FP.dsub u v) :: S) M o x) : Sim P d K ((pc, .dsub, r1, r2) :: cs) L (.double v :: .double u :: S) M o (if x_n64 (FP.dsub u v) = true then x else none) := r_gd rfl rfl k
theorem r_dmul {u v : UInt64} (k : Sim P d K cs L (.double (FP.dmul u v) :: S) M o x) : Sim P d K ((pc, .dmul, r1, r2) :: cs) L (.double v :: .double u :: S) M o (if x_n64 (FP.dmul u v) = true then x else none) := r_gd rfl rfl k
theorem r_ddiv {u v : UInt64} (k : Sim P d K cs L (.double (FP.ddiv u v) :: S) M o x) : Sim P d K ((pc, .ddiv, r1, r2) :: cs) L (.double v :: .double u :: S) M o (if x_n64 (FP.ddiv u v) = true then x else none) := r_gd rfl rfl k
theorem r_drem {u v : UInt64} (k : Sim P d K cs L (.double (FP.drem u v) :: S) M o x) : Sim P d K ((pc, .drem, r1, r2) :: cs) L (.double v :: .double u :: S) M o (if x_n64 (FP.drem u v) = true then x else none) := r_gd rfl rfl k
theorem r_fadd {u v : UInt32} (k : Sim P d K cs L (.float (FP.fadd u v) :: S) M o x) : Sim P d K ((pc, .fadd, r1, r2) :: cs) L (.float v :: .float u :: S) M o (if x_n32 (FP.fadd u v) = true then x else none) := r_gd rfl rfl k
theorem r_fsub {u v : UInt32} (k : Sim P d K cs L (.float (FP.fsub u v) :: S) M o x) : Sim P d K ((pc, .fsub, r1, r2) :: cs) L (.float v :: .float u :: S) M o (if x_n32 (FP.fsub u v) = true then x else none) := r_gd rfl rfl k
theorem r_fmul {u v : UInt32} (k : Sim P d K cs L (.float (FP.fmul u v) :: S) M o x) : Sim P d K ((pc, .fmul, r1, r2) :: cs) L (.float v :: .float u :: S) M o (if x_n32 (FP.fmul u v) = true then x else none) := r_gd rfl rfl k
theorem r_fdiv {u v : UInt32} (k : Sim P d K cs L (.float (FP.fdiv u v) :: S) M o x) : Sim P d K ((pc, .fdiv, r1, r2) :: cs) L (.float v :: .float u :: S) M o (if x_n32 (FP.fdiv u v) = true then x else none) := r_gd rfl rfl k
theorem r_frem {u v : UInt32} (k : Sim P d K cs L (.float (FP.frem u v) :: S) M o x) : Sim P d K ((pc, .frem, r1, r2) :: cs) L (.float v :: .float u :: S) M o (if x_n32 (FP.frem u v) = true then x else none) := r_gd rfl rfl k
theorem r_f2d {u : UInt32} (k : Sim P d K cs L (.double (FP.f2d u) :: S) M o x) : Sim P d K ((pc, .f2d, r1, r2) :: cs) L (.float u :: S) M o (if x_n64 (FP.f2d u) = true then x else none) := r_gd rfl rfl k
theorem r_d2f {u : UInt64} (k : Sim P d K cs L (.float (FP.d2f u) :: S) M o x) : Sim P d K ((pc, .d2f, r1, r2) :: cs) L (.double u :: S) M o (if x_n32 (FP.d2f u) = true then x else none) := r_gd rfl rfl k
theorem r_goto {n : Int} (k : Sim P d K (x_bk K r1) L S M o x) : Sim P d K ((pc, .goto n, r1, r2) :: cs) L S M o x := r_jm rfl rfl k
theorem r_nop (k : Sim P d K (x_bk K r1) L S M o x) : Sim P d K ((pc, .nop, r1, r2) :: cs) L S M o x := r_jm rfl rfl k
theorem r_if_eq {u : Int32} {n : Int} (kt : Sim P d K (x_bk K r1) L S M o x) (kf : Sim P d K (x_bk K r2) L S M o y) : Sim P d K ((pc, .ifCond .eq n, r1, r2) :: cs) L (.int u :: S) M o (if u = 0 then x else y) := r_if rfl rfl kt kf
theorem r_if_ne {u : Int32} {n : Int} (kt : Sim P d K (x_bk K r2) L S M o x) (kf : Sim P d K (x_bk K r1) L S M o y) : Sim P d K ((pc, .ifCond .ne n, r1, r2) :: cs) L (.int u :: S) M o (if u = 0 then x else y) := r_if rfl rfl kt kf
theorem r_if_lt {u : Int32} {n : Int} (kt : Sim P d K (x_bk K r1) L S M o x) (kf : Sim P d K (x_bk K r2) L S M o y) : Sim P d K ((pc, .ifCond .lt n, r1, r2) :: cs) L (.int u :: S) M o (if u < 0 then x else y) := r_if rfl rfl kt kf
theorem r_if_ge {u : Int32} {n : Int} (kt : Sim P d K (x_bk K r2) L S M o x) (kf : Sim P d K (x_bk K r1) L S M o y) : Sim P d K ((pc, .ifCond .ge n, r1, r2) :: cs) L (.int u :: S) M o (if u < 0 then x else y) := r_if rfl rfl kt kf
theorem r_if_gt {u : Int32} {n : Int} (kt : Sim P d K (x_bk K r1) L S M o x) (kf : Sim P d K (x_bk K r2) L S M o y) : Sim P d K ((pc, .ifCond .gt n, r1, r2) :: cs) L (.int u :: S) M o (if 0 < u then x else y) := r_if rfl rfl kt kf
theorem r_if_le {u : Int32} {n : Int} (kt : Sim P d K (x_bk K r2) L S M o x) (kf : Sim P d K (x_bk K r1) L S M o y) : Sim P d K ((pc, .ifCond .le n, r1, r2) :: cs) L (.int u :: S) M o (if 0 < u then x else y) := r_if rfl rfl kt kf
theorem r_ic_eq {u v : Int32} {n : Int} (kt : Sim P d K (x_bk K r1) L S M o x) (kf : Sim P d K (x_bk K r2) L S M o y) : Sim P d K ((pc, .if_icmp .eq n, r1, r2) :: cs) L (.int v :: .int u :: S) M o (if u = v then x else y) := r_if rfl rfl kt kf
theorem r_ic_ne {u v : Int32} {n : Int} (kt : Sim P d K (x_bk K r2) L S M o x) (kf : Sim P d K (x_bk K r1) L S M o y) : Sim P d K ((pc, .if_icmp .ne n, r1, r2) :: cs) L (.int v :: .int u :: S) M o (if u = v then x else y) := r_if rfl rfl kt kf
theorem r_ic_lt {u v : Int32} {n : Int} (kt : Sim P d K (x_bk K r1) L S M o x) (kf : Sim P d K (x_bk K r2) L S M o y) : Sim P d K ((pc, .if_icmp .lt n, r1, r2) :: cs) L (.int v :: .int u :: S) M o (if u < v then x else y) := r_if rfl rfl kt kf
theorem r_ic_ge {u v : Int32} {n : Int} (kt : Sim P d K (x_bk K r2) L S M o x) (kf : Sim P d K (x_bk K r1) L S M o y) : Sim P d K ((pc, .if_icmp .ge n, r1, r2) :: cs) L (.int v :: .int u :: S) M o (if u < v then x else y) := r_if rfl rfl kt kf
theorem r_ic_gt {u v : Int32} {n : Int} (kt : Sim P d K (x_bk K r1) L S M o x) (kf : Sim P d K (x_bk K r2) L S M o y) : Sim P d K ((pc, .if_icmp .gt n, r1, r2) :: cs) L (.int v :: .int u :: S) M o (if v < u then x else y) := r_if rfl rfl kt kf
theorem r_ic_le {u v : Int32} {n : Int} (kt : Sim P d K (x_bk K r2) L S M o x) (kf : Sim P d K (x_bk K r1) L S M o y) : Sim P d K ((pc, .if_icmp .le n, r1, r2) :: cs) L (.int v :: .int u :: S) M o (if v < u then x else y) := r_if rfl rfl kt kf
theorem r_ac_eq {u v : Nat} {n : Int} (kt : Sim P d K (x_bk K r1) L S M o x) (kf : Sim P d K (x_bk K r2) L S M o y) : Sim P d K ((pc, .if_acmp .eq n, r1, r2) :: cs) L (.ref v :: .ref u :: S) M o (if ac u v = true then (if u = v then x else y) else none) := by
  by_cases h : ac u v = true
  · rw [if_pos h]
    exact r_if (c := u = v) rfl (if_pos h) kt kf
  · rw [if_neg h]
    exact Sim.none
theorem r_ac_ne {u v : Nat} {n : Int} (kt : Sim P d K (x_bk K r2) L S M o x) (kf : Sim P d K (x_bk K r1) L S M o y) : Sim P d K ((pc, .if_acmp .ne n, r1, r2) :: cs) L (.ref v :: .ref u :: S) M o (if ac u v = true then (if u = v then x else y) else none) := by
  by_cases h : ac u v = true
  · rw [if_pos h]
    exact r_if (c := u = v) rfl (if_pos h) kt kf
  · rw [if_neg h]
    exact Sim.none
theorem r_ifnull {u : Nat} {n : Int} (kt : Sim P d K (x_bk K r1) L S M o x) (kf : Sim P d K (x_bk K r2) L S M o y) : Sim P d K ((pc, .ifnull n, r1, r2) :: cs) L (.ref u :: S) M o (if u = 6 then none else if u = 0 then x else y) := by
  by_cases h : u = 6
  · rw [if_pos h]
    exact Sim.none
  · rw [if_neg h]
    exact r_if (c := u = 0) rfl (if_neg h) kt kf
theorem r_ifnonnull {u : Nat} {n : Int} (kt : Sim P d K (x_bk K r2) L S M o x) (kf : Sim P d K (x_bk K r1) L S M o y) : Sim P d K ((pc, .ifnonnull n, r1, r2) :: cs) L (.ref u :: S) M o (if u = 6 then none else if u = 0 then x else y) := by
  by_cases h : u = 6
  · rw [if_pos h]
    exact Sim.none
  · rw [if_neg h]
    exact r_if (c := u = 0) rfl (if_neg h) kt kf
/-! constants -/
theorem r_iconst {n : Int} {v : Int32} (h : Int32.ofInt n = v) (k : Sim P d K cs L (.int v :: S) M o x) : Sim P d K ((pc, .iconst n, r1, r2) :: cs) L S M o x := r_st rfl (by rw [← h]; rfl) k
theorem r_bipush {n : Int} {v : Int32} (h : (Int8.ofInt n).toInt32 = v) (k : Sim P d K cs L (.int v :: S) M o x) : Sim P d K ((pc, .bipush n, r1, r2) :: cs) L S M o x := r_st rfl (by rw [← h]; rfl) k
theorem r_sipush {n : Int} {v : Int32} (h : (Int16.ofInt n).toInt32 = v) (k : Sim P d K cs L (.int v :: S) M o x) : Sim P d K ((pc, .sipush n, r1, r2) :: cs) L S M o x := r_st rfl (by rw [← h]; rfl) k
theorem r_lconst {n : Fin 2} {v : Int64} (h : Int64.ofNat (n : Nat) = v) (k : Sim P d K cs L (.long v :: S) M o x) : Sim P d K ((pc, .lconst n, r1, r2) :: cs) L S M o x := r_st rfl (by rw [← h]; rfl) k
theorem r_dconst {n : Fin 2} {v : UInt64} (h : (if n = 0 then FP.dconst0 else FP.dconst1) = v) (k : Sim P d K cs L (.double v :: S) M o x) : Sim P d K ((pc, .dconst n, r1, r2) :: cs) L S M o x := r_st rfl (by rw [← h]; rfl) k
theorem r_ldcI {n : Nat} {v : Int32} (h : Int32.ofNat r1 = v) (k : Sim P d K cs L (.int v :: S) M o x) : Sim P d K ((pc, .ldc n, r1, 0) :: cs) L S M o x := r_st rfl (by rw [← h]; rfl) k
theorem r_ldcwI {n : Nat} {v : Int32} (h : Int32.ofNat r1 = v) (k : Sim P d K cs L (.int v :: S) M o x) : Sim P d K ((pc, .ldc_w n, r1, 0) :: cs) L S M o x := r_st rfl (by rw [← h]; rfl) k
theorem r_getsI {n : Nat} {v : Int32} (h : Int32.ofNat r1 = v) (k : Sim P d K cs L (.int v :: S) M o x) : Sim P d K ((pc, .getstatic n, r1, 0) :: cs) L S M o x := r_st rfl (by rw [← h]; rfl) k
theorem r_ldcJ {n : Nat} {v : Int64} (h : Int64.ofNat r1 = v) (k : Sim P d K cs L (.long v :: S) M o x) : Sim P d K ((pc, .ldc2_w n, r1, 0) :: cs) L S M o x := r_st rfl (by rw [← h]; rfl) k
theorem r_ldcD {n : Nat} {v : UInt64} (h : UInt64.ofNat r1 = v) (k : Sim P d K cs L (.double v :: S) M o x) : Sim P d K ((pc, .ldc2_w n, r1, 1) :: cs) L S M o x := r_st rfl (by rw [← h]; rfl) k
theorem r_iinc {j : Nat} {n : Int} {v w : Int32} (h : Int32.ofInt n = v) (hg : xg L j = some (.int w)) (hl : xs1 L j (.int (w + v)) = L') (hj : Nat.blt j L.length = true) (k : Sim P d K cs L' S M o x) : Sim P d K ((pc, .iinc j n, r1, r2) :: cs) L S M o x := by
  refine r_st rfl ?_ k
  subst h; subst hl
  show (match xg L j with
    | some (Value.int x) => if j < L.length then some (xs1 L j (Value.int (x + Int32.ofInt n)), S) else none
    | _ => none) = _
  rw [hg]
  show (if j < L.length then _ else none) = _
  rw [if_pos (by simpa using hj)]
theorem r_istore {j : Nat} {w : Int32} (hl : xs1 L j (.int w) = L') (hj : Nat.blt j L.length = true) (k : Sim P d K cs L' S M o x) : Sim P d K ((pc, .istore j, r1, r2) :: cs) L (.int w :: S) M o x := by
  subst hl
  refine r_st rfl ?_ k
  show (if j < L.length then _ else none) = _
  rw [if_pos (by simpa using hj)]
theorem r_istore_n {j : Fin 4} {w : Int32} (hl : xs1 L j (.int w) = L') (hj : Nat.blt j L.length = true) (k : Sim P d K cs L' S M o x) : Sim P d K ((pc, .istore_n j, r1, r2) :: cs) L (.int w :: S) M o x := by
  subst hl
  refine r_st rfl ?_ k
  show (if (j : Nat) < L.length then _ else none) = _
  rw [if_pos (by simpa using hj)]
theorem r_astore {j : Nat} {w : Nat} (hl : xs1 L j (.ref w) = L') (hj : Nat.blt j L.length = true) (k : Sim P d K cs L' S M o x) : Sim P d K ((pc, .astore j, r1, r2) :: cs) L (.ref w :: S) M o x := by
  subst hl
  refine r_st rfl ?_ k
  show (if j < L.length then _ else none) = _
  rw [if_pos (by simpa using hj)]
theorem r_astore_n {j : Fin 4} {w : Nat} (hl : xs1 L j (.ref w) = L') (hj : Nat.blt j L.length = true) (k : Sim P d K cs L' S M o x) : Sim P d K ((pc, .astore_n j, r1, r2) :: cs) L (.ref w :: S) M o x := by
  subst hl
  refine r_st rfl ?_ k
  show (if (j : Nat) < L.length then _ else none) = _
  rw [if_pos (by simpa using hj)]
theorem r_fstore {j : Nat} {w : UInt32} (hl : xs1 L j (.float w) = L') (hj : Nat.blt j L.length = true) (k : Sim P d K cs L' S M o x) : Sim P d K ((pc, .fstore j, r1, r2) :: cs) L (.float w :: S) M o x := by
  subst hl
  refine r_st rfl ?_ k
  show (if j < L.length then _ else none) = _
  rw [if_pos (by simpa using hj)]
theorem r_lstore {j : Nat} {w : Int64} (hl : xs2 L j (.long w) = L') (hj : Nat.blt (j + 1) L.length = true) (k : Sim P d K cs L' S M o x) : Sim P d K ((pc, .lstore j, r1, r2) :: cs) L (.long w :: S) M o x := by
  subst hl
  refine r_st rfl ?_ k
  show (if j + 1 < L.length then _ else none) = _
  rw [if_pos (by simpa using hj)]
theorem r_lstore_n {j : Fin 4} {w : Int64} (hl : xs2 L j (.long w) = L') (hj : Nat.blt (j + 1) L.length = true) (k : Sim P d K cs L' S M o x) : Sim P d K ((pc, .lstore_n j, r1, r2) :: cs) L (.long w :: S) M o x := by
  subst hl
  refine r_st rfl ?_ k
  show (if (j : Nat) + 1 < L.length then _ else none) = _
  rw [if_pos (by simpa using hj)]
theorem r_dstore {j : Nat} {w : UInt64} (hl : xs2 L j (.double w) = L') (hj : Nat.blt (j + 1) L.length = true) (k : Sim P d K cs L' S M o x) : Sim P d K ((pc, .dstore j, r1, r2) :: cs) L (.double w :: S) M o x := by
  subst hl
  refine r_st rfl ?_ k
  show (if j + 1 < L.length then _ else none) = _
  rw [if_pos (by simpa using hj)]
theorem r_dstore_n {j : Fin 4} {w : UInt64} (hl : xs2 L j (.double w) = L') (hj : Nat.blt (j + 1) L.length = true) (k : Sim P d K cs L' S M o x) : Sim P d K ((pc, .dstore_n j, r1, r2) :: cs) L (.double w :: S) M o x := by
  subst hl
  refine r_st rfl ?_ k
  show (if (j : Nat) + 1 < L.length then _ else none) = _
  rw [if_pos (by simpa using hj)]
theorem r_dup {v : Value} (h : v.category = 1) (k : Sim P d K cs L (v :: v :: S) M o x) : Sim P d K ((pc, .dup, r1, r2) :: cs) L (v :: S) M o x := r_st rfl (if_pos h) k
theorem r_pop {v : Value} (h : v.category = 1) (k : Sim P d K cs L S M o x) : Sim P d K ((pc, .pop, r1, r2) :: cs) L (v :: S) M o x := r_st rfl (if_pos h) k
theorem r_dup_x1 {v w : Value} (h : v.category = 1) (h2 : w.category = 1) (k : Sim P d K cs L (v :: w :: v :: S) M o x) : Sim P d K ((pc, .dup_x1, r1, r2) :: cs) L (v :: w :: S) M o x := r_st rfl (if_pos ⟨h, h2⟩) k
theorem r_dup2 {v w : Value} (h : v.category = 1) (h2 : w.category = 1) (k : Sim P d K cs L (v :: w :: v :: w :: S) M o x) : Sim P d K ((pc, .dup2, r1, r2) :: cs) L (v :: w :: S) M o x := r_st rfl (if_pos ⟨h, h2⟩) k
/-! memory -/
theorem gi_gl {M : Mem} {a g : Nat} {v : Int64} (h : gl M a g = some v) : gi M a g = none := by
  unfold gl at h; unfold gi
  by_cases hc : x_fj (m_tg M a) g = true
  · refine if_neg (fun h2 => ?_)
    unfold x_fj at hc; unfold x_fi at h2
    simp only [Bool.and_eq_true, beq_iff_eq] at hc h2
    rw [hc.2] at h2
    exact absurd h2.2 (by decide)
  · rw [if_neg hc] at h; cases h
theorem gi_gr {M : Mem} {a g : Nat} {v : Nat} (h : gr M a g = some v) : gi M a g = none ∧ gl M a g = none := by
  unfold gr at h; unfold gi gl
  by_cases hc : x_fr (m_tg M a) g = true
  · constructor
    · refine if_neg (fun h2 => ?_)
      unfold x_fr at hc; unfold x_fi at h2
      simp only [Bool.and_eq_true, beq_iff_eq] at hc h2
      rw [hc.2] at h2
      exact absurd h2.2 (by decide)
    · refine if_neg (fun h2 => ?_)
      unfold x_fr at hc; unfold x_fj at h2
      simp only [Bool.and_eq_true, beq_iff_eq] at hc h2
      rw [hc.2] at h2
      exact absurd h2.2 (by decide)
  · rw [if_neg hc] at h; cases h
theorem mg_i {n a : Nat} {v : Int32} (h : gi M a r1 = some v) : me1 (.getfield n) r1 (.ref a :: S) M = some (.int v :: S, M) := by
  show (match gi M a r1 with
      | some v => some (Value.int v :: S, M)
      | none => match gl M a r1 with
        | some v => some (Value.long v :: S, M)
        | none => match gr M a r1 with
          | some v => some (Value.ref v :: S, M)
          | none => none) = _
  rw [h]
theorem mg_l {n a : Nat} {v : Int64} (h : gl M a r1 = some v) : me1 (.getfield n) r1 (.ref a :: S) M = some (.long v :: S, M) := by
  show (match gi M a r1 with
      | some v => some (Value.int v :: S, M)
      | none => match gl M a r1 with
        | some v => some (Value.long v :: S, M)
        | none => match gr M a r1 with
          | some v => some (Value.ref v :: S, M)
          | none => none) = _
  rw [gi_gl h, h]
theorem mg_r {n a : Nat} {v : Nat} (h : gr M a r1 = some v) : me1 (.getfield n) r1 (.ref a :: S) M = some (.ref v :: S, M) := by
  show (match gi M a r1 with
      | some v => some (Value.int v :: S, M)
      | none => match gl M a r1 with
        | some v => some (Value.long v :: S, M)
        | none => match gr M a r1 with
          | some v => some (Value.ref v :: S, M)
          | none => none) = _
  rw [(gi_gr h).1, (gi_gr h).2, h]
theorem r_gi {n a : Nat} {k : Int32 → Option τ} (kk : ∀ v, Sim P d K cs L (.int v :: S) M o (k v)) : Sim P d K ((pc, .getfield n, r1, r2) :: cs) L (.ref a :: S) M o ((gi M a r1).bind k) := r_mb (F := fun v => (.int v :: S, M)) rfl (fun v hv => mg_i hv) kk
theorem r_gl {n a : Nat} {k : Int64 → Option τ} (kk : ∀ v, Sim P d K cs L (.long v :: S) M o (k v)) : Sim P d K ((pc, .getfield n, r1, r2) :: cs) L (.ref a :: S) M o ((gl M a r1).bind k) := r_mb (F := fun v => (.long v :: S, M)) rfl (fun v hv => mg_l hv) kk
theorem r_gr {n a : Nat} {k : Nat → Option τ} (kk : ∀ v, Sim P d K cs L (.ref v :: S) M o (k v)) : Sim P d K ((pc, .getfield n, r1, r2) :: cs) L (.ref a :: S) M o ((gr M a r1).bind k) := r_mb (F := fun v => (.ref v :: S, M)) rfl (fun v hv => mg_r hv) kk
theorem r_ai {a : Nat} {j : Int32} {k : Int32 → Option τ} (kk : ∀ v, Sim P d K cs L (.int v :: S) M o (k v)) : Sim P d K ((pc, .iaload, r1, r2) :: cs) L (.int j :: .ref a :: S) M o ((ai M a j).bind k) := r_mb (F := fun v => (.int v :: S, M)) rfl (fun v hv => by show (ai M a j).map _ = _; rw [hv]; rfl) kk
theorem r_al {a : Nat} {j : Int32} {k : Int64 → Option τ} (kk : ∀ v, Sim P d K cs L (.long v :: S) M o (k v)) : Sim P d K ((pc, .laload, r1, r2) :: cs) L (.int j :: .ref a :: S) M o ((al M a j).bind k) := r_mb (F := fun v => (.long v :: S, M)) rfl (fun v hv => by show (al M a j).map _ = _; rw [hv]; rfl) kk
theorem r_ab {a : Nat} {j : Int32} {k : Int32 → Option τ} (kk : ∀ v, Sim P d K cs L (.int v :: S) M o (k v)) : Sim P d K ((pc, .baload, r1, r2) :: cs) L (.int j :: .ref a :: S) M o ((ab M a j).bind k) := r_mb (F := fun v => (.int v :: S, M)) rfl (fun v hv => by show (ab M a j).map _ = _; rw [hv]; rfl) kk
theorem r_ar {a : Nat} {j : Int32} {k : Nat → Option τ} (kk : ∀ v, Sim P d K cs L (.ref v :: S) M o (k v)) : Sim P d K ((pc, .aaload, r1, r2) :: cs) L (.int j :: .ref a :: S) M o ((ar M a j).bind k) := r_mb (F := fun v => (.ref v :: S, M)) rfl (fun v hv => by show (ar M a j).map _ = _; rw [hv]; rfl) kk
theorem r_pi {n a : Nat} {v : Int32} {k : Mem → Option τ} (kk : ∀ M', Sim P d K cs L S M' o (k M')) : Sim P d K ((pc, .putfield n, r1, r2) :: cs) L (.int v :: .ref a :: S) M o ((pi M a r1 v).bind k) := r_mb (F := fun M' => (S, M')) rfl (fun M' h => by show (pi M a r1 v).map _ = _; rw [h]; rfl) kk
theorem r_pj {n a : Nat} {v : Int64} {k : Mem → Option τ} (kk : ∀ M', Sim P d K cs L S M' o (k M')) : Sim P d K ((pc, .putfield n, r1, r2) :: cs) L (.long v :: .ref a :: S) M o ((pj M a r1 v).bind k) := r_mb (F := fun M' => (S, M')) rfl (fun M' h => by show (pj M a r1 v).map _ = _; rw [h]; rfl) kk
theorem r_pr {n a : Nat} {v : Nat} {k : Mem → Option τ} (kk : ∀ M', Sim P d K cs L S M' o (k M')) : Sim P d K ((pc, .putfield n, r1, r2) :: cs) L (.ref v :: .ref a :: S) M o ((pr M a r1 v).bind k) := r_mb (F := fun M' => (S, M')) rfl (fun M' h => by show (pr M a r1 v).map _ = _; rw [h]; rfl) kk
theorem r_si {a : Nat} {j : Int32} {v : Int32} {k : Mem → Option τ} (kk : ∀ M', Sim P d K cs L S M' o (k M')) : Sim P d K ((pc, .iastore, r1, r2) :: cs) L (.int v :: .int j :: .ref a :: S) M o ((si M a j v).bind k) := r_mb (F := fun M' => (S, M')) rfl (fun M' h => by show (si M a j v).map _ = _; rw [h]; rfl) kk
theorem r_sj {a : Nat} {j : Int32} {v : Int64} {k : Mem → Option τ} (kk : ∀ M', Sim P d K cs L S M' o (k M')) : Sim P d K ((pc, .lastore, r1, r2) :: cs) L (.long v :: .int j :: .ref a :: S) M o ((sj M a j v).bind k) := r_mb (F := fun M' => (S, M')) rfl (fun M' h => by show (sj M a j v).map _ = _; rw [h]; rfl) kk
theorem r_sb {a : Nat} {j : Int32} {v : Int32} {k : Mem → Option τ} (kk : ∀ M', Sim P d K cs L S M' o (k M')) : Sim P d K ((pc, .bastore, r1, r2) :: cs) L (.int v :: .int j :: .ref a :: S) M o ((sb M a j v).bind k) := r_mb (F := fun M' => (S, M')) rfl (fun M' h => by show (sb M a j v).map _ = _; rw [h]; rfl) kk
theorem r_sr {a : Nat} {j : Int32} {v : Nat} {k : Mem → Option τ} (kk : ∀ M', Sim P d K cs L S M' o (k M')) : Sim P d K ((pc, .aastore, r1, r2) :: cs) L (.ref v :: .int j :: .ref a :: S) M o ((sr M a j v).bind k) := r_mb (F := fun M' => (S, M')) rfl (fun M' h => by show (sr M a j v).map _ = _; rw [h]; rfl) kk
theorem r_an {a : Nat} {k : Int32 → Option τ} (kk : ∀ v, Sim P d K cs L (.int v :: S) M o (k v)) : Sim P d K ((pc, .arraylength, r1, r2) :: cs) L (.ref a :: S) M o ((an M a).bind k) := r_mb (F := fun v => (.int v :: S, M)) rfl (fun v h => by show (an M a).map _ = _; rw [h]; rfl) kk
theorem r_new {n : Nat} (k : Sim P d K cs L (.ref (m_nx M) :: S) (mo M r1) o x) : Sim P d K ((pc, .new n, r1, r2) :: cs) L S M o x := r_me rfl rfl k
theorem r_newa {t : ArrayType} {u : Nat} {n : Int32} {k : Mem → Option τ} (hu : x_at t = u) (kk : ∀ M', Sim P d K cs L (.ref (m_nx M) :: S) M' o (k M')) : Sim P d K ((pc, .newarray t, r1, r2) :: cs) L (.int n :: S) M o ((mk M u n).bind k) := by
  subst hu
  exact r_mb (F := fun M' => (.ref (m_nx M) :: S, M')) rfl (fun M' h => by show (mk M (x_at t) n).map _ = _; rw [h]; rfl) kk
theorem r_anew {i : Nat} {n : Int32} {k : Mem → Option τ} (kk : ∀ M', Sim P d K cs L (.ref (m_nx M) :: S) M' o (k M')) : Sim P d K ((pc, .anewarray i, r1, r2) :: cs) L (.int n :: S) M o ((mk M r1 n).bind k) := r_mb (F := fun M' => (.ref (m_nx M) :: S, M')) rfl (fun M' h => by show (mk M r1 n).map _ = _; rw [h]; rfl) kk
theorem r_cc {n a : Nat} {k : Unit → Option τ} (kk : Sim P d K cs L (.ref a :: S) M o (k ())) : Sim P d K ((pc, .checkcast n, r1, r2) :: cs) L (.ref a :: S) M o ((cc M a r1).bind k) := r_mb (F := fun _ => (.ref a :: S, M)) rfl (fun v h => by show (cc M a r1).map _ = _; rw [h]; rfl) (fun _ => kk)
theorem r_io {n a : Nat} {k : Int32 → Option τ} (kk : ∀ v, Sim P d K cs L (.int v :: S) M o (k v)) : Sim P d K ((pc, .instanceof n, r1, r2) :: cs) L (.ref a :: S) M o ((io M a r1).bind k) := r_mb (F := fun v => (.int v :: S, M)) rfl (fun v h => by show (io M a r1).map _ = _; rw [h]; rfl) kk
/-! a comparison of longs and the branch behind it -/
theorem lg_lt0 {x y : Int64} : lg_cmp x y < 0 ↔ x < y := lg_cmp_lt x y
theorem lg_gt0 {x y : Int64} : 0 < lg_cmp x y ↔ y < x := lg_cmp_gt x y
theorem lg_eq0 {x y : Int64} : lg_cmp x y = 0 ↔ x = y := lg_cmp_eq x y
theorem blt_no {m : Nat} (h : (Nat.ble 900 m && Nat.blt m 1000) = false) : ¬ (900 ≤ m ∧ m < 1000) := by
  intro ⟨h1, h2⟩
  have e1 : Nat.ble 900 m = true := Nat.ble_eq.mpr h1
  have e2 : Nat.blt m 1000 = true := Nat.ble_eq.mpr h2
  rw [e1, e2] at h
  cases h
theorem blt_no8 {m : Nat} (h : (Nat.ble 800 m && Nat.blt m 900) = false) : ¬ (800 ≤ m ∧ m < 900) := by
  intro ⟨h1, h2⟩
  have e1 : Nat.ble 800 m = true := Nat.ble_eq.mpr h1
  have e2 : Nat.blt m 900 = true := Nat.ble_eq.mpr h2
  rw [e1, e2] at h
  cases h
theorem blt_yes8 {m : Nat} (h : (Nat.ble 800 m && Nat.blt m 900) = true) : 800 ≤ m ∧ m < 900 := by
  obtain ⟨h1, h2⟩ := (Bool.and_eq_true _ _).mp h
  exact ⟨Nat.ble_eq.mp h1, Nat.ble_eq.mp h2⟩
theorem r_lif {c : ClassFile.Cond} {of_ : Int} {pc2 b1 b2 q1 q2 : Nat} {u v : Int64} {cs2 : xC} {C : Prop} [Decidable C] (h : jm1 K (.ifCond c of_) b1 b2 [.int (lg_cmp u v)] = some (if C then q1 else q2, [])) (hS : ∀ S0 : xS, jm1 K (.ifCond c of_) b1 b2 (.int (lg_cmp u v) :: S0) = some (if C then q1 else q2, S0)) (k1' : Sim P d K (x_bk K q1) L S M o x) (k2 : Sim P d K (x_bk K q2) L S M o y) : Sim P d K ((pc, .lcmp, r1, r2) :: (pc2, .ifCond c of_, b1, b2) :: cs2) L (.long v :: .long u :: S) M o (if C then x else y) := by
  refine r_st rfl rfl ?_
  exact r_if rfl (hS S) k1' k2
theorem r_llt {of_ : Int} {pc2 b1 b2 : Nat} {u v : Int64} {cs2 : xC} (k1' : Sim P d K (x_bk K b1) L S M o x) (k2 : Sim P d K (x_bk K b2) L S M o y) : Sim P d K ((pc, .lcmp, r1, r2) :: (pc2, .ifCond .lt of_, b1, b2) :: cs2) L (.long v :: .long u :: S) M o (if u < v then x else y) := by
  refine r_st rfl rfl (r_if (c := u < v) rfl ?_ k1' k2)
  show some (if lg_cmp u v < 0 then b1 else b2, S) = _
  by_cases h : u < v
  · rw [if_pos h, if_pos (lg_lt0.mpr h)]
  · rw [if_neg h, if_neg (fun q => h (lg_lt0.mp q))]
theorem r_lge {of_ : Int} {pc2 b1 b2 : Nat} {u v : Int64} {cs2 : xC} (k2 : Sim P d K (x_bk K b2) L S M o x) (k1' : Sim P d K (x_bk K b1) L S M o y) : Sim P d K ((pc, .lcmp, r1, r2) :: (pc2, .ifCond .ge of_, b1, b2) :: cs2) L (.long v :: .long u :: S) M o (if u < v then x else y) := by
  refine r_st rfl rfl (r_if (c := u < v) rfl ?_ k2 k1')
  show some (if lg_cmp u v < 0 then b2 else b1, S) = _
  by_cases h : u < v
  · rw [if_pos h, if_pos (lg_lt0.mpr h)]
  · rw [if_neg h, if_neg (fun q => h (lg_lt0.mp q))]
theorem r_lgt {of_ : Int} {pc2 b1 b2 : Nat} {u v : Int64} {cs2 : xC} (k1' : Sim P d K (x_bk K b1) L S M o x) (k2 : Sim P d K (x_bk K b2) L S M o y) : Sim P d K ((pc, .lcmp, r1, r2) :: (pc2, .ifCond .gt of_, b1, b2) :: cs2) L (.long v :: .long u :: S) M o (if v < u then x else y) := by
  refine r_st rfl rfl (r_if (c := v < u) rfl ?_ k1' k2)
  show some (if 0 < lg_cmp u v then b1 else b2, S) = _
  by_cases h : v < u
  · rw [if_pos h, if_pos (lg_gt0.mpr h)]
  · rw [if_neg h, if_neg (fun q => h (lg_gt0.mp q))]
theorem r_lle {of_ : Int} {pc2 b1 b2 : Nat} {u v : Int64} {cs2 : xC} (k2 : Sim P d K (x_bk K b2) L S M o x) (k1' : Sim P d K (x_bk K b1) L S M o y) : Sim P d K ((pc, .lcmp, r1, r2) :: (pc2, .ifCond .le of_, b1, b2) :: cs2) L (.long v :: .long u :: S) M o (if v < u then x else y) := by
  refine r_st rfl rfl (r_if (c := v < u) rfl ?_ k2 k1')
  show some (if 0 < lg_cmp u v then b2 else b1, S) = _
  by_cases h : v < u
  · rw [if_pos h, if_pos (lg_gt0.mpr h)]
  · rw [if_neg h, if_neg (fun q => h (lg_gt0.mp q))]
theorem r_leq {of_ : Int} {pc2 b1 b2 : Nat} {u v : Int64} {cs2 : xC} (k1' : Sim P d K (x_bk K b1) L S M o x) (k2 : Sim P d K (x_bk K b2) L S M o y) : Sim P d K ((pc, .lcmp, r1, r2) :: (pc2, .ifCond .eq of_, b1, b2) :: cs2) L (.long v :: .long u :: S) M o (if u = v then x else y) := by
  refine r_st rfl rfl (r_if (c := u = v) rfl ?_ k1' k2)
  show some (if lg_cmp u v = 0 then b1 else b2, S) = _
  by_cases h : u = v
  · rw [if_pos h, if_pos (lg_eq0.mpr h)]
  · rw [if_neg h, if_neg (fun q => h (lg_eq0.mp q))]
theorem r_lne {of_ : Int} {pc2 b1 b2 : Nat} {u v : Int64} {cs2 : xC} (k2 : Sim P d K (x_bk K b2) L S M o x) (k1' : Sim P d K (x_bk K b1) L S M o y) : Sim P d K ((pc, .lcmp, r1, r2) :: (pc2, .ifCond .ne of_, b1, b2) :: cs2) L (.long v :: .long u :: S) M o (if u = v then x else y) := by
  refine r_st rfl rfl (r_if (c := u = v) rfl ?_ k2 k1')
  show some (if lg_cmp u v = 0 then b2 else b1, S) = _
  by_cases h : u = v
  · rw [if_pos h, if_pos (lg_eq0.mpr h)]
  · rw [if_neg h, if_neg (fun q => h (lg_eq0.mp q))]
/-! switches -/
theorem r_ts {dflt lo hi : Int} {offs : Array Int} {u c : Int32} {ci : Int} {b : Nat} (hc : c.toInt = ci) (h1 : (decide (ci < lo) || decide (hi < ci)) = false) (hb : (x_sw K r1).getD (ci - lo).toNat r2 = b) (kt : Sim P d K (x_bk K b) L S M o x) (kf : u.toInt ≠ ci → Sim P d K ((pc, .tableswitch dflt lo hi offs, r1, r2) :: cs) L (.int u :: S) M o y) : Sim P d K ((pc, .tableswitch dflt lo hi offs, r1, r2) :: cs) L (.int u :: S) M o (if u = c then x else y) := by
  by_cases h : u = c
  · rw [if_pos h]
    subst h
    refine r_jm (b := b) rfl ?_ kt
    subst hc; subst hb
    show some (if u.toInt < lo ∨ hi < u.toInt then r2 else (x_sw K r1).getD (u.toInt - lo).toNat r2, S) = _
    rw [if_neg (by simpa using h1)]
  · rw [if_neg h]
    exact kf (fun q => h (Int32.toInt_inj.mp (q.trans hc.symm)))
theorem r_tsd {dflt lo hi : Int} {offs : Array Int} {u : Int32} (h : u.toInt < lo ∨ hi < u.toInt) (k : Sim P d K (x_bk K r2) L S M o x) : Sim P d K ((pc, .tableswitch dflt lo hi offs, r1, r2) :: cs) L (.int u :: S) M o x := by
  refine r_jm rfl ?_ k
  show some (if u.toInt < lo ∨ hi < u.toInt then r2 else _, S) = _
  rw [if_pos h]
theorem r_ls {dflt : Int} {ps : Array (Int × Int)} {u c : Int32} {ci : Int} {b k : Nat} (hc : c.toInt = ci) (h1 : x_key ps.toList ci 0 = some k) (hb : (x_sw K r1).getD k r2 = b) (kt : Sim P d K (x_bk K b) L S M o x) (kf : u.toInt ≠ ci → Sim P d K ((pc, .lookupswitch dflt ps, r1, r2) :: cs) L (.int u :: S) M o y) : Sim P d K ((pc, .lookupswitch dflt ps, r1, r2) :: cs) L (.int u :: S) M o (if u = c then x else y) := by
  by_cases h : u = c
  · rw [if_pos h]
    subst h
    refine r_jm (b := b) rfl ?_ kt
    subst hc; subst hb
    show some ((match x_key ps.toList u.toInt 0 with
      | some k => (x_sw K r1).getD k r2
      | none => r2), S) = _
    rw [h1]
  · rw [if_neg h]
    exact kf (fun q => h (Int32.toInt_inj.mp (q.trans hc.symm)))
theorem r_lsd {dflt : Int} {ps : Array (Int × Int)} {u : Int32} (h : x_key ps.toList u.toInt 0 = none) (k : Sim P d K (x_bk K r2) L S M o x) : Sim P d K ((pc, .lookupswitch dflt ps, r1, r2) :: cs) L (.int u :: S) M o x := by
  refine r_jm rfl ?_ k
  show some ((match x_key ps.toList u.toInt 0 with
      | some k => (x_sw K r1).getD k r2
      | none => r2), S) = _
  rw [h]
theorem xk_no {p : Int × Int} {ps : List (Int × Int)} {x : Int} {k : Nat} (h : x ≠ p.1) (k2 : x_key ps x (k + 1) = none) : x_key (p :: ps) x k = none := by
  show (if p.1 = x then some k else x_key ps x (k + 1)) = none
  rw [if_neg (fun q => h q.symm)]
  exact k2
/-! calls -/
theorem r_ng {i : Instr} {b : Nat} {k : Unit → Option τ} (kk : ng M b = some () → Sim P d K ((pc, i, r1, r2) :: cs) L S M o (k ())) : Sim P d K ((pc, i, r1, r2) :: cs) L S M o ((ng M b).bind k) := by
  cases h : ng M b with
  | none => exact Sim.none
  | some u => exact kk h
theorem r_vg {i : Instr} {b t : Nat} {k : Unit → Option τ} (kk : vg M b t = some () → Sim P d K ((pc, i, r1, r2) :: cs) L S M o (k ())) : Sim P d K ((pc, i, r1, r2) :: cs) L S M o ((vg M b t).bind k) := by
  cases h : vg M b t with
  | none => exact Sim.none
  | some u => exact kk h
theorem c_s {n : Nat} (hA : (S.take (r2 % 16)).reverse = A) (hS : S.drop (r2 % 16) = S') (h1 : Nat.ble (r2 % 16) S.length = true) (h2 : Nat.ble S'.length 8 = true) : ca1 (.invokestatic n) r1 r2 S M = some (r1, A, S') := by
  subst hA; subst hS
  exact if_pos ⟨by simpa using h1, by simpa using h2⟩
theorem c_i {n b : Nat} (hg : ng M b = some ()) (hS : S.drop (r2 % 16) = .ref b :: S') (hA : .ref b :: (S.take (r2 % 16)).reverse = A) (h2 : Nat.ble S'.length 8 = true) : ca1 (.invokespecial n) r1 r2 S M = some (r1, A, S') := by
  subst hA
  show (match S.drop (r2 % 16) with
    | Value.ref b :: S' => if ng M b = some () ∧ S'.length ≤ 8 then some (r1, Value.ref b :: (S.take (r2 % 16)).reverse, S') else none
    | _ => none) = _
  rw [hS]
  exact if_pos ⟨hg, by simpa using h2⟩
theorem c_v {n b t : Nat} (hg : vg M b t = some ()) (ht : r2 / 16 = t) (hS : S.drop (r2 % 16) = .ref b :: S') (hA : .ref b :: (S.take (r2 % 16)).reverse = A) (h2 : Nat.ble S'.length 8 = true) (hr : (Nat.ble 800 r1 && Nat.blt r1 900) = false) : ca1 (.invokevirtual n) r1 r2 S M = some (r1, A, S') := by
  subst hA; subst ht
  show (match S.drop (r2 % 16) with
    | Value.ref b :: S' => if vg M b (r2 / 16) = some () ∧ S'.length ≤ 8 then some (if 800 ≤ r1 ∧ r1 < 900 then r1 + 1000 * m_tg M b else r1, Value.ref b :: (S.take (r2 % 16)).reverse, S') else none
    | _ => none) = _
  rw [hS]
  refine (if_pos ⟨hg, by simpa using h2⟩).trans ?_
  rw [if_neg (blt_no8 hr)]
theorem c_w {n b t : Nat} (hg : vg M b t = some ()) (ht : r2 / 16 = t) (hS : S.drop (r2 % 16) = .ref b :: S') (hA : .ref b :: (S.take (r2 % 16)).reverse = A) (h2 : Nat.ble S'.length 8 = true) (hr : (Nat.ble 800 r1 && Nat.blt r1 900) = true) : ca1 (.invokevirtual n) r1 r2 S M = some (r1 + 1000 * m_tg M b, A, S') := by
  subst hA; subst ht
  show (match S.drop (r2 % 16) with
    | Value.ref b :: S' => if vg M b (r2 / 16) = some () ∧ S'.length ≤ 8 then some (if 800 ≤ r1 ∧ r1 < 900 then r1 + 1000 * m_tg M b else r1, Value.ref b :: (S.take (r2 % 16)).reverse, S') else none
    | _ => none) = _
  rw [hS]
  refine (if_pos ⟨hg, by simpa using h2⟩).trans ?_
  rw [if_pos (blt_yes8 hr)]
theorem r_c {i : Instr} {f : Option σ} {o' : σ → xO × Mem} {k : σ → Option τ} {v : σ → Option Value} {N : σ → Mem} (hk : k1 i = 4) (hc : ca1 i r1 r2 S M = some (m, A, S')) (hm : (Nat.ble 900 m && Nat.blt m 1000) = false) (hf : Cl P d m A M o' f) (ho : ∀ a, o' a = (.inl (v a), N a)) (kk : ∀ a, Sim P (d + 1) K cs L ((v a).toList ++ S') (N a) o (k a)) : Sim P (d + 1) K ((pc, i, r1, r2) :: cs) L S M o (f.bind k) := by
  refine r_ca hk hc (blt_no hm) hf (fun a => ⟨fun w M' h => ?_, fun q M' h => ?_⟩)
  · rw [ho a] at h
    cases h
    exact kk a
  · rw [ho a] at h
    cases h
theorem r_cI {i : Instr} {f : Option (Int32 × Mem)} {k : Int32 × Mem → Option τ} (hk : k1 i = 4) (hc : ca1 i r1 r2 S M = some (m, A, S')) (hm : (Nat.ble 900 m && Nat.blt m 1000) = false) (hf : Cl P d m A M oI f) (kk : ∀ z, Sim P (d + 1) K cs L (.int z.1 :: S') z.2 o (k z)) : Sim P (d + 1) K ((pc, i, r1, r2) :: cs) L S M o (f.bind k) := r_c (v := fun z => some (.int z.1)) (N := fun z => z.2) hk hc hm hf (fun _ => rfl) kk
theorem r_cJ {i : Instr} {f : Option (Int64 × Mem)} {k : Int64 × Mem → Option τ} (hk : k1 i = 4) (hc : ca1 i r1 r2 S M = some (m, A, S')) (hm : (Nat.ble 900 m && Nat.blt m 1000) = false) (hf : Cl P d m A M oJ f) (kk : ∀ z, Sim P (d + 1) K cs L (.long z.1 :: S') z.2 o (k z)) : Sim P (d + 1) K ((pc, i, r1, r2) :: cs) L S M o (f.bind k) := r_c (v := fun z => some (.long z.1)) (N := fun z => z.2) hk hc hm hf (fun _ => rfl) kk
theorem r_cD {i : Instr} {f : Option (UInt64 × Mem)} {k : UInt64 × Mem → Option τ} (hk : k1 i = 4) (hc : ca1 i r1 r2 S M = some (m, A, S')) (hm : (Nat.ble 900 m && Nat.blt m 1000) = false) (hf : Cl P d m A M oD f) (kk : ∀ z, Sim P (d + 1) K cs L (.double z.1 :: S') z.2 o (k z)) : Sim P (d + 1) K ((pc, i, r1, r2) :: cs) L S M o (f.bind k) := r_c (v := fun z => some (.double z.1)) (N := fun z => z.2) hk hc hm hf (fun _ => rfl) kk
theorem r_cA {i : Instr} {f : Option (Nat × Mem)} {k : Nat × Mem → Option τ} (hk : k1 i = 4) (hc : ca1 i r1 r2 S M = some (m, A, S')) (hm : (Nat.ble 900 m && Nat.blt m 1000) = false) (hf : Cl P d m A M oA f) (kk : ∀ z, Sim P (d + 1) K cs L (.ref z.1 :: S') z.2 o (k z)) : Sim P (d + 1) K ((pc, i, r1, r2) :: cs) L S M o (f.bind k) := r_c (v := fun z => some (.ref z.1)) (N := fun z => z.2) hk hc hm hf (fun _ => rfl) kk
theorem r_cV {i : Instr} {f : Option Mem} {k : Mem → Option τ} (hk : k1 i = 4) (hc : ca1 i r1 r2 S M = some (m, A, S')) (hm : (Nat.ble 900 m && Nat.blt m 1000) = false) (hf : Cl P d m A M oV f) (kk : ∀ z, Sim P (d + 1) K cs L S' z o (k z)) : Sim P (d + 1) K ((pc, i, r1, r2) :: cs) L S M o (f.bind k) := r_c (v := fun z => none) (N := fun z => z) hk hc hm hf (fun _ => rfl) kk
theorem r_ci {i : Instr} {f : Option Int32} {k : Int32 → Option τ} (hk : k1 i = 4) (hc : ca1 i r1 r2 S M = some (m, A, S')) (hm : (Nat.ble 900 m && Nat.blt m 1000) = false) (hf : Cl P d m A M (oi M) f) (kk : ∀ z, Sim P (d + 1) K cs L (.int z :: S') M o (k z)) : Sim P (d + 1) K ((pc, i, r1, r2) :: cs) L S M o (f.bind k) := r_c (v := fun z => some (.int z)) (N := fun _ => M) hk hc hm hf (fun _ => rfl) kk
theorem r_cj {i : Instr} {f : Option Int64} {k : Int64 → Option τ} (hk : k1 i = 4) (hc : ca1 i r1 r2 S M = some (m, A, S')) (hm : (Nat.ble 900 m && Nat.blt m 1000) = false) (hf : Cl P d m A M (oj M) f) (kk : ∀ z, Sim P (d + 1) K cs L (.long z :: S') M o (k z)) : Sim P (d + 1) K ((pc, i, r1, r2) :: cs) L S M o (f.bind k) := r_c (v := fun z => some (.long z)) (N := fun _ => M) hk hc hm hf (fun _ => rfl) kk
theorem r_cd {i : Instr} {f : Option UInt64} {k : UInt64 → Option τ} (hk : k1 i = 4) (hc : ca1 i r1 r2 S M = some (m, A, S')) (hm : (Nat.ble 900 m && Nat.blt m 1000) = false) (hf : Cl P d m A M (od M) f) (kk : ∀ z, Sim P (d + 1) K cs L (.double z :: S') M o (k z)) : Sim P (d + 1) K ((pc, i, r1, r2) :: cs) L S M o (f.bind k) := r_c (v := fun z => some (.double z)) (N := fun _ => M) hk hc hm hf (fun _ => rfl) kk
theorem r_cra {i : Instr} {f : Option Nat} {k : Nat → Option τ} (hk : k1 i = 4) (hc : ca1 i r1 r2 S M = some (m, A, S')) (hm : (Nat.ble 900 m && Nat.blt m 1000) = false) (hf : Cl P d m A M (oa M) f) (kk : ∀ z, Sim P (d + 1) K cs L (.ref z :: S') M o (k z)) : Sim P (d + 1) K ((pc, i, r1, r2) :: cs) L S M o (f.bind k) := r_c (v := fun z => some (.ref z)) (N := fun _ => M) hk hc hm hf (fun _ => rfl) kk
theorem r_cv {i : Instr} {f : Option Unit} {k : Unit → Option τ} (hk : k1 i = 4) (hc : ca1 i r1 r2 S M = some (m, A, S')) (hm : (Nat.ble 900 m && Nat.blt m 1000) = false) (hf : Cl P d m A M (ov M) f) (kk : ∀ z, Sim P (d + 1) K cs L S' M o (k z)) : Sim P (d + 1) K ((pc, i, r1, r2) :: cs) L S M o (f.bind k) := r_c (v := fun z => none) (N := fun _ => M) hk hc hm hf (fun _ => rfl) kk
/-- a thrower, uncaught here -/
theorem r_t {γ : Type} {i : Instr} {f : Option (σ ⊕ (Nat × Mem))} {o' : σ → xO × Mem} {q : γ → xO × Mem} {k : σ → Option (γ ⊕ (Nat × Mem))} {v : σ → Option Value} {N : σ → Mem} (hk : k1 i = 4) (hc : ca1 i r1 r2 S M = some (m, A, S')) (hm : (Nat.ble 900 m && Nat.blt m 1000) = false) (hf : Cl P d m A M (oT o') f) (ho : ∀ a, o' a = (.inl (v a), N a)) (hh : x_hd K pc = none) (kk : ∀ a, Sim P (d + 1) K cs L ((v a).toList ++ S') (N a) (oT q) (k a)) : Sim P (d + 1) K ((pc, i, r1, r2) :: cs) L S M (oT q) (tb f k) := by
  refine r_ca hk hc (blt_no hm) hf (fun a => ?_)
  cases a with
  | inl a =>
    refine ⟨fun w M' h => ?_, fun q M' h => ?_⟩
    · have h : o' a = (.inl w, M') := h
      rw [ho a] at h
      cases h
      exact kk a
    · have h : o' a = (.inr q, M') := h
      rw [ho a] at h
      cases h
  | inr z =>
    refine ⟨fun w M' h => ?_, fun q M' h => Or.inl ⟨hh, .inr z, rfl, h⟩⟩
    cases h
/-- a thrower, caught here -/
theorem r_tc {i : Instr} {f : Option (σ ⊕ (Nat × Mem))} {o' : σ → xO × Mem} {k : σ → Option τ} {h : Nat × Mem → Option τ} {v : σ → Option Value} {N : σ → Mem} {b : Nat} (hk : k1 i = 4) (hc : ca1 i r1 r2 S M = some (m, A, S')) (hm : (Nat.ble 900 m && Nat.blt m 1000) = false) (hf : Cl P d m A M (oT o') f) (ho : ∀ a, o' a = (.inl (v a), N a)) (hh : x_hd K pc = some b) (kk : ∀ a, Sim P (d + 1) K cs L ((v a).toList ++ S') (N a) o (k a)) (kh : ∀ z, Sim P (d + 1) K (x_bk K b) L [.ref z.1] z.2 o (h z)) : Sim P (d + 1) K ((pc, i, r1, r2) :: cs) L S M o (tc f k h) := by
  refine r_ca hk hc (blt_no hm) hf (fun a => ?_)
  cases a with
  | inl a =>
    refine ⟨fun w M' h => ?_, fun q M' h => ?_⟩
    · have h : o' a = (.inl w, M') := h
      rw [ho a] at h
      cases h
      exact kk a
    · have h : o' a = (.inr q, M') := h
      rw [ho a] at h
      cases h
  | inr z =>
    refine ⟨fun w M' h => ?_, fun q M' h => Or.inr ⟨b, hh, ?_⟩⟩
    · cases h
    · cases h
      exact kh z
theorem r_tI {γ : Type} {i : Instr} {f : Option ((Int32 × Mem) ⊕ (Nat × Mem))} {q : γ → xO × Mem} {k : Int32 × Mem → Option (γ ⊕ (Nat × Mem))} (hk : k1 i = 4) (hc : ca1 i r1 r2 S M = some (m, A, S')) (hm : (Nat.ble 900 m && Nat.blt m 1000) = false) (hf : Cl P d m A M (oT oI) f) (hh : x_hd K pc = none) (kk : ∀ z, Sim P (d + 1) K cs L (.int z.1 :: S') z.2 (oT q) (k z)) : Sim P (d + 1) K ((pc, i, r1, r2) :: cs) L S M (oT q) (tb f k) := r_t (v := fun z => some (.int z.1)) (N := fun z => z.2) hk hc hm hf (fun _ => rfl) hh kk
theorem r_tcI {i : Instr} {f : Option ((Int32 × Mem) ⊕ (Nat × Mem))} {k : Int32 × Mem → Option τ} {h : Nat × Mem → Option τ} {b : Nat} (hk : k1 i = 4) (hc : ca1 i r1 r2 S M = some (m, A, S')) (hm : (Nat.ble 900 m && Nat.blt m 1000) = false) (hf : Cl P d m A M (oT oI) f) (hh : x_hd K pc = some b) (kk : ∀ z, Sim P (d + 1) K cs L (.int z.1 :: S') z.2 o (k z)) (kh : ∀ z, Sim P (d + 1) K (x_bk K b) L [.ref z.1] z.2 o (h z)) : Sim P (d + 1) K ((pc, i, r1, r2) :: cs) L S M o (tc f k h) := r_tc (v := fun z => some (.int z.1)) (N := fun z => z.2) hk hc hm hf (fun _ => rfl) hh kk kh
theorem r_tJ {γ : Type} {i : Instr} {f : Option ((Int64 × Mem) ⊕ (Nat × Mem))} {q : γ → xO × Mem} {k : Int64 × Mem → Option (γ ⊕ (Nat × Mem))} (hk : k1 i = 4) (hc : ca1 i r1 r2 S M = some (m, A, S')) (hm : (Nat.ble 900 m && Nat.blt m 1000) = false) (hf : Cl P d m A M (oT oJ) f) (hh : x_hd K pc = none) (kk : ∀ z, Sim P (d + 1) K cs L (.long z.1 :: S') z.2 (oT q) (k z)) : Sim P (d + 1) K ((pc, i, r1, r2) :: cs) L S M (oT q) (tb f k) := r_t (v := fun z => some (.long z.1)) (N := fun z => z.2) hk hc hm hf (fun _ => rfl) hh kk
theorem r_tcJ {i : Instr} {f : Option ((Int64 × Mem) ⊕ (Nat × Mem))} {k : Int64 × Mem → Option τ} {h : Nat × Mem → Option τ} {b : Nat} (hk : k1 i = 4) (hc : ca1 i r1 r2 S M = some (m, A, S')) (hm : (Nat.ble 900 m && Nat.blt m 1000) = false) (hf : Cl P d m A M (oT oJ) f) (hh : x_hd K pc = some b) (kk : ∀ z, Sim P (d + 1) K cs L (.long z.1 :: S') z.2 o (k z)) (kh : ∀ z, Sim P (d + 1) K (x_bk K b) L [.ref z.1] z.2 o (h z)) : Sim P (d + 1) K ((pc, i, r1, r2) :: cs) L S M o (tc f k h) := r_tc (v := fun z => some (.long z.1)) (N := fun z => z.2) hk hc hm hf (fun _ => rfl) hh kk kh
theorem r_tD {γ : Type} {i : Instr} {f : Option ((UInt64 × Mem) ⊕ (Nat × Mem))} {q : γ → xO × Mem} {k : UInt64 × Mem → Option (γ ⊕ (Nat × Mem))} (hk : k1 i = 4) (hc : ca1 i r1 r2 S M = some (m, A, S')) (hm : (Nat.ble 900 m && Nat.blt m 1000) = false) (hf : Cl P d m A M (oT oD) f) (hh : x_hd K pc = none) (kk : ∀ z, Sim P (d + 1) K cs L (.double z.1 :: S') z.2 (oT q) (k z)) : Sim P (d + 1) K ((pc, i, r1, r2) :: cs) L S M (oT q) (tb f k) := r_t (v := fun z => some (.double z.1)) (N := fun z => z.2) hk hc hm hf (fun _ => rfl) hh kk
theorem r_tcD {i : Instr} {f : Option ((UInt64 × Mem) ⊕ (Nat × Mem))} {k : UInt64 × Mem → Option τ} {h : Nat × Mem → Option τ} {b : Nat} (hk : k1 i = 4) (hc : ca1 i r1 r2 S M = some (m, A, S')) (hm : (Nat.ble 900 m && Nat.blt m 1000) = false) (hf : Cl P d m A M (oT oD) f) (hh : x_hd K pc = some b) (kk : ∀ z, Sim P (d + 1) K cs L (.double z.1 :: S') z.2 o (k z)) (kh : ∀ z, Sim P (d + 1) K (x_bk K b) L [.ref z.1] z.2 o (h z)) : Sim P (d + 1) K ((pc, i, r1, r2) :: cs) L S M o (tc f k h) := r_tc (v := fun z => some (.double z.1)) (N := fun z => z.2) hk hc hm hf (fun _ => rfl) hh kk kh
theorem r_tA {γ : Type} {i : Instr} {f : Option ((Nat × Mem) ⊕ (Nat × Mem))} {q : γ → xO × Mem} {k : Nat × Mem → Option (γ ⊕ (Nat × Mem))} (hk : k1 i = 4) (hc : ca1 i r1 r2 S M = some (m, A, S')) (hm : (Nat.ble 900 m && Nat.blt m 1000) = false) (hf : Cl P d m A M (oT oA) f) (hh : x_hd K pc = none) (kk : ∀ z, Sim P (d + 1) K cs L (.ref z.1 :: S') z.2 (oT q) (k z)) : Sim P (d + 1) K ((pc, i, r1, r2) :: cs) L S M (oT q) (tb f k) := r_t (v := fun z => some (.ref z.1)) (N := fun z => z.2) hk hc hm hf (fun _ => rfl) hh kk
theorem r_tcA {i : Instr} {f : Option ((Nat × Mem) ⊕ (Nat × Mem))} {k : Nat × Mem → Option τ} {h : Nat × Mem → Option τ} {b : Nat} (hk : k1 i = 4) (hc : ca1 i r1 r2 S M = some (m, A, S')) (hm : (Nat.ble 900 m && Nat.blt m 1000) = false) (hf : Cl P d m A M (oT oA) f) (hh : x_hd K pc = some b) (kk : ∀ z, Sim P (d + 1) K cs L (.ref z.1 :: S') z.2 o (k z)) (kh : ∀ z, Sim P (d + 1) K (x_bk K b) L [.ref z.1] z.2 o (h z)) : Sim P (d + 1) K ((pc, i, r1, r2) :: cs) L S M o (tc f k h) := r_tc (v := fun z => some (.ref z.1)) (N := fun z => z.2) hk hc hm hf (fun _ => rfl) hh kk kh
theorem r_tV {γ : Type} {i : Instr} {f : Option ((Mem) ⊕ (Nat × Mem))} {q : γ → xO × Mem} {k : Mem → Option (γ ⊕ (Nat × Mem))} (hk : k1 i = 4) (hc : ca1 i r1 r2 S M = some (m, A, S')) (hm : (Nat.ble 900 m && Nat.blt m 1000) = false) (hf : Cl P d m A M (oT oV) f) (hh : x_hd K pc = none) (kk : ∀ z, Sim P (d + 1) K cs L (S') z (oT q) (k z)) : Sim P (d + 1) K ((pc, i, r1, r2) :: cs) L S M (oT q) (tb f k) := r_t (v := fun z => none) (N := fun z => z) hk hc hm hf (fun _ => rfl) hh kk
theorem r_tcV {i : Instr} {f : Option ((Mem) ⊕ (Nat × Mem))} {k : Mem → Option τ} {h : Nat × Mem → Option τ} {b : Nat} (hk : k1 i = 4) (hc : ca1 i r1 r2 S M = some (m, A, S')) (hm : (Nat.ble 900 m && Nat.blt m 1000) = false) (hf : Cl P d m A M (oT oV) f) (hh : x_hd K pc = some b) (kk : ∀ z, Sim P (d + 1) K cs L (S') z o (k z)) (kh : ∀ z, Sim P (d + 1) K (x_bk K b) L [.ref z.1] z.2 o (h z)) : Sim P (d + 1) K ((pc, i, r1, r2) :: cs) L S M o (tc f k h) := r_tc (v := fun z => none) (N := fun z => z) hk hc hm hf (fun _ => rfl) hh kk kh
theorem r_nf2i {i : Instr} {u : UInt32} {k : Int32 → Option τ} (hk : k1 i = 4) (hc : ca1 i r1 r2 S M = some (900, [.float u], S')) (kk : ∀ z, Sim P d K cs L (.int z :: S') M o (k z)) : Sim P d K ((pc, i, r1, r2) :: cs) L S M o ((nf2i u).bind k) :=
  r_na (F := fun z => (some (.int z), M)) hk hc ⟨by decide, by decide⟩ (fun a h => by show (nf2i u).map _ = _; rw [h]; rfl) kk
theorem r_ni2f {i : Instr} {u : Int32} {k : UInt32 → Option τ} (hk : k1 i = 4) (hc : ca1 i r1 r2 S M = some (901, [.int u], S')) (kk : ∀ z, Sim P d K cs L (.float z :: S') M o (k z)) : Sim P d K ((pc, i, r1, r2) :: cs) L S M o ((ni2f u).bind k) :=
  r_na (F := fun z => (some (.float z), M)) hk hc ⟨by decide, by decide⟩ (fun a h => by show (ni2f u).map _ = _; rw [h]; rfl) kk
theorem r_nl2d {i : Instr} {u : Int64} {k : UInt64 → Option τ} (hk : k1 i = 4) (hc : ca1 i r1 r2 S M = some (902, [.long u], S')) (kk : ∀ z, Sim P d K cs L (.double z :: S') M o (k z)) : Sim P d K ((pc, i, r1, r2) :: cs) L S M o ((nl2d u).bind k) :=
  r_na (F := fun z => (some (.double z), M)) hk hc ⟨by decide, by decide⟩ (fun a h => by show (nl2d u).map _ = _; rw [h]; rfl) kk
theorem r_nd2l {i : Instr} {u : UInt64} {k : Int64 → Option τ} (hk : k1 i = 4) (hc : ca1 i r1 r2 S M = some (903, [.double u], S')) (kk : ∀ z, Sim P d K cs L (.long z :: S') M o (k z)) : Sim P d K ((pc, i, r1, r2) :: cs) L S M o ((nd2l u).bind k) :=
  r_na (F := fun z => (some (.long z), M)) hk hc ⟨by decide, by decide⟩ (fun a h => by show (nd2l u).map _ = _; rw [h]; rfl) kk
theorem r_copy {i : Instr} {u w : Nat} {v p q : Int32} {k : Mem → Option τ} (hk : k1 i = 4) (hc : ca1 i r1 r2 S M = some (904, [.ref u, .int v, .ref w, .int p, .int q], S')) (kk : ∀ z, Sim P d K cs L (S') z o (k z)) : Sim P d K ((pc, i, r1, r2) :: cs) L S M o ((m_copy M u v w p q).bind k) :=
  r_na (F := fun z => (none, z)) hk hc ⟨by decide, by decide⟩ (fun a h => by show (m_copy M u v w p q).map _ = _; rw [h]; rfl) kk
theorem r_gcl {i : Instr} {u : Nat} {k : Nat → Option τ} (hk : k1 i = 4) (hc : ca1 i r1 r2 S M = some (905, [.ref u], S')) (kk : ∀ z, Sim P d K cs L (.ref z :: S') M o (k z)) : Sim P d K ((pc, i, r1, r2) :: cs) L S M o ((gcl M u).bind k) :=
  r_na (F := fun z => (some (.ref z), M)) hk hc ⟨by decide, by decide⟩ (fun a h => by show (gcl M u).map _ = _; rw [h]; rfl) kk
theorem r_ie {i : Instr} {u : Nat} {k : Unit → Option τ} (hk : k1 i = 4) (hc : ca1 i r1 r2 S M = some (907, [.ref u], S')) (kk : ∀ z, Sim P d K cs L (S') M o (k z)) : Sim P d K ((pc, i, r1, r2) :: cs) L S M o ((ie M u).bind k) :=
  r_na (F := fun z => (none, M)) hk hc ⟨by decide, by decide⟩ (fun a h => by show (ie M u).map _ = _; rw [h]; rfl) kk
theorem r_mcl {i : Instr} {u : Nat} {k : Mem → Option τ} (hk : k1 i = 4) (hc : ca1 i r1 r2 S M = some (908, [.ref u], S')) (kk : ∀ z, Sim P d K cs L (.ref (m_nx M) :: S') z o (k z)) : Sim P d K ((pc, i, r1, r2) :: cs) L S M o ((mcl M u).bind k) :=
  r_na (F := fun z => (some (.ref (m_nx M)), z)) hk hc ⟨by decide, by decide⟩ (fun a h => by show (mcl M u).map _ = _; rw [h]; rfl) kk
theorem r_obj {i : Instr} {u : Nat} (hk : k1 i = 4) (hc : ca1 i r1 r2 S M = some (906, [.ref u], S')) (kk : Sim P d K cs L S' M o x) : Sim P d K ((pc, i, r1, r2) :: cs) L S M o x := by
  have h := r_na (P := P) (d := d) (K := K) (cs := cs) (L := L) (o := o) (pc := pc) (p := some ()) (k := fun _ => x) (F := fun _ => (none, M)) hk hc ⟨by decide, by decide⟩ (fun _ _ => rfl) (fun _ => kk)
  exact h
end ROWS
