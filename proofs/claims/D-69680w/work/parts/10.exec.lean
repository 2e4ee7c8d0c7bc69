/-! ===== THE CLEAN INTERPRETER: a value .ref 0 is null; memory is a tag, a length and contents by address ===== -/
abbrev xL : Type := List (Option Value)
abbrev xS : Type := List Value
/-- next address, slots made, tags (0: nothing known), lengths; ints, longs and references by address and place -/
abbrev Mem : Type := Nat × Nat × (Nat → Nat) × (Nat → Nat) × (Nat → Nat → Int32) × (Nat → Nat → Int64) × (Nat → Nat → Nat)
def m_nx (M : Mem) : Nat := M.1
def m_sl (M : Mem) : Nat := M.2.1
def m_tg (M : Mem) (a : Nat) : Nat := M.2.2.1 a
def m_ln (M : Mem) (a : Nat) : Nat := M.2.2.2.1 a
def cI (M : Mem) (a i : Nat) : Int32 := M.2.2.2.2.1 a i
def cJ (M : Mem) (a i : Nat) : Int64 := M.2.2.2.2.2.1 a i
def cR (M : Mem) (a i : Nat) : Nat := M.2.2.2.2.2.2 a i
/-- the ints (longs, references) of one address anew -/
def uI (M : Mem) (a : Nat) (c : Nat → Int32) : Mem := (M.1, M.2.1, M.2.2.1, M.2.2.2.1, fun b => if b = a then c else M.2.2.2.2.1 b, M.2.2.2.2.2)
def uJ (M : Mem) (a : Nat) (c : Nat → Int64) : Mem := (M.1, M.2.1, M.2.2.1, M.2.2.2.1, M.2.2.2.2.1, fun b => if b = a then c else M.2.2.2.2.2.1 b, M.2.2.2.2.2.2)
def uR (M : Mem) (a : Nat) (c : Nat → Nat) : Mem := (M.1, M.2.1, M.2.2.1, M.2.2.2.1, M.2.2.2.2.1, M.2.2.2.2.2.1, fun b => if b = a then c else M.2.2.2.2.2.2 b)
/-- one place of a contents anew -/
def c_up {α : Type} (c : Nat → α) (i : Nat) (v : α) : Nat → α := fun j => if j = i then v else c j
def wI (M : Mem) (a i : Nat) (v : Int32) : Mem := uI M a (c_up (cI M a) i v)
def wJ (M : Mem) (a i : Nat) (v : Int64) : Mem := uJ M a (c_up (cJ M a) i v)
def wR (M : Mem) (a i : Nat) (v : Nat) : Mem := uR M a (c_up (cR M a) i v)
/-- a new cell: its address is m_nx M -/
def m_new (M : Mem) (t n : Nat) : Mem :=
  (M.1 + 1, M.2.1 + n, fun b => if b = M.1 then t else M.2.2.1 b, fun b => if b = M.1 then n else M.2.2.2.1 b, fun b => if b = M.1 then fun _ => 0 else M.2.2.2.2.1 b, fun b => if b = M.1 then fun _ => 0 else M.2.2.2.2.2.1 b, fun b => if b = M.1 then fun _ => 0 else M.2.2.2.2.2.2 b)
/-! named operations of the machine -/
def j_ishl (x y : Int32) : Int32 := x <<< (y &&& 31)
def j_ishr (x y : Int32) : Int32 := x >>> (y &&& 31)
def j_iushr (x y : Int32) : Int32 := (x.toUInt32 >>> (y.toUInt32 &&& Int32.toUInt32 31)).toInt32
def j_lshl (x : Int64) (y : Int32) : Int64 := x <<< (y.toInt64 &&& 63)
def j_lshr (x : Int64) (y : Int32) : Int64 := x >>> (y.toInt64 &&& 63)
def j_lushr (x : Int64) (y : Int32) : Int64 := (x.toUInt64 >>> (y.toInt64.toUInt64 &&& Int64.toUInt64 63)).toInt64
def j_irem (x y : Int32) : Int32 := x - x / y * y
def j_lrem (x y : Int64) : Int64 := x - x / y * y
def j_i2b (x : Int32) : Int32 := x.toInt8.toInt32
def j_i2s (x : Int32) : Int32 := x.toInt16.toInt32
def j_i2c (x : Int32) : Int32 := (x.toUInt32 % 65536).toInt32
def j_dcmp (x y : UInt64) (op : CmpOp) : Int32 := Op.cmpValue (FP.dcmp x y) op
/-! array tags: 1001 boolean, 1002 byte, 1003 char, 1004 short, 1005 int, 1006 long, 1007 an int constant (the script), 1008 a byte constant, from 1010 on arrays of references (1090 and 1091 constants) -/
def xg : xL → Nat → Option Value
  | [], _ => none
  | o :: _, 0 => o
  | _ :: L, i + 1 => xg L i
/-- what is at i - 1 goes if it is wide -/
def kz : Option Value → Option Value
  | some (.long _) => none
  | some (.double _) => none
  | o => o
def x_kill : xL → Nat → xL
  | [], _ => []
  | o :: L, 0 => o :: L
  | o :: L, 1 => kz o :: L
  | o :: L, i + 2 => o :: x_kill L (i + 1)
def xs1 (L : xL) (i : Nat) (v : Value) : xL := (x_kill L i).set i (some v)
def xs2 (L : xL) (i : Nat) (v : Value) : xL := ((x_kill L i).set i (some v)).set (i + 1) none
def x_n64 (r : UInt64) : Bool := decide (r &&& 0x7fffffffffffffff ≤ 0x7ff0000000000000)
def x_n32 (r : UInt32) : Bool := decide (r &&& 0x7fffffff ≤ 0x7f800000)
def x_iload (L : xL) (S : xS) (i : Nat) : Option (xL × xS) := match xg L i with
  | some (.int x) => some (L, .int x :: S)
  | _ => none
def x_lload (L : xL) (S : xS) (i : Nat) : Option (xL × xS) := match xg L i with
  | some (.long x) => some (L, .long x :: S)
  | _ => none
def x_fload (L : xL) (S : xS) (i : Nat) : Option (xL × xS) := match xg L i with
  | some (.float x) => some (L, .float x :: S)
  | _ => none
def x_dload (L : xL) (S : xS) (i : Nat) : Option (xL × xS) := match xg L i with
  | some (.double x) => some (L, .double x :: S)
  | _ => none
def x_aload (L : xL) (S : xS) (i : Nat) : Option (xL × xS) := match xg L i with
  | some (.ref x) => some (L, .ref x :: S)
  | _ => none
def x_istore (L : xL) (S : xS) (i : Nat) : Option (xL × xS) := match S with
  | .int x :: S => if i < L.length then some (xs1 L i (.int x), S) else none
  | _ => none
def x_fstore (L : xL) (S : xS) (i : Nat) : Option (xL × xS) := match S with
  | .float x :: S => if i < L.length then some (xs1 L i (.float x), S) else none
  | _ => none
def x_astore (L : xL) (S : xS) (i : Nat) : Option (xL × xS) := match S with
  | .ref x :: S => if i < L.length then some (xs1 L i (.ref x), S) else none
  | _ => none
def x_lstore (L : xL) (S : xS) (i : Nat) : Option (xL × xS) := match S with
  | .long x :: S => if i + 1 < L.length then some (xs2 L i (.long x), S) else none
  | _ => none
def x_dstore (L : xL) (S : xS) (i : Nat) : Option (xL × xS) := match S with
  | .double x :: S => if i + 1 < L.length then some (xs2 L i (.double x), S) else none
  | _ => none
/-- the straight instructions that touch no memory; r1, r2: what a constant's entry holds -/
def st1 (i : Instr) (r1 r2 : Nat) (L : xL) (S : xS) : Option (xL × xS) :=
  match i with
  | .iconst n => some (L, .int (Int32.ofInt n) :: S)
  | .bipush n => some (L, .int (Int8.ofInt n).toInt32 :: S)
  | .sipush n => some (L, .int (Int16.ofInt n).toInt32 :: S)
  | .lconst n => some (L, .long (Int64.ofNat (n : Nat)) :: S)
  | .dconst n => some (L, .double (if n = 0 then FP.dconst0 else FP.dconst1) :: S)
  | .aconst_null => some (L, .ref 0 :: S)
  | .ldc _ => if r2 = 0 then some (L, .int (Int32.ofNat r1) :: S) else if r2 = 1 then some (L, .ref r1 :: S) else none
  | .ldc_w _ => if r2 = 0 then some (L, .int (Int32.ofNat r1) :: S) else if r2 = 1 then some (L, .ref r1 :: S) else none
  | .ldc2_w _ => if r2 = 0 then some (L, .long (Int64.ofNat r1) :: S) else if r2 = 1 then some (L, .double (UInt64.ofNat r1) :: S) else none
  | .getstatic _ => if r2 = 0 then some (L, .int (Int32.ofNat r1) :: S) else if r2 = 1 then some (L, .ref r1 :: S) else none
  | .iload i => x_iload L S i
  | .iload_n i => x_iload L S i
  | .lload i => x_lload L S i
  | .lload_n i => x_lload L S i
  | .fload i => x_fload L S i
  | .dload i => x_dload L S i
  | .dload_n i => x_dload L S i
  | .aload i => x_aload L S i
  | .aload_n i => x_aload L S i
  | .istore i => x_istore L S i
  | .istore_n i => x_istore L S i
  | .lstore i => x_lstore L S i
  | .lstore_n i => x_lstore L S i
  | .fstore i => x_fstore L S i
  | .dstore i => x_dstore L S i
  | .dstore_n i => x_dstore L S i
  | .astore i => x_astore L S i
  | .astore_n i => x_astore L S i
  | .iinc i n => match xg L i with
    | some (.int x) => if i < L.length then some (xs1 L i (.int (x + Int32.ofInt n)), S) else none
    | _ => none
  | .iadd => match S with
    | .int y :: .int x :: S => some (L, .int (x + y) :: S)
    | _ => none
  | .isub => match S with
    | .int y :: .int x :: S => some (L, .int (x - y) :: S)
    | _ => none
  | .imul => match S with
    | .int y :: .int x :: S => some (L, .int (x * y) :: S)
    | _ => none
  | .iand => match S with
    | .int y :: .int x :: S => some (L, .int (x &&& y) :: S)
    | _ => none
  | .ior => match S with
    | .int y :: .int x :: S => some (L, .int (x ||| y) :: S)
    | _ => none
  | .ixor => match S with
    | .int y :: .int x :: S => some (L, .int (x ^^^ y) :: S)
    | _ => none
  | .ishl => match S with
    | .int y :: .int x :: S => some (L, .int (j_ishl x y) :: S)
    | _ => none
  | .ishr => match S with
    | .int y :: .int x :: S => some (L, .int (j_ishr x y) :: S)
    | _ => none
  | .iushr => match S with
    | .int y :: .int x :: S => some (L, .int (j_iushr x y) :: S)
    | _ => none
  | .ineg => match S with
    | .int x :: S => some (L, .int (-x) :: S)
    | _ => none
  | .ladd => match S with
    | .long y :: .long x :: S => some (L, .long (x + y) :: S)
    | _ => none
  | .lsub => match S with
    | .long y :: .long x :: S => some (L, .long (x - y) :: S)
    | _ => none
  | .lmul => match S with
    | .long y :: .long x :: S => some (L, .long (x * y) :: S)
    | _ => none
  | .land => match S with
    | .long y :: .long x :: S => some (L, .long (x &&& y) :: S)
    | _ => none
  | .lor => match S with
    | .long y :: .long x :: S => some (L, .long (x ||| y) :: S)
    | _ => none
  | .lxor => match S with
    | .long y :: .long x :: S => some (L, .long (x ^^^ y) :: S)
    | _ => none
  | .lshl => match S with
    | .int y :: .long x :: S => some (L, .long (j_lshl x y) :: S)
    | _ => none
  | .lshr => match S with
    | .int y :: .long x :: S => some (L, .long (j_lshr x y) :: S)
    | _ => none
  | .lushr => match S with
    | .int y :: .long x :: S => some (L, .long (j_lushr x y) :: S)
    | _ => none
  | .lneg => match S with
    | .long x :: S => some (L, .long (-x) :: S)
    | _ => none
  | .lcmp => match S with
    | .long y :: .long x :: S => some (L, .int (lg_cmp x y) :: S)
    | _ => none
  | .i2l => match S with
    | .int x :: S => some (L, .long x.toInt64 :: S)
    | _ => none
  | .l2i => match S with
    | .long x :: S => some (L, .int x.toInt32 :: S)
    | _ => none
  | .i2b => match S with
    | .int x :: S => some (L, .int (j_i2b x) :: S)
    | _ => none
  | .i2s => match S with
    | .int x :: S => some (L, .int (j_i2s x) :: S)
    | _ => none
  | .i2c => match S with
    | .int x :: S => some (L, .int (j_i2c x) :: S)
    | _ => none
  | .i2d => match S with
    | .int x :: S => some (L, .double (FP.i2d x) :: S)
    | _ => none
  | .l2d => match S with
    | .long x :: S => some (L, .double (FP.l2d x) :: S)
    | _ => none
  | .l2f => match S with
    | .long x :: S => some (L, .float (FP.l2f x) :: S)
    | _ => none
  | .d2l => match S with
    | .double x :: S => some (L, .long (FP.d2l x) :: S)
    | _ => none
  | .d2i => match S with
    | .double x :: S => some (L, .int (FP.d2i x) :: S)
    | _ => none
  | .dneg => match S with
    | .double x :: S => some (L, .double (FP.dneg x) :: S)
    | _ => none
  | .dcmp op => match S with
    | .double y :: .double x :: S => some (L, .int (j_dcmp x y op) :: S)
    | _ => none
  | .dup => match S with
    | v :: S => if v.category = 1 then some (L, v :: v :: S) else none
    | _ => none
  | .pop => match S with
    | v :: S => if v.category = 1 then some (L, S) else none
    | _ => none
  | .dup_x1 => match S with
    | v :: w :: S => if v.category = 1 ∧ w.category = 1 then some (L, v :: w :: v :: S) else none
    | _ => none
  | .dup2 => match S with
    | v :: w :: S => if v.category = 1 ∧ w.category = 1 then some (L, v :: w :: v :: w :: S) else none
    | _ => none
  | _ => none
/-- instructions with a guard on their values: divisions by 0, results that are no number -/
def gd1 (i : Instr) (S : xS) : Option (Bool × xS) :=
  match i with
  | .idiv => match S with
    | .int y :: .int x :: S => some (!decide (y = 0), .int (x / y) :: S)
    | _ => none
  | .irem => match S with
    | .int y :: .int x :: S => some (!decide (y = 0), .int (j_irem x y) :: S)
    | _ => none
  | .ldiv => match S with
    | .long y :: .long x :: S => some (!decide (y = 0), .long (x / y) :: S)
    | _ => none
  | .lrem => match S with
    | .long y :: .long x :: S => some (!decide (y = 0), .long (j_lrem x y) :: S)
    | _ => none
  | .dadd => match S with
    | .double y :: .double x :: S => some (x_n64 (FP.dadd x y), .double (FP.dadd x y) :: S)
    | _ => none
  | .dsub => match S with
    | .double y :: .double x :: S => some (x_n64 (FP.dsub x y), .double (FP.dsub x y) :: S)
    | _ => none
  | .dmul => match S with
    | .double y :: .double x :: S => some (x_n64 (FP.dmul x y), .double (FP.dmul x y) :: S)
    | _ => none
  | .ddiv => match S with
    | .double y :: .double x :: S => some (x_n64 (FP.ddiv x y), .double (FP.ddiv x y) :: S)
    | _ => none
  | .drem => match S with
    | .double y :: .double x :: S => some (x_n64 (FP.drem x y), .double (FP.drem x y) :: S)
    | _ => none
  | .fadd => match S with
    | .float y :: .float x :: S => some (x_n32 (FP.fadd x y), .float (FP.fadd x y) :: S)
    | _ => none
  | .fsub => match S with
    | .float y :: .float x :: S => some (x_n32 (FP.fsub x y), .float (FP.fsub x y) :: S)
    | _ => none
  | .fmul => match S with
    | .float y :: .float x :: S => some (x_n32 (FP.fmul x y), .float (FP.fmul x y) :: S)
    | _ => none
  | .fdiv => match S with
    | .float y :: .float x :: S => some (x_n32 (FP.fdiv x y), .float (FP.fdiv x y) :: S)
    | _ => none
  | .frem => match S with
    | .float y :: .float x :: S => some (x_n32 (FP.frem x y), .float (FP.frem x y) :: S)
    | _ => none
  | .f2d => match S with
    | .float x :: S => some (x_n64 (FP.f2d x), .double (FP.f2d x) :: S)
    | _ => none
  | .d2f => match S with
    | .double x :: S => some (x_n32 (FP.d2f x), .float (FP.d2f x) :: S)
    | _ => none
  | _ => none
/-! memory: what is read and written, by kind -/
def x_fi (t g : Nat) : Bool := x_fh t g && Nat.blt (x_ft g) 5
def x_fj (t g : Nat) : Bool := x_fh t g && (x_ft g == 5)
def x_fr (t g : Nat) : Bool := x_fh t g && (x_ft g == 9)
def gi (M : Mem) (a g : Nat) : Option Int32 := if x_fi (m_tg M a) g = true then some (cI M a g) else none
def gl (M : Mem) (a g : Nat) : Option Int64 := if x_fj (m_tg M a) g = true then some (cJ M a g) else none
def gr (M : Mem) (a g : Nat) : Option Nat := if x_fr (m_tg M a) g = true then some (cR M a g) else none
def m_in (M : Mem) (a : Nat) (j : Int32) : Bool := decide (¬ (j < 0 ∨ m_ln M a ≤ j.toNatClampNeg))
def ai (M : Mem) (a : Nat) (j : Int32) : Option Int32 := if (m_tg M a = 1005 ∨ m_tg M a = 1007) ∧ m_in M a j = true then some (cI M a j.toNatClampNeg) else none
def al (M : Mem) (a : Nat) (j : Int32) : Option Int64 := if m_tg M a = 1006 ∧ m_in M a j = true then some (cJ M a j.toNatClampNeg) else none
def ab (M : Mem) (a : Nat) (j : Int32) : Option Int32 := if (m_tg M a = 1001 ∨ m_tg M a = 1002 ∨ m_tg M a = 1008) ∧ m_in M a j = true then some (cI M a j.toNatClampNeg) else none
def ar (M : Mem) (a : Nat) (j : Int32) : Option Nat := if 1010 ≤ m_tg M a ∧ m_in M a j = true then some (cR M a j.toNatClampNeg) else none
def x_fit (k : Nat) (x : Int32) : Bool := k == 0 || k == 1 && (x == 0 || x == 1) || k == 2 && (-128 ≤ x && x ≤ 127) || k == 3 && (0 ≤ x && x ≤ 65535) || k == 4 && (-32768 ≤ x && x ≤ 32767)
def x_wi (t g : Nat) : Bool := x_fw t g && Nat.blt (x_ft g) 5
def x_wj (t g : Nat) : Bool := x_fw t g && (x_ft g == 5)
def x_wr (t g : Nat) : Bool := x_fw t g && (x_ft g == 9)
def pi (M : Mem) (a g : Nat) (v : Int32) : Option Mem := if x_wi (m_tg M a) g = true ∧ x_fit (x_ft g) v = true then some (wI M a g v) else none
def pj (M : Mem) (a g : Nat) (v : Int64) : Option Mem := if x_wj (m_tg M a) g = true then some (wJ M a g v) else none
def pr (M : Mem) (a g : Nat) (v : Nat) : Option Mem := if x_wr (m_tg M a) g = true then some (wR M a g v) else none
def si (M : Mem) (a : Nat) (j v : Int32) : Option Mem := if m_tg M a = 1005 ∧ m_in M a j = true then some (wI M a j.toNatClampNeg v) else none
def sj (M : Mem) (a : Nat) (j : Int32) (v : Int64) : Option Mem := if m_tg M a = 1006 ∧ m_in M a j = true then some (wJ M a j.toNatClampNeg v) else none
def sb (M : Mem) (a : Nat) (j v : Int32) : Option Mem := if m_in M a j = true then (if m_tg M a = 1001 then some (wI M a j.toNatClampNeg (v &&& 1)) else if m_tg M a = 1002 then some (wI M a j.toNatClampNeg (j_i2b v)) else none) else none
def x_at (t : ArrayType) : Nat := match t with
  | .boolean => 1001
  | .byte => 1002
  | .char => 1003
  | .short => 1004
  | .int => 1005
  | .long => 1006
  | _ => 1000
/-- arrays of which only the elements' kind is known: the script, the texts' bytes, the cache of Integers -/
def lo (t : Nat) : Bool := t == 1007 || t == 1008 || t == 1090
def x_cast (t r : Nat) : Bool := (x_base t == r && !lo t) || [(30, 29), (31, 29), (32, 29), (33, 29), (34, 29), (35, 29), (36, 29)].contains (t, r)
/-- what may be stored in an array of references of tag u -/
def x_asg (t u : Nat) : Bool := u == 1010 && (t != 0 && !lo t) || [(22, 1011), (39, 1012), (53, 1013), (23, 1014), (51, 1015), (19, 1016), (55, 1017)].contains (t, u)
def sr (M : Mem) (a : Nat) (j : Int32) (v : Nat) : Option Mem := if (1010 ≤ m_tg M a ∧ m_tg M a < 1090) ∧ m_in M a j = true ∧ (v = 0 ∨ x_asg (m_tg M v) (m_tg M a) = true) then some (wR M a j.toNatClampNeg v) else none
/-! primitives -/
def an (M : Mem) (a : Nat) : Option Int32 := if 1001 ≤ m_tg M a then some (m_ln M a).toInt32 else none
def mo (M : Mem) (t : Nat) : Mem := m_new M t (x_cn t)
def mk (M : Mem) (t : Nat) (n : Int32) : Option Mem := if n < 0 ∨ 67108864 < n.toNatClampNeg then none else some (m_new M t n.toNatClampNeg)
def cc (M : Mem) (a r : Nat) : Option Unit := if a = 0 ∨ x_cast (m_tg M a) r = true then some () else none
def io (M : Mem) (a r : Nat) : Option Int32 := if a = 0 then some 0 else if x_cast (m_tg M a) r = true then some 1 else none
/-- the instructions that touch memory: r1 a field's number, a class's or an array's tag -/
def me1 (i : Instr) (r1 : Nat) (S : xS) (M : Mem) : Option (xS × Mem) :=
  match i with
  | .getfield _ => match S with
    | .ref a :: S => match gi M a r1 with
      | some v => some (.int v :: S, M)
      | none => match gl M a r1 with
        | some v => some (.long v :: S, M)
        | none => match gr M a r1 with
          | some v => some (.ref v :: S, M)
          | none => none
    | _ => none
  | .putfield _ => match S with
    | .int v :: .ref a :: S => (pi M a r1 v).map fun M' => (S, M')
    | .long v :: .ref a :: S => (pj M a r1 v).map fun M' => (S, M')
    | .ref v :: .ref a :: S => (pr M a r1 v).map fun M' => (S, M')
    | _ => none
  | .iaload => match S with
    | .int j :: .ref a :: S => (ai M a j).map fun v => (.int v :: S, M)
    | _ => none
  | .laload => match S with
    | .int j :: .ref a :: S => (al M a j).map fun v => (.long v :: S, M)
    | _ => none
  | .baload => match S with
    | .int j :: .ref a :: S => (ab M a j).map fun v => (.int v :: S, M)
    | _ => none
  | .aaload => match S with
    | .int j :: .ref a :: S => (ar M a j).map fun v => (.ref v :: S, M)
    | _ => none
  | .iastore => match S with
    | .int x :: .int j :: .ref a :: S => (si M a j x).map fun M' => (S, M')
    | _ => none
  | .lastore => match S with
    | .long x :: .int j :: .ref a :: S => (sj M a j x).map fun M' => (S, M')
    | _ => none
  | .bastore => match S with
    | .int x :: .int j :: .ref a :: S => (sb M a j x).map fun M' => (S, M')
    | _ => none
  | .aastore => match S with
    | .ref v :: .int j :: .ref a :: S => (sr M a j v).map fun M' => (S, M')
    | _ => none
  | .arraylength => match S with
    | .ref a :: S => (an M a).map fun v => (.int v :: S, M)
    | _ => none
  | .new _ => some (.ref (m_nx M) :: S, mo M r1)
  | .newarray t => match S with
    | .int n :: S => (mk M (x_at t) n).map fun M' => (.ref (m_nx M) :: S, M')
    | _ => none
  | .anewarray _ => match S with
    | .int n :: S => (mk M r1 n).map fun M' => (.ref (m_nx M) :: S, M')
    | _ => none
  | .checkcast _ => match S with
    | .ref a :: S => (cc M a r1).map fun _ => (.ref a :: S, M)
    | _ => none
  | .instanceof _ => match S with
    | .ref a :: S => (io M a r1).map fun v => (.int v :: S, M)
    | _ => none
  | _ => none
/-- a method's code: its blocks of (pc, instruction, r1, r2), its handlers (from, to, block), its switches' blocks, its locals, its answer's kind (0 int, 1 boolean .. 5 long, 6 float, 7 double, 9 reference, 10 none) -/
abbrev xC : Type := List (Nat × Instr × Nat × Nat)
abbrev xM : Type := List xC × List (Nat × Nat × Nat) × List (List Nat) × Nat × Nat
def xnth : List xC → Nat → xC
  | [], _ => []
  | c :: _, 0 => c
  | _ :: l, b + 1 => xnth l b
def x_bk (K : xM) (b : Nat) : xC := xnth K.1 b
def x_hd (K : xM) (pc : Nat) : Option Nat := (K.2.1.find? fun h => decide (h.1 ≤ pc) && decide (pc < h.2.1)).map fun h => h.2.2
def x_sw (K : xM) (k : Nat) : List Nat := K.2.2.1.getD k []
def x_key (ps : List (Int × Int)) (x : Int) (k : Nat) : Option Nat := match ps with
  | [] => none
  | p :: ps => if p.1 = x then some k else x_key ps x (k + 1)
/-- constants that may be compared: 0 (null), 2, 3, 4, the texts 20 .. 64; and all cells of the run -/
def acs (x : Nat) : Bool := Nat.ble 1000 x || x == 0 || x == 2 || x == 3 || x == 4 || (Nat.ble 20 x && Nat.ble x 64)
/-- which references may be compared: of unlike constants only texts, and 3 with 4 -/
def ac (x y : Nat) : Bool := acs x && acs y && (x == y || (x != 2 && y != 2) && (Nat.ble 1000 x || Nat.ble 1000 y || x == 0 || y == 0 || (Nat.ble 20 x && Nat.ble 20 y) || (x == 3 && y == 4) || (x == 4 && y == 3)))
/-- the jumps: r1, r2 blocks (r2 where it falls through; of a switch r1 its row of blocks, r2 the default) -/
def jm1 (K : xM) (i : Instr) (r1 r2 : Nat) (S : xS) : Option (Nat × xS) :=
  match i with
  | .goto _ => some (r1, S)
  | .nop => some (r1, S)
  | .ifCond c _ => match S with
    | .int x :: S => match c with
      | .eq => some (if x = 0 then r1 else r2, S)
      | .ne => some (if x = 0 then r2 else r1, S)
      | .lt => some (if x < 0 then r1 else r2, S)
      | .ge => some (if x < 0 then r2 else r1, S)
      | .gt => some (if 0 < x then r1 else r2, S)
      | .le => some (if 0 < x then r2 else r1, S)
    | _ => none
  | .if_icmp c _ => match S with
    | .int y :: .int x :: S => match c with
      | .eq => some (if x = y then r1 else r2, S)
      | .ne => some (if x = y then r2 else r1, S)
      | .lt => some (if x < y then r1 else r2, S)
      | .ge => some (if x < y then r2 else r1, S)
      | .gt => some (if y < x then r1 else r2, S)
      | .le => some (if y < x then r2 else r1, S)
    | _ => none
  | .if_acmp c _ => match S with
    | .ref y :: .ref x :: S => if ac x y = true then (match c with
      | .eq => some (if x = y then r1 else r2, S)
      | .ne => some (if x = y then r2 else r1, S)) else none
    | _ => none
  | .ifnull _ => match S with
    | .ref x :: S => if x = 6 then none else some (if x = 0 then r1 else r2, S)
    | _ => none
  | .ifnonnull _ => match S with
    | .ref x :: S => if x = 6 then none else some (if x = 0 then r2 else r1, S)
    | _ => none
  | .tableswitch _ lo hi _ => match S with
    | .int x :: S => some (if x.toInt < lo ∨ hi < x.toInt then r2 else (x_sw K r1).getD (x.toInt - lo).toNat r2, S)
    | _ => none
  | .lookupswitch _ ps => match S with
    | .int x :: S => some (match x_key ps.toList x.toInt 0 with
      | some k => (x_sw K r1).getD k r2
      | none => r2, S)
    | _ => none
  | _ => none
/-! calls: r1 the method's number (from 800 on: abstract; from 900 on: natives), r2 = how many arguments + 16 * the tag of the class that declares it -/
def x_isa (t s : Nat) : Bool := x_base t == s || [(30, 29), (31, 29), (32, 29), (33, 29), (34, 29), (35, 29), (36, 29), (75, 74), (67, 66), (67, 65)].contains (t, s)
def ng (M : Mem) (b : Nat) : Option Unit := if m_tg M b = 0 then none else some ()
def vg (M : Mem) (b t : Nat) : Option Unit := if x_isa (m_tg M b) t = true then some () else none
def ca1 (i : Instr) (r1 r2 : Nat) (S : xS) (M : Mem) : Option (Nat × List Value × xS) :=
  match i with
  | .invokestatic _ => if r2 % 16 ≤ S.length ∧ (S.drop (r2 % 16)).length ≤ 8 then some (r1, (S.take (r2 % 16)).reverse, S.drop (r2 % 16)) else none
  | .invokespecial _ => match S.drop (r2 % 16) with
    | .ref b :: S' => if ng M b = some () ∧ S'.length ≤ 8 then some (r1, .ref b :: (S.take (r2 % 16)).reverse, S') else none
    | _ => none
  | .invokevirtual _ => match S.drop (r2 % 16) with
    | .ref b :: S' => if vg M b (r2 / 16) = some () ∧ S'.length ≤ 8 then some (if 800 ≤ r1 ∧ r1 < 900 then r1 + 1000 * m_tg M b else r1, .ref b :: (S.take (r2 % 16)).reverse, S') else none
    | _ => none
  | _ => none
/-- System.arraycopy from one array to another, of bytes or of references -/
def m_copy (M : Mem) (s : Nat) (sp : Int32) (d : Nat) (dp n : Int32) : Option Mem :=
  if s ≠ d ∧ ¬ sp < 0 ∧ ¬ dp < 0 ∧ ¬ n < 0 ∧ sp.toNatClampNeg + n.toNatClampNeg ≤ m_ln M s ∧ dp.toNatClampNeg + n.toNatClampNeg ≤ m_ln M d then
    (if (m_tg M s = 1002 ∨ m_tg M s = 1008) ∧ m_tg M d = 1002 then some (uI M d (va_cpy (cI M s) (cI M d) sp.toNatClampNeg dp.toNatClampNeg n.toNatClampNeg))
    else if (m_tg M s = 1010 ∨ m_tg M s = 1091) ∧ m_tg M d = 1010 then some (uR M d (va_cpy (cR M s) (cR M d) sp.toNatClampNeg dp.toNatClampNeg n.toNatClampNeg)) else none)
  else none
def nf2i (x : UInt32) : Option Int32 := if x_n32 x then some x.toInt32 else none
def ni2f (x : Int32) : Option UInt32 := if x_n32 x.toUInt32 then some x.toUInt32 else none
def nl2d (x : Int64) : Option UInt64 := if x_n64 x.toUInt64 then some x.toUInt64 else none
def nd2l (x : UInt64) : Option Int64 := if x_n64 x then some x.toInt64 else none
def gcl (M : Mem) (a : Nat) : Option Nat := if m_tg M a = 1010 ∨ m_tg M a = 1091 then some 2 else none
def ie (M : Mem) (a : Nat) : Option Unit := if m_tg M a = 64 then some () else none
def mcl (M : Mem) (a : Nat) : Option Mem := if m_tg M a = 1002 then some (uI (m_new M 1002 (m_ln M a)) (m_nx M) (cI M a)) else none
def nat1 (m : Nat) (A : List Value) (M : Mem) : Option (Option Value × Mem) :=
  match m, A with
  | 900, [.float x] => (nf2i x).map fun v => (some (.int v), M)
  | 901, [.int x] => (ni2f x).map fun v => (some (.float v), M)
  | 902, [.long x] => (nl2d x).map fun v => (some (.double v), M)
  | 903, [.double x] => (nd2l x).map fun v => (some (.long v), M)
  | 904, [.ref s, .int sp, .ref d, .int dp, .int n] => (m_copy M s sp d dp n).map fun M' => (none, M')
  | 905, [.ref a] => (gcl M a).map fun v => (some (.ref v), M)
  | 906, [.ref _] => some (none, M)
  | 907, [.ref a] => (ie M a).map fun _ => (none, M)
  | 908, [.ref a] => (mcl M a).map fun M' => (some (.ref (m_nx M)), M')
  | _, _ => none
/-- an outcome: returned (.inl), or threw (.inr) -/
abbrev xO : Type := Option Value ⊕ Nat
def ret1 (K : xM) (i : Instr) (S : xS) : Option xO :=
  match i with
  | .ireturn => match S with
    | [.int x] => if K.2.2.2.2 = 0 then some (.inl (some (.int x))) else if K.2.2.2.2 = 1 then some (.inl (some (.int (x &&& 1)))) else if K.2.2.2.2 = 3 then some (.inl (some (.int x.toUInt32.toUInt16.toUInt32.toInt32))) else if K.2.2.2.2 = 2 then some (.inl (some (.int x.toInt8.toInt32))) else none
    | _ => none
  | .lreturn => match S with
    | [.long x] => if K.2.2.2.2 = 5 then some (.inl (some (.long x))) else none
    | _ => none
  | .dreturn => match S with
    | [.double x] => if K.2.2.2.2 = 7 then some (.inl (some (.double x))) else none
    | _ => none
  | .areturn => match S with
    | [.ref x] => if K.2.2.2.2 = 9 then some (.inl (some (.ref x))) else none
    | _ => none
  | .return_ => match S with
    | [] => if K.2.2.2.2 = 10 then some (.inl none) else none
    | _ => none
  | _ => none
/-- the kind of an instruction: 0 straight, 1 with a guard, 2 on memory, 3 a jump, 4 a call, 5 a return, 6 athrow -/
def k1 (i : Instr) : Nat := match i with
  | .idiv | .irem | .ldiv | .lrem | .dadd | .dsub | .dmul | .ddiv | .drem | .fadd | .fsub | .fmul | .fdiv | .frem | .f2d | .d2f => 1
  | .getfield _ | .putfield _ | .iaload | .laload | .baload | .aaload | .iastore | .lastore | .bastore | .aastore | .arraylength | .new _ | .newarray _ | .anewarray _ | .checkcast _ | .instanceof _ => 2
  | .goto _ | .nop | .ifCond _ _ | .if_icmp _ _ | .if_acmp _ _ | .ifnull _ | .ifnonnull _ | .tableswitch _ _ _ _ | .lookupswitch _ _ => 3
  | .invokestatic _ | .invokespecial _ | .invokevirtual _ => 4
  | .ireturn | .lreturn | .dreturn | .areturn | .return_ => 5
  | .athrow => 6
  | _ => 0
/-- the locals with which a method begins -/
def x_spread : List Value → xL
  | [] => []
  | v :: vs => if v.category = 2 then some v :: none :: x_spread vs else some v :: x_spread vs
def x_entry (A : List Value) (n : Nat) : xL := x_spread A ++ List.replicate (n - (x_spread A).length) none
/-- where a thrown object goes on in this frame, or that it leaves it -/
def x_thr (X : xC → xS → Option (xO × Mem)) (K : xM) (pc a : Nat) (M : Mem) : Option (xO × Mem) := match x_hd K pc with
  | some b => X (x_bk K b) [.ref a]
  | none => some (.inr a, M)
def x_top (S : xS) : Option Nat := match S with
  | .ref a :: _ => some a
  | _ => none
/-- one instruction, then X -/
def x_step (P : Nat → Option xM) (X : Nat → xM → xC → xL → xS → Mem → Option (xO × Mem)) (d : Nat) (K : xM) (cs : xC) (L : xL) (S : xS) (M : Mem) : Option (xO × Mem) :=
  match cs with
  | [] => none
  | (pc, i, r1, r2) :: cs =>
    match k1 i with
    | 0 => (st1 i r1 r2 L S).bind fun q => X d K cs q.1 q.2 M
    | 1 => (gd1 i S).bind fun q => if q.1 = true then X d K cs L q.2 M else none
    | 2 => (me1 i r1 S M).bind fun q => X d K cs L q.1 q.2
    | 3 => (jm1 K i r1 r2 S).bind fun q => X d K (x_bk K q.1) L q.2 M
    | 4 => (ca1 i r1 r2 S M).bind fun q =>
        if 900 ≤ q.1 ∧ q.1 < 1000 then (nat1 q.1 q.2.1 M).bind fun z => X d K cs L (z.1.toList ++ q.2.2) z.2
        else if d = 0 then none else (P q.1).bind fun K' => if (x_spread q.2.1).length ≤ K'.2.2.2.1 then (X (d - 1) K' (x_bk K' 0) (x_entry q.2.1 K'.2.2.2.1) [] M).bind fun z =>
          match z.1 with
          | .inl v => X d K cs L (v.toList ++ q.2.2) z.2
          | .inr a => x_thr (fun c s => X d K c L s z.2) K pc a z.2
          else none
    | 5 => (ret1 K i S).map fun o => (o, M)
    | _ => (x_top S).bind fun a => if m_tg M a = 64 then x_thr (fun c s => X d K c L s M) K pc a M else none
def exec (P : Nat → Option xM) : Nat → Nat → xM → xC → xL → xS → Mem → Option (xO × Mem)
  | 0 => fun _ _ _ _ _ _ => none
  | n + 1 => x_step P (exec P n)
