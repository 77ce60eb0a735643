/-! THE SMALL MACHINE: the instructions that the two classes use, as a function over an abstract heap: ints and longs by (array, place); array 0 holds the fields themselves -/
abbrev mj_X : Type := (Nat → Nat → Int32) × (Nat → Nat → Int64)
abbrev mj_R : Type := Option (Option Value × mj_X)
abbrev mj_L : Type := List (Option Value)
abbrev mj_S : Type := Nat × mj_L × List Value × mj_X
def mj_wI (x : mj_X) (k j : Nat) (v : Int32) : mj_X := (fun a => if a = k then upd (x.1 a) j v else x.1 a, x.2)
def mj_wL (x : mj_X) (k j : Nat) (v : Int64) : mj_X := (x.1, fun a => if a = k then vp_updL (x.2 a) j v else x.2 a)
/-- what the constant pool's numbers mean: a field's number + 1; a field's kind (0 int, 1 boolean, 2 long, 3 int[], 4 byte[], 5 boolean[], 6 long[]); an array's length; a constant; a method's number + 1; how many arguments it has (this aside); what it gives (0 nothing, 1 int, 2 long, 3 float, 4 double, 5 boolean) -/
abbrev mj_C : Type := (Nat → Nat) × (Nat → Nat) × (Nat → Nat) × (Nat → Value) × (Nat → Nat) × (Nat → Nat) × (Nat → Nat)
def mj_e (len n : Nat) (r : mj_R) : mj_R := bif Nat.beq len n then r else none
def mj_in (i : Int32) (n : Nat) : Bool := !(decide (i < 0) || Nat.ble n i.toNatClampNeg)
def mj_g (i : Int32) (n : Nat) (r : mj_R) : mj_R := bif mj_in i n then r else none
def mj_zb (v : Int32) : Bool := decide (v = 0) || decide (v = 1)
def mj_gb (v : Int32) (r : mj_R) : mj_R := bif mj_zb v then r else none
def mj_d32 (y : Int32) (r : mj_R) : mj_R := if y = 0 then none else r
def mj_d64 (y : Int64) (r : mj_R) : mj_R := if y = 0 then none else r
def mj_n32 (b : UInt32) (r : mj_R) : mj_R := if b &&& 0x7fffffff ≤ 0x7f800000 then r else none
def mj_n64 (b : UInt64) (r : mj_R) : mj_R := if b &&& 0x7fffffffffffffff ≤ 0x7ff0000000000000 then r else none
def mj_pI (st : List Value) (k : Int32 → List Value → mj_R) : mj_R := match st with | .int a :: r => k a r | _ => none
def mj_pL (st : List Value) (k : Int64 → List Value → mj_R) : mj_R := match st with | .long a :: r => k a r | _ => none
def mj_pF (st : List Value) (k : UInt32 → List Value → mj_R) : mj_R := match st with | .float a :: r => k a r | _ => none
def mj_pD (st : List Value) (k : UInt64 → List Value → mj_R) : mj_R := match st with | .double a :: r => k a r | _ => none
def mj_pA (st : List Value) (k : Nat → List Value → mj_R) : mj_R := match st with | .ref a :: r => k a r | _ => none
def mj_lI (ls : mj_L) (n : Nat) (k : Int32 → mj_R) : mj_R := match ls[n]? with | some (some (.int a)) => k a | _ => none
def mj_lL (ls : mj_L) (n : Nat) (k : Int64 → mj_R) : mj_R := match ls[n]? with | some (some (.long a)) => k a | _ => none
def mj_lF (ls : mj_L) (n : Nat) (k : UInt32 → mj_R) : mj_R := match ls[n]? with | some (some (.float a)) => k a | _ => none
def mj_lD (ls : mj_L) (n : Nat) (k : UInt64 → mj_R) : mj_R := match ls[n]? with | some (some (.double a)) => k a | _ => none
def mj_lA (ls : mj_L) (n : Nat) (k : Nat → mj_R) : mj_R := match ls[n]? with | some (some (.ref a)) => k a | _ => none
/-- a long that ends in the place ahead is broken -/
def mj_cl (ls : mj_L) (i : Nat) : mj_L := match i with | 0 => ls | j + 1 => match ls[j]? with | some (some (.long _)) => ls.set j none | some (some (.double _)) => ls.set j none | _ => ls
def mj_s1 (ls : mj_L) (i : Nat) (v : Value) (k : mj_L → mj_R) : mj_R := bif Nat.blt i ls.length then k ((mj_cl ls i).set i (some v)) else none
def mj_s2 (ls : mj_L) (i : Nat) (v : Value) (k : mj_L → mj_R) : mj_R := bif Nat.blt (i + 1) ls.length then k (((mj_cl ls i).set i (some v)).set (i + 1) none) else none
def mj_j (pc : Nat) (off : Int) (k : Nat → mj_R) : mj_R := match (pc : Int) + off with | .ofNat t => k t | .negSucc _ => none
def mj_sw (x : Int32) (v : Int) (dflt : Int) (offs : List Int) (k : Int → mj_R) : mj_R := match offs with | [] => k dflt | o :: os => if x = Int32.ofInt v then k o else mj_sw x (v + 1) dflt os k
def mj_lk (x : Int32) (dflt : Int) (ps : List (Int × Int)) (k : Int → mj_R) : mj_R := match ps with | [] => k dflt | q :: qs => if x = Int32.ofInt q.1 then k q.2 else mj_lk x dflt qs k
def mj_rV (r : mj_R) (k : mj_X → mj_R) : mj_R := match r with | some (none, x) => k x | _ => none
def mj_rI (r : mj_R) (k : Int32 → mj_X → mj_R) : mj_R := match r with | some (some (.int v), x) => k v x | _ => none
def mj_rL (r : mj_R) (k : Int64 → mj_X → mj_R) : mj_R := match r with | some (some (.long v), x) => k v x | _ => none
def mj_rF (r : mj_R) (k : UInt32 → mj_X → mj_R) : mj_R := match r with | some (some (.float v), x) => k v x | _ => none
def mj_rD (r : mj_R) (k : UInt64 → mj_X → mj_R) : mj_R := match r with | some (some (.double v), x) => k v x | _ => none
def mj_rr (t : Nat) (r : mj_R) (rest : List Value) (k : List Value → mj_X → mj_R) : mj_R := match t with
  | 0 => mj_rV r (fun x => k rest x)
  | 2 => mj_rL r (fun v x => k (.long v :: rest) x)
  | 3 => mj_rF r (fun v x => k (.float v :: rest) x)
  | 4 => mj_rD r (fun v x => k (.double v :: rest) x)
  | _ => mj_rI r (fun v x => k (.int v :: rest) x)
def mj_few (rest : List Value) (r : mj_R) : mj_R := bif Nat.ble (rest.map Value.category).sum 8 then r else none
def mj_iv (cd : mj_C) (cal : Nat → List Value → mj_X → mj_R) (idx : Nat) (st : List Value) (x : mj_X) (k : List Value → mj_X → mj_R) : mj_R := match cd.2.2.2.2.1 idx with
  | 0 => none
  | m + 1 => bif Nat.blt m 1000 then (match st.drop (cd.2.2.2.2.2.1 m) with
    | .ref 0 :: rest => mj_few rest (mj_rr (cd.2.2.2.2.2.2 m) (cal m (.ref 0 :: (st.take (cd.2.2.2.2.2.1 m)).reverse) x) rest k)
    | _ => none) else none
def mj_is (cd : mj_C) (cal : Nat → List Value → mj_X → mj_R) (idx : Nat) (st : List Value) (x : mj_X) (k : List Value → mj_X → mj_R) : mj_R := match cd.2.2.2.2.1 idx with
  | 0 => none
  | m + 1 => bif Nat.ble (cd.2.2.2.2.2.1 m) st.length then mj_few (st.drop (cd.2.2.2.2.2.1 m)) (mj_rr (cd.2.2.2.2.2.2 m) (cal m (st.take (cd.2.2.2.2.2.1 m)).reverse x) (st.drop (cd.2.2.2.2.2.1 m)) k) else none
def mj_gf (cd : mj_C) (idx : Nat) (st : List Value) (x : mj_X) (k : List Value → mj_R) : mj_R := match st with
  | .ref 0 :: r => (match cd.1 idx with
    | 0 => none
    | f + 1 => (match cd.2.1 f with
      | 0 => k (.int (x.1 0 f) :: r)
      | 1 => k (.int (x.1 0 f) :: r)
      | 2 => k (.long (x.2 0 f) :: r)
      | _ => k (.ref (f + 1) :: r)))
  | _ => none
def mj_pf (cd : mj_C) (idx : Nat) (st : List Value) (x : mj_X) (k : List Value → mj_X → mj_R) : mj_R := match st with
  | .int v :: .ref 0 :: r => (match cd.1 idx with
    | 0 => none
    | f + 1 => (match cd.2.1 f with
      | 0 => k r (mj_wI x 0 f v)
      | 1 => mj_gb v (k r (mj_wI x 0 f v))
      | _ => none))
  | .long v :: .ref 0 :: r => (match cd.1 idx with
    | 0 => none
    | f + 1 => (match cd.2.1 f with
      | 2 => k r (mj_wL x 0 f v)
      | _ => none))
  | _ => none
/-- an array's number: the field's number + 1, of a kind -/
def mj_ar (cd : mj_C) (a : Nat) (kd : Nat) (k : Nat → mj_R) : mj_R := match a with
  | 0 => none
  | f + 1 => bif Nat.beq (cd.2.1 f) kd then k (cd.2.2.1 f) else none
def mj_bl (cd : mj_C) (a : Nat) (k : Nat → mj_R) : mj_R := match a with
  | 0 => none
  | f + 1 => (match cd.2.1 f with | 4 => k (cd.2.2.1 f) | 5 => k (cd.2.2.1 f) | _ => none)
def mj_bs (cd : mj_C) (a : Nat) (v : Int32) (k : Nat → Int32 → mj_R) : mj_R := match a with
  | 0 => none
  | f + 1 => (match cd.2.1 f with | 4 => k (cd.2.2.1 f) v.toInt8.toInt32 | 5 => mj_gb v (k (cd.2.2.1 f) v) | _ => none)
def mj_al (cd : mj_C) (a : Nat) (k : Nat → mj_R) : mj_R := match a with
  | 0 => none
  | f + 1 => bif Nat.ble 3 (cd.2.1 f) then k (cd.2.2.1 f) else none
def mj_ck1 (cd : mj_C) (idx : Nat) (k : Value → mj_R) : mj_R := match cd.2.2.2.1 idx with | .int v => k (.int v) | .float v => k (.float v) | _ => none
def mj_ckw (cd : mj_C) (idx : Nat) (k : Value → mj_R) : mj_R := match cd.2.2.2.1 idx with | .int v => k (.int v) | .float v => k (.float v) | _ => none
def mj_ck2 (cd : mj_C) (idx : Nat) (k : Value → mj_R) : mj_R := match cd.2.2.2.1 idx with | .long v => k (.long v) | .double v => k (.double v) | _ => none
def mj_if (c : ClassFile.Cond) (a b : Int32) (t f : mj_R) : mj_R := match c with
  | .eq => if a = b then t else f
  | .ne => if a = b then f else t
  | .lt => if a < b then t else f
  | .ge => if b ≤ a then t else f
  | .gt => if b < a then t else f
  | .le => if a ≤ b then t else f
def mj_ret (rt : Nat) (v : Int32) (x : mj_X) : mj_R := match rt with
  | 1 => some (some (.int v), x)
  | 5 => mj_gb v (some (some (.int v), x))
  | _ => none
/-- one instruction, the rest of the run behind it as k -/
def mj_st (cd : mj_C) (rt : Nat) (cal : Nat → List Value → mj_X → mj_R) (i : Instr) (len pc : Nat) (ls : mj_L) (st : List Value) (x : mj_X) (k : mj_S → mj_R) : mj_R := match i with
  | .iload n => mj_e len 2 (mj_lI ls n fun a => k (pc + 2, ls, .int a :: st, x))
  | .iload_n n => mj_e len 1 (mj_lI ls n.val fun a => k (pc + 1, ls, .int a :: st, x))
  | .lload n => mj_e len 2 (mj_lL ls n fun a => k (pc + 2, ls, .long a :: st, x))
  | .lload_n n => mj_e len 1 (mj_lL ls n.val fun a => k (pc + 1, ls, .long a :: st, x))
  | .fload n => mj_e len 2 (mj_lF ls n fun a => k (pc + 2, ls, .float a :: st, x))
  | .fload_n n => mj_e len 1 (mj_lF ls n.val fun a => k (pc + 1, ls, .float a :: st, x))
  | .dload n => mj_e len 2 (mj_lD ls n fun a => k (pc + 2, ls, .double a :: st, x))
  | .dload_n n => mj_e len 1 (mj_lD ls n.val fun a => k (pc + 1, ls, .double a :: st, x))
  | .aload_n n => mj_e len 1 (mj_lA ls n.val fun a => k (pc + 1, ls, .ref a :: st, x))
  | .istore n => mj_e len 2 (mj_pI st fun a r => mj_s1 ls n (.int a) fun ls => k (pc + 2, ls, r, x))
  | .istore_n n => mj_e len 1 (mj_pI st fun a r => mj_s1 ls n.val (.int a) fun ls => k (pc + 1, ls, r, x))
  | .fstore n => mj_e len 2 (mj_pF st fun a r => mj_s1 ls n (.float a) fun ls => k (pc + 2, ls, r, x))
  | .fstore_n n => mj_e len 1 (mj_pF st fun a r => mj_s1 ls n.val (.float a) fun ls => k (pc + 1, ls, r, x))
  | .lstore n => mj_e len 2 (mj_pL st fun a r => mj_s2 ls n (.long a) fun ls => k (pc + 2, ls, r, x))
  | .lstore_n n => mj_e len 1 (mj_pL st fun a r => mj_s2 ls n.val (.long a) fun ls => k (pc + 1, ls, r, x))
  | .dstore n => mj_e len 2 (mj_pD st fun a r => mj_s2 ls n (.double a) fun ls => k (pc + 2, ls, r, x))
  | .dstore_n n => mj_e len 1 (mj_pD st fun a r => mj_s2 ls n.val (.double a) fun ls => k (pc + 1, ls, r, x))
  | .iinc n c => mj_e len 3 (mj_lI ls n fun a => mj_s1 ls n (.int (a + Int32.ofInt c)) fun ls => k (pc + 3, ls, st, x))
  | .iconst c => mj_e len 1 (k (pc + 1, ls, .int (Int32.ofInt c) :: st, x))
  | .bipush c => mj_e len 2 (k (pc + 2, ls, .int (Int8.ofInt c).toInt32 :: st, x))
  | .sipush c => mj_e len 3 (k (pc + 3, ls, .int (Int16.ofInt c).toInt32 :: st, x))
  | .ldc n => mj_e len 2 (mj_ck1 cd n fun v => k (pc + 2, ls, v :: st, x))
  | .ldc_w n => mj_e len 3 (mj_ckw cd n fun v => k (pc + 3, ls, v :: st, x))
  | .ldc2_w n => mj_e len 3 (mj_ck2 cd n fun v => k (pc + 3, ls, v :: st, x))
  | .lconst n => mj_e len 1 (k (pc + 1, ls, .long (Int64.ofNat n.val) :: st, x))
  | .dconst n => mj_e len 1 (match n with | 0 => k (pc + 1, ls, .double FP.dconst0 :: st, x) | _ => none)
  | .dup => mj_e len 1 (match st with | v :: r => bif Nat.beq v.category 1 then k (pc + 1, ls, v :: v :: r, x) else none | _ => none)
  | .dup_x1 => mj_e len 1 (match st with | v :: w :: r => bif Nat.beq v.category 1 && Nat.beq w.category 1 then k (pc + 1, ls, v :: w :: v :: r, x) else none | _ => none)
  | .pop => mj_e len 1 (match st with | v :: r => bif Nat.beq v.category 1 then k (pc + 1, ls, r, x) else none | _ => none)
  | .pop2 => mj_e len 1 (match st with | v :: r => bif Nat.beq v.category 2 then k (pc + 1, ls, r, x) else none | _ => none)
  | .iadd => mj_e len 1 (mj_pI st fun b r => mj_pI r fun a r => k (pc + 1, ls, .int (a + b) :: r, x))
  | .isub => mj_e len 1 (mj_pI st fun b r => mj_pI r fun a r => k (pc + 1, ls, .int (a - b) :: r, x))
  | .imul => mj_e len 1 (mj_pI st fun b r => mj_pI r fun a r => k (pc + 1, ls, .int (a * b) :: r, x))
  | .idiv => mj_e len 1 (mj_pI st fun b r => mj_pI r fun a r => mj_d32 b (k (pc + 1, ls, .int (a / b) :: r, x)))
  | .irem => mj_e len 1 (mj_pI st fun b r => mj_pI r fun a r => mj_d32 b (k (pc + 1, ls, .int (a - a / b * b) :: r, x)))
  | .ineg => mj_e len 1 (mj_pI st fun a r => k (pc + 1, ls, .int (-a) :: r, x))
  | .iand => mj_e len 1 (mj_pI st fun b r => mj_pI r fun a r => k (pc + 1, ls, .int (a &&& b) :: r, x))
  | .ior => mj_e len 1 (mj_pI st fun b r => mj_pI r fun a r => k (pc + 1, ls, .int (a ||| b) :: r, x))
  | .ixor => mj_e len 1 (mj_pI st fun b r => mj_pI r fun a r => k (pc + 1, ls, .int (a ^^^ b) :: r, x))
  | .ishl => mj_e len 1 (mj_pI st fun b r => mj_pI r fun a r => k (pc + 1, ls, .int (a <<< (b &&& 31)) :: r, x))
  | .ishr => mj_e len 1 (mj_pI st fun b r => mj_pI r fun a r => k (pc + 1, ls, .int (a >>> (b &&& 31)) :: r, x))
  | .iushr => mj_e len 1 (mj_pI st fun b r => mj_pI r fun a r => k (pc + 1, ls, .int (a.toUInt32 >>> (b.toUInt32 &&& Int32.toUInt32 31)).toInt32 :: r, x))
  | .ladd => mj_e len 1 (mj_pL st fun b r => mj_pL r fun a r => k (pc + 1, ls, .long (a + b) :: r, x))
  | .lsub => mj_e len 1 (mj_pL st fun b r => mj_pL r fun a r => k (pc + 1, ls, .long (a - b) :: r, x))
  | .lmul => mj_e len 1 (mj_pL st fun b r => mj_pL r fun a r => k (pc + 1, ls, .long (a * b) :: r, x))
  | .ldiv => mj_e len 1 (mj_pL st fun b r => mj_pL r fun a r => mj_d64 b (k (pc + 1, ls, .long (a / b) :: r, x)))
  | .lrem => mj_e len 1 (mj_pL st fun b r => mj_pL r fun a r => mj_d64 b (k (pc + 1, ls, .long (a - a / b * b) :: r, x)))
  | .lneg => mj_e len 1 (mj_pL st fun a r => k (pc + 1, ls, .long (-a) :: r, x))
  | .land => mj_e len 1 (mj_pL st fun b r => mj_pL r fun a r => k (pc + 1, ls, .long (a &&& b) :: r, x))
  | .lor => mj_e len 1 (mj_pL st fun b r => mj_pL r fun a r => k (pc + 1, ls, .long (a ||| b) :: r, x))
  | .lxor => mj_e len 1 (mj_pL st fun b r => mj_pL r fun a r => k (pc + 1, ls, .long (a ^^^ b) :: r, x))
  | .lshl => mj_e len 1 (mj_pI st fun b r => mj_pL r fun a r => k (pc + 1, ls, .long (a <<< (b.toInt64 &&& 63)) :: r, x))
  | .lshr => mj_e len 1 (mj_pI st fun b r => mj_pL r fun a r => k (pc + 1, ls, .long (a >>> (b.toInt64 &&& 63)) :: r, x))
  | .lushr => mj_e len 1 (mj_pI st fun b r => mj_pL r fun a r => k (pc + 1, ls, .long (a.toUInt64 >>> (b.toInt64.toUInt64 &&& Int64.toUInt64 63)).toInt64 :: r, x))
  | .lcmp => mj_e len 1 (mj_pL st fun b r => mj_pL r fun a r => k (pc + 1, ls, .int (lg_cmp a b) :: r, x))
  | .fadd => mj_e len 1 (mj_pF st fun b r => mj_pF r fun a r => mj_n32 (FP.fadd a b) (k (pc + 1, ls, .float (FP.fadd a b) :: r, x)))
  | .fsub => mj_e len 1 (mj_pF st fun b r => mj_pF r fun a r => mj_n32 (FP.fsub a b) (k (pc + 1, ls, .float (FP.fsub a b) :: r, x)))
  | .fmul => mj_e len 1 (mj_pF st fun b r => mj_pF r fun a r => mj_n32 (FP.fmul a b) (k (pc + 1, ls, .float (FP.fmul a b) :: r, x)))
  | .fdiv => mj_e len 1 (mj_pF st fun b r => mj_pF r fun a r => mj_n32 (FP.fdiv a b) (k (pc + 1, ls, .float (FP.fdiv a b) :: r, x)))
  | .frem => mj_e len 1 (mj_pF st fun b r => mj_pF r fun a r => mj_n32 (FP.frem a b) (k (pc + 1, ls, .float (FP.frem a b) :: r, x)))
  | .fneg => mj_e len 1 (mj_pF st fun a r => k (pc + 1, ls, .float (FP.fneg a) :: r, x))
  | .fcmp op => mj_e len 1 (mj_pF st fun b r => mj_pF r fun a r => k (pc + 1, ls, .int (Op.cmpValue (FP.fcmp a b) op) :: r, x))
  | .dadd => mj_e len 1 (mj_pD st fun b r => mj_pD r fun a r => mj_n64 (FP.dadd a b) (k (pc + 1, ls, .double (FP.dadd a b) :: r, x)))
  | .dsub => mj_e len 1 (mj_pD st fun b r => mj_pD r fun a r => mj_n64 (FP.dsub a b) (k (pc + 1, ls, .double (FP.dsub a b) :: r, x)))
  | .dmul => mj_e len 1 (mj_pD st fun b r => mj_pD r fun a r => mj_n64 (FP.dmul a b) (k (pc + 1, ls, .double (FP.dmul a b) :: r, x)))
  | .ddiv => mj_e len 1 (mj_pD st fun b r => mj_pD r fun a r => mj_n64 (FP.ddiv a b) (k (pc + 1, ls, .double (FP.ddiv a b) :: r, x)))
  | .drem => mj_e len 1 (mj_pD st fun b r => mj_pD r fun a r => mj_n64 (FP.drem a b) (k (pc + 1, ls, .double (FP.drem a b) :: r, x)))
  | .dneg => mj_e len 1 (mj_pD st fun a r => k (pc + 1, ls, .double (FP.dneg a) :: r, x))
  | .dcmp op => mj_e len 1 (mj_pD st fun b r => mj_pD r fun a r => k (pc + 1, ls, .int (Op.cmpValue (FP.dcmp a b) op) :: r, x))
  | .i2l => mj_e len 1 (mj_pI st fun a r => k (pc + 1, ls, .long a.toInt64 :: r, x))
  | .i2b => mj_e len 1 (mj_pI st fun a r => k (pc + 1, ls, .int a.toInt8.toInt32 :: r, x))
  | .i2c => mj_e len 1 (mj_pI st fun a r => k (pc + 1, ls, .int (a.toUInt32 % 65536).toInt32 :: r, x))
  | .i2s => mj_e len 1 (mj_pI st fun a r => k (pc + 1, ls, .int a.toInt16.toInt32 :: r, x))
  | .i2f => mj_e len 1 (mj_pI st fun a r => k (pc + 1, ls, .float (FP.i2f a) :: r, x))
  | .i2d => mj_e len 1 (mj_pI st fun a r => k (pc + 1, ls, .double (FP.i2d a) :: r, x))
  | .l2i => mj_e len 1 (mj_pL st fun a r => k (pc + 1, ls, .int a.toInt32 :: r, x))
  | .l2f => mj_e len 1 (mj_pL st fun a r => k (pc + 1, ls, .float (FP.l2f a) :: r, x))
  | .l2d => mj_e len 1 (mj_pL st fun a r => k (pc + 1, ls, .double (FP.l2d a) :: r, x))
  | .f2i => mj_e len 1 (mj_pF st fun a r => k (pc + 1, ls, .int (FP.f2i a) :: r, x))
  | .f2l => mj_e len 1 (mj_pF st fun a r => k (pc + 1, ls, .long (FP.f2l a) :: r, x))
  | .f2d => mj_e len 1 (mj_pF st fun a r => mj_n64 (FP.f2d a) (k (pc + 1, ls, .double (FP.f2d a) :: r, x)))
  | .d2i => mj_e len 1 (mj_pD st fun a r => k (pc + 1, ls, .int (FP.d2i a) :: r, x))
  | .d2l => mj_e len 1 (mj_pD st fun a r => k (pc + 1, ls, .long (FP.d2l a) :: r, x))
  | .d2f => mj_e len 1 (mj_pD st fun a r => mj_n32 (FP.d2f a) (k (pc + 1, ls, .float (FP.d2f a) :: r, x)))
  | .goto off => mj_e len 3 (mj_j pc off fun t => k (t, ls, st, x))
  | .ifCond c off => mj_e len 3 (mj_j pc off fun t => mj_pI st fun a r => mj_if c a 0 (k (t, ls, r, x)) (k (pc + 3, ls, r, x)))
  | .if_icmp c off => mj_e len 3 (mj_j pc off fun t => mj_pI st fun b r => mj_pI r fun a r => mj_if c a b (k (t, ls, r, x)) (k (pc + 3, ls, r, x)))
  | .tableswitch dflt lo hi offs => mj_pI st fun a r => bif decide (-2147483648 ≤ lo) && decide (hi ≤ 2147483647) && decide (lo + offs.toList.length = hi + 1) then mj_sw a lo dflt offs.toList (fun off => mj_j pc off fun t => k (t, ls, r, x)) else none
  | .lookupswitch dflt ps => mj_pI st fun a r => bif (ps.toList.zip (ps.toList.drop 1)).all (fun q => decide (q.1.1 < q.2.1)) && ps.toList.all (fun q => decide (-2147483648 ≤ q.1) && decide (q.1 ≤ 2147483647)) then mj_lk a dflt ps.toList (fun off => mj_j pc off fun t => k (t, ls, r, x)) else none
  | .getfield idx => mj_e len 3 (mj_gf cd idx st x fun st => k (pc + 3, ls, st, x))
  | .putfield idx => mj_e len 3 (mj_pf cd idx st x fun st x => k (pc + 3, ls, st, x))
  | .iaload => mj_e len 1 (mj_pI st fun i r => mj_pA r fun a r => mj_ar cd a 3 fun n => mj_g i n (k (pc + 1, ls, .int (x.1 a i.toNatClampNeg) :: r, x)))
  | .baload => mj_e len 1 (mj_pI st fun i r => mj_pA r fun a r => mj_bl cd a fun n => mj_g i n (k (pc + 1, ls, .int (x.1 a i.toNatClampNeg) :: r, x)))
  | .laload => mj_e len 1 (mj_pI st fun i r => mj_pA r fun a r => mj_ar cd a 6 fun n => mj_g i n (k (pc + 1, ls, .long (x.2 a i.toNatClampNeg) :: r, x)))
  | .iastore => mj_e len 1 (mj_pI st fun v r => mj_pI r fun i r => mj_pA r fun a r => mj_ar cd a 3 fun n => mj_g i n (k (pc + 1, ls, r, mj_wI x a i.toNatClampNeg v)))
  | .bastore => mj_e len 1 (mj_pI st fun v r => mj_pI r fun i r => mj_pA r fun a r => mj_bs cd a v fun n v => mj_g i n (k (pc + 1, ls, r, mj_wI x a i.toNatClampNeg v)))
  | .lastore => mj_e len 1 (mj_pL st fun v r => mj_pI r fun i r => mj_pA r fun a r => mj_ar cd a 6 fun n => mj_g i n (k (pc + 1, ls, r, mj_wL x a i.toNatClampNeg v)))
  | .arraylength => mj_e len 1 (mj_pA st fun a r => mj_al cd a fun n => k (pc + 1, ls, .int (Int32.ofNat n) :: r, x))
  | .ireturn => mj_e len 1 (match st with | [.int v] => mj_ret rt v x | _ => none)
  | .lreturn => mj_e len 1 (match st with | [.long v] => bif Nat.beq rt 2 then some (some (.long v), x) else none | _ => none)
  | .freturn => mj_e len 1 (match st with | [.float v] => bif Nat.beq rt 3 then some (some (.float v), x) else none | _ => none)
  | .dreturn => mj_e len 1 (match st with | [.double v] => bif Nat.beq rt 4 then some (some (.double v), x) else none | _ => none)
  | .return_ => mj_e len 1 (match st with | [] => bif Nat.beq rt 0 then some (none, x) else none | _ => none)
  | .invokevirtual idx => mj_e len 3 (mj_iv cd cal idx st x fun st x => k (pc + 3, ls, st, x))
  | .invokestatic idx => mj_e len 3 (mj_is cd cal idx st x fun st x => k (pc + 3, ls, st, x))
  | _ => none
/-- a method's instructions by their places -/
abbrev mj_T : Type := Nat → Option (Instr × Nat)
def mj_s0 (cd : mj_C) (rt : Nat) (tab : mj_T) (cal : Nat → List Value → mj_X → mj_R) (s : mj_S) (k : mj_S → mj_R) : mj_R := match tab s.1 with
  | some q => mj_st cd rt cal q.1 q.2 s.1 s.2.1 s.2.2.1 s.2.2.2 k
  | none => none
def mj_ex (cd : mj_C) (rt : Nat) (tab : mj_T) (cal : Nat → List Value → mj_X → mj_R) : Nat → mj_S → mj_R
  | 0, _ => none
  | n + 1, s => mj_s0 cd rt tab cal s (mj_ex cd rt tab cal n)
