/-! the JDK's methods that the classes call, and the classes' own: a call's depth is bounded -/
def mj_max (a b : Int32) : Int32 := if b ≤ a then a else b
def mj_min (a b : Int32) : Int32 := if a ≤ b then a else b
def mj_f2b (b : UInt32) : Int32 := if b &&& 0x7fffffff ≤ 0x7f800000 then b.toInt32 else 2143289344
def mj_d2b (b : UInt64) : Int64 := if b &&& 0x7fffffffffffffff ≤ 0x7ff0000000000000 then b.toInt64 else 9221120237041090560
def mj_fil {α : Type} (f : Nat → α) (a b : Nat) (v : α) : Nat → α := fun j => if a ≤ j ∧ j < b then v else f j
def mj_fI (x : mj_X) (k a b : Nat) (v : Int32) : mj_X := (fun c => if c = k then mj_fil (x.1 c) a b v else x.1 c, x.2)
def mj_fL (x : mj_X) (k a b : Nat) (v : Int64) : mj_X := (x.1, fun c => if c = k then mj_fil (x.2 c) a b v else x.2 c)
def mj_cp (x : mj_X) (k sp k' dp n : Nat) : mj_X := (fun c => if c = k' then va_cpy (x.1 k) (x.1 k') sp dp n else x.1 c, x.2)
def mj_rg (a b : Int32) (n : Nat) : Bool := decide (0 ≤ a) && decide (a ≤ b) && decide (b ≤ Int32.ofNat n)
def mj_pr (cd : mj_C) (m : Nat) (args : List Value) (x : mj_X) : mj_R := match m, args with
  | 1000, [.int a, .int b] => some (some (.int (mj_max a b)), x)
  | 1001, [.int a, .int b] => some (some (.int (mj_min a b)), x)
  | 1002, [.float b] => some (some (.int (mj_f2b b)), x)
  | 1003, [.int i] => bif vn_sni2f i then none else some (some (.float i.toUInt32), x)
  | 1004, [.double b] => some (some (.long (mj_d2b b)), x)
  | 1005, [.long i] => bif vn_snl2d i then none else some (some (.double i.toUInt64), x)
  | 1006, [.ref a, .int i, .int j, .int v] => mj_ar cd a 5 fun n => bif mj_rg i j n then mj_gb v (some (none, mj_fI x a i.toNatClampNeg j.toNatClampNeg v)) else none
  | 1007, [.ref a, .int i, .int j, .int v] => mj_ar cd a 3 fun n => bif mj_rg i j n then some (none, mj_fI x a i.toNatClampNeg j.toNatClampNeg v) else none
  | 1008, [.ref a, .int i, .int j, .long v] => mj_ar cd a 6 fun n => bif mj_rg i j n then some (none, mj_fL x a i.toNatClampNeg j.toNatClampNeg v) else none
  | 1009, [.ref a, .int i, .ref b, .int j, .int n] => mj_ar cd a 4 fun n0 => mj_ar cd b 4 fun n1 => bif decide (0 ≤ i) && decide (0 ≤ j) && decide (0 ≤ n) && Nat.ble (i.toNatClampNeg + n.toNatClampNeg) n0 && Nat.ble (j.toNatClampNeg + n.toNatClampNeg) n1 && !Nat.beq a b && (List.range n.toNatClampNeg).all (fun q => fits .byte (.int (x.1 a (i.toNatClampNeg + q)))) then some (none, mj_cp x a i.toNatClampNeg b j.toNatClampNeg n.toNatClampNeg) else none
  | _, _ => none
/-- the locals at a method's entry -/
def mj_ea : List Value → mj_L
  | [] => []
  | .long v :: r => some (.long v) :: none :: mj_ea r
  | .double v :: r => some (.double v) :: none :: mj_ea r
  | v :: r => some v :: mj_ea r
def mj_en (n : Nat) (vs : List Value) : mj_L := mj_ea vs ++ List.replicate (n - (mj_ea vs).length) none
/-- a class: its constants, its methods' code and places -/
abbrev mj_P : Type := mj_C × (Nat → mj_T) × (Nat → Nat)
noncomputable def mj_c0 (P : mj_P) : Nat → Nat → List Value → mj_X → mj_R
  | 0, _, _, _ => none
  | d + 1, m, args, x => bif Nat.ble (mj_ea args).length (P.2.2 m) then mj_run P.1 (P.1.2.2.2.2.2.2 m) (P.2.1 m) (fun m a y => bif Nat.blt m 1000 then mj_c0 P d m a y else mj_pr P.1 m a y) (0, mj_en (P.2.2 m) args, [], x) else none
noncomputable def mj_call (P : mj_P) (d m : Nat) (args : List Value) (x : mj_X) : mj_R := bif Nat.blt m 1000 then mj_c0 P d m args x else mj_pr P.1 m args x
