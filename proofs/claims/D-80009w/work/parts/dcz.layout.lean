/-! items and frames -/
abbrev wI : Type := Nat × Nat × Nat × Int64 × List (Int32 × Nat)
abbrev wF : Type := List Nat × List Nat
def w_ltr (t : Nat) : Nat := if 5 ≤ t then 4 else t - 1
/-! THE LAYOUT: an item's bytes at a place; w: jumps of four bytes; o: a jump's offset, by the place that it is counted from and its label -/
def o8 (v : Int32) : Int32 := v.toInt8.toInt32
def o16 (v : Int32) : List Int32 := [o8 (v >>> 8), o8 v]
def o32 (v : Int32) : List Int32 := [o8 (v >>> 24), o8 (v >>> 16), o8 (v >>> 8), o8 v]
/-- load, store: the codes for a far place, for a near one -/
def w_loc (far near t p : Nat) : List Int32 :=
  if p ≤ 3 then [o8 (nI (near + 4 * w_ltr t + p))] else if p < 256 then [o8 (nI (far + w_ltr t)), o8 (nI p)] else [o8 196, o8 (nI (far + w_ltr t))] ++ o16 (nI p)
def w_arl (a : Nat) : Nat := if a = 5 then 5 else if a = 6 then 0 else if a = 7 then 1 else 3
def w_bop (k t : Nat) : Nat := if 18 ≤ k then 120 + 2 * (k - 18) + (t - 1) else if 15 ≤ k then 126 + 2 * (k - 15) + (t - 1) else 96 + 4 * (k - 10) + (t - 1)
def w_cop (f u : Nat) : Nat := 133 + 3 * (f - 1) + (if u < f then u - 1 else u - 2)
/-- the contrary of a jump that has a condition -/
def w_ctr (op : Nat) : Nat := 153 + ((op - 153) ^^^ 1)
def w_pad (p : Nat) : List Int32 := List.replicate (3 - p % 4) 0
def w_cst (t : Nat) (v : Int64) : List Int32 :=
  if t = 1 then (if -1 ≤ v ∧ v ≤ 5 then [o8 (3 + v.toInt32)] else if -128 ≤ v ∧ v ≤ 127 then [o8 16, o8 v.toInt32] else [o8 17] ++ o16 v.toInt32)
  else if t = 2 then [o8 (9 + v.toInt32)]
  else if t = 3 then [o8 (if v = 0 then 11 else if v = 0x3F800000 then 12 else 13)]
  else if t = 4 then [o8 (if v = 0 then 14 else 15)]
  else [o8 1]
def w_ent (o : Nat → Int32) : List (Int32 × Nat) → List Int32
  | [] => []
  | q :: r => o32 (o q.2) ++ w_ent o r
def w_lke (o : Nat → Int32) : List (Int32 × Nat) → List Int32
  | [] => []
  | q :: r => o32 q.1 ++ (o32 (o q.2) ++ w_lke o r)
def w_l0 (i : wI) : Nat := match i.2.2.2.2 with | q :: _ => q.2 | [] => 0
def w_enc (w : Bool) (o : Nat → Nat → Int32) (p : Nat) (i : wI) : List Int32 := match i.1 with
  | 0 => w_cst i.2.1 i.2.2.2.1
  | 1 => if i.2.1 = 2 ∨ i.2.1 = 4 then [o8 20] ++ o16 (nI i.2.2.1) else if i.2.2.1 < 256 then [o8 18, o8 (nI i.2.2.1)] else [o8 19] ++ o16 (nI i.2.2.1)
  | 2 => w_loc 21 26 i.2.1 i.2.2.1
  | 3 => w_loc 54 59 i.2.1 i.2.2.1
  | 4 => [o8 (nI (46 + w_arl i.2.1))]
  | 5 => [o8 (nI (79 + w_arl i.2.1))]
  | 6 => if i.2.1 < 256 ∧ -128 ≤ i.2.2.2.1 ∧ i.2.2.2.1 ≤ 127 then [o8 132, o8 (nI i.2.1), o8 i.2.2.2.1.toInt32] else [o8 196, o8 132] ++ (o16 (nI i.2.1) ++ o16 i.2.2.2.1.toInt32)
  | 7 => [o8 (nI i.2.1)]
  | 8 => [o8 (nI (w_bop i.2.1 i.2.2.1))]
  | 9 => [o8 (nI (116 + (i.2.1 - 1)))]
  | 10 => [o8 (nI (w_cop i.2.1 i.2.2.1))]
  | 11 => [o8 (nI (145 + (i.2.1 - 9)))]
  | 12 => [o8 (nI i.2.1)]
  | 13 => [o8 188, o8 (if i.2.1 = 5 then 8 else if i.2.1 = 6 then 10 else if i.2.1 = 7 then 11 else 7)]
  | 14 => [o8 190]
  | 15 => [o8 184] ++ o16 (nI i.2.2.1)
  | 16 => [o8 (nI i.2.1)]
  | 20 => bif w then [o8 200] ++ o32 (o p (w_l0 i)) else [o8 167] ++ o16 (o p (w_l0 i))
  | 21 => bif w then [o8 (nI (w_ctr i.2.1))] ++ (o16 8 ++ ([o8 200] ++ o32 (o (p + 3) (w_l0 i)))) else [o8 (nI i.2.1)] ++ o16 (o p (w_l0 i))
  | 22 => [o8 170] ++ (w_pad p ++ (match i.2.2.2.2 with
    | [] => []
    | d :: r => o32 (o p d.2) ++ (o32 (match r.head? with | some q => q.1 | none => 0) ++ (o32 (match r.getLast? with | some q => q.1 | none => 0) ++ w_ent (o p) r))))
  | 23 => [o8 171] ++ (w_pad p ++ (match i.2.2.2.2 with
    | [] => []
    | d :: r => o32 (o p d.2) ++ (o32 (nI r.length) ++ w_lke (o p) r)))
  | _ => [o8 0]
/-- the jumps of an item: where the offset lies, from where it counts, the label, of four bytes; newest first -/
def w_fes (p : Nat) : Nat → Nat → List (Int32 × Nat) → List (Nat × Nat × Nat × Bool) → List (Nat × Nat × Nat × Bool)
  | _, _, [], r => r
  | a, s, q :: l, r => w_fes p (a + s) s l ((a, p, q.2, true) :: r)
def w_fx (w : Bool) (p : Nat) (i : wI) (r : List (Nat × Nat × Nat × Bool)) : List (Nat × Nat × Nat × Bool) := match i.1 with
  | 20 => (p + 1, p, w_l0 i, w) :: r
  | 21 => bif w then (p + 7 - 3, p + 3, w_l0 i, true) :: r else (p + 1, p, w_l0 i, false) :: r
  | 22 => (match i.2.2.2.2 with | [] => r | d :: l => w_fes p (p + 16 - p % 4) 4 l ((p + 4 - p % 4, p, d.2, true) :: r))
  | 23 => (match i.2.2.2.2 with | [] => r | d :: l => w_fes p (p + 16 - p % 4) 8 l ((p + 4 - p % 4, p, d.2, true) :: r))
  | _ => r
/-- all bytes, all jumps -/
def w_by_ (w : Bool) (o : Nat → Nat → Int32) : List (wI × wF) → List Int32
  | [] => []
  | i :: r => w_by_ w o r ++ w_enc w o (w_by_ w o r).length i.1
def w_fxs (w : Bool) (o : Nat → Nat → Int32) : List (wI × wF) → List (Nat × Nat × Nat × Bool)
  | [] => []
  | i :: r => w_fx w (w_by_ w o r).length i.1 (w_fxs w o r)
def w_z (_ _ : Nat) : Int32 := 0
