/-! THE WRITER without places (S): what both writers write, as a function.  Lists are newest first.
An item: sort, two numbers, bits, labels.  A frame: the locals' types, the stack's types (top first).
Types: 1 int 2 long 3 float 4 double 5..8 arrays 9 a second half 10 something thrown 11 an array that is there 12 the lock that is being taken -/
/-- a context: sort (0 loop 1 switch 2 try 3 finally 4 lock), node or place, break, continue, locals, from, pieces -/
abbrev wC : Type := Nat × Int32 × Nat × Nat × Nat × Nat × List (Nat × Nat)
/-- labels: how many, where put, whether one comes to it, its frame; (how many CodeWriter holds, how many CodeWriterModel has, how many of these are free) -/
abbrev wL : Type := Nat × (Nat → Option Nat) × (Nat → Bool) × (Nat → wF) × (Nat × Nat × Nat)
/-- items, alive, over, frame, (next, most, greatest stack, acts), (lines, pending), pool, ranges, labels, contexts, places of variables, all is well -/
abbrev wG : Type := List (wI × wF) × Bool × Bool × wF × (Nat × Nat × Nat × Nat) × (List (Nat × Int32) × Int32) × List (Nat × Int64) × List (Nat × Nat × Nat × Int32) × wL × List wC × (Nat → Option Nat) × Prop
abbrev g_it (g : wG) : List (wI × wF) := g.1
abbrev g_al (g : wG) : Bool := g.2.1
abbrev g_ov (g : wG) : Bool := g.2.2.1
abbrev g_L (g : wG) : List Nat := g.2.2.2.1.1
abbrev g_st (g : wG) : List Nat := g.2.2.2.1.2
abbrev g_nx (g : wG) : Nat := g.2.2.2.2.1.1
abbrev g_mx (g : wG) : Nat := g.2.2.2.2.1.2.1
abbrev g_ms (g : wG) : Nat := g.2.2.2.2.1.2.2.1
abbrev g_ac (g : wG) : Nat := g.2.2.2.2.1.2.2.2
abbrev g_ln (g : wG) : List (Nat × Int32) := g.2.2.2.2.2.1.1
abbrev g_pn (g : wG) : Int32 := g.2.2.2.2.2.1.2
abbrev g_po (g : wG) : List (Nat × Int64) := g.2.2.2.2.2.2.1
abbrev g_rg (g : wG) : List (Nat × Nat × Nat × Int32) := g.2.2.2.2.2.2.2.1
abbrev g_nl (g : wG) : Nat := g.2.2.2.2.2.2.2.2.1.1
abbrev g_lat (g : wG) : Nat → Option Nat := g.2.2.2.2.2.2.2.2.1.2.1
abbrev g_goes (g : wG) : Nat → Bool := g.2.2.2.2.2.2.2.2.1.2.2.1
abbrev g_lF (g : wG) : Nat → wF := g.2.2.2.2.2.2.2.2.1.2.2.2.1
abbrev g_lc (g : wG) : Nat × Nat × Nat := g.2.2.2.2.2.2.2.2.1.2.2.2.2
abbrev g_us (g : wG) : Nat := (g_lc g).1
abbrev g_n1 (g : wG) : Nat := (g_lc g).2.1
abbrev g_fm (g : wG) : Nat := (g_lc g).2.2
abbrev g_cx (g : wG) : List wC := g.2.2.2.2.2.2.2.2.2.1
abbrev g_pl (g : wG) : Nat → Option Nat := g.2.2.2.2.2.2.2.2.2.2.1
abbrev g_ok (g : wG) : Prop := g.2.2.2.2.2.2.2.2.2.2.2
def s_al (b : Bool) (g : wG) : wG := (g.1, b, g.2.2)
def s_ov (g : wG) : wG := (g.1, g.2.1, true, g.2.2.2)
def s_L (L : List Nat) (g : wG) : wG := (g.1, g.2.1, g.2.2.1, (L, g.2.2.2.1.2), g.2.2.2.2)
def s_fr (F : wF) (g : wG) : wG := (g.1, g.2.1, g.2.2.1, F, g.2.2.2.2)
def s_nx (n : Nat) (g : wG) : wG := (g.1, g.2.1, g.2.2.1, g.2.2.2.1, (n, g.2.2.2.2.1.2), g.2.2.2.2.2)
def s_ms (n : Nat) (g : wG) : wG := (g.1, g.2.1, g.2.2.1, g.2.2.2.1, (g_nx g, g_mx g, max (g_ms g) n, g_ac g), g.2.2.2.2.2)
def s_ac (g : wG) : wG := (g.1, g.2.1, g.2.2.1, g.2.2.2.1, (g_nx g, g_mx g, g_ms g, g_ac g + 1), g.2.2.2.2.2)
def s_tk (n : Nat) (g : wG) : wG := (g.1, g.2.1, g.2.2.1, g.2.2.2.1, (g_nx g + n, max (g_mx g) (g_nx g + n), g_ms g, g_ac g), g.2.2.2.2.2)
def s_pn (p : Int32) (g : wG) : wG := (g.1, g.2.1, g.2.2.1, g.2.2.2.1, g.2.2.2.2.1, (g_ln g, p), g.2.2.2.2.2.2)
def s_po (p : List (Nat × Int64)) (g : wG) : wG := (g.1, g.2.1, g.2.2.1, g.2.2.2.1, g.2.2.2.2.1, g.2.2.2.2.2.1, p, g.2.2.2.2.2.2.2)
def s_rg (r : List (Nat × Nat × Nat × Int32)) (g : wG) : wG := (g.1, g.2.1, g.2.2.1, g.2.2.2.1, g.2.2.2.2.1, g.2.2.2.2.2.1, g.2.2.2.2.2.2.1, r, g.2.2.2.2.2.2.2.2)
def s_lb (l : wL) (g : wG) : wG := (g.1, g.2.1, g.2.2.1, g.2.2.2.1, g.2.2.2.2.1, g.2.2.2.2.2.1, g.2.2.2.2.2.2.1, g.2.2.2.2.2.2.2.1, l, g.2.2.2.2.2.2.2.2.2)
def s_cx (c : List wC) (g : wG) : wG := (g.1, g.2.1, g.2.2.1, g.2.2.2.1, g.2.2.2.2.1, g.2.2.2.2.2.1, g.2.2.2.2.2.2.1, g.2.2.2.2.2.2.2.1, g.2.2.2.2.2.2.2.2.1, c, g.2.2.2.2.2.2.2.2.2.2)
def s_pl (v p : Nat) (g : wG) : wG := (g.1, g.2.1, g.2.2.1, g.2.2.2.1, g.2.2.2.2.1, g.2.2.2.2.2.1, g.2.2.2.2.2.2.1, g.2.2.2.2.2.2.2.1, g.2.2.2.2.2.2.2.2.1, g.2.2.2.2.2.2.2.2.2.1, (fun j => if j = v then some p else g_pl g j), g_ok g)
def s_ok (P : Prop) (g : wG) : wG := (g.1, g.2.1, g.2.2.1, g.2.2.2.1, g.2.2.2.2.1, g.2.2.2.2.2.1, g.2.2.2.2.2.2.1, g.2.2.2.2.2.2.2.1, g.2.2.2.2.2.2.2.2.1, g.2.2.2.2.2.2.2.2.2.1, g_pl g, g_ok g ∧ P)
/-- nothing is written: dead, or over -/
def w_q (g : wG) : Bool := !g_al g || g_ov g
/-- a type on the stack, top first -/
def w_tl (t : Nat) : List Nat := if t = 0 then [] else if t = 2 ∨ t = 4 then [9, t] else [t]
def w_told (n : Nat) (p : Int32) (ln : List (Nat × Int32)) : List (Nat × Int32) := if p = -1 then ln else match ln with
  | [] => [(n, p)]
  | e :: r => if e.1 = n then (n, p) :: r else (n, p) :: e :: r
def w_el (a : Nat) : Nat := if a = 5 ∨ a = 6 then 1 else if a = 7 then 2 else 4
def w_sm (t : Nat) (v : Int64) : Bool :=
  if t = 1 then decide (-32768 ≤ v) && decide (v ≤ 32767) else if t = 2 then decide (v = 0) || decide (v = 1)
  else if t = 3 then decide (v = 0) || decide (v = 0x3F800000) || decide (v = 0x40000000) else if t = 4 then decide (v = 0) || decide (v = 0x3FF0000000000000) else true
/-- the types of an item: the frame ahead of it, the frame behind it -/
def w_arr5 (a : Nat) : Prop := 5 ≤ a ∧ a ≤ 8
def w_num (t : Nat) : Prop := 1 ≤ t ∧ t ≤ 4
def w_ty (i : wI) (F G : wF) : Prop := match i.1 with
  | 0 => G.1 = F.1 ∧ ((w_num i.2.1 ∧ w_sm i.2.1 i.2.2.2.1 = true ∧ G.2 = w_tl i.2.1 ++ F.2) ∨ (i.2.1 = 5 ∧ ∃ a, w_arr5 a ∧ G.2 = a :: F.2))
  | 1 => G.1 = F.1 ∧ w_num i.2.1 ∧ G.2 = w_tl i.2.1 ++ F.2
  | 2 => G.1 = F.1 ∧ ((w_num i.2.1 ∧ F.1[i.2.2.1]? = some i.2.1 ∧ G.2 = w_tl i.2.1 ++ F.2) ∨ (w_arr5 i.2.1 ∧ ∃ a, F.1[i.2.2.1]? = some a ∧ (w_arr5 a ∨ a = 10 ∨ a = 11) ∧ G.2 = a :: F.2))
  | 3 => (w_num i.2.1 ∧ F.2 = w_tl i.2.1 ++ G.2 ∧ ((G.1 = F.1 ∧ F.1[i.2.2.1]? = some i.2.1) ∨ (i.2.2.1 = F.1.length ∧ G.1 = F.1 ++ (w_tl i.2.1).reverse)))
    ∨ (w_arr5 i.2.1 ∧ ∃ a, F.2 = a :: G.2 ∧ ((w_arr5 a ∧ G.1 = F.1 ∧ F.1[i.2.2.1]? = some a) ∨ ((w_arr5 a ∨ a = 10 ∨ a = 12) ∧ i.2.2.1 = F.1.length ∧ G.1 = F.1 ++ [a])))
  | 4 => G.1 = F.1 ∧ w_arr5 i.2.1 ∧ ∃ r, F.2 = 1 :: i.2.1 :: r ∧ G.2 = w_tl (w_el i.2.1) ++ r
  | 5 => G.1 = F.1 ∧ w_arr5 i.2.1 ∧ F.2 = w_tl (w_el i.2.1) ++ 1 :: i.2.1 :: G.2
  | 6 => G = F ∧ F.1[i.2.1]? = some 1
  | 7 => G.1 = F.1 ∧ ((i.2.1 = 87 ∧ ∃ a, a ≠ 9 ∧ F.2 = a :: G.2) ∨ (i.2.1 = 88 ∧ ∃ a, F.2 = 9 :: a :: G.2)
    ∨ (i.2.1 = 89 ∧ ∃ a r, F.2 = a :: r ∧ a ≠ 9 ∧ (G.2 = a :: a :: r ∨ (w_arr5 a ∧ G.2 = 12 :: 12 :: r ∧ 12 ∉ F.1 ∧ 12 ∉ r)))
    ∨ (i.2.1 = 92 ∧ ∃ a b r, F.2 = a :: b :: r ∧ G.2 = a :: b :: a :: b :: r)
    ∨ (i.2.1 = 91 ∧ ∃ a b c r, F.2 = a :: b :: c :: r ∧ G.2 = a :: b :: c :: a :: r)
    ∨ (i.2.1 = 94 ∧ ∃ a b c e r, F.2 = a :: b :: c :: e :: r ∧ G.2 = a :: b :: c :: e :: a :: b :: r))
  | 8 => G.1 = F.1 ∧ w_num i.2.2.1 ∧ 10 ≤ i.2.1 ∧ i.2.1 ≤ 20 ∧ (15 ≤ i.2.1 → i.2.2.1 ≤ 2) ∧ ∃ r, F.2 = (if 18 ≤ i.2.1 then [1] else w_tl i.2.2.1) ++ (w_tl i.2.2.1 ++ r) ∧ G.2 = w_tl i.2.2.1 ++ r
  | 9 => G = F ∧ w_num i.2.1 ∧ ∃ r, F.2 = w_tl i.2.1 ++ r
  | 10 => G.1 = F.1 ∧ w_num i.2.1 ∧ w_num i.2.2.1 ∧ i.2.1 ≠ i.2.2.1 ∧ ∃ r, F.2 = w_tl i.2.1 ++ r ∧ G.2 = w_tl i.2.2.1 ++ r
  | 11 => G = F ∧ 9 ≤ i.2.1 ∧ i.2.1 ≤ 11 ∧ ∃ r, F.2 = 1 :: r
  | 12 => G.1 = F.1 ∧ ∃ t r, 2 ≤ t ∧ t ≤ 4 ∧ (i.2.1 = 148 ∧ t = 2 ∨ (i.2.1 = 149 ∨ i.2.1 = 150) ∧ t = 3 ∨ (i.2.1 = 151 ∨ i.2.1 = 152) ∧ t = 4) ∧ F.2 = w_tl t ++ (w_tl t ++ r) ∧ G.2 = 1 :: r
  | 13 => G.1 = F.1 ∧ w_arr5 i.2.1 ∧ ∃ r, F.2 = 1 :: r ∧ G.2 = i.2.1 :: r
  | 14 => G.1 = F.1 ∧ ∃ a r, w_arr5 a ∧ F.2 = a :: r ∧ G.2 = 1 :: r
  | 15 => G.1 = F.1 ∧ (i.2.1 = 5 ∨ (i.2.1 = 71 ∧ ∃ r, F.2 = 1 :: r ∧ G.2 = 10 :: r) ∨ (i.2.1 = 72 ∧ ∃ r, F.2 = 10 :: r ∧ G.2 = 1 :: r))
  | 16 => (i.2.1 = 177 ∨ (172 ≤ i.2.1 ∧ i.2.1 ≤ 176)) ∨ (i.2.1 = 191 ∧ ∃ r, F.2 = 10 :: r) ∨ (i.2.1 = 194 ∧ ∃ L, F.1 = L ++ [12] ∧ G.1 = L ++ [11] ∧ F.2 = 12 :: G.2 ∧ 12 ∉ L ∧ 12 ∉ G.2) ∨ (i.2.1 = 195 ∧ G.1 = F.1 ∧ F.2 = 11 :: G.2)
  | 20 => G = F
  | 21 => G.1 = F.1 ∧ ((153 ≤ i.2.1 ∧ i.2.1 ≤ 158 ∧ F.2 = 1 :: G.2) ∨ (159 ≤ i.2.1 ∧ i.2.1 ≤ 164 ∧ F.2 = 1 :: 1 :: G.2))
  | _ => G.1 = F.1 ∧ F.2 = 1 :: G.2
/-- a frame fits a label's -/
def w_fit (F G : wF) : Prop := G.1 <+: F.1 ∧ F.2 = G.2
/-- an item is written; the frame behind it -/
def w_es (i : wI) (F : wF) (g : wG) : wG := bif w_q g then g else
  s_ok (w_ty i (g_L g, g_st g) F ∧ (g_L g).length ≤ g_mx g ∧ F.2.length < 3370) ((i, (g_L g, g_st g)) :: g_it g, g_al g, g_ov g, F, (g_nx g, g_mx g, max (g_ms g) F.2.length, g_ac g), (w_told (g_it g).length (g_pn g) (g_ln g), -1), g.2.2.2.2.2.2)
def w_em (i : wI) (off : Nat) (on : List Nat) (g : wG) : wG := bif w_q g then g else s_ok (off ≤ (g_st g).length) (w_es i (g_L g, on ++ (g_st g).drop off) g)
/-- a new label, for a place with such a frame -/
def w_lb (F : wF) (g : wG) : wG := s_ok (F.2.length < 3370 ∧ ((w_by_ false w_z (g_it g)).length ≤ 65535 → g_us g < 45000 ∧ g_n1 g < 299000))
  (s_lb (g_nl g + 1, (fun l => if l = g_nl g then none else g_lat g l), (fun l => if l = g_nl g then false else g_goes g l), (fun l => if l = g_nl g then F else g_lF g l), (g_us g + 1, (if g_fm g = 0 then g_n1 g + 1 else g_n1 g), g_fm g - 1)) g)
/-- no jump comes to a label any more: one without any is free for others -/
def w_sl (b : Bool) (l : Nat) (g : wG) : wG := bif g_goes g l then g else s_ok (g_fm g < 3999) (s_lb (g_nl g, g_lat g, g_goes g, g_lF g, (g_us g - 1, g_n1 g, bif b then g_fm g + 1 else g_fm g)) g)
def w_come (l : Nat) (g : wG) : wG := s_ok (l < g_nl g ∧ w_fit (g_L g, g_st g) (g_lF g l)) (s_lb (g_nl g, g_lat g, (fun k => if k = l then true else g_goes g k), g_lF g, g_lc g) g)
def w_put (l : Nat) (g : wG) : wG :=
  let h := s_lb (g_nl g, (fun k => if k = l then some (g_it g).length else g_lat g k), g_goes g, g_lF g, g_lc g) g
  bif g_al g then s_ok (w_fit (g_L g, g_st g) (g_lF g l)) (s_fr (g_lF g l) h) else bif g_goes g l then s_al true (s_fr (g_lF g l) h) else h
def w_go (l : Nat) (g : wG) : wG := bif w_q g then g else s_al false (w_come l (w_em (20, 0, 0, 0, [(0, l)]) 0 [] g))
def w_br (op off l : Nat) (g : wG) : wG := bif w_q g then g else w_come l (w_em (21, op, 0, 0, [(0, l)]) off [] g)
/-! the pool -/
def w_wd (s : Nat) : Nat := if s = 2 ∨ s = 4 then 2 else 1
def w_pi : List (Nat × Int64) → Nat
  | [] => 1
  | e :: r => w_pi r + w_wd e.1
def w_pf (s : Nat) (v : Int64) : List (Nat × Int64) → Option Nat
  | [] => none
  | e :: r => match w_pf s v r with | some i => some i | none => if e.1 = s ∧ e.2 = v then some (w_pi r) else none
def w_px (s : Nat) (v : Int64) (p : List (Nat × Int64)) : Nat := match w_pf s v p with | some i => i | none => w_pi p
def w_pn (s : Nat) (v : Int64) (p : List (Nat × Int64)) : List (Nat × Int64) := match w_pf s v p with | some _ => p | none => (s, v) :: p
/-- an item with a place of the pool -/
def w_pe (tag s : Nat) (v : Int64) (off : Nat) (on : List Nat) (g : wG) : wG := bif w_q g then g else w_em (tag, s, w_px s v (g_po g), v, []) off on (s_ok ((w_pn s v (g_po g)).length ≤ 100) (s_po (w_pn s v (g_po g)) g))
def w_k (t : Nat) (v : Int64) (g : wG) : wG := bif w_sm t v then w_em (0, t, 0, v, []) 0 (w_tl t) g else w_pe 1 t v 0 (w_tl t) g
def w_one (t : Nat) (g : wG) : wG := w_k t (if t = 3 then 0x3F800000 else if t = 4 then 0x3FF0000000000000 else 1) g
/-! single codes -/
def w_ld (t p : Nat) (on : List Nat) (g : wG) : wG := w_em (2, t, p, 0, []) 0 on g
def w_st (t p : Nat) (g : wG) : wG := w_em (3, t, p, 0, []) (w_tl t).length [] g
def w_dup (t : Nat) (g : wG) : wG := bif Nat.beq (w_tl t).length 2 then w_es (7, 92, 0, 0, []) (g_L g, (g_st g).take 2 ++ g_st g) g else w_es (7, 89, 0, 0, []) (g_L g, (g_st g).take 1 ++ g_st g) g
def w_du (t : Nat) (g : wG) : wG := bif Nat.beq (w_tl t).length 2 then w_es (7, 94, 0, 0, []) (g_L g, (g_st g).take 4 ++ (g_st g).take 2 ++ (g_st g).drop 4) g else w_es (7, 91, 0, 0, []) (g_L g, (g_st g).take 3 ++ (g_st g).take 1 ++ (g_st g).drop 3) g
def w_d2 (g : wG) : wG := w_es (7, 92, 0, 0, []) (g_L g, (g_st g).take 2 ++ g_st g) g
def w_eld (a : Nat) (g : wG) : wG := w_em (4, a, 0, 0, []) 2 (w_tl (w_el a)) g
def w_est (a : Nat) (g : wG) : wG := w_em (5, a, 0, 0, []) (2 + (w_tl (w_el a)).length) [] g
def w_bin (k t : Nat) (g : wG) : wG := w_em (8, k, t, 0, []) (bif Nat.ble 18 k then (w_tl t).length + 1 else 2 * (w_tl t).length) (w_tl t) g
def w_cut (c : Bool) (g : wG) : wG := bif c then w_em (11, 9, 0, 0, []) 1 [1] g else g
def w_inc (p : Nat) (by_ : Int64) (g : wG) : wG := w_em (6, p, 0, by_, []) 0 [] g
def w_cast (f t : Nat) (g : wG) : wG :=
  let u := if 4 < t then 1 else t
  let h := bif Nat.beq f u then g else w_em (10, f, u, 0, []) (w_tl f).length (w_tl u) g
  bif Nat.blt 4 t then w_em (11, t, 0, 0, []) 1 [1] h else h
/-- a variable's place -/
def w_pl (g : wG) (v : Int32) : Nat := (g_pl g v.toNatClampNeg).getD 0
def w_pk (v : Int32) (g : wG) : wG := s_ok (g_pl g v.toNatClampNeg ≠ none) g
/-! values; rec n mode label: 0 a value, 1 an expression alone, 2 a jump when it is so, 3 when it is not -/
abbrev nK (nt : sp_NT) (n : Int32) : Int32 := nt 0 n.toNatClampNeg
abbrev nA (nt : sp_NT) (n : Int32) : Int32 := nt 1 n.toNatClampNeg
abbrev nB (nt : sp_NT) (n : Int32) : Int32 := nt 2 n.toNatClampNeg
abbrev nT (nt : sp_NT) (n : Int32) : Nat := (nt 3 n.toNatClampNeg).toNatClampNeg
abbrev wR : Type := Int32 → Nat → Nat → wG → wG
/-- a long of two ints -/
def w_ll (a b : Int32) : Int64 := (a.toInt64 <<< 32) ||| (b.toInt64 &&& 4294967295)
def w_pf32 (a : Int32) : Int32 := if a &&& 2147483647 ≤ 2139095040 then a else 2143289344
def w_pd64 (v : Int64) : Int64 := if v &&& 9223372036854775807 ≤ 9218868437227405312 then v else 9221120237041090560
/-- a constant's bits -/
def w_bits (nt : sp_NT) (n : Int32) : Int64 := if nK nt n = 1 then (nA nt n).toInt64 else if nK nt n = 3 then (w_pf32 (nA nt n)).toInt64 else if nK nt n = 2 then w_ll (nA nt n) (nB nt n) else w_pd64 (w_ll (nA nt n) (nB nt n))
def w_opd (nt : sp_NT) (rec : wR) (e : Int32) (t : Nat) (g : wG) : wG := if e = -1 then w_one t g else rec e 0 0 g
def w_pe9 (nt : sp_NT) (rec : wR) (tg e : Int32) (want : Bool) (g : wG) : wG :=
  let a := nT nt (nA nt tg)
  let g := rec e 0 0 (rec (nB nt tg) 0 0 (rec (nA nt tg) 0 0 g))
  let g := w_cut (Nat.beq a 5) g
  let g := bif want then w_du (w_el a) g else g
  w_est a g
/-- a small constant by which a local can grow -/
def w_by (nt : sp_NT) (op : Nat) (e : Int32) : Int64 := if op = 10 then (nA nt e).toInt64 else - (nA nt e).toInt64
def w_isI (nt : sp_NT) (op t : Nat) (e : Int32) : Bool := Nat.beq t 1 && !decide (e = -1) && decide (nK nt e = 1) && (Nat.beq op 10 || Nat.beq op 11) && decide (-32768 ≤ w_by nt op e) && decide (w_by nt op e ≤ 32767)
def w_chg (nt : sp_NT) (rec : wR) (x : Int32) (op : Nat) (e : Int32) (want : Bool) (g : wG) : wG :=
  let t := nT nt x
  if nK nt x = 6 then
    let p := w_pl g (nA nt x)
    let g := w_pk (nA nt x) g
    bif w_isI nt op t e then (let g := w_inc p (w_by nt op e) g; bif want then w_ld 1 p [1] g else g)
    else
      let g := w_bin op t (w_opd nt rec e t (w_ld t p (w_tl t) g))
      let g := bif want then w_dup t g else g
      w_st t p g
  else
    let a := nT nt (nA nt x)
    let g := w_eld a (w_d2 (rec (nB nt x) 0 0 (rec (nA nt x) 0 0 g)))
    let g := w_cut (Nat.beq a 5) (w_bin op t (w_opd nt rec e t g))
    let g := bif want then w_du t g else g
    w_est a g
def w_stp (nt : sp_NT) (rec : wR) (x : Int32) (how : Int32) (want : Bool) (g : wG) : wG :=
  let t := nT nt x
  let op := if how = 0 ∨ how = 2 then 10 else 11
  let bh := decide (2 ≤ how)
  if nK nt x = 6 ∧ t = 1 then
    let p := w_pl g (nA nt x)
    let g := w_pk (nA nt x) g
    let g := bif want && bh then w_ld 1 p [1] g else g
    let g := w_inc p (if op = 10 then 1 else -1) g
    bif want && !bh then w_ld 1 p [1] g else g
  else bif !want || !bh then w_chg nt rec x op (-1) want g
  else if nK nt x = 6 then
    let p := w_pl g (nA nt x)
    let g := w_pk (nA nt x) g
    w_st t p (w_bin op t (w_one t (w_dup t (w_ld t p (w_tl t) g))))
  else
    let a := nT nt (nA nt x)
    let g := w_eld a (w_d2 (rec (nB nt x) 0 0 (rec (nA nt x) 0 0 g)))
    w_est a (w_cut (Nat.beq a 5) (w_bin op t (w_one t (w_du t g))))
def w_args (nt : sp_NT) (rec : wR) : List Int32 → wG → wG
  | [], g => g
  | q :: r, g => w_args nt rec r (rec (nA nt q) 0 0 g)
def w_sum (nt : sp_NT) : List Int32 → Nat
  | [] => 0
  | q :: r => (w_tl (nT nt (nA nt q))).length + w_sum nt r
/-- a value that is no truth -/
def w_v0 (nt : sp_NT) (rec : wR) (n : Int32) (g : wG) : wG :=
  let k := nK nt n
  let a := nA nt n
  let b := nB nt n
  if 10 ≤ k ∧ k ≤ 20 then w_bin k.toNatClampNeg (nT nt a) (rec b 0 0 (rec a 0 0 g))
  else if 35 ≤ k ∧ k ≤ 45 then w_chg nt rec a (k - 25).toNatClampNeg b true g
  else if k = 1 ∨ k = 2 ∨ k = 3 ∨ k = 4 then w_k (nT nt n) (w_bits nt n) g
  else if k = 51 then w_em (0, 5, 0, 0, []) 0 [nT nt n] g
  else if k = 6 then w_ld (nT nt a) (w_pl g a) (w_tl (nT nt a)) (w_pk a g)
  else if k = 7 then (let g := w_dup (nT nt a) (rec b 0 0 (w_pk a g)); w_st (nT nt a) (w_pl g a) g)
  else if k = 8 then w_eld (nT nt a) (rec b 0 0 (rec a 0 0 g))
  else if k = 9 then w_pe9 nt rec a b true g
  else if k = 21 then w_em (9, nT nt a, 0, 0, []) (w_tl (nT nt a)).length (w_tl (nT nt a)) (rec a 0 0 g)
  else if k = 22 then w_cast (nT nt b) a.toNatClampNeg (rec b 0 0 g)
  else if k = 32 then
    let l := g_nl g
    w_sl false (l + 1) (w_put (l + 1) (rec (nB nt b) 0 0 (w_sl false l (w_put l (w_go (l + 1) (rec (nA nt b) 0 0 (rec a 3 l (w_lb (g_L g, w_tl (nT nt n) ++ g_st g) (w_lb (g_L g, g_st g) g)))))))))
  else if k = 34 then w_stp nt rec a b true g
  else if k = 46 then w_em (13, a.toNatClampNeg, 0, 0, []) 1 [a.toNatClampNeg] (rec b 0 0 g)
  else if k = 47 then w_em (14, 0, 0, 0, []) 1 [1] (rec a 0 0 g)
  else
    let c := sp_chain nt 4001 b
    w_pe 15 5 a.toInt64 (w_sum nt c) (w_tl (nT nt n)) (w_args nt rec c g)
/-- the code of a compare that jumps: eq ne lt ge gt le, or the contrary -/
def w_op (k : Int32) (so : Bool) : Nat := bif so then (k - 23).toNatClampNeg else (k - 23).toNatClampNeg ^^^ 1
def w_cmp (nt : sp_NT) (rec : wR) (k a b : Int32) (so : Bool) (l : Nat) (g : wG) : wG :=
  let t := nT nt a
  let g := rec a 0 0 g
  if t = 1 ∧ nK nt b = 1 ∧ nA nt b = 0 then w_br (153 + w_op k so) 1 l g
  else
    let g := rec b 0 0 g
    if t = 1 then w_br (159 + w_op k so) 2 l g
    else w_br (153 + w_op k so) 1 l (w_em (12, (if t = 2 then 148 else (if t = 3 then 149 else 151) + (if k = 25 ∨ k = 28 then 1 else 0)), 0, 0, []) (2 * (w_tl t).length) [1] g)
def w_cd (nt : sp_NT) (rec : wR) (n : Int32) (so : Bool) (l : Nat) (g : wG) : wG := bif w_q g then g else
  let k := nK nt n
  let a := nA nt n
  let b := nB nt n
  let mo := bif so then 2 else 3
  let mn := bif so then 3 else 2
  if k = 1 then (bif !decide (a = 0) == so then w_go l g else g)
  else if k = 31 then rec a mn l g
  else if k = 29 ∨ k = 30 then
    (bif decide (k = 29) == so then
      let m := g_nl g
      w_sl true m (w_put m (rec b mo l (rec a mn m (w_lb (g_L g, g_st g) g))))
    else rec b mo l (rec a mo l g))
  else if 23 ≤ k ∧ k ≤ 28 then w_cmp nt rec k a b so l g
  else w_br (bif so then 154 else 153) 1 l (w_v0 nt rec n g)
def w_vl (nt : sp_NT) (rec : wR) (n : Int32) (g : wG) : wG := bif w_q g then g else
  if 23 ≤ nK nt n ∧ nK nt n ≤ 31 then
    let l := g_nl g
    w_sl false (l + 1) (w_put (l + 1) (w_em (0, 1, 0, 0, []) 0 [1] (w_sl false l (w_put l (w_go (l + 1) (w_em (0, 1, 0, 1, []) 0 [1] (w_cd nt rec n false l (w_lb (g_L g, 1 :: g_st g) (w_lb (g_L g, g_st g) g)))))))))
  else w_v0 nt rec n g
def w_an (nt : sp_NT) (rec : wR) (n : Int32) (g : wG) : wG :=
  let k := nK nt n
  let a := nA nt n
  let b := nB nt n
  if k = 7 then (let g := rec b 0 0 (w_pk a g); w_st (nT nt a) (w_pl g a) g)
  else if k = 9 then w_pe9 nt rec a b false g
  else if k = 34 then w_stp nt rec a b false g
  else if 35 ≤ k ∧ k ≤ 45 then w_chg nt rec a (k - 25).toNatClampNeg b false g
  else
    let g := w_vl nt rec n g
    if nT nt n = 0 then g else w_em (7, 86 + (w_tl (nT nt n)).length, 0, 0, []) (w_tl (nT nt n)).length [] g
def wV (nt : sp_NT) : Nat → wR
  | 0 => fun _ _ _ g => g
  | f + 1 => fun n m l g => if m = 0 then w_vl nt (wV nt f) n g else if m = 1 then w_an nt (wV nt f) n g else if m = 2 then w_cd nt (wV nt f) n true l g else w_cd nt (wV nt f) n false l g
/-! statements -/
abbrev wT : Type := Int32 → wG → wG
/-- a statement's place that ends what is told in it -/
def w_aln (rec : wT) (s : Int32) (g : wG) : wG := let h := rec s g; s_nx (g_nx g) (s_L ((g_L h).take (g_nx g)) h)
/-- a new local that is stored to -/
def w_ts (t : Nat) (ty : List Nat) (g : wG) : wG := s_ok (w_q g = false → (w_tl t).length ≤ (g_st g).length ∧ g_nx g < 250) (w_es (3, t, g_nx g, 0, []) (g_L g ++ ty, (g_st g).drop (w_tl t).length) (s_tk (w_tl t).length g))
def w_ctx (sort : Nat) (node : Int32) (b c : Nat) (g : wG) : wG := s_cx ((sort, node, b, c, g_nx g, (g_it g).length, []) :: g_cx g) g
def w_shut (g : wG) : wG := s_cx (g_cx g).tail g
/-- what was written so far is a piece -/
def w_pc (n : Nat) (c : wC) : wC := (c.1, c.2.1, c.2.2.1, c.2.2.2.1, c.2.2.2.2.1, n, if c.2.2.2.2.2.1 < n then (c.2.2.2.2.2.1, n) :: c.2.2.2.2.2.2 else c.2.2.2.2.2.2)
def w_from (n : Nat) (c : wC) : wC := (c.1, c.2.1, c.2.2.1, c.2.2.2.1, c.2.2.2.2.1, n, c.2.2.2.2.2.2)
/-- the end of what is guarded -/
def w_end (rec : wT) (c : wC) (g : wG) : wG := if c.1 = 4 then w_em (16, 195, 0, 0, []) 1 [] (w_ld 5 c.2.1.toNatClampNeg [11] g) else w_aln rec c.2.1 g
def w_fin (rec : wT) (above : Nat) (c : wC) (g : wG) : wG := w_end rec c (s_nx (max c.2.2.2.2.1 above) (s_L ((g_L g).take (max c.2.2.2.2.1 above)) g))
def w_ends (rec : wT) (above : Nat) : Nat → wG → wG × Nat
  | 0, g => (g, 0)
  | k + 1, g => bif w_q g then (g, 0) else match g_cx g with
    | [] => (g, 0)
    | c :: r =>
      let c1 := if 2 ≤ c.1 then w_pc (g_it g).length c else c
      let g1 := s_cx r g
      let g2 := if 3 ≤ c.1 then w_fin rec above c g1 else g1
      let q := w_ends rec above k g2
      (s_cx (c1 :: g_cx q.1) q.1, q.2 + 1)
def w_on : Nat → Nat → List wC → List wC
  | 0, _, cx => cx
  | _ + 1, _, [] => []
  | k + 1, n, c :: r => w_from n c :: w_on k n r
def w_gon (k : Nat) (g : wG) : wG := s_cx (w_on k (g_it g).length (g_cx g)) g
/-- how many contexts lie within the one so many further out -/
def w_tg (loops : Bool) : Nat → List wC → Nat
  | _, [] => 0
  | d, c :: r => if c.1 = 0 ∨ (c.1 = 1 ∧ loops = false) then (match d with | 0 => 0 | e + 1 => 1 + w_tg loops e r) else 1 + w_tg loops d r
def w_lvs (rec : wT) (d : Nat) (brk : Bool) (g : wG) : wG :=
  let k := w_tg (!brk) d (g_cx g)
  let q := w_ends rec 0 k g
  let h := s_nx (g_nx g) q.1
  let l := match (g_cx h)[k]? with | some c => (bif brk then c.2.2.1 else c.2.2.2.1) | none => 0
  w_gon q.2 (s_al false (w_go l (s_ok (k < (g_cx g).length) h)))
def w_ret (nt : sp_NT) (V : wR) (rec : wT) (e : Int32) (g0 : wG) : wG :=
  let g := if e = -1 then g0 else V e 0 0 g0
  let t := if e = -1 then 0 else nT nt e
  let keep := !decide (e = -1) && (g_cx g).any (fun c => Nat.ble 3 c.1)
  let p := g_nx g
  let g1 := bif keep then w_ts t (w_tl t).reverse g else g
  let q := w_ends rec (bif keep then g_nx g1 else 0) (g_cx g1).length g1
  let h := q.1
  let h := bif keep then w_ld t p (w_tl t) h else h
  let h := if e = -1 then w_em (16, 177, 0, 0, []) 0 [] h else w_em (16, 172 + w_ltr t, 0, 0, []) (w_tl t).length [] h
  w_gon q.2 (s_nx (g_nx g) (s_al false h))
/-- ranges for all pieces (newest first) -/
def w_reg (h : Nat) (k : Int32) : List (Nat × Nat) → List (Nat × Nat × Nat × Int32) → List (Nat × Nat × Nat × Int32)
  | [], r => r
  | p :: ps, r => (p.1, p.2, h, k) :: w_reg h k ps r
/-- the items from one place to another have such locals -/
def w_cov (it : List (wI × wF)) (L : List Nat) (p : Nat × Nat) : Prop := p.1 < p.2 ∧ p.2 ≤ it.length ∧ ∀ k i, p.1 ≤ k → k < p.2 → it.reverse[k]? = some i → L <+: i.2.1
/-- a handler of some pieces begins -/
def w_hd (L : List Nat) (ps : List (Nat × Nat)) (k : Int32) (g : wG) : wG := s_ok (∀ p, p ∈ ps → w_cov (g_it g) L p) (s_ms 1 (s_al true (s_fr (L, [10]) (s_rg (w_reg (g_it g).length k ps (g_rg g)) g))))
def w_ctc (nt : sp_NT) (rec : wT) (L : List Nat) (ps : List (Nat × Nat)) (e : Nat) : List Int32 → wG → wG
  | [], g => g
  | q :: r, g => bif g_ov g || ps.isEmpty then g else
    let h := nA nt q
    let named := decide (nK nt h = 78)
    let k := bif named then nB nt h else h
    let g1 := w_hd L ps (nA nt k) g
    let g2 := bif named then (let v := (nA nt h).toNatClampNeg; s_pl v (g_nx g1) (w_ts 1 [1] (w_pe 15 72 0 1 [1] g1))) else w_em (7, 87, 0, 0, []) 1 [] g1
    let g3 := s_nx (g_nx g) (w_aln rec (nB nt k) g2)
    w_ctc nt rec L ps e r (w_go e g3)
def w_try (nt : sp_NT) (rec : wT) (s chain : Int32) (g : wG) : wG :=
  let L := g_L g
  let e := g_nl g
  let g1 := w_aln rec s (w_ctx 2 0 0 0 (w_lb (L, []) g))
  let ps := match g_cx g1 with | c :: _ => (w_pc (g_it g1).length c).2.2.2.2.2.2 | [] => []
  w_sl false e (w_put e (w_ctc nt rec L ps e (sp_chain nt 4001 chain) (w_go e (w_shut g1))))
def w_ended (rec : wT) (sort : Nat) (s : Int32) (ending : Int32) (g : wG) : wG :=
  let L := g_L g
  let e := g_nl g
  let nx := g_nx g
  let g1 := w_aln rec s (w_ctx sort ending 0 0 (w_lb (L, []) g))
  let ps := match g_cx g1 with | c :: _ => (w_pc (g_it g1).length c).2.2.2.2.2.2 | [] => []
  let c : wC := (sort, ending, 0, 0, nx, 0, [])
  let g2 := w_shut g1
  let g3 := bif g_al g2 then w_go e (w_end rec c (s_nx nx g2)) else g2
  let g4 := s_nx nx g3
  let g5 := bif ps.isEmpty || g_ov g4 then g4 else
    let at_ := (g_it g4).length
    let h1 := w_ts 5 [10] (w_hd L ps 0 g4)
    let b := (g_it h1).length
    let h2 := w_end rec c h1
    let h3 := if sort = 4 then s_ok (w_cov (g_it h2) L (b, (g_it h2).length)) (s_rg ((b, (g_it h2).length, at_, 0) :: g_rg h2) h2) else h2
    bif g_al h3 then s_al false (w_em (16, 191, 0, 0, []) 1 [] (w_ld 5 nx [10] h3)) else h3
  w_sl false e (w_put e (s_nx nx g5))
def w_lock (nt : sp_NT) (V : wR) (rec : wT) (e s : Int32) (g : wG) : wG :=
  let g1 := V e 0 0 g
  let g2 := w_es (7, 89, 0, 0, []) (g_L g1, 12 :: 12 :: (g_st g1).drop 1) g1
  let p := g_nx g2
  let g3 := w_ts 5 [12] g2
  let g5 := w_es (16, 194, 0, 0, []) ((g_L g3).take p ++ [11], (g_st g3).drop 1) g3
  let h := w_ended rec 4 s (nI p) g5
  s_nx (g_nx g) (s_L ((g_L h).take (g_nx g)) h)
/-- the labels of cases, from a number on -/
def w_csl (nt : sp_NT) : Nat → List Int32 → List (Int32 × Nat)
  | _, [] => []
  | l, q :: r => (nA nt q, l) :: w_csl nt (l + 1) r
def w_lbs (F : wF) : Nat → wG → wG
  | 0, g => g
  | n + 1, g => w_lbs F n (w_lb F g)
/-- a label that CodeWriter alone has -/
def w_lb0 (F : wF) (g : wG) : wG := s_ok (F.2.length < 3370 ∧ ((w_by_ false w_z (g_it g)).length ≤ 65535 → g_us g < 45000 ∧ g_n1 g < 299000))
  (s_lb (g_nl g + 1, (fun l => if l = g_nl g then none else g_lat g l), (fun l => if l = g_nl g then false else g_goes g l), (fun l => if l = g_nl g then F else g_lF g l), (g_us g + 1, g_n1 g, g_fm g)) g)
/-- the labels of a loop -/
def w_lbl (k : Int32) (F : wF) (g : wG) : wG := if k = 67 then w_lb0 F (w_lbs F 2 g) else w_lbs F 3 g
def w_ins (e : Int32 × Nat) : List (Int32 × Nat) → List (Int32 × Nat)
  | [] => [e]
  | f :: r => if f.1 ≤ e.1 then f :: w_ins e r else e :: f :: r
def w_keys (nt : sp_NT) (cs : List (Int32 × Nat)) : List (Int32 × Nat) := (cs.filter (fun q => decide (nK nt q.1 = 83))).foldl (fun s q => w_ins (nA nt q.1, q.2) s) []
def w_oth (nt : sp_NT) (e : Nat) (cs : List (Int32 × Nat)) : Nat := match cs.find? (fun q => decide (nK nt q.1 = 84)) with | some q => q.2 | none => e
/-- the entries of a table from a number on -/
def w_tab (o : Nat) : Nat → Int → List (Int32 × Nat) → List (Int32 × Nat)
  | 0, _, _ => []
  | n + 1, v, ks => match ks with
    | [] => (Int32.ofInt v, o) :: w_tab o n (v + 1) []
    | q :: r => if q.1.toInt = v then (q.1, q.2) :: w_tab o n (v + 1) r else (Int32.ofInt v, o) :: w_tab o n (v + 1) ks
def w_span (ks : List (Int32 × Nat)) : Nat := match ks.head?, ks.getLast? with | some a, some b => (b.1.toInt - a.1.toInt + 1).toNat | _, _ => 0
def w_dense (ks : List (Int32 × Nat)) : Bool := !ks.isEmpty && Nat.ble (13 + w_span ks) (3 + 5 * ks.length)
def w_swi (o : Nat) (ks : List (Int32 × Nat)) : wI := bif w_dense ks then (22, 0, 0, 0, (0, o) :: w_tab o (w_span ks) (match ks.head? with | some a => a.1.toInt | none => 0) ks) else (23, 0, 0, 0, (0, o) :: ks)
def w_comes : List (Int32 × Nat) → wG → wG
  | [], g => g
  | q :: r, g => w_comes r (w_come q.2 g)
def w_cses (nt : sp_NT) (rec : wT) : List (Int32 × Nat) → wG → wG
  | [], g => g
  | q :: r, g => w_cses nt rec r (w_aln rec (nB nt q.1) (w_put q.2 (s_ok (g_pl g (4000 + q.1.toNatClampNeg) = some q.2) g)))
/-- the cases' labels are kept beside the variables' places -/
def w_csp : List (Int32 × Nat) → wG → wG
  | [], g => g
  | q :: r, g => w_csp r (s_pl (4000 + q.1.toNatClampNeg) q.2 g)
def w_swt (nt : sp_NT) (V : wR) (rec : wT) (a chain : Int32) (g : wG) : wG :=
  let g1 := V a 0 0 g
  let L := g_L g1
  let e := g_nl g1
  let cs := w_csl nt (e + 1) (sp_chain nt 4001 chain)
  let g2 := w_ctx 1 0 e 0 (w_csp cs (w_lbs (L, (g_st g1).drop 1) (cs.length + 1) g1))
  let i := w_swi (w_oth nt e cs) (w_keys nt cs)
  let g3 := s_al false (w_comes i.2.2.2.2 (w_em i 1 [] g2))
  w_sl false e (w_put e (w_shut (w_cses nt rec cs g3)))
def w_loop (nt : sp_NT) (V : wR) (rec : wT) (k a b : Int32) (g : wG) : wG :=
  let L := g_L g
  let e := g_nl g
  let o := e + 1
  let t := e + 2
  let g1 := w_ctx 0 0 e o (w_lbl k (L, []) g)
  let g5 :=
    if k = 67 then w_go o (w_aln rec b (V a 3 e (w_put o g1)))
    else if k = 68 then V b 2 t (w_put o (w_aln rec a (w_put t g1)))
    else
      let g3 := w_put o (w_aln rec b (V (nA nt a) 3 e (w_put t g1)))
      let g4 := w_aln rec (nB nt a) (w_shut g3)
      let g4 := match g_cx g3 with | c :: _ => s_cx (c :: g_cx g4) g4 | [] => g4
      w_go t g4
  w_sl false e (w_put e (w_sl false o (w_sl false t (w_shut g5))))
def w_bd (nt : sp_NT) (V : wR) (rec : wT) (n : Int32) (g : wG) : wG :=
  let k := nK nt n
  let a := nA nt n
  let b := nB nt n
  if k = 60 then V a 1 0 g
  else if k = 61 then (let g1 := V b 0 0 g; s_pl a.toNatClampNeg (g_nx g1) (w_ts (nT nt a) (w_tl (nT nt a)).reverse g1))
  else if k = 62 then rec b (rec a g)
  else if k = 63 then w_aln rec a g
  else if k = 64 then w_sl false (g_nl g) (w_put (g_nl g) (w_aln rec b (V a 3 (g_nl g) (w_lb (g_L g, []) g))))
  else if k = 65 then
    let l := g_nl g
    let L := g_L g
    w_sl false (l + 1) (w_put (l + 1) (w_aln rec (nB nt b) (w_sl false l (w_put l (w_go (l + 1) (w_aln rec (nA nt b) (V a 3 l (w_lb (L, []) (w_lb (L, []) g)))))))))
  else if k = 67 ∨ k = 68 ∨ k = 69 then w_loop nt V rec k a b g
  else if k = 71 then w_lvs rec a.toNatClampNeg true g
  else if k = 72 then w_lvs rec a.toNatClampNeg false g
  else if k = 73 then w_ret nt V rec a g
  else if k = 74 then s_al false (w_em (16, 191, 0, 0, []) 1 [] (w_pe 15 71 0 1 [10] (V a 0 0 g)))
  else if k = 75 then w_try nt rec a b g
  else if k = 79 then w_ended rec 3 a b g
  else if k = 80 then w_lock nt V rec a b g
  else if k = 81 then w_swt nt V rec a b g
  else
    let h := rec b (s_pn a g)
    s_pn (bif Nat.blt (g_it g).length (g_it h).length then -1 else g_pn g) h
def wS (nt : sp_NT) : Nat → wT
  | 0 => fun _ g => bif w_q g then g else s_ov (s_ac g)
  | f + 1 => fun n g => bif w_q g then g else bif Nat.blt 60000 (g_ac g + 1) then s_ov (s_ac g) else w_bd nt (wV nt 40) (wS nt f) n (s_ac g)
/-- the start: parameters -/
def w_par (nt : sp_NT) : List Int32 → wG → wG
  | [], g => g
  | q :: r, g => (let v := (nA nt q).toNatClampNeg; let t := nT nt (nA nt q); w_par nt r (s_L (g_L g ++ (w_tl t).reverse) (s_tk (w_tl t).length (s_pl v (g_nx g) g))))
def w_g0 : wG := ([], true, false, ([], []), (0, 0, 0, 0), ([], -1), [], [], (0, (fun _ => none), (fun _ => false), (fun _ => ([], [])), (0, 0, 0)), [], (fun _ => none), True)
def wW (nt : sp_NT) (res : Int32) (params body : Int32) : wG :=
  let g := w_aln (wS nt 200) body (w_par nt (sp_chain nt 4001 params) w_g0)
  if res = 0 then s_al false (w_em (16, 177, 0, 0, []) 0 [] g) else g
