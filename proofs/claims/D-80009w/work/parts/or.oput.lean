/-! every label to which a jump comes is put -/
abbrev cL : Type := List (Nat × Nat × Nat)
def cxl (cx : List wC) : cL := cx.map (fun c => (c.1, c.2.2.1, c.2.2.2.1))
/-- the labels of contexts -/
def cP (c : cL) (j : Nat) : Prop := ∃ e, e ∈ c ∧ (e.1 ≤ 1 ∧ j = e.2.1 ∨ e.1 = 0 ∧ j = e.2.2)
/-- between two states: jumps come to labels of X alone, to new ones that are put, and to such as had one; labels that are put, how many there are at least, contexts at the end -/
def wN (X : Nat → Prop) (W : List Nat) (B : Nat) (c : cL) (g h : wG) : Prop := (g_ok h → g_ok g) ∧ (g_nl g ≤ B ∧ B ≤ g_nl h ∧ ∀ l, l ∈ W → l < B) ∧ cxl (g_cx h) = c ∧ (g_ok h →
  (∀ l, l < g_nl g → g_goes h l = true → g_goes g l = true ∨ X l) ∧ (∀ l, g_nl g ≤ l → l < g_nl h → g_goes h l = true → g_lat h l ≠ none ∨ X l) ∧ (∀ l, l < g_nl g → g_lat g l ≠ none → g_lat h l ≠ none) ∧ ∀ l, l ∈ W → g_lat h l ≠ none)
abbrev wF0 : Nat → Prop := fun _ => False
section
variable {g h : wG} {X Y : Nat → Prop} {c c' : cL} {W : List Nat} {B : Nat}
theorem wN.rf (g : wG) : wN X [] (g_nl g) (cxl (g_cx g)) g g := ⟨id, ⟨Nat.le_refl _, Nat.le_refl _, fun _ h => by cases h⟩, rfl, fun _ => ⟨fun _ _ q => Or.inl q, fun l h1 h2 => absurd h2 (by omega), fun _ _ q => q, fun _ h => by cases h⟩⟩
/-- labels that are put are no care any more -/
theorem wN.drop (a : wN X W B c g h) (e : ∀ k, X k → Y k ∨ (g_nl g ≤ k ∧ k ∈ W)) : wN Y [] (g_nl g) c g h := ⟨a.1, ⟨Nat.le_refl _, Nat.le_trans a.2.1.1 a.2.1.2.1, fun _ h => by cases h⟩, a.2.2.1, fun o => by
  obtain ⟨a1, a2, a3, a4⟩ := a.2.2.2 o
  refine ⟨fun l h1 h2 => ?_, fun l h1 h2 h3 => ?_, a3, fun _ h => by cases h⟩
  · rcases a1 l h1 h2 with q | q
    · exact Or.inl q
    · exact (e l q).elim Or.inr (fun z => absurd h1 (by omega))
  · rcases a2 l h1 h2 h3 with q | q
    · exact Or.inl q
    · exact (e l q).elim Or.inr (fun z => Or.inl (a4 l z.2))⟩
theorem wN.tr {k : wG} {W' : List Nat} {B' : Nat} (a : wN X W B c g h) (b : wN Y W' B' (cxl (g_cx h)) h k) (e : ∀ j, Y j → X j) : wN X W B c g k := by
  obtain ⟨a1, ⟨a2, a2', a2''⟩, a3, a4⟩ := a
  obtain ⟨b1, ⟨b2, b2', b2''⟩, b3, b4⟩ := b
  refine ⟨fun q => a1 (b1 q), ⟨a2, by omega, a2''⟩, b3.trans a3, fun o => ?_⟩
  obtain ⟨a5, a6, a7, a8⟩ := a4 (b1 o)
  obtain ⟨b5, b6, b7, b8⟩ := b4 o
  refine ⟨fun l h1 h2 => ?_, fun l h1 h2 h3 => ?_, fun l h1 h2 => b7 l (by omega) (a7 l h1 h2), fun l hl => b7 l (by have := a2'' l hl; omega) (a8 l hl)⟩
  · rcases b5 l (by omega) h2 with q | q
    · exact a5 l h1 q
    · exact Or.inr (e l q)
  · by_cases w : l < g_nl h
    · rcases b5 l w h3 with q | q
      · exact (a6 l h1 w q).imp (b7 l w) id
      · exact Or.inr (e l q)
    · exact (b6 l (by omega) h2 h3).imp id (e l)
theorem wN.mono (a : wN X W B c g h) (e : ∀ k, X k → Y k) : wN Y W B c g h := ⟨a.1, a.2.1, a.2.2.1, fun o => ⟨fun l h1 h2 => ((a.2.2.2 o).1 l h1 h2).imp id (e l), fun l h1 h2 h3 => ((a.2.2.2 o).2.1 l h1 h2 h3).imp id (e l), (a.2.2.2 o).2.2⟩⟩
theorem wN.in_ {k : wG} {W' : List Nat} {B' : Nat} (a : wN X W B c g h) (b : wN Y W' B' (cxl (g_cx h)) h k) (e : ∀ j, Y j → X j ∨ (g_nl h ≤ j ∧ j ∈ W')) : wN X W B c g k := a.tr (b.drop e) (fun _ => id)
theorem wN.eq {k : wG} (a : wN X W B c g h) (e0 : g_ok k → g_ok h) (e1 : g_nl k = g_nl h) (e2 : g_lat k = g_lat h) (e3 : g_goes k = g_goes h) (e4 : cxl (g_cx k) = cxl (g_cx h)) : wN X W B c g k := ⟨fun q => a.1 (e0 q), by rw [e1]; exact a.2.1, e4.trans a.2.2.1, fun o => by rw [e1, e2, e3]; exact a.2.2.2 (e0 o)⟩
theorem wN.cond {d : Bool} {a b : wG} (h1 : wN X W B c g a) (h2 : wN X W B c g b) : wN X W B c g (bif d then a else b) := by cases d <;> assumption
theorem wN.ite {d : Prop} [Decidable d] {a b : wG} (h1 : wN X W B c g a) (h2 : wN X W B c g b) : wN X W B c g (if d then a else b) := by by_cases q : d <;> simp [q] <;> assumption
theorem wN.s_al (a : wN X W B c g h) (b : Bool) : wN X W B c g (s_al b h) := a.eq id rfl rfl rfl rfl
theorem wN.s_ov (a : wN X W B c g h) : wN X W B c g (s_ov h) := a.eq id rfl rfl rfl rfl
theorem wN.s_L (a : wN X W B c g h) (L : List Nat) : wN X W B c g (s_L L h) := a.eq id rfl rfl rfl rfl
theorem wN.s_fr (a : wN X W B c g h) (F : wF) : wN X W B c g (s_fr F h) := a.eq id rfl rfl rfl rfl
theorem wN.s_nx (a : wN X W B c g h) (n : Nat) : wN X W B c g (s_nx n h) := a.eq id rfl rfl rfl rfl
theorem wN.s_ms (a : wN X W B c g h) (n : Nat) : wN X W B c g (s_ms n h) := a.eq id rfl rfl rfl rfl
theorem wN.s_ac (a : wN X W B c g h) : wN X W B c g (s_ac h) := a.eq id rfl rfl rfl rfl
theorem wN.s_tk (a : wN X W B c g h) (n : Nat) : wN X W B c g (s_tk n h) := a.eq id rfl rfl rfl rfl
theorem wN.s_pn (a : wN X W B c g h) (p : Int32) : wN X W B c g (s_pn p h) := a.eq id rfl rfl rfl rfl
theorem wN.s_po (a : wN X W B c g h) (p : List (Nat × Int64)) : wN X W B c g (s_po p h) := a.eq id rfl rfl rfl rfl
theorem wN.s_pl (a : wN X W B c g h) (v p : Nat) : wN X W B c g (s_pl v p h) := a.eq id rfl rfl rfl rfl
theorem wN.s_ok (a : wN X W B c g h) (P : Prop) : wN X W B c g (s_ok P h) := a.eq And.left rfl rfl rfl rfl
theorem wN.s_rg (a : wN X W B c g h) (r : List (Nat × Nat × Nat × Int32)) : wN X W B c g (s_rg r h) := a.eq id rfl rfl rfl rfl
theorem wN.es (a : wN X W B c g h) (i : wI) (F : wF) : wN X W B c g (w_es i F h) := by
  unfold w_es; exact wN.cond a (a.eq And.left rfl rfl rfl rfl)
theorem wN.em (a : wN X W B c g h) (i : wI) (off : Nat) (on : List Nat) : wN X W B c g (w_em i off on h) := wN.cond a ((a.es _ _).s_ok _)
theorem wN.sl (a : wN X W B c g h) (b : Bool) (l : Nat) : wN X W B c g (w_sl b l h) := by
  unfold w_sl; exact wN.cond a (a.eq And.left rfl rfl rfl rfl)
theorem wN.cx (a : wN X W B c g h) (d : List wC) (hk : cxl d = c') : wN X W B c' g (s_cx d h) := ⟨a.1, a.2.1, hk, a.2.2.2⟩
theorem wN.ctx (a : wN X W B c g h) (so : Nat) (nd : Int32) (b e : Nat) : wN X W B ((so, b, e) :: c) g (w_ctx so nd b e h) := a.cx _ (by show (so, b, e) :: cxl (g_cx h) = _; rw [a.2.2.1])
theorem wN.shut {x : Nat × Nat × Nat} (a : wN X W B (x :: c) g h) : wN X W B c g (w_shut h) := a.cx _ (by
  have e := a.2.2.1
  cases q : g_cx h with
  | nil => rw [q] at e; cases e
  | cons y r => rw [q] at e; exact (List.cons.inj e).2)
theorem wN.come (a : wN X W B c g h) (l : Nat) (hX : X l) : wN X W B c g (w_come l h) := ⟨fun q => a.1 q.1, a.2.1, a.2.2.1, fun o => ⟨fun j h1 h2 => by
    have h2 : (if j = l then true else g_goes h j) = true := h2
    by_cases e : j = l
    · rw [e]; exact Or.inr hX
    · rw [if_neg e] at h2; exact (a.2.2.2 o.1).1 j h1 h2, fun j h1 h2 h3 => by
    have h3 : (if j = l then true else g_goes h j) = true := h3
    by_cases e : j = l
    · rw [e]; exact Or.inr hX
    · rw [if_neg e] at h3; exact (a.2.2.2 o.1).2.1 j h1 h2 h3, (a.2.2.2 o.1).2.2.1, (a.2.2.2 o.1).2.2.2⟩⟩
theorem wN.nlb {k : wG} (a : wN X W B c g h) (e0 : g_ok k → g_ok h) (e1 : g_nl k = g_nl h + 1) (e2 : g_lat k = fun l => if l = g_nl h then none else g_lat h l) (e3 : g_goes k = fun l => if l = g_nl h then false else g_goes h l) (e4 : g_cx k = g_cx h) : wN X W (B + 1) c g k := ⟨fun q => a.1 (e0 q), ⟨Nat.le_succ_of_le a.2.1.1, by rw [e1]; exact Nat.succ_le_succ a.2.1.2.1, fun l hl => Nat.lt_succ_of_lt (a.2.1.2.2 l hl)⟩, by rw [e4]; exact a.2.2.1, fun o => by
  obtain ⟨n1, n2, n3⟩ := a.2.1
  rw [e1, e2, e3]
  obtain ⟨a1, a2, a3, a4⟩ := a.2.2.2 (e0 o)
  refine ⟨fun j h1 h2 => ?_, fun j h1 h2 h3 => ?_, fun j h1 h2 => ?_, fun j hj => ?_⟩
  · simp only at h2
    rw [if_neg (by omega)] at h2; exact a1 j h1 h2
  · simp only at h3 ⊢
    by_cases e : j = g_nl h
    · rw [if_pos e] at h3; cases h3
    · rw [if_neg e] at h3; rw [if_neg e]; exact a2 j h1 (by omega) h3
  · simp only
    rw [if_neg (by omega)]; exact a3 j h1 h2
  · simp only
    rw [if_neg (by have := n3 j hj; omega)]; exact a4 j hj⟩
theorem wN.lb (a : wN X W B c g h) (F : wF) : wN X W (B + 1) c g (w_lb F h) := a.nlb And.left rfl rfl rfl rfl
theorem wN.lb0 (a : wN X W B c g h) (F : wF) : wN X W (B + 1) c g (w_lb0 F h) := a.nlb And.left rfl rfl rfl rfl
theorem wPut_ok (l : Nat) (g : wG) : g_ok (w_put l g) → g_ok g := by
  unfold w_put
  cases g_al g
  · cases g_goes g l <;> exact id
  · exact And.left
theorem wN.put (a : wN X W B c g h) (l : Nat) (hl : l < B) : wN X (l :: W) B c g (w_put l h) := by
  obtain ⟨f1, f2, f3, f4, f5, f6, f7, f8, f9, f10, f11, f12⟩ := oPut_f l h
  refine ⟨fun q => a.1 (wPut_ok l h q), by rw [f7]; exact ⟨a.2.1.1, a.2.1.2.1, fun j hj => (List.mem_cons.mp hj).elim (fun e => by rw [e]; exact hl) (a.2.1.2.2 j)⟩, by rw [f6]; exact a.2.2.1, fun o => ?_⟩
  rw [f7, f9, f10]
  obtain ⟨a1, a2, a3, a4⟩ := a.2.2.2 (wPut_ok l h o)
  have key : ∀ j, g_lat h j ≠ none → (if j = l then some (g_it h).length else g_lat h j) ≠ none := fun j q => by
    by_cases e : j = l
    · rw [if_pos e]; simp
    · rw [if_neg e]; exact q
  refine ⟨a1, fun j h1 h2 h3 => (a2 j h1 h2 h3).imp (key j) id, fun j h1 h2 => key j (a3 j h1 h2), fun j hj => ?_⟩
  rcases List.mem_cons.mp hj with q | q
  · rw [q]; simp
  · exact key j (a4 j q)
theorem wN.go (a : wN X W B c g h) (l : Nat) (hX : X l) : wN X W B c g (w_go l h) := by unfold w_go; exact wN.cond a (((a.em _ _ _).come _ hX).s_al _)
theorem wN.br (a : wN X W B c g h) (op off l : Nat) (hX : X l) : wN X W B c g (w_br op off l h) := by unfold w_br; exact wN.cond a ((a.em _ _ _).come _ hX)
theorem wN.pe (a : wN X W B c g h) (tag s : Nat) (v : Int64) (off : Nat) (on : List Nat) : wN X W B c g (w_pe tag s v off on h) := by unfold w_pe; exact wN.cond a (((a.s_po _).s_ok _).em _ _ _)
theorem wN.k (a : wN X W B c g h) (t : Nat) (v : Int64) : wN X W B c g (w_k t v h) := by unfold w_k; exact wN.cond (a.em _ _ _) (a.pe _ _ _ _ _)
theorem wN.one (a : wN X W B c g h) (t : Nat) : wN X W B c g (w_one t h) := a.k _ _
theorem wN.ld (a : wN X W B c g h) (t p : Nat) (on : List Nat) : wN X W B c g (w_ld t p on h) := a.em _ _ _
theorem wN.st (a : wN X W B c g h) (t p : Nat) : wN X W B c g (w_st t p h) := a.em _ _ _
theorem wN.dup (a : wN X W B c g h) (t : Nat) : wN X W B c g (w_dup t h) := by unfold w_dup; exact wN.cond (a.es _ _) (a.es _ _)
theorem wN.du (a : wN X W B c g h) (t : Nat) : wN X W B c g (w_du t h) := by unfold w_du; exact wN.cond (a.es _ _) (a.es _ _)
theorem wN.d2 (a : wN X W B c g h) : wN X W B c g (w_d2 h) := a.es _ _
theorem wN.eld (a : wN X W B c g h) (t : Nat) : wN X W B c g (w_eld t h) := a.em _ _ _
theorem wN.est (a : wN X W B c g h) (t : Nat) : wN X W B c g (w_est t h) := a.em _ _ _
theorem wN.bin (a : wN X W B c g h) (k t : Nat) : wN X W B c g (w_bin k t h) := a.em _ _ _
theorem wN.cut (a : wN X W B c g h) (t : Bool) : wN X W B c g (w_cut t h) := wN.cond (a.em _ _ _) a
theorem wN.inc (a : wN X W B c g h) (p : Nat) (v : Int64) : wN X W B c g (w_inc p v h) := a.em _ _ _
theorem wN.cast (a : wN X W B c g h) (f t : Nat) : wN X W B c g (w_cast f t h) := by unfold w_cast; exact wN.cond ((wN.cond a (a.em _ _ _)).em _ _ _) (wN.cond a (a.em _ _ _))
theorem wN.pk (a : wN X W B c g h) (v : Int32) : wN X W B c g (w_pk v h) := a.s_ok _
end
section
variable {g h : wG} {nt : sp_NT} {rec : wR} {X : Nat → Prop} {c : cL} {W : List Nat} {B : Nat}
/-- what a value does: it goes to its label alone -/
def wNR (rec : wR) : Prop := ∀ n m l k, wN (fun j => 2 ≤ m ∧ j = l) [] (g_nl k) (cxl (g_cx k)) k (rec n m l k)
theorem wN.rc (R : wNR rec) (a : wN X W B c g h) (n : Int32) (m l : Nat) (hX : 2 ≤ m → X l) : wN X W B c g (rec n m l h) := a.tr (R n m l h) (fun j q => by rw [q.2]; exact hX q.1)
theorem wN.r0 (R : wNR rec) (a : wN X W B c g h) (n : Int32) : wN X W B c g (rec n 0 0 h) := a.rc R n 0 0 (fun q => absurd q (by decide))
theorem wN.opd (R : wNR rec) (a : wN X W B c g h) (e : Int32) (t : Nat) : wN X W B c g (w_opd nt rec e t h) := wN.ite (a.one _) (a.r0 R _)
theorem wN.pe9 (R : wNR rec) (a : wN X W B c g h) (x e : Int32) (want : Bool) : wN X W B c g (w_pe9 nt rec x e want h) := by
  have s := (((a.r0 R (nA nt x)).r0 R (nB nt x)).r0 R e).cut (Nat.beq (nT nt (nA nt x)) 5)
  exact (wN.cond (s.du _) s).est _
theorem wN.chg (R : wNR rec) (a : wN X W B c g h) (x : Int32) (op : Nat) (e : Int32) (want : Bool) : wN X W B c g (w_chg nt rec x op e want h) := by
  unfold w_chg
  refine wN.ite (wN.cond ?_ ?_) ?_
  · exact wN.cond (((a.pk _).inc _ _).ld _ _ _) ((a.pk _).inc _ _)
  · have s := ((((a.pk (nA nt x)).ld (nT nt x) (w_pl h (nA nt x)) (w_tl (nT nt x))).opd (nt := nt) R e (nT nt x)).bin op (nT nt x))
    exact (wN.cond (s.dup _) s).st _ _
  · have s := (((((a.r0 R (nA nt x)).r0 R (nB nt x)).d2.eld (nT nt (nA nt x))).opd (nt := nt) R e (nT nt x)).bin op (nT nt x)).cut (Nat.beq (nT nt (nA nt x)) 5)
    exact (wN.cond (s.du _) s).est _
theorem wN.stp (R : wNR rec) (a : wN X W B c g h) (x how : Int32) (want : Bool) : wN X W B c g (w_stp nt rec x how want h) := by
  unfold w_stp
  refine wN.ite ?_ (wN.cond (a.chg R _ _ _ _) (wN.ite ?_ ?_))
  · have s := (wN.cond (d := want && decide (2 ≤ how)) ((a.pk (nA nt x)).ld 1 (w_pl h (nA nt x)) [1]) (a.pk (nA nt x))).inc (w_pl h (nA nt x)) (if (if how = 0 ∨ how = 2 then 10 else 11) = 10 then 1 else -1)
    exact wN.cond (s.ld _ _ _) s
  · exact (((((a.pk _).ld _ _ _).dup _).one _).bin _ _).st _ _
  · exact (((((((a.r0 R _).r0 R _).d2.eld _).du _).one _).bin _ _).cut _).est _
theorem wN.args (R : wNR rec) : ∀ (l : List Int32) {h : wG}, wN X W B c g h → wN X W B c g (w_args nt rec l h) := by
  intro l
  induction l with
  | nil => intro h a; exact a
  | cons q r ih => intro h a; exact ih (a.r0 R _)
theorem wN.v0 (R : wNR rec) (a : wN X W B c g h) (n : Int32) : wN X W B c g (w_v0 nt rec n h) := by
  unfold w_v0
  refine wN.ite ?_ (wN.ite ?_ (wN.ite ?_ (wN.ite ?_ (wN.ite ?_ (wN.ite ?_ (wN.ite ?_ (wN.ite ?_ (wN.ite ?_ (wN.ite ?_ (wN.ite ?_ (wN.ite ?_ (wN.ite ?_ (wN.ite ?_ ?_)))))))))))))
  · exact ((a.r0 R _).r0 R _).bin _ _
  · exact a.chg R _ _ _ _
  · exact a.k _ _
  · exact a.em _ _ _
  · exact (a.pk _).ld _ _ _
  · exact (((a.pk _).r0 R _).dup _).st _ _
  · exact ((a.r0 R _).r0 R _).eld _
  · exact a.pe9 R _ _ _
  · exact (a.r0 R _).em _ _ _
  · exact (a.r0 R _).cast _ _
  · refine a.in_ ((((((((((((wN.rf (X := fun j => j = g_nl h ∨ j = g_nl h + 1) h).lb _).lb _).rc R _ _ _ (fun _ => Or.inl rfl)).r0 R _).go _ (Or.inr rfl)).put (g_nl h) (by omega)).sl _ _).r0 R _).put (g_nl h + 1) (by omega)).sl _ _)) (fun j q => Or.inr ?_)
    exact q.elim (fun z => ⟨by omega, by simp [z]⟩) (fun z => ⟨by omega, by simp [z]⟩)
  · exact a.stp R _ _ _
  · exact (a.r0 R _).em _ _ _
  · exact (a.r0 R _).em _ _ _
  · exact (wN.args R _ a).pe _ _ _ _ _
theorem wN.cmp (R : wNR rec) (a : wN X W B c g h) (k x y : Int32) (so : Bool) (l : Nat) (hX : X l) : wN X W B c g (w_cmp nt rec k x y so l h) := by
  unfold w_cmp
  exact wN.ite ((a.r0 R _).br _ _ _ hX) (wN.ite (((a.r0 R _).r0 R _).br _ _ _ hX) ((((a.r0 R _).r0 R _).em _ _ _).br _ _ _ hX))
theorem wN.cd (R : wNR rec) (a : wN X W B c g h) (n : Int32) (so : Bool) (l : Nat) (hX : X l) : wN X W B c g (w_cd nt rec n so l h) := by
  unfold w_cd
  refine wN.cond a (wN.ite (wN.cond (a.go _ hX) a) (wN.ite (a.rc R _ _ _ (fun _ => hX)) (wN.ite (wN.cond ?_ ?_) (wN.ite (a.cmp R _ _ _ _ _ hX) ?_))))
  · refine a.in_ ((((((wN.rf (X := fun j => j = g_nl h ∨ j = l) h).lb _).rc R _ _ _ (fun _ => Or.inl rfl)).rc R _ _ _ (fun _ => Or.inr rfl)).put (g_nl h) (by omega)).sl _ _) (fun j q => ?_)
    exact q.elim (fun e => Or.inr ⟨by omega, by simp [e]⟩) (fun e => by rw [e]; exact Or.inl hX)
  · exact (a.rc R _ _ _ (fun _ => hX)).rc R _ _ _ (fun _ => hX)
  · exact (a.v0 R _).br _ _ _ hX
theorem wN.vl (R : wNR rec) (a : wN X W B c g h) (n : Int32) : wN X W B c g (w_vl nt rec n h) := by
  unfold w_vl
  refine wN.cond a (wN.ite ?_ (a.v0 R _))
  refine a.in_ (((((((((((((wN.rf (X := fun j => j = g_nl h ∨ j = g_nl h + 1) h).lb _).lb _).cd R _ _ _ (Or.inl rfl)).em _ _ _).go _ (Or.inr rfl)).put (g_nl h) (by omega)).sl _ _).em _ _ _).put (g_nl h + 1) (by omega)).sl _ _))) (fun j q => Or.inr ?_)
  exact q.elim (fun z => ⟨by omega, by simp [z]⟩) (fun z => ⟨by omega, by simp [z]⟩)
theorem wN.an (R : wNR rec) (a : wN X W B c g h) (n : Int32) : wN X W B c g (w_an nt rec n h) := by
  unfold w_an
  exact wN.ite (((a.pk _).r0 R _).st _ _) (wN.ite (a.pe9 R _ _ _) (wN.ite (a.stp R _ _ _) (wN.ite (a.chg R _ _ _ _) (wN.ite (a.vl R _) ((a.vl R _).em _ _ _)))))
theorem wV_put (nt : sp_NT) : ∀ f : Nat, wNR (wV nt f) := by
  intro f
  induction f with
  | zero => intro n m l k; exact wN.rf k
  | succ f ih =>
    intro n m l k
    show wN _ _ _ _ _ (if m = 0 then _ else if m = 1 then _ else if m = 2 then _ else _)
    by_cases h0 : m = 0
    · rw [if_pos h0]; exact (wN.rf k).vl ih n
    · rw [if_neg h0]
      by_cases h1 : m = 1
      · rw [if_pos h1]; exact (wN.rf k).an ih n
      · rw [if_neg h1]
        exact wN.ite ((wN.rf k).cd ih n _ _ ⟨by omega, rfl⟩) ((wN.rf k).cd ih n _ _ ⟨by omega, rfl⟩)
end
section
variable {g h : wG} {nt : sp_NT} {V : wR} {rec : wT} {X : Nat → Prop} {c : cL} {W : List Nat} {B : Nat}
/-- what a statement does: it goes to labels of contexts alone -/
def wNS (rec : wT) : Prop := ∀ n k, wN (cP (cxl (g_cx k))) [] (g_nl k) (cxl (g_cx k)) k (rec n k)
theorem wN.sr (R : wNS rec) (a : wN X W B c g h) (n : Int32) (hX : ∀ j, cP c j → X j) : wN X W B c g (rec n h) := a.tr (R n h) (fun j q => hX j (by rw [a.2.2.1] at q; exact q))
theorem wN.aln (R : wNS rec) (a : wN X W B c g h) (n : Int32) (hX : ∀ j, cP c j → X j) : wN X W B c g (w_aln rec n h) := ((a.sr R n hX).s_L _).s_nx _
theorem wN.ts (a : wN X W B c g h) (t : Nat) (ty : List Nat) : wN X W B c g (w_ts t ty h) := ((a.s_tk _).es _ _).s_ok _
theorem wN.end_ (R : wNS rec) (a : wN X W B c g h) (d : wC) (hX : ∀ j, cP c j → X j) : wN X W B c g (w_end rec d h) := by
  unfold w_end
  exact wN.ite ((a.ld _ _ _).em _ _ _) (a.aln R _ hX)
theorem wN.fin (R : wNS rec) (a : wN X W B c g h) (ab : Nat) (d : wC) (hX : ∀ j, cP c j → X j) : wN X W B c g (w_fin rec ab d h) := ((a.s_L _).s_nx _).end_ R d hX
theorem cP.cons {c : cL} {j : Nat} (x : Nat × Nat × Nat) (h : cP c j) : cP (x :: c) j := h.elim (fun e q => ⟨e, List.mem_cons_of_mem _ q.1, q.2⟩)
theorem cP.un {c : cL} {j : Nat} {x : Nat × Nat × Nat} (h : cP (x :: c) j) : (x.1 ≤ 1 ∧ j = x.2.1 ∨ x.1 = 0 ∧ j = x.2.2) ∨ cP c j := by
  obtain ⟨e, q1, q2⟩ := h
  rcases List.mem_cons.mp q1 with z | z
  · rw [z] at q2; exact Or.inl q2
  · exact Or.inr ⟨e, z, q2⟩
theorem wN_ends (R : wNS rec) (ab : Nat) : ∀ (k : Nat) (g : wG), wN (cP (cxl (g_cx g))) [] (g_nl g) (cxl (g_cx g)) g (w_ends rec ab k g).1 := by
  intro k
  induction k with
  | zero => intro g; exact wN.rf g
  | succ k ih =>
    intro g
    unfold w_ends
    cases w_q g
    · simp only [cond_false]
      split
      · exact wN.rf g
      · rename_i c r e
        have ec : cxl (g_cx g) = (c.1, c.2.2.1, c.2.2.2.1) :: cxl r := by rw [e]; rfl
        have h0 : wN (cP (cxl (g_cx g))) [] (g_nl g) (cxl r) g (s_cx r g) := (wN.rf g).cx r rfl
        have hX : ∀ j, cP (cxl r) j → cP (cxl (g_cx g)) j := fun j q => by rw [ec]; exact q.cons _
        have h1 : wN (cP (cxl (g_cx g))) [] (g_nl g) (cxl r) g (if 3 ≤ c.1 then w_fin rec ab c (s_cx r g) else s_cx r g) := wN.ite (h0.fin R ab c hX) h0
        have h2 := h1.tr (ih _) (fun j q => hX j (by rw [h1.2.2.1] at q; exact q))
        refine h2.cx _ ?_
        rw [ec]
        show (_ : Nat × Nat × Nat) :: cxl (g_cx (w_ends rec ab k (if 3 ≤ c.1 then w_fin rec ab c (s_cx r g) else s_cx r g)).1) = _
        rw [h2.2.2.1]
        by_cases q : 2 ≤ c.1
        · rw [if_pos q]; rfl
        · rw [if_neg q]
    · exact wN.rf g
theorem wN.ends (R : wNS rec) (a : wN X W B c g h) (ab k : Nat) (hX : ∀ j, cP c j → X j) : wN X W B c g (w_ends rec ab k h).1 := a.tr (wN_ends R ab k h) (fun j q => hX j (by rw [a.2.2.1] at q; exact q))
theorem cxl_on (n : Nat) : ∀ (k : Nat) (l : List wC), cxl (w_on k n l) = cxl l := by
  intro k
  induction k with
  | zero => intro l; rfl
  | succ k ih => intro l; cases l with
    | nil => rfl
    | cons c r => exact congrArg (List.cons _) (ih r)
theorem wN.gon (a : wN X W B c g h) (k : Nat) : wN X W B c g (w_gon k h) := a.cx _ ((cxl_on _ _ _).trans a.2.2.1)
/-- where a target lies -/
theorem w_tg_lb (loops : Bool) : ∀ (cx : List wC) (d : Nat) (c : wC), cx[w_tg loops d cx]? = some c → c.1 = 0 ∨ (c.1 = 1 ∧ loops = false) := by
  intro cx
  induction cx with
  | nil => intro d c h; cases h
  | cons x r ih =>
    intro d c h
    unfold w_tg at h
    split at h
    · rename_i w
      cases d with
      | zero => have : some x = some c := h; cases this; exact w
      | succ d => simp only [Nat.add_comm 1] at h; exact ih d c (by simpa using h)
    · rw [Nat.add_comm 1] at h; exact ih d c (by simpa using h)
theorem wN_goP (a : wN X W B c g h) (l : Nat) (P : Prop) (hX : g_ok (w_go l (s_ok P h)) → X l) : wN X W B c g (w_go l (s_ok P h)) := by
  have m : wM (s_ok P h) (w_go l (s_ok P h)) := (wM.rf _).go l
  have key : X l → wN X W B c g (w_go l (s_ok P h)) := fun q => (a.s_ok P).go l q
  have b : wN (fun j => X j ∨ j = l) W B c g (w_go l (s_ok P h)) := ((a.s_ok P).mono (fun _ => Or.inl)).go l (Or.inr rfl)
  exact ⟨b.1, b.2.1, b.2.2.1, fun o => (key (hX o)).2.2.2 o⟩
theorem wN_lvs (R : wNS rec) (a : wN X W B c g h) (d : Nat) (b : Bool) (hX : ∀ j, cP c j → X j) : wN X W B c g (w_lvs rec d b h) := by
  unfold w_lvs
  have e := a.ends R 0 (w_tg (!b) d (g_cx h)) hX
  have el : cxl (g_cx (w_ends rec 0 (w_tg (!b) d (g_cx h)) h).1) = cxl (g_cx h) := e.2.2.1.trans a.2.2.1.symm
  simp only
  refine wN.gon (wN.s_al (wN_goP (e.s_nx (g_nx h)) _ _ (fun o => ?_)) _) _
  have hk : w_tg (!b) d (g_cx h) < (g_cx h).length := (((wM.rf _).go _).1 o).2
  have f3 : (g_cx h)[w_tg (!b) d (g_cx h)]? = some ((g_cx h)[w_tg (!b) d (g_cx h)]'hk) := List.getElem?_eq_getElem hk
  have so := w_tg_lb (!b) _ _ _ f3
  generalize (g_cx h)[w_tg (!b) d (g_cx h)]'hk = c1 at *
  have f4 : (cxl (g_cx h))[w_tg (!b) d (g_cx h)]? = some (c1.1, c1.2.2.1, c1.2.2.2.1) := by unfold cxl; rw [List.getElem?_map, f3]; rfl
  rw [← el] at f4
  have mem := List.mem_of_getElem? f4
  rw [e.2.2.1] at mem
  show X (match (g_cx (w_ends rec 0 (w_tg (!b) d (g_cx h)) h).1)[w_tg (!b) d (g_cx h)]? with | some c => (bif b then c.2.2.1 else c.2.2.2.1) | none => 0)
  unfold cxl at f4
  rw [List.getElem?_map] at f4
  cases w : (g_cx (w_ends rec 0 (w_tg (!b) d (g_cx h)) h).1)[w_tg (!b) d (g_cx h)]? with
  | none => rw [w] at f4; cases f4
  | some c2 =>
    rw [w] at f4
    have f5 := Option.some.inj f4
    have z1 := (Prod.mk.inj f5).1
    have z2 := (Prod.mk.inj (Prod.mk.inj f5).2).1
    have z3 := (Prod.mk.inj (Prod.mk.inj f5).2).2
    refine hX _ ⟨_, mem, ?_⟩
    cases b
    · simp only [cond_false]
      rcases so with q | q
      · exact Or.inr ⟨q, z3⟩
      · exact absurd q.2 (by decide)
    · simp only [cond_true]
      refine Or.inl ⟨?_, z2⟩
      show c1.1 ≤ 1
      omega
theorem wN.ret (Rv : wNR V) (R : wNS rec) (a : wN X W B c g h) (e : Int32) (hX : ∀ j, cP c j → X j) : wN X W B c g (w_ret nt V rec e h) := by
  unfold w_ret
  refine wN.gon (wN.s_nx (wN.s_al (wN.ite (wN.em (wN.cond (wN.ld ?_ _ _ _) ?_) _ _ _) (wN.em (wN.cond (wN.ld ?_ _ _ _) ?_) _ _ _)) _) _) _
  all_goals exact wN.ends R (wN.cond ((wN.ite a (a.r0 Rv _)).ts _ _) (wN.ite a (a.r0 Rv _))) _ _ hX
theorem wN.hd (a : wN X W B c g h) (L : List Nat) (ps : List (Nat × Nat)) (k : Int32) : wN X W B c g (w_hd L ps k h) := ((((a.s_rg _).s_fr _).s_al _).s_ms _).s_ok _
theorem wN.ctc (R : wNS rec) (L : List Nat) (ps : List (Nat × Nat)) (e : Nat) (hX : ∀ j, cP c j → X j) (he : X e) : ∀ (l : List Int32) {h : wG}, wN X W B c g h → wN X W B c g (w_ctc nt rec L ps e l h) := by
  intro l
  induction l with
  | nil => intro h a; exact a
  | cons q r ih =>
    intro h a
    unfold w_ctc
    refine wN.cond a (ih ?_)
    refine wN.go (wN.s_nx (wN.aln R (wN.cond ?_ ?_) _ hX) _) _ he
    · exact (((a.hd _ _ _).pe _ _ _ _ _).ts _ _).s_pl _ _
    · exact (a.hd _ _ _).em _ _ _
theorem wN.try_ (R : wNS rec) (a : wN X W B c g h) (s l : Int32) (hX : ∀ j, cP c j → X j) : wN X W B c g (w_try nt rec s l h) := by
  unfold w_try
  have hY : ∀ j, cP ((2, 0, 0) :: cxl (g_cx h)) j → cP (cxl (g_cx h)) j ∨ j = g_nl h := fun j q => q.un.elim (fun z => z.elim (fun z => absurd z.1 (by decide)) (fun z => absurd z.1 (by decide))) Or.inl
  refine a.in_ (((wN.ctc (X := fun j => cP (cxl (g_cx h)) j ∨ j = g_nl h) R _ _ (g_nl h) (fun j => Or.inl) (Or.inr rfl) _ (wN.go ((((((wN.rf h).lb _).ctx 2 0 0 0).aln R s hY).shut)) (g_nl h) (Or.inr rfl))).put (g_nl h) (by omega)).sl _ _) (fun j q => ?_)
  exact q.elim (fun z => Or.inl (hX j (by rw [a.2.2.1] at z; exact z))) (fun z => Or.inr ⟨by omega, by simp [z]⟩)
theorem wN.ended (R : wNS rec) (a : wN X W B c g h) (sort : Nat) (hs : 2 ≤ sort) (s e : Int32) (hX : ∀ j, cP c j → X j) : wN X W B c g (w_ended rec sort s e h) := by
  have hY : ∀ j, cP ((sort, 0, 0) :: cxl (g_cx h)) j → cP (cxl (g_cx h)) j ∨ j = g_nl h := fun j q => q.un.elim (fun z => z.elim (fun z => absurd z.1 (by show ¬ sort ≤ 1; omega)) (fun z => absurd z.1 (by show ¬ sort = 0; omega))) Or.inl
  have hZ : ∀ j, cP (cxl (g_cx h)) j → cP (cxl (g_cx h)) j ∨ j = g_nl h := fun j => Or.inl
  have b := (((((wN.rf (X := fun j => cP (cxl (g_cx h)) j ∨ j = g_nl h) h).lb (g_L h, [])).ctx sort e 0 0).aln R s hY).shut)
  unfold w_ended
  refine a.in_ (wN.sl (wN.put (wN.s_nx (wN.cond (X := fun j => cP (cxl (g_cx h)) j ∨ j = g_nl h) (W := []) ?_ ?_) _) (g_nl h) (Nat.lt_succ_self _)) _ _) (fun j q => q.elim (fun z => Or.inl (hX j (by rw [a.2.2.1] at z; exact z))) (fun z => Or.inr ⟨by omega, by simp [z]⟩))
  · exact (wN.cond (((b.s_nx _).end_ R _ hZ).go _ (Or.inr rfl)) b).s_nx _
  · have c := ((((wN.cond (d := g_al (w_shut (w_aln rec s (w_ctx sort e 0 0 (w_lb (g_L h, []) h))))) (((b.s_nx (g_nx h)).end_ R (sort, e, 0, 0, g_nx h, 0, []) hZ).go (g_nl h) (Or.inr rfl)) b).s_nx (g_nx h)).hd (g_L h) (match g_cx (w_aln rec s (w_ctx sort e 0 0 (w_lb (g_L h, []) h))) with | c :: _ => (w_pc (g_it (w_aln rec s (w_ctx sort e 0 0 (w_lb (g_L h, []) h)))).length c).2.2.2.2.2.2 | [] => []) 0).ts 5 [10]).end_ R (sort, e, 0, 0, g_nx h, 0, []) hZ
    refine wN.cond (wN.s_al (wN.em (wN.ld ?_ _ _ _) _ _ _) _) ?_
    · exact wN.ite (wN.s_ok (wN.s_rg c _) _) c
    · exact wN.ite (wN.s_ok (wN.s_rg c _) _) c
theorem wN.lock (Rv : wNR V) (R : wNS rec) (a : wN X W B c g h) (e s : Int32) (hX : ∀ j, cP c j → X j) : wN X W B c g (w_lock nt V rec e s h) := by
  unfold w_lock
  exact ((((((a.r0 Rv _).es _ _).ts _ _).es _ _).ended R 4 (by decide) _ _ hX).s_L _).s_nx _
theorem wN.lbs (F : wF) : ∀ (n : Nat) {h : wG} {B : Nat}, wN X W B c g h → wN X W (B + n) c g (w_lbs F n h) := by
  intro n
  induction n with
  | zero => intro h B a; exact a
  | succ n ih => intro h B a; have := ih (a.lb F); rw [Nat.add_assoc, Nat.add_comm 1] at this; exact this
theorem wN.lbl (a : wN X W B c g h) (k : Int32) (F : wF) : wN X W (B + 3) c g (w_lbl k F h) := wN.ite ((wN.lbs F 2 a).lb0 F) (wN.lbs F 3 a)
theorem wN.comes : ∀ (l : List (Int32 × Nat)) {h : wG}, wN X W B c g h → (∀ q, q ∈ l → X q.2) → wN X W B c g (w_comes l h) := by
  intro l
  induction l with
  | nil => intro h a _; exact a
  | cons q r ih => intro h a hq; exact ih (a.come _ (hq q (List.mem_cons_self ..))) (fun p hp => hq p (List.mem_cons_of_mem _ hp))
theorem wN.cses (R : wNS rec) (hX : ∀ j, cP c j → X j) : ∀ (l : List (Int32 × Nat)) {h : wG} {W : List Nat}, wN X W B c g h → (∀ q, q ∈ l → q.2 < B) → ∃ W', wN X W' B c g (w_cses nt rec l h) ∧ (∀ j, j ∈ W → j ∈ W') ∧ ∀ q, q ∈ l → q.2 ∈ W' := by
  intro l
  induction l with
  | nil => intro h W a _; exact ⟨W, a, fun _ => id, fun _ h => by cases h⟩
  | cons q r ih =>
    intro h W a hl
    obtain ⟨W', r1, r2, r3⟩ := ih (((a.s_ok (g_pl h (4000 + q.1.toNatClampNeg) = some q.2)).put q.2 (hl q (List.mem_cons_self ..))).aln R (nB nt q.1) hX) (fun p hp => hl p (List.mem_cons_of_mem _ hp))
    refine ⟨W', r1, fun j hj => r2 j (List.mem_cons_of_mem _ hj), fun p hp => ?_⟩
    rcases List.mem_cons.mp hp with y | y
    · rw [y]; exact r2 _ (List.mem_cons_self ..)
    · exact r3 p y
theorem wN.csp : ∀ (l : List (Int32 × Nat)) {h : wG}, wN X W B c g h → wN X W B c g (w_csp l h) := by
  intro l
  induction l with
  | nil => intro h a; exact a
  | cons q r ih => intro h a; exact ih (a.s_pl _ _)
/-- labels of a table -/
theorem w_tab_lb (o : Nat) : ∀ (n : Nat) (v : Int) (ks : List (Int32 × Nat)) (p : Int32 × Nat), p ∈ w_tab o n v ks → p.2 = o ∨ ∃ q, q ∈ ks ∧ p.2 = q.2 := by
  intro n
  induction n with
  | zero => intro v ks p h; cases h
  | succ n ih =>
    intro v ks p h
    cases ks with
    | nil =>
      rcases List.mem_cons.mp h with z | z
      · rw [z]; exact Or.inl rfl
      · exact ih _ _ p z
    | cons q r =>
      unfold w_tab at h
      simp only at h
      split at h
      · rcases List.mem_cons.mp h with z | z
        · rw [z]; exact Or.inr ⟨q, List.mem_cons_self .., rfl⟩
        · exact (ih _ _ p z).imp id (fun ⟨x, hx, e⟩ => ⟨x, List.mem_cons_of_mem _ hx, e⟩)
      · rcases List.mem_cons.mp h with z | z
        · rw [z]; exact Or.inl rfl
        · exact ih _ _ p z
theorem w_swi_lb (o : Nat) (ks : List (Int32 × Nat)) (p : Int32 × Nat) (h : p ∈ (w_swi o ks).2.2.2.2) : p.2 = o ∨ ∃ q, q ∈ ks ∧ p.2 = q.2 := by
  unfold w_swi at h
  cases d : w_dense ks
  · rw [d] at h
    rcases List.mem_cons.mp h with z | z
    · rw [z]; exact Or.inl rfl
    · exact Or.inr ⟨p, z, rfl⟩
  · rw [d] at h
    rcases List.mem_cons.mp h with z | z
    · rw [z]; exact Or.inl rfl
    · exact w_tab_lb _ _ _ _ p z
theorem w_ins_lb (e : Int32 × Nat) : ∀ (l : List (Int32 × Nat)) (p : Int32 × Nat), p ∈ w_ins e l → p = e ∨ p ∈ l := by
  intro l
  induction l with
  | nil => intro p h; exact Or.inl (List.mem_singleton.mp h)
  | cons q r ih =>
    intro p h
    unfold w_ins at h
    split at h
    · rcases List.mem_cons.mp h with z | z
      · exact Or.inr (by rw [z]; exact List.mem_cons_self ..)
      · exact (ih p z).imp id (List.mem_cons_of_mem _)
    · rcases List.mem_cons.mp h with z | z
      · exact Or.inl z
      · exact Or.inr z
theorem w_keys_lb (nt : sp_NT) (cs : List (Int32 × Nat)) (p : Int32 × Nat) (h : p ∈ w_keys nt cs) : ∃ q, q ∈ cs ∧ p.2 = q.2 := by
  have key : ∀ (l s : List (Int32 × Nat)), p ∈ l.foldl (fun s q => w_ins (nA nt q.1, q.2) s) s → p ∈ s ∨ ∃ q, q ∈ l ∧ p.2 = q.2 := by
    intro l
    induction l with
    | nil => intro s h; exact Or.inl h
    | cons a r ih =>
      intro s h
      rcases ih _ h with z | ⟨q, z, e⟩
      · rcases w_ins_lb _ _ _ z with w | w
        · exact Or.inr ⟨a, List.mem_cons_self .., by rw [w]⟩
        · exact Or.inl w
      · exact Or.inr ⟨q, List.mem_cons_of_mem _ z, e⟩
  rcases key _ _ h with z | ⟨q, z, e⟩
  · cases z
  · exact ⟨q, (List.mem_filter.mp z).1, e⟩
theorem w_oth_lb (nt : sp_NT) (e : Nat) (cs : List (Int32 × Nat)) : w_oth nt e cs = e ∨ ∃ q, q ∈ cs ∧ w_oth nt e cs = q.2 := by
  unfold w_oth
  cases h : cs.find? (fun q => decide (nK nt q.1 = 84)) with
  | none => exact Or.inl rfl
  | some q => exact Or.inr ⟨q, List.mem_of_find?_eq_some h, rfl⟩
theorem wN.swt (Rv : wNR V) (R : wNS rec) (a : wN X W B c g h) (x s : Int32) (hX : ∀ j, cP c j → X j) : wN X W B c g (w_swt nt V rec x s h) := by
  unfold w_swt
  have a1 := a.r0 Rv x
  generalize V x 0 0 h = k at *
  simp only
  have len := (w_csl_s nt (sp_chain nt 4001 s) (g_nl k + 1)).2.1
  have lab := (w_csl_s nt (sp_chain nt 4001 s) (g_nl k + 1)).2.2
  generalize hcs : w_csl nt (g_nl k + 1) (sp_chain nt 4001 s) = cs at *
  have b := wN.lbs (X := fun j => cP (cxl (g_cx k)) j ∨ j = g_nl k ∨ ∃ q, q ∈ cs ∧ j = q.2) (g_L k, (g_st k).drop 1) (cs.length + 1) (wN.rf k)
  have hY : ∀ j, cP ((1, g_nl k, 0) :: cxl (g_cx k)) j → cP (cxl (g_cx k)) j ∨ j = g_nl k ∨ ∃ q, q ∈ cs ∧ j = q.2 := fun j q => q.un.elim (fun z => z.elim (fun z => Or.inr (Or.inl z.2)) (fun z => absurd z.1 (show ¬ (1 : Nat) = 0 by decide))) Or.inl
  have b2 := (((b.csp cs).ctx 1 0 (g_nl k) 0).em (w_swi (w_oth nt (g_nl k) cs) (w_keys nt cs)) 1 [])
  have b3 := (wN.comes (w_swi (w_oth nt (g_nl k) cs) (w_keys nt cs)).2.2.2.2 b2 (fun q hq => by
    rcases w_swi_lb _ _ _ hq with z | ⟨y, y1, y2⟩
    · rcases w_oth_lb nt (g_nl k) cs with w | ⟨u, u1, u2⟩
      · exact Or.inr (Or.inl (z.trans w))
      · exact Or.inr (Or.inr ⟨u, u1, z.trans u2⟩)
    · obtain ⟨u, u1, u2⟩ := w_keys_lb nt cs y y1
      exact Or.inr (Or.inr ⟨u, u1, y2.trans u2⟩))).s_al false
  obtain ⟨W', c1, c2, c3⟩ := wN.cses R hY cs b3 (fun q hq => by have := lab q hq; omega)
  refine a1.in_ ((c1.shut.put (g_nl k) (by omega)).sl false (g_nl k)) (fun j q => ?_)
  rcases q with q | q | ⟨y, y1, y2⟩
  · exact Or.inl (hX j (by rw [a1.2.2.1] at q; exact q))
  · exact Or.inr ⟨by omega, by rw [q]; exact List.mem_cons_self ..⟩
  · exact Or.inr ⟨by have := lab y y1; omega, by rw [y2]; exact List.mem_cons_of_mem _ (c3 y y1)⟩
theorem wN.loop (Rv : wNR V) (R : wNS rec) (a : wN X W B c g h) (k x y : Int32) (hX : ∀ j, cP c j → X j) : wN X W B c g (w_loop nt V rec k x y h) := by
  unfold w_loop
  simp only
  have b := fun (X : Nat → Prop) => ((wN.rf (X := X) h).lbl k (g_L h, [])).ctx 0 0 (g_nl h) (g_nl h + 1)
  generalize w_ctx 0 0 (g_nl h) (g_nl h + 1) (w_lbl k (g_L h, []) h) = k1 at *
  have un : ∀ j, cP ((0, g_nl h, g_nl h + 1) :: cxl (g_cx h)) j → cP (cxl (g_cx h)) j ∨ j = g_nl h ∨ j = g_nl h + 1 := fun j q => q.un.elim (fun z => z.elim (fun z => Or.inr (Or.inl z.2)) (fun z => Or.inr (Or.inr z.2))) Or.inl
  have un3 : ∀ j, cP ((0, g_nl h, g_nl h + 1) :: cxl (g_cx h)) j → cP (cxl (g_cx h)) j ∨ j = g_nl h ∨ j = g_nl h + 1 ∨ j = g_nl h + 2 := fun j q => (un j q).imp id (fun z => z.imp id Or.inl)
  have cx0 : ∀ j, cP (cxl (g_cx h)) j → X j := fun j q => hX j (by rw [a.2.2.1] at q; exact q)
  by_cases c1 : k = 67
  · simp only [if_pos c1]
    have b1 := (((((b (fun j => cP (cxl (g_cx h)) j ∨ j = g_nl h ∨ j = g_nl h + 1)).put (g_nl h + 1) (by omega)).rc Rv x 3 (g_nl h) (fun _ => Or.inr (Or.inl rfl))).aln R y un).go (g_nl h + 1) (Or.inr (Or.inr rfl))).shut
    refine a.in_ (((((b1.sl false (g_nl h + 2)).sl false (g_nl h + 1)).put (g_nl h) (by omega)).sl false (g_nl h))) (fun j q => ?_)
    rcases q with q | q | q
    · exact Or.inl (cx0 j q)
    · exact Or.inr ⟨by omega, by simp [q]⟩
    · exact Or.inr ⟨by omega, by simp [q]⟩
  · simp only [if_neg c1]
    have fin : ∀ (u : wG) (W0 : List Nat), wN (fun j => cP (cxl (g_cx h)) j ∨ j = g_nl h ∨ j = g_nl h + 1 ∨ j = g_nl h + 2) W0 (g_nl h + 3) ((0, g_nl h, g_nl h + 1) :: cxl (g_cx h)) h u → g_nl h + 1 ∈ W0 → g_nl h + 2 ∈ W0 → wN X W B c g (w_sl false (g_nl h) (w_put (g_nl h) (w_sl false (g_nl h + 1) (w_sl false (g_nl h + 2) (w_shut u))))) := by
      intro u W0 d h1 h2
      refine a.in_ (((((d.shut.sl false (g_nl h + 2)).sl false (g_nl h + 1)).put (g_nl h) (by omega)).sl false (g_nl h))) (fun j q => ?_)
      rcases q with q | q | q | q
      · exact Or.inl (cx0 j q)
      · exact Or.inr ⟨by omega, by simp [q]⟩
      · exact Or.inr ⟨by omega, by simp [q, h1]⟩
      · exact Or.inr ⟨by omega, by simp [q, h2]⟩
    have b0 := (b (fun j => cP (cxl (g_cx h)) j ∨ j = g_nl h ∨ j = g_nl h + 1 ∨ j = g_nl h + 2)).put (g_nl h + 2) (by omega)
    by_cases c2 : k = 68
    · simp only [if_pos c2]
      exact fin _ _ (((b0.aln R x un3).put (g_nl h + 1) (by omega)).rc Rv y 2 (g_nl h + 2) (fun _ => Or.inr (Or.inr (Or.inr rfl)))) (List.mem_cons_self ..) (List.mem_cons_of_mem _ (List.mem_cons_self ..))
    · simp only [if_neg c2]
      have b1 := ((b0.rc Rv (nA nt x) 3 (g_nl h) (fun _ => Or.inr (Or.inl rfl))).aln R y un3).put (g_nl h + 1) (by omega)
      generalize w_put (g_nl h + 1) (w_aln rec y (V (nA nt x) 3 (g_nl h) (w_put (g_nl h + 2) k1))) = k3 at *
      have b2 := b1.shut.aln R (nB nt x) (fun j q => Or.inl q)
      have e := b1.2.2.1
      refine fin _ _ (wN.go (W := [g_nl h + 1, g_nl h + 2]) ?_ (g_nl h + 2) (Or.inr (Or.inr (Or.inr rfl)))) (List.mem_cons_self ..) (List.mem_cons_of_mem _ (List.mem_cons_self ..))
      cases q : g_cx k3 with
      | nil => rw [q] at e; cases e
      | cons d r =>
        rw [q] at e
        refine b2.cx _ ?_
        show (d.1, d.2.2.1, d.2.2.2.1) :: cxl _ = _
        rw [b2.2.2.1]
        exact congrArg (fun z => z :: cxl (g_cx h)) (List.cons.inj e).1
theorem wN.bd (Rv : wNR V) (R : wNS rec) (a : wN X W B c g h) (n : Int32) (hX : ∀ j, cP c j → X j) : wN X W B c g (w_bd nt V rec n h) := by
  have cx0 : ∀ j, cP (cxl (g_cx h)) j → X j := fun j q => hX j (by rw [a.2.2.1] at q; exact q)
  unfold w_bd
  refine wN.ite (a.rc Rv _ _ _ (fun q => absurd q (by decide))) (wN.ite (((a.r0 Rv _).ts _ _).s_pl _ _) (wN.ite ((a.sr R _ hX).sr R _ hX) (wN.ite (a.aln R _ hX) (wN.ite ?_ (wN.ite ?_ (wN.ite (a.loop Rv R _ _ _ hX) (wN.ite (wN_lvs R a _ _ hX) (wN.ite (wN_lvs R a _ _ hX) (wN.ite (a.ret Rv R _ hX) (wN.ite ?_ (wN.ite (a.try_ R _ _ hX) (wN.ite (a.ended R 3 (by decide) _ _ hX) (wN.ite (a.lock Rv R _ _ hX) (wN.ite (a.swt Rv R _ _ hX) ?_))))))))))))))
  · refine a.in_ ((((((wN.rf (X := fun j => cP (cxl (g_cx h)) j ∨ j = g_nl h) h).lb (g_L h, [])).rc Rv _ _ _ (fun _ => Or.inr rfl)).aln R _ (fun j => Or.inl)).put (g_nl h) (by omega)).sl _ _) (fun j q => ?_)
    exact q.elim (fun z => Or.inl (cx0 j z)) (fun z => Or.inr ⟨by omega, by simp [z]⟩)
  · refine a.in_ (((((((((((wN.rf (X := fun j => cP (cxl (g_cx h)) j ∨ j = g_nl h ∨ j = g_nl h + 1) h).lb _).lb _).rc Rv _ _ _ (fun _ => Or.inr (Or.inl rfl))).aln R _ (fun j => Or.inl)).go _ (Or.inr (Or.inr rfl))).put (g_nl h) (by omega)).sl _ _).aln R _ (fun j => Or.inl)).put (g_nl h + 1) (by omega)).sl false (g_nl h + 1)) (fun j q => ?_)
    rcases q with q | q | q
    · exact Or.inl (cx0 j q)
    · exact Or.inr ⟨by omega, by simp [q]⟩
    · exact Or.inr ⟨by omega, by simp [q]⟩
  · exact (((a.r0 Rv _).pe _ _ _ _ _).em _ _ _).s_al _
  · exact ((a.s_pn _).sr R _ hX).s_pn _
end
theorem wS_put (nt : sp_NT) : ∀ f : Nat, wNS (wS nt f) := by
  intro f
  induction f with
  | zero => intro n k; exact wN.cond (wN.rf k) ((wN.rf k).s_ac.s_ov)
  | succ f ih => intro n k; exact wN.cond (wN.rf k) (wN.cond ((wN.rf k).s_ac.s_ov) ((wN.rf k).s_ac.bd (wV_put nt 40) ih n (fun _ => id)))
theorem w_par_lb (nt : sp_NT) : ∀ (l : List Int32) (g : wG), wN wF0 [] (g_nl g) (cxl (g_cx g)) g (w_par nt l g) := by
  intro l
  induction l with
  | nil => intro g; exact wN.rf g
  | cons q r ih =>
    intro g
    have b := (((wN.rf (X := wF0) g).s_pl (nA nt q).toNatClampNeg (g_nx g)).s_tk (w_tl (nT nt (nA nt q))).length).s_L (g_L g ++ (w_tl (nT nt (nA nt q))).reverse)
    exact b.tr (ih _) (fun _ => id)
/-- every label to which a jump comes is put -/
theorem wW_put (nt : sp_NT) (res : Int32) (params body : Int32) (o : g_ok (wW nt res params body)) (l : Nat) (hl : l < g_nl (wW nt res params body)) (hg : g_goes (wW nt res params body) l = true) : g_lat (wW nt res params body) l ≠ none := by
  have key : wN wF0 [] 0 [] w_g0 (wW nt res params body) := by
    have p := w_par_lb nt (sp_chain nt 4001 params) w_g0
    have b := p.aln (wS_put nt 200) body (fun j q => by obtain ⟨e, h, -⟩ := q; cases h)
    unfold wW
    exact wN.ite ((b.em _ _ _).s_al _) b
  exact ((key.2.2.2 o).2.1 l (Nat.zero_le _) hl hg).elim id False.elim
theorem wW_cx (nt : sp_NT) (res : Int32) (params body : Int32) : g_cx (wW nt res params body) = [] := by
  have key : wN wF0 [] 0 [] w_g0 (wW nt res params body) := by
    have p := w_par_lb nt (sp_chain nt 4001 params) w_g0
    have b := p.aln (wS_put nt 200) body (fun j q => by obtain ⟨e, h, -⟩ := q; cases h)
    unfold wW
    exact wN.ite ((b.em _ _ _).s_al _) b
  exact List.map_eq_nil_iff.mp key.2.2.1
