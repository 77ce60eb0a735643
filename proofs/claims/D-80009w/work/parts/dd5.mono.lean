/-! what writing never takes back -/
def wCs (c : wC) : Nat × Int32 × Nat × Nat × Nat := (c.1, c.2.1, c.2.2.1, c.2.2.2.1, c.2.2.2.2.1)
abbrev c_ps (c : wC) : List (Nat × Nat) := c.2.2.2.2.2.2
def wK1 (c d : wC) : Prop := wCs d = wCs c ∧ (c.1 < 2 → c_ps d = c_ps c) ∧ (c_ps c).length ≤ (c_ps d).length
def wK : List wC → List wC → Prop
  | [], [] => True
  | c :: r, d :: s => wK1 c d ∧ wK r s
  | _, _ => False
theorem wK1.rf (c : wC) : wK1 c c := ⟨rfl, fun _ => rfl, Nat.le_refl _⟩
theorem wK1.tr {a b c : wC} (h : wK1 a b) (k : wK1 b c) : wK1 a c := ⟨k.1.trans h.1, fun q => (k.2.1 (by have e := h.1; unfold wCs at e; have := (Prod.mk.inj e).1; omega)).trans (h.2.1 q), Nat.le_trans h.2.2 k.2.2⟩
theorem wK.rf : ∀ l : List wC, wK l l := by
  intro l
  induction l with
  | nil => trivial
  | cons c r ih => exact ⟨wK1.rf c, ih⟩
theorem wK.tr : ∀ {a b c : List wC}, wK a b → wK b c → wK a c := by
  intro a
  induction a with
  | nil => intro b c h k; cases b with
    | nil => exact k
    | cons _ _ => exact h.elim
  | cons x a ih => intro b c h k; cases b with
    | nil => exact h.elim
    | cons y b => cases c with
      | nil => exact k.elim
      | cons z c => exact ⟨h.1.tr k.1, ih h.2 k.2⟩
theorem wK.len : ∀ {a b : List wC}, wK a b → b.length = a.length := by
  intro a
  induction a with
  | nil => intro b h; cases b with
    | nil => rfl
    | cons _ _ => exact h.elim
  | cons x a ih => intro b h; cases b with
    | nil => exact h.elim
    | cons y b => simp only [List.length_cons]; rw [ih h.2]
def w_np : List wC → Nat
  | [] => 0
  | c :: r => (c_ps c).length + w_np r
theorem wK.np : ∀ {a b : List wC}, wK a b → w_np a ≤ w_np b := by
  intro a
  induction a with
  | nil => intro b h; exact Nat.zero_le _
  | cons x a ih => intro b h; cases b with
    | nil => exact h.elim
    | cons y b => have := ih h.2; have := h.1.2.2; unfold w_np; omega
def w_ph (g : wG) : Nat := (g_rg g).length + w_np (g_cx g)
def wM (g h : wG) : Prop := (g_ok h → g_ok g) ∧ (∃ e, g_it h = e ++ g_it g) ∧ (g_ov g = true → g_ov h = true) ∧ (g_ln g).length ≤ (g_ln h).length ∧ (∃ e, g_rg h = e ++ g_rg g) ∧ wK (g_cx g) (g_cx h) ∧ g_nl g ≤ g_nl h ∧ g_ac g ≤ g_ac h
theorem wM.rf (g : wG) : wM g g := ⟨fun q => q, ⟨[], rfl⟩, fun q => q, Nat.le_refl _, ⟨[], rfl⟩, wK.rf _, Nat.le_refl _, Nat.le_refl _⟩
theorem wM.tr {a b c : wG} (h : wM a b) (k : wM b c) : wM a c := by
  obtain ⟨h1, ⟨e1, h2⟩, h3, h4, ⟨e2, h5⟩, h6, h7, h8⟩ := h
  obtain ⟨k1, ⟨e3, k2⟩, k3, k4, ⟨e4, k5⟩, k6, k7, k8⟩ := k
  exact ⟨fun q => h1 (k1 q), ⟨e3 ++ e1, by rw [k2, h2, List.append_assoc]⟩, fun q => k3 (h3 q), Nat.le_trans h4 k4, ⟨e4 ++ e2, by rw [k5, h5, List.append_assoc]⟩, h6.tr k6, Nat.le_trans h7 k7, Nat.le_trans h8 k8⟩
theorem wM.ph {g h : wG} (a : wM g h) : w_ph g ≤ w_ph h := by
  obtain ⟨-, -, -, -, ⟨e, h5⟩, h6, -⟩ := a
  have := h6.np
  unfold w_ph
  rw [h5, List.length_append]
  omega
section
variable {g h : wG}
theorem wM.cond {c : Bool} {a b : wG} (h1 : wM g a) (h2 : wM g b) : wM g (bif c then a else b) := by cases c <;> assumption
theorem wM.ite {c : Prop} [Decidable c] {a b : wG} (h1 : wM g a) (h2 : wM g b) : wM g (if c then a else b) := by by_cases q : c <;> simp [q] <;> assumption
theorem wM.s_al (a : wM g h) (b : Bool) : wM g (s_al b h) := a.tr ⟨fun q => q, ⟨[], rfl⟩, fun q => q, Nat.le_refl _, ⟨[], rfl⟩, wK.rf _, Nat.le_refl _, Nat.le_refl _⟩
theorem wM.s_ov (a : wM g h) : wM g (s_ov h) := a.tr ⟨fun q => q, ⟨[], rfl⟩, fun _ => rfl, Nat.le_refl _, ⟨[], rfl⟩, wK.rf _, Nat.le_refl _, Nat.le_refl _⟩
theorem wM.s_L (a : wM g h) (L : List Nat) : wM g (s_L L h) := a.tr ⟨fun q => q, ⟨[], rfl⟩, fun q => q, Nat.le_refl _, ⟨[], rfl⟩, wK.rf _, Nat.le_refl _, Nat.le_refl _⟩
theorem wM.s_fr (a : wM g h) (F : wF) : wM g (s_fr F h) := a.tr ⟨fun q => q, ⟨[], rfl⟩, fun q => q, Nat.le_refl _, ⟨[], rfl⟩, wK.rf _, Nat.le_refl _, Nat.le_refl _⟩
theorem wM.s_nx (a : wM g h) (n : Nat) : wM g (s_nx n h) := a.tr ⟨fun q => q, ⟨[], rfl⟩, fun q => q, Nat.le_refl _, ⟨[], rfl⟩, wK.rf _, Nat.le_refl _, Nat.le_refl _⟩
theorem wM.s_ms (a : wM g h) (n : Nat) : wM g (s_ms n h) := a.tr ⟨fun q => q, ⟨[], rfl⟩, fun q => q, Nat.le_refl _, ⟨[], rfl⟩, wK.rf _, Nat.le_refl _, Nat.le_refl _⟩
theorem wM.s_ac (a : wM g h) : wM g (s_ac h) := a.tr ⟨fun q => q, ⟨[], rfl⟩, fun q => q, Nat.le_refl _, ⟨[], rfl⟩, wK.rf _, Nat.le_refl _, Nat.le_succ _⟩
theorem wM.s_tk (a : wM g h) (n : Nat) : wM g (s_tk n h) := a.tr ⟨fun q => q, ⟨[], rfl⟩, fun q => q, Nat.le_refl _, ⟨[], rfl⟩, wK.rf _, Nat.le_refl _, Nat.le_refl _⟩
theorem wM.s_pn (a : wM g h) (p : Int32) : wM g (s_pn p h) := a.tr ⟨fun q => q, ⟨[], rfl⟩, fun q => q, Nat.le_refl _, ⟨[], rfl⟩, wK.rf _, Nat.le_refl _, Nat.le_refl _⟩
theorem wM.s_po (a : wM g h) (p : List (Nat × Int64)) : wM g (s_po p h) := a.tr ⟨fun q => q, ⟨[], rfl⟩, fun q => q, Nat.le_refl _, ⟨[], rfl⟩, wK.rf _, Nat.le_refl _, Nat.le_refl _⟩
theorem wM.s_pl (a : wM g h) (v p : Nat) : wM g (s_pl v p h) := a.tr ⟨fun q => q, ⟨[], rfl⟩, fun q => q, Nat.le_refl _, ⟨[], rfl⟩, wK.rf _, Nat.le_refl _, Nat.le_refl _⟩
theorem wM.s_ok (a : wM g h) (P : Prop) : wM g (s_ok P h) := a.tr ⟨fun q => q.1, ⟨[], rfl⟩, fun q => q, Nat.le_refl _, ⟨[], rfl⟩, wK.rf _, Nat.le_refl _, Nat.le_refl _⟩
theorem wM.s_rg (a : wM g h) (r : List (Nat × Nat × Nat × Int32)) (e : List (Nat × Nat × Nat × Int32)) (hr : r = e ++ g_rg h) : wM g (s_rg r h) := a.tr ⟨fun q => q, ⟨[], rfl⟩, fun q => q, Nat.le_refl _, ⟨e, hr⟩, wK.rf _, Nat.le_refl _, Nat.le_refl _⟩
theorem wM.es (a : wM g h) (i : wI) (F : wF) : wM g (w_es i F h) := by
  refine a.tr ?_
  unfold w_es
  cases w_q h
  · exact ⟨fun q => q.1, ⟨[_], rfl⟩, fun q => q, w_told_len _ _ _, ⟨[], rfl⟩, wK.rf _, Nat.le_refl _, Nat.le_refl _⟩
  · exact wM.rf h
theorem wM.em (a : wM g h) (i : wI) (off : Nat) (on : List Nat) : wM g (w_em i off on h) := wM.cond a ((a.es _ _).s_ok _)
theorem wM.sl (a : wM g h) (b : Bool) (l : Nat) : wM g (w_sl b l h) := by
  refine a.tr ?_
  unfold w_sl
  cases g_goes h l
  · exact ⟨fun q => q.1, ⟨[], rfl⟩, fun q => q, Nat.le_refl _, ⟨[], rfl⟩, wK.rf _, Nat.le_refl _, Nat.le_refl _⟩
  · exact wM.rf h
theorem wM.lb (a : wM g h) (F : wF) : wM g (w_lb F h) := a.tr ⟨fun q => q.1, ⟨[], rfl⟩, fun q => q, Nat.le_refl _, ⟨[], rfl⟩, wK.rf _, Nat.le_succ _, Nat.le_refl _⟩
theorem wM.come (a : wM g h) (l : Nat) : wM g (w_come l h) := a.tr ⟨fun q => q.1, ⟨[], rfl⟩, fun q => q, Nat.le_refl _, ⟨[], rfl⟩, wK.rf _, Nat.le_refl _, Nat.le_refl _⟩
theorem wM.put (a : wM g h) (l : Nat) : wM g (w_put l h) := by
  refine a.tr ?_
  unfold w_put
  cases g_al h
  · simp only [cond_false]
    cases g_goes h l
    · exact ⟨fun q => q, ⟨[], rfl⟩, fun q => q, Nat.le_refl _, ⟨[], rfl⟩, wK.rf _, Nat.le_refl _, Nat.le_refl _⟩
    · exact ⟨fun q => q, ⟨[], rfl⟩, fun q => q, Nat.le_refl _, ⟨[], rfl⟩, wK.rf _, Nat.le_refl _, Nat.le_refl _⟩
  · exact ⟨fun q => q.1, ⟨[], rfl⟩, fun q => q, Nat.le_refl _, ⟨[], rfl⟩, wK.rf _, Nat.le_refl _, Nat.le_refl _⟩
theorem wM.go (a : wM g h) (l : Nat) : wM g (w_go l h) := by unfold w_go; exact wM.cond a (((a.em _ _ _).come _).s_al _)
theorem wM.br (a : wM g h) (op off l : Nat) : wM g (w_br op off l h) := by unfold w_br; exact wM.cond a ((a.em _ _ _).come _)
theorem wM.pe (a : wM g h) (tag s : Nat) (v : Int64) (off : Nat) (on : List Nat) : wM g (w_pe tag s v off on h) := by unfold w_pe; exact wM.cond a (((a.s_po _).s_ok _).em _ _ _)
theorem wM.k (a : wM g h) (t : Nat) (v : Int64) : wM g (w_k t v h) := by unfold w_k; exact wM.cond (a.em _ _ _) (a.pe _ _ _ _ _)
theorem wM.one (a : wM g h) (t : Nat) : wM g (w_one t h) := a.k _ _
theorem wM.ld (a : wM g h) (t p : Nat) (on : List Nat) : wM g (w_ld t p on h) := a.em _ _ _
theorem wM.st (a : wM g h) (t p : Nat) : wM g (w_st t p h) := a.em _ _ _
theorem wM.dup (a : wM g h) (t : Nat) : wM g (w_dup t h) := by unfold w_dup; exact wM.cond (a.es _ _) (a.es _ _)
theorem wM.du (a : wM g h) (t : Nat) : wM g (w_du t h) := by unfold w_du; exact wM.cond (a.es _ _) (a.es _ _)
theorem wM.d2 (a : wM g h) : wM g (w_d2 h) := a.es _ _
theorem wM.eld (a : wM g h) (c : Nat) : wM g (w_eld c h) := a.em _ _ _
theorem wM.est (a : wM g h) (c : Nat) : wM g (w_est c h) := a.em _ _ _
theorem wM.bin (a : wM g h) (k t : Nat) : wM g (w_bin k t h) := a.em _ _ _
theorem wM.cut (a : wM g h) (c : Bool) : wM g (w_cut c h) := wM.cond (a.em _ _ _) a
theorem wM.inc (a : wM g h) (p : Nat) (v : Int64) : wM g (w_inc p v h) := a.em _ _ _
theorem wM.cast (a : wM g h) (f t : Nat) : wM g (w_cast f t h) := by unfold w_cast; exact wM.cond ((wM.cond a (a.em _ _ _)).em _ _ _) (wM.cond a (a.em _ _ _))
theorem wM.pk (a : wM g h) (v : Int32) : wM g (w_pk v h) := a.s_ok _
end
section
variable {g h : wG} {nt : sp_NT} {rec : wR} (R : ∀ n m l k, wM k (rec n m l k))
theorem wM.rc (R : ∀ n m l k, wM k (rec n m l k)) (a : wM g h) (n : Int32) (m l : Nat) : wM g (rec n m l h) := a.tr (R n m l h)
theorem wM.opd (R : ∀ n m l k, wM k (rec n m l k)) (a : wM g h) (e : Int32) (t : Nat) : wM g (w_opd nt rec e t h) := wM.ite (a.one _) (a.rc R _ _ _)
theorem wM.pe9 (R : ∀ n m l k, wM k (rec n m l k)) (a : wM g h) (x e : Int32) (want : Bool) : wM g (w_pe9 nt rec x e want h) := by
  have s := (((a.rc R (nA nt x) 0 0).rc R (nB nt x) 0 0).rc R e 0 0).cut (Nat.beq (nT nt (nA nt x)) 5)
  exact (wM.cond (s.du _) s).est _
theorem wM.chg (R : ∀ n m l k, wM k (rec n m l k)) (a : wM g h) (x : Int32) (op : Nat) (e : Int32) (want : Bool) : wM g (w_chg nt rec x op e want h) := by
  unfold w_chg
  refine wM.ite (wM.cond ?_ ?_) ?_
  · exact wM.cond (((a.pk _).inc _ _).ld _ _ _) ((a.pk _).inc _ _)
  · have s := ((((a.pk (nA nt x)).ld (nT nt x) (w_pl h (nA nt x)) (w_tl (nT nt x))).opd (nt := nt) R e (nT nt x)).bin op (nT nt x))
    exact (wM.cond (s.dup _) s).st _ _
  · have s := (((((a.rc R (nA nt x) 0 0).rc R (nB nt x) 0 0).d2.eld (nT nt (nA nt x))).opd (nt := nt) R e (nT nt x)).bin op (nT nt x)).cut (Nat.beq (nT nt (nA nt x)) 5)
    exact (wM.cond (s.du _) s).est _
theorem wM.stp (R : ∀ n m l k, wM k (rec n m l k)) (a : wM g h) (x how : Int32) (want : Bool) : wM g (w_stp nt rec x how want h) := by
  unfold w_stp
  refine wM.ite ?_ (wM.cond (a.chg R _ _ _ _) (wM.ite ?_ ?_))
  · have s := (wM.cond (c := want && decide (2 ≤ how)) ((a.pk (nA nt x)).ld 1 (w_pl h (nA nt x)) [1]) (a.pk (nA nt x))).inc (w_pl h (nA nt x)) (if (if how = 0 ∨ how = 2 then 10 else 11) = 10 then 1 else -1)
    exact wM.cond (s.ld _ _ _) s
  · exact (((((a.pk _).ld _ _ _).dup _).one _).bin _ _).st _ _
  · exact (((((((a.rc R _ _ _).rc R _ _ _).d2.eld _).du _).one _).bin _ _).cut _).est _
theorem wM.args (R : ∀ n m l k, wM k (rec n m l k)) : ∀ (c : List Int32) {h : wG}, wM g h → wM g (w_args nt rec c h) := by
  intro c
  induction c with
  | nil => intro h a; exact a
  | cons q r ih => intro h a; exact ih (a.rc R _ _ _)
theorem wM.v0 (R : ∀ n m l k, wM k (rec n m l k)) (a : wM g h) (n : Int32) : wM g (w_v0 nt rec n h) := by
  unfold w_v0
  refine wM.ite ?_ (wM.ite ?_ (wM.ite ?_ (wM.ite ?_ (wM.ite ?_ (wM.ite ?_ (wM.ite ?_ (wM.ite ?_ (wM.ite ?_ (wM.ite ?_ (wM.ite ?_ (wM.ite ?_ (wM.ite ?_ (wM.ite ?_ ?_)))))))))))))
  · exact ((a.rc R _ _ _).rc R _ _ _).bin _ _
  · exact a.chg R _ _ _ _
  · exact a.k _ _
  · exact a.em _ _ _
  · exact (a.pk _).ld _ _ _
  · exact (((a.pk _).rc R _ _ _).dup _).st _ _
  · exact ((a.rc R _ _ _).rc R _ _ _).eld _
  · exact a.pe9 R _ _ _
  · exact (a.rc R _ _ _).em _ _ _
  · exact (a.rc R _ _ _).cast _ _
  · exact (((((((((a.lb _).lb _).rc R _ _ _).rc R _ _ _).go _).put _).sl _ _).rc R _ _ _).put _).sl _ _
  · exact a.stp R _ _ _
  · exact (a.rc R _ _ _).em _ _ _
  · exact (a.rc R _ _ _).em _ _ _
  · exact (wM.args R _ a).pe _ _ _ _ _
theorem wM.cmp (R : ∀ n m l k, wM k (rec n m l k)) (a : wM g h) (k x y : Int32) (so : Bool) (l : Nat) : wM g (w_cmp nt rec k x y so l h) := by
  unfold w_cmp
  exact wM.ite ((a.rc R _ _ _).br _ _ _) (wM.ite (((a.rc R _ _ _).rc R _ _ _).br _ _ _) ((((a.rc R _ _ _).rc R _ _ _).em _ _ _).br _ _ _))
theorem wM.cd (R : ∀ n m l k, wM k (rec n m l k)) (a : wM g h) (n : Int32) (so : Bool) (l : Nat) : wM g (w_cd nt rec n so l h) := by
  unfold w_cd
  refine wM.cond a (wM.ite (wM.cond (a.go _) a) (wM.ite (a.rc R _ _ _) (wM.ite (wM.cond ?_ ?_) (wM.ite (a.cmp R _ _ _ _ _) ?_))))
  · exact ((((a.lb _).rc R _ _ _).rc R _ _ _).put _).sl _ _
  · exact (a.rc R _ _ _).rc R _ _ _
  · exact (a.v0 R _).br _ _ _
theorem wM.vl (R : ∀ n m l k, wM k (rec n m l k)) (a : wM g h) (n : Int32) : wM g (w_vl nt rec n h) := by
  unfold w_vl
  exact wM.cond a (wM.ite ((((((((((a.lb _).lb _).cd R _ _ _).em _ _ _).go _).put _).sl _ _).em _ _ _).put _).sl _ _) (a.v0 R _))
theorem wM.an (R : ∀ n m l k, wM k (rec n m l k)) (a : wM g h) (n : Int32) : wM g (w_an nt rec n h) := by
  unfold w_an
  exact wM.ite (((a.pk _).rc R _ _ _).st _ _) (wM.ite (a.pe9 R _ _ _) (wM.ite (a.stp R _ _ _) (wM.ite (a.chg R _ _ _ _) (wM.ite (a.vl R _) ((a.vl R _).em _ _ _)))))
theorem wV_mono (nt : sp_NT) : ∀ (f : Nat) (n : Int32) (m l : Nat) (k : wG), wM k (wV nt f n m l k) := by
  intro f
  induction f with
  | zero => intro n m l k; exact wM.rf k
  | succ f ih =>
    intro n m l k
    exact wM.ite ((wM.rf k).vl ih n) (wM.ite ((wM.rf k).an ih n) (wM.ite ((wM.rf k).cd ih n _ _) ((wM.rf k).cd ih n _ _)))
end
/-! statements -/
theorem w_pc_k (n : Nat) (c : wC) (h : 2 ≤ c.1) : wK1 c (w_pc n c) := by
  refine ⟨rfl, fun q => by omega, ?_⟩
  show _ ≤ (if c.2.2.2.2.2.1 < n then (c.2.2.2.2.2.1, n) :: c.2.2.2.2.2.2 else c.2.2.2.2.2.2).length
  split
  · exact Nat.le_succ _
  · exact Nat.le_refl _
theorem w_on_k (n : Nat) : ∀ (k : Nat) (l : List wC), wK l (w_on k n l) := by
  intro k
  induction k with
  | zero => intro l; exact wK.rf l
  | succ k ih => intro l; cases l with
    | nil => trivial
    | cons c r => exact ⟨⟨rfl, fun _ => rfl, Nat.le_refl _⟩, ih r⟩
section
variable {g h : wG} {nt : sp_NT} {V : wR} {rec : wT}
theorem wM.cx (a : wM g h) (c : List wC) (hk : wK (g_cx h) c) : wM g (s_cx c h) := a.tr ⟨fun q => q, ⟨[], rfl⟩, fun q => q, Nat.le_refl _, ⟨[], rfl⟩, hk, Nat.le_refl _, Nat.le_refl _⟩
theorem wM.sr (R : ∀ n k, wM k (rec n k)) (a : wM g h) (n : Int32) : wM g (rec n h) := a.tr (R n h)
theorem wM.aln (R : ∀ n k, wM k (rec n k)) (a : wM g h) (n : Int32) : wM g (w_aln rec n h) := ((a.sr R n).s_L _).s_nx _
theorem wM.ts (a : wM g h) (t : Nat) (ty : List Nat) : wM g (w_ts t ty h) := ((a.s_tk _).es _ _).s_ok _
/-- within a new context -/
theorem wM.in_ {c : wC} {k : wG} (a : wM (s_cx (c :: g_cx g) g) k) : wM g (w_shut k) ∧ ∃ d r, g_cx k = d :: r ∧ wK1 c d ∧ wK (g_cx g) r := by
  obtain ⟨h1, h2, h3, h4, h5, h6, h7, h8⟩ := a
  have h6 : wK (c :: g_cx g) (g_cx k) := h6
  have key : ∃ d r, g_cx k = d :: r ∧ wK1 c d ∧ wK (g_cx g) r := by
    cases e : g_cx k with
    | nil => rw [e] at h6; exact h6.elim
    | cons d r => rw [e] at h6; exact ⟨d, r, rfl, h6.1, h6.2⟩
  refine ⟨⟨h1, h2, h3, h4, h5, ?_, h7, h8⟩, key⟩
  obtain ⟨d, r, e, -, k2⟩ := key
  show wK (g_cx g) (g_cx k).tail
  rw [e]; exact k2
theorem wM.end_ (R : ∀ n k, wM k (rec n k)) (a : wM g h) (c : wC) : wM g (w_end rec c h) := by
  unfold w_end
  exact wM.ite ((a.ld _ _ _).em _ _ _) (a.aln R _)
theorem wM.fin (R : ∀ n k, wM k (rec n k)) (a : wM g h) (ab : Nat) (c : wC) : wM g (w_fin rec ab c h) := ((a.s_L _).s_nx _).end_ R c
theorem wM_ends (R : ∀ n k, wM k (rec n k)) (ab : Nat) : ∀ (k : Nat) (g : wG), wM g (w_ends rec ab k g).1 := by
  intro k
  induction k with
  | zero => intro g; exact wM.rf g
  | succ k ih =>
    intro g
    unfold w_ends
    cases w_q g
    · simp only [cond_false]
      split
      · exact wM.rf g
      · rename_i c r e
        have h1 : wM (s_cx r g) (w_ends rec ab k (if 3 ≤ c.1 then w_fin rec ab c (s_cx r g) else s_cx r g)).1 := by
          refine wM.tr ?_ (ih _)
          by_cases q : 3 ≤ c.1
          · rw [if_pos q]; exact (wM.rf _).fin R ab c
          · rw [if_neg q]; exact wM.rf _
        obtain ⟨a1, a2, a3, a4, a5, a6, a7, a8⟩ := h1
        refine ⟨a1, a2, a3, a4, a5, ?_, a7, a8⟩
        show wK (g_cx g) ((if 2 ≤ c.1 then w_pc (g_it g).length c else c) :: g_cx (w_ends rec ab k (if 3 ≤ c.1 then w_fin rec ab c (s_cx r g) else s_cx r g)).1)
        rw [e]
        refine ⟨?_, a6⟩
        by_cases q : 2 ≤ c.1
        · rw [if_pos q]; exact w_pc_k _ c q
        · rw [if_neg q]; exact wK1.rf c
    · exact wM.rf g
theorem wM.gon (a : wM g h) (k : Nat) : wM g (w_gon k h) := a.cx _ (w_on_k _ _ _)
theorem wM.lvs (R : ∀ n k, wM k (rec n k)) (a : wM g h) (d : Nat) (b : Bool) : wM g (w_lvs rec d b h) := by
  unfold w_lvs
  exact (((((a.tr (wM_ends R 0 _ h)).s_nx _).s_ok _).go _).s_al _).gon _
theorem wM.ret (Rv : ∀ n m l k, wM k (V n m l k)) (R : ∀ n k, wM k (rec n k)) (a : wM g h) (e : Int32) : wM g (w_ret nt V rec e h) := by
  unfold w_ret
  refine wM.gon (wM.s_nx (wM.s_al (wM.ite (wM.em (wM.cond (wM.ld ?_ _ _ _) ?_) _ _ _) (wM.em (wM.cond (wM.ld ?_ _ _ _) ?_) _ _ _)) _) _) _
  all_goals exact wM.tr (wM.cond ((wM.ite a (a.rc Rv _ _ _)).ts _ _) (wM.ite a (a.rc Rv _ _ _))) (wM_ends R _ _ _)
theorem w_reg_app (h : Nat) (k : Int32) : ∀ (ps : List (Nat × Nat)) (r : List (Nat × Nat × Nat × Int32)), ∃ e, w_reg h k ps r = e ++ r ∧ e.length = ps.length := by
  intro ps
  induction ps with
  | nil => intro r; exact ⟨[], rfl, rfl⟩
  | cons p ps ih => intro r; obtain ⟨e, h1, h2⟩ := ih r; exact ⟨_ :: e, by unfold w_reg; rw [h1]; rfl, by simp [h2]⟩
theorem wM.hd (a : wM g h) (L : List Nat) (ps : List (Nat × Nat)) (k : Int32) : wM g (w_hd L ps k h) := by
  obtain ⟨e, he, -⟩ := w_reg_app (g_it h).length k ps (g_rg h)
  exact ((((a.s_rg _ e he).s_fr _).s_al _).s_ms _).s_ok _
theorem wM.ctc (R : ∀ n k, wM k (rec n k)) (L : List Nat) (ps : List (Nat × Nat)) (e : Nat) : ∀ (c : List Int32) {h : wG}, wM g h → wM g (w_ctc nt rec L ps e c h) := by
  intro c
  induction c with
  | nil => intro h a; exact a
  | cons q r ih =>
    intro h a
    unfold w_ctc
    refine wM.cond a (ih ?_)
    refine wM.go (wM.s_nx (wM.aln R (wM.cond ?_ ?_) _) _) _
    · exact (((a.hd _ _ _).pe _ _ _ _ _).ts _ _).s_pl _ _
    · exact (a.hd _ _ _).em _ _ _
theorem wM.try_ (R : ∀ n k, wM k (rec n k)) (a : wM g h) (s c : Int32) : wM g (w_try nt rec s c h) := by
  unfold w_try
  refine wM.sl (wM.put (wM.ctc R _ _ _ _ (wM.go (a.tr ?_) _)) _) _ _
  exact ((wM.rf h).lb _).tr ((((wM.rf _).aln R s).in_).1)
theorem wM.ended (R : ∀ n k, wM k (rec n k)) (a : wM g h) (sort : Nat) (s e : Int32) : wM g (w_ended rec sort s e h) := by
  have b : wM g (w_shut (w_aln rec s (w_ctx sort e 0 0 (w_lb (g_L h, []) h)))) := a.tr (((wM.rf h).lb _).tr ((((wM.rf _).aln R s).in_).1))
  unfold w_ended
  refine wM.sl (wM.put (wM.s_nx (wM.cond ?_ ?_) _) _) _ _
  · exact (wM.cond (((b.s_nx _).end_ R _).go _) b).s_nx _
  · have c := ((((wM.cond (c := g_al (w_shut (w_aln rec s (w_ctx sort e 0 0 (w_lb (g_L h, []) h))))) (((b.s_nx (g_nx h)).end_ R (sort, e, 0, 0, g_nx h, 0, [])).go (g_nl h)) b).s_nx (g_nx h)).hd (g_L h) (match g_cx (w_aln rec s (w_ctx sort e 0 0 (w_lb (g_L h, []) h))) with | c :: _ => (w_pc (g_it (w_aln rec s (w_ctx sort e 0 0 (w_lb (g_L h, []) h)))).length c).2.2.2.2.2.2 | [] => []) 0).ts 5 [10]).end_ R (sort, e, 0, 0, g_nx h, 0, [])
    refine wM.cond (wM.s_al (wM.em (wM.ld ?_ _ _ _) _ _ _) _) ?_
    · exact wM.ite (wM.s_ok (wM.s_rg c _ [_] rfl) _) c
    · exact wM.ite (wM.s_ok (wM.s_rg c _ [_] rfl) _) c
theorem wM.lock (Rv : ∀ n m l k, wM k (V n m l k)) (R : ∀ n k, wM k (rec n k)) (a : wM g h) (e s : Int32) : wM g (w_lock nt V rec e s h) := by
  unfold w_lock
  exact ((((((a.rc Rv _ _ _).es _ _).ts _ _).es _ _).ended R _ _ _).s_L _).s_nx _
theorem wM.lbs (F : wF) : ∀ (n : Nat) {h : wG}, wM g h → wM g (w_lbs F n h) := by
  intro n
  induction n with
  | zero => intro h a; exact a
  | succ n ih => intro h a; exact ih (a.lb _)
theorem wM.lb0 (a : wM g h) (F : wF) : wM g (w_lb0 F h) := a.tr ⟨fun q => q.1, ⟨[], rfl⟩, fun q => q, Nat.le_refl _, ⟨[], rfl⟩, wK.rf _, Nat.le_succ _, Nat.le_refl _⟩
theorem wM.lbl (a : wM g h) (k : Int32) (F : wF) : wM g (w_lbl k F h) := wM.ite ((wM.lbs F 2 a).lb0 F) (wM.lbs F 3 a)
theorem wM.comes : ∀ (l : List (Int32 × Nat)) {h : wG}, wM g h → wM g (w_comes l h) := by
  intro l
  induction l with
  | nil => intro h a; exact a
  | cons q r ih => intro h a; exact ih (a.come _)
theorem wM.cses (R : ∀ n k, wM k (rec n k)) : ∀ (l : List (Int32 × Nat)) {h : wG}, wM g h → wM g (w_cses nt rec l h) := by
  intro l
  induction l with
  | nil => intro h a; exact a
  | cons q r ih => intro h a; exact ih (((a.s_ok _).put _).aln R _)
theorem wM.csp : ∀ (l : List (Int32 × Nat)) {h : wG}, wM g h → wM g (w_csp l h) := by
  intro l
  induction l with
  | nil => intro h a; exact a
  | cons q r ih => intro h a; exact ih (a.s_pl _ _)
theorem wM.swt (Rv : ∀ n m l k, wM k (V n m l k)) (R : ∀ n k, wM k (rec n k)) (a : wM g h) (x c : Int32) : wM g (w_swt nt V rec x c h) := by
  unfold w_swt
  refine wM.sl (wM.put (wM.tr (b := w_csp (w_csl nt (g_nl (V x 0 0 h) + 1) (sp_chain nt 4001 c)) (w_lbs (g_L (V x 0 0 h), (g_st (V x 0 0 h)).drop 1) ((w_csl nt (g_nl (V x 0 0 h) + 1) (sp_chain nt 4001 c)).length + 1) (V x 0 0 h))) (wM.csp _ (wM.lbs _ _ (a.rc Rv x 0 0))) ?_) _) _ _
  exact (wM.cses R _ ((wM.comes _ ((wM.rf _).em _ _ _)).s_al _)).in_.1
theorem wM.loop (Rv : ∀ n m l k, wM k (V n m l k)) (R : ∀ n k, wM k (rec n k)) (a : wM g h) (k x y : Int32) : wM g (w_loop nt V rec k x y h) := by
  unfold w_loop
  refine wM.sl (wM.put (wM.sl (wM.sl (wM.tr (b := w_lbl k (g_L h, []) h) (wM.lbl a _ _) ?_) _ _) _ _) _) _ _
  refine (wM.in_ (c := (0, 0, g_nl h, g_nl h + 1, g_nx (w_lbl k (g_L h, []) h), (g_it (w_lbl k (g_L h, []) h)).length, [])) (wM.ite ?_ (wM.ite ?_ ?_))).1
  · exact ((((wM.rf _).put _).rc Rv _ _ _).aln R _).go _
  · exact ((((wM.rf _).put _).aln R _).put _).rc Rv _ _ _
  · refine wM.go ?_ _
    have b := ((((wM.rf (w_ctx 0 0 (g_nl h) (g_nl h + 1) (w_lbl k (g_L h, []) h))).put (g_nl h + 2)).rc Rv (nA nt x) 3 (g_nl h)).aln R y).put (g_nl h + 1)
    obtain ⟨b1, d, r, e, b2, b3⟩ := b.in_ (g := w_lbl k (g_L h, []) h)
    have c := (wM.rf (w_shut (w_put (g_nl h + 1) (w_aln rec y (V (nA nt x) 3 (g_nl h) (w_put (g_nl h + 2) (w_ctx 0 0 (g_nl h) (g_nl h + 1) (w_lbl k (g_L h, []) h)))))))).aln R (nB nt x)
    simp only [e]
    obtain ⟨p1, p2, p3, p4, p5, p6, p7, p8⟩ := b
    obtain ⟨q1, q2, q3, q4, q5, q6, q7, q8⟩ := c
    have t1 : wM (w_ctx 0 0 (g_nl h) (g_nl h + 1) (w_lbl k (g_L h, []) h)) (w_put (g_nl h + 1) (w_aln rec y (V (nA nt x) 3 (g_nl h) (w_put (g_nl h + 2) (w_ctx 0 0 (g_nl h) (g_nl h + 1) (w_lbl k (g_L h, []) h)))))) := ⟨p1, p2, p3, p4, p5, p6, p7, p8⟩
    refine t1.tr ⟨q1, q2, q3, q4, q5, ?_, q7, q8⟩
    rw [e]
    refine ⟨wK1.rf d, ?_⟩
    have q6 : wK (g_cx (w_put (g_nl h + 1) (w_aln rec y (V (nA nt x) 3 (g_nl h) (w_put (g_nl h + 2) (w_ctx 0 0 (g_nl h) (g_nl h + 1) (w_lbl k (g_L h, []) h))))))).tail _ := q6
    rw [e] at q6; exact q6
theorem wM.bd (Rv : ∀ n m l k, wM k (V n m l k)) (R : ∀ n k, wM k (rec n k)) (a : wM g h) (n : Int32) : wM g (w_bd nt V rec n h) := by
  unfold w_bd
  refine wM.ite (a.rc Rv _ _ _) (wM.ite (((a.rc Rv _ _ _).ts _ _).s_pl _ _) (wM.ite ((a.sr R _).sr R _) (wM.ite (a.aln R _) (wM.ite (((((a.lb _).rc Rv _ _ _).aln R _).put _).sl _ _) (wM.ite ?_ (wM.ite (a.loop Rv R _ _ _) (wM.ite (a.lvs R _ _) (wM.ite (a.lvs R _ _) (wM.ite (a.ret Rv R _) (wM.ite ?_ (wM.ite (a.try_ R _ _) (wM.ite (a.ended R _ _ _) (wM.ite (a.lock Rv R _ _) (wM.ite (a.swt Rv R _ _) ?_))))))))))))))
  · exact (((((((((a.lb _).lb _).rc Rv _ _ _).aln R _).go _).put _).sl _ _).aln R _).put _).sl _ _
  · exact (((a.rc Rv _ _ _).pe _ _ _ _ _).em _ _ _).s_al _
  · exact ((a.s_pn _).sr R _).s_pn _
end
theorem wS_mono (nt : sp_NT) : ∀ (f : Nat) (n : Int32) (k : wG), wM k (wS nt f n k) := by
  intro f
  induction f with
  | zero => intro n k; exact wM.cond (wM.rf k) ((wM.rf k).s_ac.s_ov)
  | succ f ih => intro n k; exact wM.cond (wM.rf k) (wM.cond ((wM.rf k).s_ac.s_ov) ((wM.rf k).s_ac.bd (wV_mono nt 40) ih n))
