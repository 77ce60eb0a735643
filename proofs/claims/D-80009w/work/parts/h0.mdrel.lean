/-! CodeWriterModel's writer against S: the relation -/
theorem nI_mul (a b : Nat) : nI a * nI b = nI (a * b) := by unfold nI; rw [Int32.ofNat_mul]
theorem nI_max {a b : Nat} (ha : a < 2147483648) (hb : b < 2147483648) : mj_max (nI a) (nI b) = nI (max a b) := by
  unfold mj_max
  by_cases q : b ≤ a
  · rw [if_pos (nI_le q (by omega)), Nat.max_eq_left q]
  · rw [if_neg (nI_ge (by omega) (by omega)), Nat.max_eq_right (by omega)]
def z_ar (arr : Nat → Int32) (b : Nat) (l : List Int32) : Prop := ∀ j v, l[j]? = some v → arr (b + j) = v
theorem z_ar.snoc {arr : Nat → Int32} {b : Nat} {l : List Int32} (h : z_ar arr b l) (v : Int32) : z_ar (upd arr (b + l.length) v) b (l ++ [v]) := by
  intro j u hj
  by_cases q : j < l.length
  · rw [List.getElem?_append_left q] at hj
    rw [pk_un (by omega)]; exact h j u hj
  · rw [List.getElem?_append_right (by omega)] at hj
    by_cases q2 : j = l.length
    · subst q2; simp at hj; rw [pk_us]; exact hj
    · rw [List.getElem?_eq_none (by simp; omega)] at hj; simp at hj
def z_l1 {α : Type} (f : Nat → α → Prop) : List α → Prop
  | [] => True
  | a :: r => f r.length a ∧ z_l1 f r
theorem z_l1.mono {α : Type} {f f' : Nat → α → Prop} : ∀ {l : List α}, z_l1 f l → (∀ k a, k < l.length → a ∈ l → f k a → f' k a) → z_l1 f' l := by
  intro l
  induction l with
  | nil => intro _ _; trivial
  | cons a r ih => intro h hm; exact ⟨hm _ _ (by simp) (by simp) h.1, ih h.2 (fun k b hk hb => hm k b (by simp; omega) (by simp [hb]))⟩
def z_b (w : Bool) (ba : Nat) (s31 s32 s33 : Int32) (cd : Nat → Int32) (B : List Int32) : Prop := s31 = nI ba ∧ s33 = sp_b w ∧ s32 = nI B.length ∧ B.length ≤ 65535 ∧ z_ar cd ba B
def z_f (nl : Nat) (lm : Nat → Nat) (s55 : Int32) (a52 a53 a54 a55 : Nat → Int32) (F : List (Nat × Nat × Nat × Bool)) : Prop := s55 = nI F.length ∧ F.length ≤ 25000 ∧ (∀ q, q ∈ F → q.2.2.1 < nl) ∧ z_l1 (fun k q => a52 k = nI q.1 ∧ a53 k = nI q.2.1 ∧ a54 k = nI (lm q.2.2.1) ∧ a55 k = sp_b q.2.2.2) F
def z_lo (w : Bool) (its : List (wI × wF)) : Option Nat → Int32
  | none => -1
  | some i => nI (w_at w its i)
def z_l (w : Bool) (c : Nat) (lm : Nat → Nat) (lv : Nat → Bool) (its : List (wI × wF)) (s50 s57 : Int32) (a49 a50 a57 : Nat → Int32) (lb : wL) : Prop :=
  ∃ fr : List Nat, s57 = nI fr.length ∧ fr.length = lb.2.2.2.2.2.2 ∧ fr.length ≤ c ∧ s50 = nI lb.2.2.2.2.2.1 ∧ lb.2.2.2.2.2.1 ≤ 299999 ∧ z_l1 (fun k f => a57 k = nI f) fr ∧ fr.Nodup ∧ (∀ f, f ∈ fr → f < lb.2.2.2.2.2.1) ∧
  (∀ l, l < lb.1 → lv l = true → lm l < lb.2.2.2.2.2.1 ∧ lm l ∉ fr ∧ a49 (lm l) = z_lo w its (lb.2.1 l) ∧ a50 (lm l) = (bif lb.2.2.1 l then nI (lb.2.2.2.1 l).2.length else -1)) ∧
  (∀ l l', l < lb.1 → l' < lb.1 → lv l = true → lv l' = true → lm l = lm l' → l = l') ∧ (∀ l, l < lb.1 → lb.2.2.1 l = true → lv l = true) ∧ (∀ l i, l < lb.1 → lb.2.1 l = some i → i ≤ its.length) ∧ (∀ l, l < lb.1 → (lb.2.2.2.1 l).2.length < 3370)
def z_hi (e : Nat × Int64) : Int32 := if e.1 = 2 ∨ e.1 = 4 then (e.2 >>> 32).toInt32 else 0
def z_po (pf : Nat) (a20 a21 a22 a23 : Nat → Int32) : List (Nat × Int64) → Prop
  | [] => True
  | e :: r => (a20 (pf + r.length) = nI (w_pi r) ∧ a21 (pf + r.length) = nI e.1 ∧ a22 (pf + r.length) = e.2.toInt32 ∧ a23 (pf + r.length) = z_hi e ∧ e.1 < 100 ∧ (¬ (e.1 = 2 ∨ e.1 = 4) → e.2 = e.2.toInt32.toInt64)) ∧ z_po pf a20 a21 a22 a23 r
def z_p (pf : Nat) (s42 s43 : Int32) (a20 a21 a22 a23 : Nat → Int32) (po : List (Nat × Int64)) : Prop := s42 = nI po.length ∧ s43 = nI (w_pi po) ∧ po.length ≤ 100 ∧ z_po pf a20 a21 a22 a23 po
def z_n (w : Bool) (lf : Nat) (its : List (wI × wF)) (s45 s46 : Int32) (a25 : Nat → Int32) (ln : List (Nat × Int32)) (pn : Int32) : Prop :=
  s45 = nI ln.length ∧ s46 = pn ∧ (pn = -1 ∨ 0 ≤ pn) ∧ lf + ln.length ≤ 20000 ∧ (∀ e, e ∈ ln → e.1 ≤ its.length) ∧ z_l1 (fun k e => a25 (2 * (lf + k)) = nI (w_at w its e.1) ∧ a25 (2 * (lf + k) + 1) = e.2) ln
def z_s (s35 s36 s37 : Int32) (al : Bool) (st : List Nat) (ms : Nat) : Prop := s35 = sp_b al ∧ (al = true → s36 = nI st.length) ∧ s37 = nI ms ∧ ms < 3370
/-- the heap as S has it; B, F: the bytes and jumps so far, of which those of whole items are its -/
def z1 (w : Bool) (ba pf lf c : Nat) (lm : Nat → Nat) (lv : Nat → Bool) (B : List Int32) (F : List (Nat × Nat × Nat × Bool)) (its : List (wI × wF)) (x : mj_X) (g : wG) : Prop :=
  x.1 0 34 = 0 ∧ z_b w ba (x.1 0 31) (x.1 0 32) (x.1 0 33) (x.1 19) B ∧ z_f (g_nl g) lm (x.1 0 55) (x.1 52) (x.1 53) (x.1 54) (x.1 55) F
  ∧ z_l w c lm lv its (x.1 0 50) (x.1 0 57) (x.1 49) (x.1 50) (x.1 57) g.2.2.2.2.2.2.2.2.1
  ∧ z_p pf (x.1 0 42) (x.1 0 43) (x.1 20) (x.1 21) (x.1 22) (x.1 23) (g_po g)
  ∧ z_n w lf its (x.1 0 45) (x.1 0 46) (x.1 25) (g_ln g) (g_pn g)
  ∧ z_s (x.1 0 35) (x.1 0 36) (x.1 0 37) (g_al g) (g_st g) (g_ms g)
/-- it was much: what still holds -/
def m1 (ba lf c : Nat) (x : mj_X) : Prop := x.1 0 34 = 1 ∧ x.1 0 31 = nI ba ∧ (∃ n, n ≤ 65535 ∧ x.1 0 32 = nI n) ∧ (∃ b, x.1 0 33 = sp_b b) ∧ (∃ b, x.1 0 35 = sp_b b) ∧ (∃ n, n ≤ 30000 ∧ x.1 0 55 = nI n)
  ∧ (∃ n, n ≤ 300000 ∧ x.1 0 50 = nI n) ∧ (∃ f, f ≤ c ∧ x.1 0 57 = nI f ∧ ∀ j, j < f → ∃ m, m < 300000 ∧ x.1 57 j = nI m) ∧ (∃ n, lf + n ≤ 20000 ∧ x.1 0 45 = nI n)
/-- more than a member can have -/
def w_over (w : Bool) (rf lf : Nat) (g : wG) : Prop := g_ov g = true ∨ 65535 < (w_by_ w w_z (g_it g)).length ∨ 20000 < rf + w_ph g ∨ 20000 < lf + (g_ln g).length
theorem w_over.mono {w : Bool} {rf lf : Nat} {g h : wG} (a : w_over w rf lf g) (m : wM g h) : w_over w rf lf h := by
  have hp := m.ph
  obtain ⟨-, ⟨e, m2⟩, m3, m4, -⟩ := m
  rcases a with a | a | a | a
  · exact Or.inl (m3 a)
  · right; left; rw [m2]; exact Nat.lt_of_lt_of_le a (w_by_mono _ _ _ _)
  · right; right; left; omega
  · right; right; right; omega
def zw (ba pf lf : Nat) (k j : Nat) : Bool := match k with
  | 0 => [32, 34, 35, 36, 37, 42, 43, 45, 46, 50, 55, 57].elem j
  | 19 => Nat.ble ba j
  | 20 => Nat.ble pf j
  | 21 => Nat.ble pf j
  | 22 => Nat.ble pf j
  | 23 => Nat.ble pf j
  | 25 => Nat.ble (2 * lf) j
  | 49 => true
  | 50 => true
  | 52 => true
  | 53 => true
  | 54 => true
  | 55 => true
  | 57 => true
  | _ => false
/-- nothing else was changed -/
def zfr (Z : Nat → Nat → Bool) (x y : mj_X) : Prop := y.2 = x.2 ∧ ∀ k j, Z k j = false → y.1 k j = x.1 k j
theorem zfr.rf (Z : Nat → Nat → Bool) (x : mj_X) : zfr Z x x := ⟨rfl, fun _ _ _ => rfl⟩
theorem zfr.tr {Z : Nat → Nat → Bool} {x y z : mj_X} (a : zfr Z x y) (b : zfr Z y z) : zfr Z x z := ⟨b.1.trans a.1, fun k j h => (b.2 k j h).trans (a.2 k j h)⟩
theorem zfr.w {Z : Nat → Nat → Bool} {x y : mj_X} (a : zfr Z x y) {k j : Nat} (v : Int32) (h : Z k j = true) : zfr Z x (mj_wI y k j v) := by
  refine ⟨a.1, fun p q hz => ?_⟩
  rw [mj_wI_1]
  by_cases e1 : p = k
  · by_cases e2 : q = j
    · subst e1; subst e2; rw [h] at hz; simp at hz
    · rw [if_pos e1, if_neg e2]; exact a.2 p q hz
  · rw [if_neg e1]; exact a.2 p q hz
/-- what stays while a value is written -/
def z_env (nt : sp_NT) (N M ba pf lf : Nat) (pl : Nat → Option Nat) (x : mj_X) : Prop := md_T x nt N ∧ x.1 0 7 = nI M ∧ M ≤ 40 ∧ x.1 16 M = nI pf ∧ x.1 18 M = nI lf ∧ pf ≤ 7000 ∧ lf ≤ 20000 ∧ ba ≤ 90000 ∧ ∀ v p, v < 4000 → pl v = some p → x.1 48 v = nI p ∧ p < 256
theorem z_env.fr {nt : sp_NT} {N M ba pf lf : Nat} {pl : Nat → Option Nat} {x y : mj_X} (h : z_env nt N M ba pf lf pl x) (f : zfr (zw ba pf lf) x y) : z_env nt N M ba pf lf pl y := by
  obtain ⟨⟨t1, t2, t3, t4, t5, t6, t7, t8⟩, h2, h3, h4, h5, h6, h7, h8, h9⟩ := h
  have e : ∀ k j, zw ba pf lf k j = false → y.1 k j = x.1 k j := f.2
  refine ⟨⟨?_, t2, ?_, ?_, ?_, ?_, ?_, ?_⟩, ?_, h3, ?_, ?_, h6, h7, h8, fun v p h4 hv => ?_⟩
  · rw [e 0 0 rfl]; exact t1
  · funext j; rw [e 2 j rfl, t3]
  · funext j; rw [e 3 j rfl, t4]
  · funext j; rw [e 4 j rfl, t5]
  · funext j; rw [e 5 j rfl, t6]
  · funext j; rw [e 6 j rfl, t7]
  · funext j; rw [e 7 j rfl, t8]
  · rw [e 0 7 rfl]; exact h2
  · rw [e 16 M rfl]; exact h4
  · rw [e 18 M rfl]; exact h5
  · rw [e 48 v rfl]; exact h9 v p h4 hv
section
variable (nt : sp_NT) (N M : Nat) (w : Bool) (ba pf rf lf c : Nat)
def Q1 (lm : Nat → Nat) (lv : Nat → Bool) (x : mj_X) (g : wG) : Prop := z_env nt N M ba pf lf (g_pl g) x ∧ (∀ l, l < g_nl g → lm l < 300000) ∧
  ((g_ov g = false ∧ z1 w ba pf lf c lm lv (w_by_ w w_z (g_it g)) (w_fxs w w_z (g_it g)) (g_it g) x g) ∨ (m1 ba lf c x ∧ w_over w rf lf g))
def J1 (r : mj_R) (x : mj_X) (lm : Nat → Nat) (lv : Nat → Bool) (g G : wG) : Prop := ∃ lm' lv' x', r = some (none, x') ∧ Q1 nt N M w ba pf rf lf c lm' lv' x' G ∧ (∀ l, l < g_nl g → lm' l = lm l ∧ lv' l = lv l) ∧ zfr (zw ba pf lf) x x'
/-- within an item: G is the state behind it -/
def Z1 (lm : Nat → Nat) (lv : Nat → Bool) (B : List Int32) (F : List (Nat × Nat × Nat × Bool)) (x : mj_X) (g G : wG) : Prop := z_env nt N M ba pf lf (g_pl G) x ∧ (∀ l, l < g_nl G → lm l < 300000) ∧
  ((w_q g = false ∧ g_al G = true ∧ g_ov G = false ∧ z1 w ba pf lf c lm lv B F (g_it g) x G) ∨ (m1 ba lf c x ∧ w_over w rf lf G) ∨ (g_al g = false ∧ G = g ∧ g_ov g = false ∧ z1 w ba pf lf c lm lv (w_by_ w w_z (g_it g)) (w_fxs w w_z (g_it g)) (g_it g) x g))
end
section
variable {nt : sp_NT} {N M : Nat} {w : Bool} {ba pf rf lf c : Nat}
theorem J1.bind {r : mj_R} {k : mj_X → mj_R} {x : mj_X} {lm : Nat → Nat} {lv : Nat → Bool} {g G H : wG} (h : J1 nt N M w ba pf rf lf c r x lm lv g G) (hn : g_nl g ≤ g_nl G)
    (hk : ∀ lm' lv' x', Q1 nt N M w ba pf rf lf c lm' lv' x' G → (∀ l, l < g_nl g → lm' l = lm l ∧ lv' l = lv l) → zfr (zw ba pf lf) x x' → J1 nt N M w ba pf rf lf c (k x') x' lm' lv' G H) : J1 nt N M w ba pf rf lf c (mj_rV r k) x lm lv g H := by
  obtain ⟨lm1, lv1, x1, e1, q1, l1, f1⟩ := h
  obtain ⟨lm2, lv2, x2, e2, q2, l2, f2⟩ := hk lm1 lv1 x1 q1 l1 f1
  refine ⟨lm2, lv2, x2, by rw [e1, mj_rV_k, e2], q2, fun l hl => ?_, f1.tr f2⟩
  have a := l1 l hl
  have b := l2 l (Nat.lt_of_lt_of_le hl hn)
  exact ⟨b.1.trans a.1, b.2.trans a.2⟩
theorem J1.id_ {x : mj_X} {lm : Nat → Nat} {lv : Nat → Bool} {g : wG} (h : Q1 nt N M w ba pf rf lf c lm lv x g) : J1 nt N M w ba pf rf lf c (some (none, x)) x lm lv g g := ⟨lm, lv, x, rfl, h, fun _ _ => ⟨rfl, rfl⟩, zfr.rf _ x⟩
theorem J1.end_ {r : mj_R} {x : mj_X} {lm : Nat → Nat} {lv : Nat → Bool} {g G : wG} (h : J1 nt N M w ba pf rf lf c r x lm lv g G) : J1 nt N M w ba pf rf lf c (mj_rV r fun x1 => some (none, x1)) x lm lv g G := by
  obtain ⟨lm1, lv1, x1, e1, q1⟩ := h
  exact ⟨lm1, lv1, x1, by rw [e1, mj_rV_k], q1⟩
/-! one byte -/
theorem o8_o8 (v : Int32) : v.toInt8.toInt32.toInt8.toInt32 = o8 v := by unfold o8; rw [Int8.toInt8_toInt32]
theorem z_l1.get {f : Nat → Nat → Prop} : ∀ {l : List Nat}, z_l1 f l → ∀ j, j < l.length → ∃ m, m ∈ l ∧ f j m := by
  intro l
  induction l with
  | nil => intro _ j hj; simp at hj
  | cons a r ih =>
    intro h j hj
    by_cases q : j = r.length
    · subst q; exact ⟨a, by simp, h.1⟩
    · obtain ⟨m, m1, m2⟩ := ih h.2 j (by simp at hj; omega)
      exact ⟨m, by simp [m1], m2⟩
theorem z1.much {lm : Nat → Nat} {lv : Nat → Bool} {B : List Int32} {F : List (Nat × Nat × Nat × Bool)} {its : List (wI × wF)} {x : mj_X} {G : wG} (h : z1 w ba pf lf c lm lv B F its x G) : m1 ba lf c (mj_wI x 0 34 1) := by
  obtain ⟨-, ⟨b1, b2, b3, b4, -⟩, ⟨f1, f2, -⟩, ⟨fr, l1, -, l3, l4, l5, l6, -, l8, -⟩, -, ⟨n1, -, -, n4, -⟩, ⟨s1, -⟩⟩ := h
  refine ⟨rfl, b1, ⟨_, b4, b3⟩, ⟨w, b2⟩, ⟨_, s1⟩, ⟨_, by omega, f1⟩, ⟨_, by omega, l4⟩, ⟨_, l3, l1, fun j hj => ?_⟩, ⟨_, n4, n1⟩⟩
  obtain ⟨m, m1, m2⟩ := l6.get j hj
  exact ⟨m, by have := l8 m m1; omega, m2⟩
theorem m1.of {x y : mj_X} (h : m1 ba lf c x) (e : ∀ j, [31, 33, 35, 50, 57, 45, 34, 32, 55].elem j = true → y.1 0 j = x.1 0 j) (e1 : y.1 57 = x.1 57) : m1 ba lf c y := by
  obtain ⟨h1, h2, h3, h4, h5, h6, h7, h8, h9⟩ := h
  refine ⟨?_, ?_, ?_, ?_, ?_, ?_, ?_, ?_, ?_⟩
  · rw [e 34 rfl]; exact h1
  · rw [e 31 rfl]; exact h2
  · rw [e 32 rfl]; exact h3
  · rw [e 33 rfl]; exact h4
  · rw [e 35 rfl]; exact h5
  · rw [e 55 rfl]; exact h6
  · rw [e 50 rfl]; exact h7
  · rw [e 57 rfl, e1]; exact h8
  · rw [e 45 rfl]; exact h9
theorem m_octM {d : Nat} (hd : 1 ≤ d) {x : mj_X} (v : Int32) (hba : ba ≤ 90000) (h : m1 ba lf c x) : ∃ x', kX1 d 44 [.ref 0, .int v] x = some (none, x') ∧ zfr (zw ba pf lf) x x' ∧ m1 ba lf c x' := by
  obtain ⟨d, rfl⟩ : ∃ c, d = c + 1 := ⟨d - 1, by omega⟩
  rw [eX1_octetOf]
  obtain ⟨h1, h2, ⟨n, h3, h4⟩, h5⟩ := h
  by_cases q : n = 65535
  · rw [if_pos (by rw [h4, q]; rfl)]
    exact ⟨_, rfl, (zfr.rf _ x).w _ rfl, ⟨rfl, h2, ⟨n, h3, h4⟩, h5⟩⟩
  · rw [if_neg (fun e => q (by rw [h4] at e; have := (nI_eq (b := 65535) (by omega) (by omega)).mp e; exact this))]
    rw [h2, h4, nI_add, nI_clamp (by omega), mj_g_k (mj_in_nI (by omega) (by omega)), nI_1]
    exact ⟨_, rfl, ((zfr.rf _ x).w _ (by show Nat.ble ba _ = true; exact Nat.ble_eq_true_of_le (by omega))).w _ rfl, ⟨h1, h2, ⟨n + 1, by omega, rfl⟩, h5⟩⟩
theorem m_oct {d : Nat} (hd : 1 ≤ d) {lm : Nat → Nat} {lv : Nat → Bool} {B : List Int32} {F : List (Nat × Nat × Nat × Bool)} {its : List (wI × wF)} {x : mj_X} {G : wG} {P : Prop} (v : Int32) (hba : ba ≤ 90000)
    (h : z1 w ba pf lf c lm lv B F its x G ∨ (m1 ba lf c x ∧ P)) (hB : B.length = 65535 → P) :
    ∃ x', kX1 d 44 [.ref 0, .int v] x = some (none, x') ∧ zfr (zw ba pf lf) x x' ∧ (z1 w ba pf lf c lm lv (B ++ [o8 v]) F its x' G ∨ (m1 ba lf c x' ∧ P)) := by
  rcases h with h | ⟨h, ho⟩
  · obtain ⟨d, rfl⟩ : ∃ c, d = c + 1 := ⟨d - 1, by omega⟩
    rw [eX1_octetOf]
    have hm := h.much
    obtain ⟨h1, ⟨b1, b2, b3, b4, b5⟩, h3⟩ := h
    by_cases q : B.length = 65535
    · rw [if_pos (by rw [b3, q]; rfl)]
      exact ⟨_, rfl, (zfr.rf _ x).w _ rfl, Or.inr ⟨hm, hB q⟩⟩
    · rw [if_neg (fun e => q (by rw [b3] at e; have := (nI_eq (b := 65535) (by omega) (by omega)).mp e; exact this))]
      rw [b1, b3, nI_add, nI_clamp (by omega), mj_g_k (mj_in_nI (by omega) (by omega)), nI_1, o8_o8]
      refine ⟨_, rfl, ((zfr.rf _ x).w _ (by show Nat.ble ba _ = true; exact Nat.ble_eq_true_of_le (by omega))).w _ rfl, Or.inl ?_⟩
      refine ⟨h1, ⟨b1, b2, ?_, ?_, ?_⟩, h3⟩
      · show nI _ = nI _; rw [List.length_append]; rfl
      · rw [List.length_append]; simp; omega
      · exact b5.snoc _
  · obtain ⟨x', e, f, r⟩ := m_octM (pf := pf) hd v hba h
    exact ⟨x', e, f, Or.inr ⟨r, ho⟩⟩
/-! a line is told -/
def s_ln (l : List (Nat × Int32)) (p : Int32) (g : wG) : wG := (g.1, g.2.1, g.2.2.1, g.2.2.2.1, g.2.2.2.2.1, (l, p), g.2.2.2.2.2.2)
theorem m_line {d : Nat} (hd : 1 ≤ d) {lm : Nat → Nat} {lv : Nat → Bool} {F : List (Nat × Nat × Nat × Bool)} {x : mj_X} {g : wG} {P : Prop} (he : z_env nt N M ba pf lf (g_pl g) x)
    (h : z1 w ba pf lf c lm lv (w_by_ w w_z (g_it g)) F (g_it g) x g) (hp : 0 ≤ g_pn g) (hP : 20000 < lf + (w_told (g_it g).length (g_pn g) (g_ln g)).length → P) :
    ∃ x', kX1 d 43 [.ref 0, .int (g_pn g)] x = some (none, x') ∧ zfr (zw ba pf lf) x x' ∧ (z1 w ba pf lf c lm lv (w_by_ w w_z (g_it g)) F (g_it g) x' (s_ln (w_told (g_it g).length (g_pn g) (g_ln g)) (g_pn g) g) ∨ (m1 ba lf c x' ∧ P)) := by
  obtain ⟨d, rfl⟩ : ∃ c, d = c + 1 := ⟨d - 1, by omega⟩
  obtain ⟨-, e2, e3, -, e5, -, e7, -, -⟩ := he
  have hm := h.much
  have hpn : ¬ g_pn g = -1 := fun q => by rw [q] at hp; exact absurd hp (by decide)
  obtain ⟨h1, hb, hf, hl, hpo, ⟨n1, n2, n3, n4, n5, n6⟩, hs⟩ := h
  have hsz := hb.2.2.1
  rw [eX1_line, e2, nI_clamp (by omega), mj_g_k (mj_in_nI (by omega) (by omega)), e5, n1]
  have told : w_told (g_it g).length (g_pn g) (g_ln g) = (match g_ln g with | [] => [((g_it g).length, g_pn g)] | e :: r => if e.1 = (g_it g).length then ((g_it g).length, g_pn g) :: r else ((g_it g).length, g_pn g) :: e :: r) := by
    unfold w_told; rw [if_neg hpn]
    generalize g_ln g = l
    cases l <;> rfl
  have app : ∀ ln, ln = g_ln g → w_told (g_it g).length (g_pn g) (g_ln g) = ((g_it g).length, g_pn g) :: ln → ∃ x', rX1_line d (49, [some (.ref 0), some (.int (g_pn g)), some (.int ((2 : Int32) * (nI lf + nI (g_ln g).length)))], [], x) = some (none, x') ∧ zfr (zw ba pf lf) x x' ∧ (z1 w ba pf lf c lm lv (w_by_ w w_z (g_it g)) F (g_it g) x' (s_ln (w_told (g_it g).length (g_pn g) (g_ln g)) (g_pn g) g) ∨ (m1 ba lf c x' ∧ P)) := by
    intro ln hln ht
    rw [bX1_line_49, e2, nI_clamp (by omega), mj_g_k (mj_in_nI (by omega) (by omega)), e5, n1, nI_add]
    by_cases q : lf + (g_ln g).length = 20000
    · rw [if_neg (by rw [q]; decide)]
      exact ⟨_, rfl, (zfr.rf _ x).w _ rfl, Or.inr ⟨hm, hP (by rw [ht, hln, List.length_cons]; omega)⟩⟩
    · rw [if_pos (show nI (lf + (g_ln g).length) < 20000 from nI_lt (a := lf + (g_ln g).length) (b := 20000) (by omega) (by omega)), show (2 : Int32) * nI (lf + (g_ln g).length) = nI (2 * (lf + (g_ln g).length)) from nI_mul 2 _, nI_1, nI_clamp (by omega), nI_clamp (by omega), mj_g_k (mj_in_nI (by omega) (by omega)), mj_g_k (mj_in_nI (by omega) (by omega)), nI_1]
      refine ⟨_, rfl, (((zfr.rf _ x).w _ ?_).w _ ?_).w _ rfl, Or.inl ⟨h1, hb, hf, hl, hpo, ?_, hs⟩⟩
      · show Nat.ble (2 * lf) _ = true; exact Nat.ble_eq_true_of_le (by omega)
      · show Nat.ble (2 * lf) _ = true; exact Nat.ble_eq_true_of_le (by omega)
      · show z_n w lf (g_it g) (nI ((g_ln g).length + 1)) (x.1 0 46) (upd (upd (x.1 25) (2 * (lf + (g_ln g).length)) (x.1 0 32)) (2 * (lf + (g_ln g).length) + 1) (g_pn g)) (w_told (g_it g).length (g_pn g) (g_ln g)) (g_pn g)
        rw [ht]
        subst hln
        refine ⟨by rw [List.length_cons], n2, Or.inr hp, by rw [List.length_cons]; omega, fun e h => ?_, ⟨?_, ?_⟩, ?_⟩
        · rcases List.mem_cons.mp h with rfl | h
          · exact Nat.le_refl _
          · exact n5 e h
        · rw [pk_un (by omega), pk_us, hsz, w_at_len]
        · rw [pk_us]
        · refine n6.mono (fun k a hk _ ha => ?_)
          rw [pk_un (by omega), pk_un (by omega), pk_un (by omega), pk_un (by omega)]; exact ha
  cases hln : g_ln g with
  | nil =>
    rw [hln] at told app n1
    rw [if_pos (by decide)]
    exact app [] rfl told
  | cons e r =>
    rw [hln] at told app n1 n4 n5 n6
    have lr : (e :: r).length = r.length + 1 := rfl
    rw [if_neg (by rw [lr]; exact nI_nle (by omega) (by omega))]
    rw [show (2 : Int32) * (nI lf + nI (e :: r).length) - 2 = nI (2 * (lf + r.length)) by
      rw [nI_add, lr, show (2 : Int32) * nI (lf + (r.length + 1)) = nI (2 * (lf + (r.length + 1))) from nI_mul 2 _, show 2 * (lf + (r.length + 1)) = 2 * (lf + r.length) + 2 by omega, ← nI_add]
      exact Int32.add_sub_cancel _ _]
    rw [nI_clamp (by omega), mj_g_k (mj_in_nI (by simp at n4; omega) (by omega)), n6.1.1, hsz]
    by_cases q : e.1 = (g_it g).length
    · rw [if_pos (by rw [q, w_at_len])]
      rw [show (2 : Int32) * (nI lf + nI (e :: r).length) - 1 = nI (2 * (lf + r.length) + 1) by
        rw [nI_add, lr, show (2 : Int32) * nI (lf + (r.length + 1)) = nI (2 * (lf + (r.length + 1))) from nI_mul 2 _, show 2 * (lf + (r.length + 1)) = (2 * (lf + r.length) + 1) + 1 by omega]
        exact nI_pred _]
      rw [nI_clamp (by simp at n4; omega), mj_g_k (mj_in_nI (by simp at n4; omega) (by omega))]
      refine ⟨_, rfl, (zfr.rf _ x).w _ ?_, Or.inl ⟨h1, hb, hf, hl, hpo, ?_, hs⟩⟩
      · show Nat.ble (2 * lf) _ = true; exact Nat.ble_eq_true_of_le (by omega)
      · show z_n w lf (g_it g) (x.1 0 45) (x.1 0 46) (upd (x.1 25) (2 * (lf + r.length) + 1) (g_pn g)) (w_told (g_it g).length (g_pn g) (e :: r)) (g_pn g)
        rw [told]
        simp only [if_pos q]
        refine ⟨n1, n2, Or.inr hp, n4, fun a h => ?_, ⟨?_, ?_⟩, ?_⟩
        · rcases List.mem_cons.mp h with rfl | h
          · exact Nat.le_refl _
          · exact n5 a (by simp [h])
        · rw [pk_un (by omega), n6.1.1, q]
        · rw [pk_us]
        · refine n6.2.mono (fun k a hk _ ha => ?_)
          rw [pk_un (by omega), pk_un (by omega)]; exact ha
    · rw [if_neg (fun he => q (by
        have h0 := n5 e (by simp)
        have hlt := w_at_lt w (g_it g) (j := e.1) (k := (g_it g).length) (by omega) (Nat.le_refl _)
        rw [w_at_len] at hlt
        have := hb.2.2.2.1
        have := (nI_eq (by omega) (by omega)).mp he
        omega))]
      exact app (e :: r) rfl (by rw [told]; simp only [if_neg q])
end
