/-! values of CodeWriterModel: targets -/
theorem nI_nn {v : Int32} (h : 0 ≤ v) : nI v.toNatClampNeg = v := by
  have h1 := Int32.le_iff_toInt_le.mp h
  have h2 : (0 : Int32).toInt = 0 := rfl
  have h3 := v.toInt_lt
  apply Int32.toInt_inj.mp
  show (nI v.toInt.toNat).toInt = v.toInt
  rw [nI_toInt (show v.toInt.toNat < 2 ^ 31 by omega)]
  show (v.toInt.toNat : Int) = v.toInt
  omega
theorem wTb.ty {nt : sp_NT} {N M : Nat} {res par : Nat → Int32} (h : wTb nt N M res par) {n : Int32} (hn : sp_nd N n = true) : nt 3 n.toNatClampNeg = nI (nT nt n) := (nI_nn (h.1.ty h.2.1 h.2.2 _ (Nat.le_refl _) n hn).1).symm
section
variable {nt : sp_NT} {N M : Nat} {w : Bool} {ba pf rf lf c : Nat} {lm : Nat → Nat} {lv : Nat → Bool} {x : mj_X} {g : wG} {res par : Nat → Int32}
theorem Q1.T (h : Q1 nt N M w ba pf rf lf c lm lv x g) : x.1 2 = nt 0 ∧ x.1 3 = nt 1 ∧ x.1 4 = nt 2 ∧ x.1 5 = nt 3 ∧ N ≤ 4000 := ⟨h.1.1.2.2.1, h.1.1.2.2.2.1, h.1.1.2.2.2.2.1, h.1.1.2.2.2.2.2.1, h.1.1.2.1⟩
theorem Q1.nd (h : Q1 nt N M w ba pf rf lf c lm lv x g) {n : Int32} (hn : sp_nd N n = true) (r : mj_R) : mj_g n 4000 r = r := mj_g_k (sp_nd_in h.T.2.2.2.2 hn (Nat.le_refl _)) r
theorem Q1.pl (h : Q1 nt N M w ba pf rf lf c lm lv x g) {v : Int32} (hn : sp_nd N v = true) (hv : g_pl g v.toNatClampNeg ≠ none) : x.1 48 v.toNatClampNeg = nI (w_pl g v) ∧ w_pl g v < 256 := by
  cases e : g_pl g v.toNatClampNeg with
  | none => exact absurd e hv
  | some p =>
    have := h.1.2.2.2.2.2.2.2.2 _ _ (Nat.lt_of_lt_of_le (sp_nd_lt h.T.2.2.2.2 hn) h.T.2.2.2.2) e
    unfold w_pl; rw [e]; exact this
/-- what a byte array takes is cut -/
theorem J1.cut {d : Nat} (hd : 3 ≤ d) {a : Nat} (ha : a ≤ 8) {k : mj_X → mj_R} {H : wG} (h : Q1 nt N M w ba pf rf lf c lm lv x g) (hok : g_ok (w_cut (Nat.beq a 5) g))
    (hk : ∀ lm' lv' x', Q1 nt N M w ba pf rf lf c lm' lv' x' (w_cut (Nat.beq a 5) g) → zfr (zw ba pf lf) x x' → J1 nt N M w ba pf rf lf c (k x') x' lm' lv' (w_cut (Nat.beq a 5) g) H) :
    J1 nt N M w ba pf rf lf c (if nI a = (5 : Int32) then mj_rV (kX1 d 42 [.ref 0, .int (145 : Int32), .int (1 : Int32), .int (1 : Int32)] x) k else k x) x lm lv g H := by
  by_cases q : a = 5
  · rw [if_pos (by rw [q]; rfl)]
    have e : Nat.beq a 5 = true := by rw [q]; rfl
    rw [e] at hok hk
    exact J1.b ((wM.rf g).cut true) (m_e1 hd h hok rfl rfl ⟨fun _ => rfl, fun _ _ => rfl⟩) (fun lm1 lv1 x1 q1 _ f1 => hk lm1 lv1 x1 q1 f1)
  · have e : Nat.beq a 5 = false := by apply Bool.eq_false_iff.mpr; intro r; exact q (Nat.eq_of_beq_eq_true r)
    rw [if_neg (show ¬ nI a = (5 : Int32) from fun r => q ((nI_eq (b := 5) (by omega) (by omega)).mp r))]
    rw [e] at hok hk
    exact hk lm lv x h (zfr.rf _ x)
/-- the element is stored; before, perhaps, its value is kept below -/
theorem J1.tail {d : Nat} (hd : 5 ≤ d) {a t : Nat} (h5 : 5 ≤ a) (h8 : a ≤ 8) (ht : t ≤ 8) (want : Bool) (h : Q1 nt N M w ba pf rf lf c lm lv x g) (hok : g_ok (w_est a (bif want then w_du t g else g))) :
    J1 nt N M w ba pf rf lf c (if sp_b want = 0 then mj_rV (kX1 d 72 [.ref 0, .int (nI a), .int (1 : Int32)] x) fun x1 => some (none, x1) else mj_rV (kX1 d 73 [.ref 0, .int (nI t)] x) fun x2 => mj_rV (kX1 d 72 [.ref 0, .int (nI a), .int (1 : Int32)] x2) fun x3 => some (none, x3)) x lm lv g (w_est a (bif want then w_du t g else g)) := by
  cases want
  · rw [if_pos (by rfl)]
    exact J1.end_ (m_el (b := true) (by omega) h5 h8 h hok)
  · rw [if_neg (by decide)]
    have m2 : wM (w_du t g) (w_est a (w_du t g)) := (wM.rf _).est a
    exact J1.b ((wM.rf g).du t) (m_du (by omega) ht h (m2.1 hok)) (fun lm1 lv1 x1 q1 _ _ => J1.end_ (m_el (b := true) (by omega) h5 h8 q1 hok))
def mV (nt : sp_NT) (N M : Nat) (w : Bool) (ba pf rf lf f : Nat) (n : Int32) : Prop := ∀ (d c : Nat) (lm : Nat → Nat) (lv : Nat → Bool) (x : mj_X) (g : wG), 5 * f + 8 ≤ d → 2 * f + 1 ≤ c → c ≤ 3990 → Q1 nt N M w ba pf rf lf c lm lv x g →
  (g_ok (wV nt f n 0 0 g) → J1 nt N M w ba pf rf lf c (kX1 d 40 [.ref 0, .int n] x) x lm lv g (wV nt f n 0 0 g)) ∧
  (5 * f + 9 ≤ d → nT nt n = 1 → ∀ (so : Bool) (l : Nat), l < g_nl g → lv l = true → g_ok (wV nt f n (bif so then 2 else 3) l g) → J1 nt N M w ba pf rf lf c (kX1 d 46 [.ref 0, .int n, .int (sp_b so), .int (nI (lm l))] x) x lm lv g (wV nt f n (bif so then 2 else 3) l g))
variable {f : Nat}
/-- array and index -/
theorem J1.two {d : Nat} (hd : 5 * f + 8 ≤ d) (hf : 2 * f + 1 ≤ c) (hc : c ≤ 3990) (hT : wTb nt N M res par) (R : ∀ n, wE nt N f n → mV nt N M w ba pf rf lf f n) {t : Int32} (ht : sp_nd N t = true) (htd : nD nt t ≤ f) (htk : nK nt t = 8) {k : mj_X → mj_R} {H : wG} (h : Q1 nt N M w ba pf rf lf c lm lv x g)
    (hok : g_ok (wV nt f (nB nt t) 0 0 (wV nt f (nA nt t) 0 0 g)))
    (hk : ∀ lm' lv' x', Q1 nt N M w ba pf rf lf c lm' lv' x' (wV nt f (nB nt t) 0 0 (wV nt f (nA nt t) 0 0 g)) → zfr (zw ba pf lf) x x' → J1 nt N M w ba pf rf lf c (k x') x' lm' lv' (wV nt f (nB nt t) 0 0 (wV nt f (nA nt t) 0 0 g)) H) :
    J1 nt N M w ba pf rf lf c (mj_rV (kX1 d 40 [.ref 0, .int (x.1 3 t.toNatClampNeg)] x) fun x1 => mj_g t 4000 (mj_rV (kX1 d 40 [.ref 0, .int (x1.1 4 t.toNatClampNeg)] x1) k)) x lm lv g H := by
  obtain ⟨ea, eb, -⟩ := wE_at' hT ht htd htk
  have mb := wV_mono nt f (nB nt t) 0 0 (wV nt f (nA nt t) 0 0 g)
  rw [h.T.2.1]
  refine J1.b (wV_mono nt f (nA nt t) 0 0 g) ((R _ ea d c lm lv x g hd hf hc h).1 (mb.1 hok)) (fun lm1 lv1 x1 q1 _ f1 => ?_)
  rw [q1.nd ht, q1.T.2.2.1]
  exact J1.b mb ((R _ eb d c lm1 lv1 x1 _ hd hf hc q1).1 hok) (fun lm2 lv2 x2 q2 _ f2 => by
    obtain ⟨lm3, lv3, x3, e3, q3, l3, f3⟩ := hk lm2 lv2 x2 q2 (f1.tr f2)
    exact ⟨lm3, lv3, x3, e3, q3, l3, f3⟩)
theorem m_pe9 {d : Nat} (hd : 5 * f + 9 ≤ d) (hf : 2 * f + 1 ≤ c) (hc : c ≤ 3990) (hT : wTb nt N M res par) (R : ∀ n, wE nt N f n → mV nt N M w ba pf rf lf f n) {t e : Int32} (ht : sp_nd N t = true) (htd : nD nt t ≤ f) (htk : nK nt t = 8) (he : wE nt N f e) (want : Bool) (h : Q1 nt N M w ba pf rf lf c lm lv x g)
    (hok : g_ok (w_pe9 nt (wV nt f) t e want g)) : J1 nt N M w ba pf rf lf c (kX1 d 74 [.ref 0, .int t, .int e, .int (sp_b want)] x) x lm lv g (w_pe9 nt (wV nt f) t e want g) := by
  obtain ⟨d, rfl⟩ : ∃ c, d = c + 1 := ⟨d - 1, by omega⟩
  obtain ⟨ea, eb, a5, a8, -, -⟩ := wE_at' hT ht htd htk
  have hE : w_pe9 nt (wV nt f) t e want g = w_est (nT nt (nA nt t)) (bif want then w_du (w_el (nT nt (nA nt t))) (w_cut (Nat.beq (nT nt (nA nt t)) 5) (wV nt f e 0 0 (wV nt f (nB nt t) 0 0 (wV nt f (nA nt t) 0 0 g)))) else w_cut (Nat.beq (nT nt (nA nt t)) 5) (wV nt f e 0 0 (wV nt f (nB nt t) 0 0 (wV nt f (nA nt t) 0 0 g)))) := rfl
  rw [hE] at hok ⊢
  generalize hG2 : wV nt f (nB nt t) 0 0 (wV nt f (nA nt t) 0 0 g) = G2 at hok ⊢
  have m3 := wV_mono nt f e 0 0 G2
  have mc : wM (wV nt f e 0 0 G2) (w_cut (Nat.beq (nT nt (nA nt t)) 5) (wV nt f e 0 0 G2)) := (wM.rf _).cut _
  have mt : wM (w_cut (Nat.beq (nT nt (nA nt t)) 5) (wV nt f e 0 0 G2)) (w_est (nT nt (nA nt t)) (bif want then w_du (w_el (nT nt (nA nt t))) (w_cut (Nat.beq (nT nt (nA nt t)) 5) (wV nt f e 0 0 G2)) else w_cut (Nat.beq (nT nt (nA nt t)) 5) (wV nt f e 0 0 G2))) := (wM.cond ((wM.rf _).du _) (wM.rf _)).est _
  have ty : x.1 5 (x.1 3 t.toNatClampNeg).toNatClampNeg = nI (nT nt (nA nt t)) := by rw [h.T.2.1, h.T.2.2.2.1]; exact hT.ty ea.1
  rw [eX1_putElement, h.nd ht, ty]
  rw [show x.1 3 t.toNatClampNeg = nA nt t by rw [h.T.2.1]]
  rw [h.nd ea.1, h.nd ht]
  rw [show nA nt t = x.1 3 t.toNatClampNeg by rw [h.T.2.1]]
  refine J1.two (by omega) hf hc hT R ht htd htk h (by rw [hG2]; exact (m3.tr (mc.tr mt)).1 hok) (fun lm2 lv2 x2 q2 f2 => ?_)
  rw [hG2] at q2 ⊢
  refine J1.b m3 ((R _ he d c lm2 lv2 x2 G2 (by omega) hf hc q2).1 ((mc.tr mt).1 hok)) (fun lm3 lv3 x3 q3 _ f3 => ?_)
  rw [show x.1 3 t.toNatClampNeg = nA nt t by rw [h.T.2.1]]
  refine J1.cut (by omega) (by omega) q3 (mt.1 hok) (fun lm4 lv4 x4 q4 f4 => ?_)
  rw [bX1_putElement_53, sX1_elementOf (by omega), mj_rI_k, sp_el_n a5 a8]
  exact J1.tail (by omega) a5 a8 (by have := w_el_r (nT nt (nA nt t)); omega) want q4 hok
theorem m_opd {d : Nat} (hd : 5 * f + 9 ≤ d) (hf : 2 * f + 1 ≤ c) (hc : c ≤ 3990) (R : ∀ n, wE nt N f n → mV nt N M w ba pf rf lf f n) {e : Int32} (he : ¬ e = -1 → wE nt N f e) {t : Nat} (h1 : 1 ≤ t) (h4 : t ≤ 4) (h : Q1 nt N M w ba pf rf lf c lm lv x g) (hok : g_ok (w_opd nt (wV nt f) e t g)) :
    J1 nt N M w ba pf rf lf c (kX1 d 60 [.ref 0, .int e, .int (nI t)] x) x lm lv g (w_opd nt (wV nt f) e t g) := by
  obtain ⟨d, rfl⟩ : ∃ c, d = c + 1 := ⟨d - 1, by omega⟩
  rw [eX1_operandOf]
  unfold w_opd at hok ⊢
  by_cases q : e = -1
  · rw [if_pos q] at hok ⊢
    rw [if_pos q]
    exact J1.end_ (m_one (by omega) h1 h4 h hok)
  · rw [if_neg q] at hok ⊢
    rw [if_neg q]
    exact J1.end_ ((R _ (he q) d c lm lv x g (by omega) hf hc h).1 hok)
end
