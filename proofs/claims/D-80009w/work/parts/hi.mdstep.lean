/-! statements of CodeWriterModel: single steps -/
theorem w_over.of {w : Bool} {rf rf' lf : Nat} {g G : wG} (h : w_over w rf lf g) (h1 : g_ov G = g_ov g) (h2 : g_it G = g_it g) (h3 : g_ln G = g_ln g) (h4 : rf + w_ph g ≤ rf' + w_ph G) : w_over w rf' lf G := by
  unfold w_over at *
  rw [h1, h2, h3]
  rcases h with h | h | h | h
  · exact Or.inl h
  · exact Or.inr (Or.inl h)
  · exact Or.inr (Or.inr (Or.inl (by omega)))
  · exact Or.inr (Or.inr (Or.inr h))
theorem e_anew {d : Nat} (hd : 2 ≤ d) (t : Int32) (x : mj_X) : kX1 d 36 [.ref 0, .int t] x = some (some (.int (x.1 0 38)), mj_wI (mj_wI x 0 38 (x.1 0 38 + sp_pl t)) 0 39 (mj_max (x.1 0 39) (x.1 0 38 + sp_pl t))) := by
  obtain ⟨d, rfl⟩ : ∃ e, d = e + 1 := ⟨d - 1, by omega⟩
  rw [eX1_anew, sX1_placesOf (by omega), mj_rI_k, sX1_max (by omega), mj_rI_k]
theorem e_take {d : Nat} (hd : 3 ≤ d) {N : Nat} (hN : N ≤ 4000) {v : Int32} (hv : sp_nd N v = true) (x : mj_X) : kX1 d 35 [.ref 0, .int v] x = some (none, mj_wI (mj_wI (mj_wI x 0 38 (x.1 0 38 + sp_pl (x.1 5 v.toNatClampNeg))) 0 39 (mj_max (x.1 0 39) (x.1 0 38 + sp_pl (x.1 5 v.toNatClampNeg)))) 48 v.toNatClampNeg (x.1 0 38)) := by
  obtain ⟨d, rfl⟩ : ∃ e, d = e + 1 := ⟨d - 1, by omega⟩
  rw [eX1_take, mj_g_k (sp_nd_in hN hv (Nat.le_refl _)), e_anew (by omega), mj_rI_k, mj_g_k (sp_nd_in hN hv (Nat.le_refl _))]
theorem nI_nd {a : Nat} (ha : a < 4000) (r : mj_R) : mj_g (nI a) 4000 r = r := mj_g_k (sp_nd_in (Nat.le_refl _) ((sp_nd_iff (by omega) _).mpr (by rw [nI_toInt (by omega)]; omega)) (Nat.le_refl _)) r
theorem nI_cl {a : Nat} (ha : a < 4000) : (nI a).toNatClampNeg = a := (sp_nd_at ha).2
theorem e_close {d : Nat} (hd : 1 ≤ d) {a : Nat} (ha : a < 4000) (x : mj_X) : kX1 d 82 [.ref 0, .int (nI a)] x = some (none, mj_wI x 0 59 (x.1 62 a)) := by
  obtain ⟨d, rfl⟩ : ∃ e, d = e + 1 := ⟨d - 1, by omega⟩
  rw [eX1_close, nI_nd ha, nI_cl ha]
theorem e_open {d : Nat} (hd : 1 ≤ d) {K : Nat} (hK : K < 4000) (t : Int32) {x : mj_X} (h : x.1 0 58 = nI K) : kX1 d 81 [.ref 0, .int t] x = some (some (.int (nI K)), mj_wI (mj_wI (mj_wI (mj_wI (mj_wI (mj_wI (mj_wI (mj_wI x 0 58 (nI (K + 1))) 61 K t) 62 K (x.1 0 59)) 66 K (x.1 0 38)) 67 K (x.1 0 32)) 68 K (-1)) 69 K (-1)) 0 59 (nI K)) := by
  obtain ⟨d, rfl⟩ : ∃ e, d = e + 1 := ⟨d - 1, by omega⟩
  have e : nI K + (1 : Int32) = nI (K + 1) := nI_add K 1
  rw [eX1_open, h, nI_nd hK, nI_nd hK, nI_nd hK, nI_nd hK, nI_nd hK, nI_nd hK, nI_cl hK, e]
def zo4 (k j : Nat) : Bool := match k with
  | 0 => [38, 39, 40, 41].elem j
  | _ => false
/-- contexts from a number on -/
def zk (k a j : Nat) : Bool := match a with
  | 0 => [58, 59].elem j
  | 61 => Nat.ble k j
  | 62 => Nat.ble k j
  | 63 => Nat.ble k j
  | 64 => Nat.ble k j
  | 65 => Nat.ble k j
  | 66 => Nat.ble k j
  | 67 => Nat.ble k j
  | 68 => Nat.ble k j
  | 69 => Nat.ble k j
  | _ => false
theorem zo4_zo {x y : mj_X} (f : zfr zo4 x y) : zfr zo x y := ⟨f.1, fun k j h => f.2 k j (by
  cases k with
  | zero => simp [zo, zo4] at h ⊢; omega
  | succ k => rfl)⟩
theorem zfr.mono {Z Z' : Nat → Nat → Bool} {x y : mj_X} (f : zfr Z x y) (h : ∀ k j, Z' k j = false → Z k j = false) : zfr Z' x y := ⟨f.1, fun k j hz => f.2 k j (h k j hz)⟩
theorem zk_zo {k : Nat} {x y : mj_X} (f : zfr (zk k) x y) : zfr zo x y := f.mono (fun a j h => by
  unfold zk
  split
  · simp [zo] at h ⊢; omega
  all_goals first | (simp [zo] at h; done) | rfl)
section
variable {nt : sp_NT} {N M : Nat} {w : Bool} {ba pf rf lf c hp : Nat} {H V : List wSl} {K u : Nat} {o : Option Int32} {lm lm' : Nat → Nat} {lv lv' : Nat → Bool} {x y : mj_X} {g G : wG}
/-- numbers of places and acts, and how deep it is -/
theorem Q2.num {u' : Nat} (h : Q2 nt N M w ba pf rf lf c hp H K u o V lm lv x g) (f : zfr zo4 x y) (hu : y.1 0 41 = nI u') (h1 : K ≤ u') (h2 : u' ≤ 200) (hw : wWq g G) (hcx : g_cx G = g_cx g) (hrg : g_rg G = g_rg g) (hN : x.1 0 34 = 0 → zN y G) : Q2 nt N M w ba pf rf lf c hp H K u' o V lm lv y G := by
  obtain ⟨hlm, he, hS, hX⟩ := h
  have f' := zo4_zo f
  have e := f.2
  have E : ∀ k, y.1 (k + 1) = x.1 (k + 1) := fun k => funext fun j => e (k + 1) j rfl
  have hnl : g_nl G = g_nl g := congrArg Prod.fst hw.2.2.2.2.2.2.2.2.1
  have hph : w_ph g ≤ w_ph G := by unfold w_ph; rw [hcx, hrg]; exact Nat.le_refl _
  refine ⟨by rw [hnl]; exact hlm, he.ofzo f', ?_, ?_⟩
  · obtain ⟨s1, s2, s3, s4, s5, s6, s7, s8, s9, s10, s11, s12⟩ := hS
    refine ⟨by rw [hcx]; exact s1, by rw [e 0 58 rfl]; exact s2, h1, h2, hu, by rw [e 0 59 rfl]; exact s6, s7, ?_, by rw [e 0 72 rfl]; exact s9, by rw [e 0 44 rfl]; exact s10, by rw [E 16]; exact s11, by rw [E 73]; exact s12⟩
    unfold z_sk at *
    rw [E 60, E 61, E 67, E 68]; exact s8
  · rw [e 0 34 rfl]
    rcases hX with ⟨h0, q, hx⟩ | ⟨h0, hm, ho⟩
    · refine Or.inl ⟨h0, q.ext f' hw hph, hx.eq ⟨⟨e 0 44 rfl, e 0 72 rfl⟩, E 67, E 68, E 73⟩ ⟨E 23, E 62, E 63, E 64, E 65, E 66, E 69, E 70, E 71⟩ (fun _ _ => ⟨rfl, rfl⟩) ⟨[], hw.1⟩ (by rw [hnl]; exact Nat.le_refl _) hrg hcx (fun k => by rw [hw.2.2.2.2.2.2.2.2.2]) (hN h0)⟩
    · exact Or.inr ⟨h0, hm.ofzo f', ho.of hw.2.2.1 hw.1 hw.2.2.2.2.2.1 (by omega)⟩
theorem Q2.nx (h : Q2 nt N M w ba pf rf lf c hp H K u o V lm lv x g) {v : Int32} {n : Nat} (hv : x.1 0 34 = 0 → v = nI n ∧ n ≤ 8000) : Q2 nt N M w ba pf rf lf c hp H K u o V lm lv (mj_wI x 0 38 v) (s_nx n g) := by
  refine h.num ((zfr.rf _ x).w _ rfl) h.2.2.1.2.2.2.2.1 h.2.2.1.2.2.1 h.2.2.1.2.2.2.1 ⟨rfl, rfl, rfl, rfl, rfl, rfl, rfl, rfl, rfl, rfl⟩ rfl rfl (fun h0 => ?_)
  obtain ⟨-, ⟨-, -, a3, a4, a5, a6⟩, -⟩ := (h.ex h0)
  exact ⟨(hv h0).1, (hv h0).2, a3, a4, a5, a6⟩
theorem Q2.tk (h : Q2 nt N M w ba pf rf lf c hp H K u o V lm lv x g) {t : Nat} (ht : t ≤ 8) (hb : x.1 0 34 = 0 → g_nx g < 250) : Q2 nt N M w ba pf rf lf c hp H K u o V lm lv (mj_wI (mj_wI x 0 38 (x.1 0 38 + sp_pl (nI t))) 0 39 (mj_max (x.1 0 39) (x.1 0 38 + sp_pl (nI t)))) (s_tk (w_tl t).length g) := by
  refine h.num (((zfr.rf _ x).w _ rfl).w _ rfl) h.2.2.1.2.2.2.2.1 h.2.2.1.2.2.1 h.2.2.1.2.2.2.1 ⟨rfl, rfl, rfl, rfl, rfl, rfl, rfl, rfl, rfl, rfl⟩ rfl rfl (fun h0 => ?_)
  obtain ⟨-, ⟨a1, a2, a3, a4, a5, a6⟩, -⟩ := (h.ex h0)
  have hl : (w_tl t).length ≤ 2 := by rcases w_tl_d t with r | r | r <;> rw [r] <;> simp
  have hb := hb h0
  refine ⟨?_, by show g_nx g + (w_tl t).length ≤ 8000; omega, ?_, by show max (g_mx g) (g_nx g + (w_tl t).length) ≤ 8000; omega, a5, a6⟩
  · show x.1 0 38 + sp_pl (nI t) = nI (g_nx g + (w_tl t).length)
    rw [a1, sp_pl_n ht, nI_add]
  · show mj_max (x.1 0 39) (x.1 0 38 + sp_pl (nI t)) = nI (max (g_mx g) (g_nx g + (w_tl t).length))
    rw [a1, a3, sp_pl_n ht, nI_add, nI_max (by omega) (by omega)]
theorem z_ch.le {k k' : Nat} : ∀ {V : List wSl} {hr : Int32}, z_ch hr k V → k ≤ k' → z_ch hr k' V := by
  intro V hr h hk
  cases V with
  | nil => exact h
  | cons s r => exact ⟨h.1, Nat.lt_of_lt_of_le h.2.1 hk, h.2.2⟩
theorem z_ch.lt : ∀ {V : List wSl} {hr : Int32} {k : Nat}, z_ch hr k V → ∀ s, s ∈ V → s.1 < k := by
  intro V
  induction V with
  | nil => intro hr k _ s hs; cases hs
  | cons t r ih =>
    intro hr k h s hs
    rcases List.mem_cons.mp hs with rfl | hs
    · exact h.2.1
    · exact Nat.lt_trans (ih h.2.2 s hs) h.2.1
theorem Q2.lt (h : Q2 nt N M w ba pf rf lf c hp H K u o V lm lv x g) {s : wSl} (hs : s ∈ H ++ V) : s.1 < K ∧ K ≤ 200 := by
  obtain ⟨-, -, ⟨-, -, s3, s4, -, -, -, s8, -⟩, -⟩ := h
  exact ⟨(s8 s hs).1, by omega⟩
/-- writes to contexts that are none of those -/
theorem Q2.ofzk {k K' : Nat} {o' : Option Int32} (h : Q2 nt N M w ba pf rf lf c hp H K u o V lm lv x g) (f : zfr (zk k) x y) (hk : ∀ s, s ∈ H ++ V → s.1 < k) (y58 : y.1 0 58 = nI K') (h1 : k ≤ K') (h2 : K' ≤ u) (hch : z_ch (o'.getD (y.1 0 59)) K' V) : Q2 nt N M w ba pf rf lf c hp H K' u o' V lm lv y g := by
  obtain ⟨hlm, he, hS, hX⟩ := h
  have f' := zk_zo f
  have e := f.2
  have nb : ∀ {s : wSl}, s ∈ H ++ V → Nat.ble k s.1 = false := fun hs => by rw [← Bool.not_eq_true, Nat.ble_eq]; have := hk _ hs; omega
  refine ⟨hlm, he.ofzo f', ?_, ?_⟩
  · obtain ⟨s1, s2, s3, s4, s5, s6, s7, s8, s9, s10, s11, s12⟩ := hS
    refine ⟨s1, y58, h2, s4, by rw [e 0 41 rfl]; exact s5, hch, s7, fun s hs => ⟨Nat.lt_of_lt_of_le (hk s hs) h1, ?_⟩, by rw [e 0 72 rfl]; exact s9, by rw [e 0 44 rfl]; exact s10, by rw [e 17 M rfl]; exact s11, fun j => by rw [e 74 j rfl]; exact s12 j⟩
    have := (s8 s hs).2
    unfold z_sk at *
    rw [e 61 s.1 (nb hs), e 62 s.1 (nb hs), e 68 s.1 (nb hs), e 69 s.1 (nb hs)]; exact this
  · rw [e 0 34 rfl]
    rcases hX with ⟨h0, q, hx⟩ | ⟨h0, hm, ho⟩
    · refine Or.inl ⟨h0, q.ext f' ⟨rfl, rfl, rfl, rfl, rfl, rfl, rfl, rfl, rfl, rfl⟩ (Nat.le_refl _), ?_⟩
      obtain ⟨a1, a2, a3, a4, n, ps, b1, b2, b3, b4⟩ := hx
      have E : ∀ a, (∀ j, zk k a j = false) → y.1 a = x.1 a := fun a ha => funext fun j => e a j (ha j)
      refine ⟨?_, ?_, fun j l hj => ?_, fun s hs => ?_, n, ps, by rw [e 0 72 rfl]; exact b1, b2, fun s hs => ⟨?_, (b3 s hs).2⟩, b4⟩
      · unfold zN at *; rw [e 0 38 rfl, e 0 39 rfl, e 0 40 rfl]; exact a1
      · rw [e 0 44 rfl, E 24 (fun _ => rfl)]; exact a2
      · rw [e 74 j rfl]; exact a3 j l hj
      · have := a4 s hs
        unfold z_sb at *; rw [e 63 s.1 (nb hs), e 64 s.1 (nb hs), e 65 s.1 (nb hs), e 66 s.1 (nb hs)]; exact this
      · have := (b3 s hs).1
        unfold z_sx at *; rw [e 67 s.1 (nb hs), e 68 s.1 (nb hs), e 69 s.1 (nb hs), E 70 (fun _ => rfl), E 71 (fun _ => rfl), E 72 (fun _ => rfl)]; exact this
    · exact Or.inr ⟨h0, hm.ofzo f', ho⟩
/-- a context is told -/
theorem Q2.ctx {k sort b cc : Nat} {node hr : Int32} (h : Q2 nt N M w ba pf rf lf c hp H K u (some hr) V lm lv x g) (hk : k < K) (hnew : ∀ s, s ∈ H ++ V → s.1 ≠ k) (hch : z_ch hr k V) (x59 : x.1 0 59 = nI k) (x61 : x.1 61 k = nI sort) (h4 : sort ≤ 4) (x62 : x.1 62 k = hr) (x68 : x.1 68 k = -1) (x69 : x.1 69 k = -1)
    (hX : x.1 0 34 = 0 → x.1 66 k = nI (g_nx g) ∧ x.1 67 k = nI (w_by_ w w_z (g_it g)).length ∧ (sort ≤ 1 → b < g_nl g ∧ lv b = true ∧ x.1 63 k = nI (lm b)) ∧ (sort = 0 → cc < g_nl g ∧ lv cc = true ∧ x.1 64 k = nI (lm cc)) ∧ (3 ≤ sort → x.1 65 k = node)) :
    Q2 nt N M w ba pf rf lf c hp H K u none ((k, hr, (sort, node, b, cc, g_nx g, (g_it g).length, [])) :: V) lm lv x (w_ctx sort node b cc g) := by
  obtain ⟨hlm, he, hS, hX'⟩ := h
  obtain ⟨s1, s2, s3, s4, s5, s6, s7, s8, s9⟩ := hS
  have mem : ∀ s : wSl, s ∈ H ++ (k, hr, (sort, node, b, cc, g_nx g, (g_it g).length, [])) :: V → s = (k, hr, (sort, node, b, cc, g_nx g, (g_it g).length, [])) ∨ s ∈ H ++ V := by
    intro s hs
    rcases List.mem_append.mp hs with q | q
    · exact Or.inr (List.mem_append.mpr (Or.inl q))
    · rcases List.mem_cons.mp q with q | q
      · exact Or.inl q
      · exact Or.inr (List.mem_append.mpr (Or.inr q))
  have hph : w_ph (w_ctx sort node b cc g) = w_ph g := by show (g_rg g).length + (0 + w_np (g_cx g)) = _; unfold w_ph; omega
  refine ⟨hlm, he, ⟨?_, s2, s3, s4, s5, ⟨x59, hk, hch⟩, ?_, fun s hs => ?_, s9⟩, ?_⟩
  · show _ :: V.map (fun s => s.2.2) = _ :: g_cx g; rw [s1]
  · rw [List.pairwise_append] at s7 ⊢
    refine ⟨s7.1, List.pairwise_cons.mpr ⟨fun s hs => (hnew s (List.mem_append.mpr (Or.inr hs))).symm, s7.2.1⟩, fun a ha b hb => ?_⟩
    rcases List.mem_cons.mp hb with rfl | hb
    · exact hnew a (List.mem_append.mpr (Or.inl ha))
    · exact s7.2.2 a ha b hb
  · rcases mem s hs with rfl | q
    · exact ⟨hk, x61, x62, h4, Or.inl (by show x.1 68 k < 0; rw [x68]; decide)⟩
    · exact s8 s q
  · rcases hX' with ⟨h0, q, hx⟩ | ⟨h0, hm, ho⟩
    · obtain ⟨y66, y67, y63, y64, y65⟩ := hX h0
      obtain ⟨a1, a2, a3, a4, n, ps, b1, b2, b3, b4⟩ := hx
      refine Or.inl ⟨h0, q.ext (zfr.rf _ x) ⟨rfl, rfl, rfl, rfl, rfl, rfl, rfl, rfl, rfl, rfl⟩ (Nat.le_of_eq hph.symm), a1, a2, a3, fun s hs => ?_, n, (fun j => if j = k then [] else ps j), b1, by rw [hph]; exact b2, fun s hs => ?_, fun a b ha hb hab => ?_⟩
      · rcases mem s hs with rfl | q
        · exact ⟨y63, y64, y66, a1.2.1, y65⟩
        · exact a4 s q
      · rcases mem s hs with rfl | q
        · show z_sx w (g_it g) x _ (if k = k then [] else ps k) ∧ ∀ p, p ∈ (if k = k then [] else ps k) → p < n
          rw [if_pos rfl]
          refine ⟨⟨?_, Nat.le_refl _, x68, x69, trivial, trivial, List.Pairwise.nil⟩, fun p hp => by cases hp⟩
          show x.1 67 k = nI (w_at w (g_it g) (g_it g).length)
          rw [y67, w_at_len]
        · have := hnew s q
          show z_sx w (g_it g) x s (if s.1 = k then [] else ps s.1) ∧ ∀ p, p ∈ (if s.1 = k then [] else ps s.1) → p < n
          rw [if_neg this]; exact b3 s q
      · show ∀ p, p ∈ (if a.1 = k then [] else ps a.1) → p ∉ (if b.1 = k then [] else ps b.1)
        rcases mem a ha with rfl | qa
        · rw [if_pos rfl]; intro p hp; cases hp
        · rcases mem b hb with rfl | qb
          · rw [if_pos (show (k, hr, (sort, node, b, cc, g_nx g, (g_it g).length, ([] : List (Nat × Nat)))).1 = k from rfl)]; intro p _ hp; cases hp
          · rw [if_neg (hnew a qa), if_neg (hnew b qb)]; exact b4 a b qa qb hab
    · exact Or.inr ⟨h0, hm, by unfold w_over at *; rw [hph]; exact ho⟩
/-- the innermost one is told apart, or not -/
theorem Q2.o1 (h : Q2 nt N M w ba pf rf lf c hp H K u none V lm lv x g) : Q2 nt N M w ba pf rf lf c hp H K u (some (x.1 0 59)) V lm lv x g := h
theorem Q2.o2 {hr : Int32} (h : Q2 nt N M w ba pf rf lf c hp H K u (some hr) V lm lv x g) : Q2 nt N M w ba pf rf lf c hp H K u none V lm lv (mj_wI x 0 59 hr) g := by
  refine h.ofzk (k := K) ((zfr.rf _ x).w _ rfl) (fun s hs => (h.lt hs).1) h.2.2.1.2.1 (Nat.le_refl _) h.2.2.1.2.2.1 ?_
  exact h.2.2.1.2.2.2.2.2.1
theorem Q2.hpm {hp' : Nat} (h : Q2 nt N M w ba pf rf lf c hp H K u o V lm lv x g) (hh : hp ≤ hp') : Q2 nt N M w ba pf rf lf c hp' H K u o V lm lv x g := by
  obtain ⟨hlm, he, hS, hX⟩ := h
  refine ⟨hlm, he, hS, ?_⟩
  rcases hX with ⟨h0, ⟨q1, q2, q3⟩, a1, a2, a3, a4, n, ps, b1, b2, b3⟩ | ⟨h0, hm, ho⟩
  · refine Or.inl ⟨h0, ⟨q1, q2, Or.inl (q3.resolve_right (fun p => absurd h0 (by rw [p.1.1]; decide)))⟩, a1, a2, a3, a4, n, ps, b1, by omega, b3⟩
  · exact Or.inr ⟨h0, hm, ho.of rfl rfl rfl (by omega)⟩
/-- a context is hidden -/
theorem Q2.hide {s : wSl} (h : Q2 nt N M w ba pf rf lf c hp H K u o (s :: V) lm lv x g) : Q2 nt N M w ba pf rf lf c (hp + (c_ps s.2.2).length) (s :: H) K u (some s.2.1) V lm lv x (w_shut g) := by
  obtain ⟨hlm, he, ⟨s1, s2, s3, s4, s5, s6, s7, s8, s9⟩, hX⟩ := h
  have mem : ∀ t : wSl, t ∈ (s :: H) ++ V → t ∈ H ++ s :: V := by
    intro t ht
    simp only [List.cons_append, List.mem_cons, List.mem_append] at ht ⊢
    rcases ht with q | q | q
    · exact Or.inr (Or.inl q)
    · exact Or.inl q
    · exact Or.inr (Or.inr q)
  have hph : w_ph g = w_ph (w_shut g) + (c_ps s.2.2).length := by
    show (g_rg g).length + w_np (g_cx g) = (g_rg g).length + w_np (g_cx g).tail + _
    rw [← s1]
    show (g_rg g).length + ((c_ps s.2.2).length + w_np (V.map (fun s => s.2.2))) = (g_rg g).length + w_np (V.map (fun s => s.2.2)) + _
    omega
  refine ⟨hlm, he, ⟨?_, s2, s3, s4, s5, ?_, ?_, fun t ht => s8 t (mem t ht), s9⟩, ?_⟩
  · show V.map (fun s => s.2.2) = (g_cx g).tail; rw [← s1]; rfl
  · exact s6.2.2.le (Nat.le_of_lt s6.2.1)
  · have p : (H ++ s :: V).Perm (s :: (H ++ V)) := List.perm_middle
    exact (p.pairwise_iff (fun {a b} h => h.symm)).mp s7
  · rcases hX with ⟨h0, q, a1, a2, a3, a4, n, ps, b1, b2, b3, b4⟩ | ⟨h0, hm, ho⟩
    · refine Or.inl ⟨h0, ?_, a1, a2, a3, fun t ht => a4 t (mem t ht), n, ps, b1, by omega, fun t ht => b3 t (mem t ht), fun a b ha hb => b4 a b (mem a ha) (mem b hb)⟩
      obtain ⟨q1, q2, q3⟩ := q
      exact ⟨q1, q2, Or.inl (q3.resolve_right (fun p => absurd h0 (by rw [p.1.1]; decide)))⟩
    · refine Or.inr ⟨h0, hm, ?_⟩
      exact ho.of rfl rfl rfl (by omega)
/-- a hidden context is seen again -/
theorem Q2.seen {s : wSl} (h : Q2 nt N M w ba pf rf lf c (hp + (c_ps s.2.2).length) (s :: H) K u o V lm lv x g) (hch : z_ch s.2.1 s.1 V) : Q2 nt N M w ba pf rf lf c hp H K u (some (nI s.1)) (s :: V) lm lv x (s_cx (s.2.2 :: g_cx g) g) := by
  obtain ⟨hlm, he, ⟨s1, s2, s3, s4, s5, s6, s7, s8, s9⟩, hX⟩ := h
  have mem : ∀ t : wSl, t ∈ H ++ s :: V → t ∈ (s :: H) ++ V := by
    intro t ht
    simp only [List.cons_append, List.mem_cons, List.mem_append] at ht ⊢
    rcases ht with q | q | q
    · exact Or.inr (Or.inl q)
    · exact Or.inl q
    · exact Or.inr (Or.inr q)
  have hph : w_ph (s_cx (s.2.2 :: g_cx g) g) = w_ph g + (c_ps s.2.2).length := by
    show (g_rg g).length + ((c_ps s.2.2).length + w_np (g_cx g)) = (g_rg g).length + w_np (g_cx g) + _
    omega
  refine ⟨hlm, he, ⟨?_, s2, s3, s4, s5, ?_, ?_, fun t ht => s8 t (mem t ht), s9⟩, ?_⟩
  · show s.2.2 :: V.map (fun s => s.2.2) = s.2.2 :: g_cx g; rw [s1]
  · exact ⟨rfl, (s8 s (by simp)).1, hch⟩
  · have p : (H ++ s :: V).Perm (s :: (H ++ V)) := List.perm_middle
    exact (p.pairwise_iff (fun {a b} h => h.symm)).mpr s7
  · rcases hX with ⟨h0, q, a1, a2, a3, a4, n, ps, b1, b2, b3, b4⟩ | ⟨h0, hm, ho⟩
    · refine Or.inl ⟨h0, ?_, a1, a2, a3, fun t ht => a4 t (mem t ht), n, ps, b1, by rw [hph]; omega, fun t ht => b3 t (mem t ht), fun a b ha hb => b4 a b (mem a ha) (mem b hb)⟩
      obtain ⟨q1, q2, q3⟩ := q
      exact ⟨q1, q2, Or.inl (q3.resolve_right (fun p => absurd h0 (by rw [p.1.1]; decide)))⟩
    · refine Or.inr ⟨h0, hm, ?_⟩
      exact ho.of rfl rfl rfl (by omega)
/-- a hidden context is dropped -/
theorem Q2.drop {s : wSl} (h : Q2 nt N M w ba pf rf lf c hp (s :: H) K u o V lm lv x g) : Q2 nt N M w ba pf rf lf c hp H K u o V lm lv x g := by
  obtain ⟨hlm, he, ⟨s1, s2, s3, s4, s5, s6, s7, s8, s9⟩, hX⟩ := h
  have mem : ∀ t : wSl, t ∈ H ++ V → t ∈ (s :: H) ++ V := fun t ht => List.mem_cons_of_mem _ ht
  refine ⟨hlm, he, ⟨s1, s2, s3, s4, s5, s6, (List.pairwise_cons.mp s7).2, fun t ht => s8 t (mem t ht), s9⟩, ?_⟩
  rcases hX with ⟨h0, q, a1, a2, a3, a4, n, ps, b1, b2, b3, b4⟩ | ⟨h0, hm, ho⟩
  · exact Or.inl ⟨h0, q, a1, a2, a3, fun t ht => a4 t (mem t ht), n, ps, b1, b2, fun t ht => b3 t (mem t ht), fun a b ha hb => b4 a b (mem a ha) (mem b hb)⟩
  · exact Or.inr ⟨h0, hm, ho⟩
end
