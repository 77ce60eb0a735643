/-! labels of CodeWriterModel -/
theorem z_l1.cons_of {α : Type} {f : Nat → α → Prop} {a : α} {r : List α} (h : z_l1 f (a :: r)) : f r.length a ∧ z_l1 f r := h
section
variable {nt : sp_NT} {N M : Nat} {w : Bool} {ba pf rf lf c : Nat} {lm : Nat → Nat} {lv : Nat → Bool} {x : mj_X} {g : wG}
theorem m1.mono {c' : Nat} (h : m1 ba lf c x) (hc : c ≤ c') : m1 ba lf c' x := by
  obtain ⟨h1, h2, h3, h4, h5, h6, h7, ⟨f, f1, f2⟩, h9⟩ := h
  exact ⟨h1, h2, h3, h4, h5, h6, h7, ⟨f, Nat.le_trans f1 hc, f2⟩, h9⟩
theorem z1.mono {c' : Nat} {B : List Int32} {F : List (Nat × Nat × Nat × Bool)} {its : List (wI × wF)} (h : z1 w ba pf lf c lm lv B F its x g) (hc : c ≤ c') : z1 w ba pf lf c' lm lv B F its x g := by
  obtain ⟨h1, h2, h3, ⟨fr, l1, l2, l3, l4⟩, h5⟩ := h
  exact ⟨h1, h2, h3, ⟨fr, l1, l2, Nat.le_trans l3 hc, l4⟩, h5⟩
theorem Q1.mono {c' : Nat} (h : Q1 nt N M w ba pf rf lf c lm lv x g) (hc : c ≤ c') : Q1 nt N M w ba pf rf lf c' lm lv x g := by
  obtain ⟨h1, h2, h3⟩ := h
  refine ⟨h1, h2, ?_⟩
  rcases h3 with ⟨h3, h4⟩ | ⟨h3, h4⟩
  · exact Or.inl ⟨h3, h4.mono hc⟩
  · exact Or.inr ⟨h3.mono hc, h4⟩
/-- a new label -/
theorem m_lb {d : Nat} (hd : 1 ≤ d) (hc4 : c + 1 ≤ 4000) {F : wF} (h : Q1 nt N M w ba pf rf lf (c + 1) lm lv x g) (hok : g_ok (w_lb F g)) :
    ∃ k x', kX1 d 45 [.ref 0] x = some (some (.int (nI k)), x') ∧ zfr (zw ba pf lf) x x' ∧ k < 300000 ∧ Q1 nt N M w ba pf rf lf c (fun l => if l = g_nl g then k else lm l) (fun l => if l = g_nl g then true else lv l) x' (w_lb F g) := by
  obtain ⟨d, rfl⟩ : ∃ c, d = c + 1 := ⟨d - 1, by omega⟩
  obtain ⟨he, hlm, h⟩ := h
  have hok : g_ok g ∧ F.2.length < 3370 ∧ ((w_by_ false w_z (g_it g)).length ≤ 65535 → g_us g < 45000 ∧ g_n1 g < 299000) := hok
  have lmk : ∀ k, k < 300000 → ∀ l, l < g_nl (w_lb F g) → (if l = g_nl g then k else lm l) < 300000 := by
    intro k hk l hl
    have hl : l < g_nl g + 1 := hl
    by_cases q : l = g_nl g
    · rw [if_pos q]; exact hk
    · rw [if_neg q]; exact hlm l (by omega)
  rw [eX1_label]
  rcases h with ⟨hov, h⟩ | ⟨h, ho⟩
  · obtain ⟨h1, h2, ⟨f1, f2, f3, f4⟩, ⟨fr, l1, l2, l3, l4, l5, l6, l7, l8, l9, l10, l11, l12, l13⟩, h5⟩ := h
    have hn1 : g_n1 g < 299000 := (hok.2.2 (Nat.le_trans (w_by_nw w_z w_z w _) h2.2.2.2.1)).2
    have fx : ∀ k, z_l1 (fun j q => x.1 52 j = nI q.1 ∧ x.1 53 j = nI q.2.1 ∧ x.1 54 j = nI (if q.2.2.1 = g_nl g then k else lm q.2.2.1) ∧ x.1 55 j = sp_b q.2.2.2) (w_fxs w w_z (g_it g)) := by
      intro k
      refine f4.mono (fun j q _ hq hh => ?_)
      have := f3 q hq
      rw [if_neg (by omega)]; exact hh
    have l4 : x.1 0 50 = nI (g_n1 g) := l4
    have l5 : g_n1 g ≤ 299999 := l5
    have l2 : fr.length = g_fm g := l2
    -- the rest, once the number is known
    have fin : ∀ (k n fm' : Nat) (fr' : List Nat) (y : mj_X), k < n → n ≤ 299999 → fr'.length = fm' → fr'.length ≤ c → (∀ f, f ∈ fr' → f < n ∧ f ≠ k ∧ f ∈ fr) → fr'.Nodup → g_n1 g ≤ n → (∀ l, l < g_nl g → lv l = true → lm l ≠ k) →
        y.1 0 50 = nI n → y.1 0 57 = nI fr'.length → z_l1 (fun j f => y.1 57 j = nI f) fr' → zfr (fun a b => decide (a = 0 ∧ (b = 50 ∨ b = 57))) x y → g_n1 (w_lb F g) = n → g_fm (w_lb F g) = fm' →
        ∃ x', rX1_label d (61, [some (.ref 0), some (.int (nI k))], [], y) = some (some (.int (nI k)), x') ∧ zfr (zw ba pf lf) x x' ∧ z1 w ba pf lf c (fun l => if l = g_nl g then k else lm l) (fun l => if l = g_nl g then true else lv l) (w_by_ w w_z (g_it g)) (w_fxs w w_z (g_it g)) (g_it g) x' (w_lb F g) := by
      intro k n fm' fr' y hk hn hf hfc hfr hnd hnn hne y50 y57 ya fy en ef
      rw [bX1_label_61, nI_clamp (by omega), mj_g_k (mj_in_nI (by omega) (by omega)), mj_g_k (mj_in_nI (by omega) (by omega))]
      have ey : ∀ a b, decide (a = 0 ∧ (b = 50 ∨ b = 57)) = false → y.1 a b = x.1 a b := fy.2
      refine ⟨_, rfl, ?_, ?_⟩
      · refine zfr.w (zfr.w ⟨fy.1, fun a b hz => ey a b ?_⟩ _ rfl) _ rfl
        rw [decide_eq_false_iff_not]
        rintro ⟨rfl, rfl | rfl⟩
        · simp [zw] at hz
        · simp [zw] at hz
      · have s0 : ∀ b, ¬ b = 50 → ¬ b = 57 → y.1 0 b = x.1 0 b := fun b q1 q2 => ey 0 b (by simp [q1, q2])
        have sa : ∀ a, ¬ a = 0 → y.1 a = x.1 a := fun a q => funext fun b => ey a b (by simp [q])
        show (y.1 0 34 = 0 ∧ z_b w ba (y.1 0 31) (y.1 0 32) (y.1 0 33) (y.1 19) _ ∧ z_f _ _ (y.1 0 55) (y.1 52) (y.1 53) (y.1 54) (y.1 55) _ ∧ z_l w c _ _ _ (y.1 0 50) (y.1 0 57) (upd (y.1 49) k (-1)) (upd (y.1 50) k (-1)) (y.1 57) _ ∧ z_p pf (y.1 0 42) (y.1 0 43) (y.1 20) (y.1 21) (y.1 22) (y.1 23) _ ∧ z_n w lf _ (y.1 0 45) (y.1 0 46) (y.1 25) _ _ ∧ z_s (y.1 0 35) (y.1 0 36) (y.1 0 37) _ _ _)
        rw [s0 34 (by decide) (by decide), s0 31 (by decide) (by decide), s0 32 (by decide) (by decide), s0 33 (by decide) (by decide), s0 55 (by decide) (by decide), s0 42 (by decide) (by decide), s0 43 (by decide) (by decide), s0 45 (by decide) (by decide), s0 46 (by decide) (by decide), s0 35 (by decide) (by decide), s0 36 (by decide) (by decide), s0 37 (by decide) (by decide), sa 19 (by decide), sa 52 (by decide), sa 53 (by decide), sa 54 (by decide), sa 55 (by decide), sa 49 (by decide), sa 50 (by decide), sa 20 (by decide), sa 21 (by decide), sa 22 (by decide), sa 23 (by decide), sa 25 (by decide)]
        refine ⟨h1, h2, ⟨f1, f2, fun q hq => Nat.lt_succ_of_lt (f3 q hq), fx k⟩, ⟨fr', y57, by rw [hf]; exact ef.symm, hfc, by rw [y50]; exact congrArg nI en.symm, by show g_n1 (w_lb F g) ≤ _; rw [en]; exact hn, ya, hnd, fun f hf => by show f < g_n1 (w_lb F g); rw [en]; exact (hfr f hf).1, fun l hl hv => ?_, fun l l' hl hl' hv hv' hh => ?_, fun l hl hg => ?_, fun l i hl hi => ?_, fun l hl => ?_⟩, h5⟩
        · show (if l = g_nl g then k else lm l) < g_n1 (w_lb F g) ∧ (if l = g_nl g then k else lm l) ∉ fr' ∧ upd (x.1 49) k (-1) (if l = g_nl g then k else lm l) = z_lo w (g_it g) (if l = g_nl g then none else g_lat g l) ∧ upd (x.1 50) k (-1) (if l = g_nl g then k else lm l) = (bif (if l = g_nl g then false else g_goes g l) then nI ((if l = g_nl g then F else g_lF g l)).2.length else -1)
          rw [en]
          have hl : l < g_nl g + 1 := hl
          by_cases q : l = g_nl g
          · simp only [if_pos q]
            exact ⟨hk, fun hh => (hfr k hh).2.1 rfl, pk_us, pk_us⟩
          · simp only [if_neg q]
            have hv : lv l = true := by have hv : (if l = g_nl g then true else lv l) = true := hv; rw [if_neg q] at hv; exact hv
            obtain ⟨p1, p2, p3, p4⟩ := l9 l (show l < g_nl g by omega) hv
            have p1 : lm l < g_n1 g := p1
            have ne := hne l (by omega) hv
            exact ⟨by omega, fun hh => p2 (hfr _ hh).2.2, by rw [pk_un ne]; exact p3, by rw [pk_un ne]; exact p4⟩
        · have hl : l < g_nl g + 1 := hl
          have hl' : l' < g_nl g + 1 := hl'
          have hh : (if l = g_nl g then k else lm l) = (if l' = g_nl g then k else lm l') := hh
          have hv : (if l = g_nl g then true else lv l) = true := hv
          have hv' : (if l' = g_nl g then true else lv l') = true := hv'
          by_cases q : l = g_nl g
          · by_cases q' : l' = g_nl g
            · omega
            · rw [if_pos q, if_neg q'] at hh; rw [if_neg q'] at hv'; exact absurd hh.symm (hne l' (by omega) hv')
          · by_cases q' : l' = g_nl g
            · rw [if_neg q, if_pos q'] at hh; rw [if_neg q] at hv; exact absurd hh (hne l (by omega) hv)
            · rw [if_neg q, if_neg q'] at hh; rw [if_neg q] at hv; rw [if_neg q'] at hv'; exact l10 l l' (show l < g_nl g by omega) (show l' < g_nl g by omega) hv hv' hh
        · have hl : l < g_nl g + 1 := hl
          have hg : (if l = g_nl g then false else g_goes g l) = true := hg
          show (if l = g_nl g then true else lv l) = true
          by_cases q : l = g_nl g
          · rw [if_pos q]
          · rw [if_neg q] at hg ⊢; exact l11 l (show l < g_nl g by omega) hg
        · have hl : l < g_nl g + 1 := hl
          have hi : (if l = g_nl g then none else g_lat g l) = some i := hi
          by_cases q : l = g_nl g
          · rw [if_pos q] at hi; simp at hi
          · rw [if_neg q] at hi; exact l12 l i (show l < g_nl g by omega) hi
        · have hl : l < g_nl g + 1 := hl
          show ((if l = g_nl g then F else g_lF g l)).2.length < 3370
          by_cases q : l = g_nl g
          · rw [if_pos q]; exact hok.2.1
          · rw [if_neg q]; exact l13 l (show l < g_nl g by omega)
    cases hfr : fr with
    | nil =>
      rw [hfr] at l1 l2 l8 l9
      rw [if_pos (by rw [l1]; decide), l4, if_neg (fun e => by have := (nI_eq (b := 300000) (by omega) (by omega)).mp e; omega), nI_1]
      obtain ⟨x', e, f, r⟩ := fin (g_n1 g) (g_n1 g + 1) 0 [] (mj_wI x 0 50 (nI (g_n1 g + 1))) (by omega) (by omega) rfl (by simp) (fun f hf => by simp at hf) List.nodup_nil (by omega) (fun l hl hv => by have := (l9 l hl hv).1; have : lm l < g_n1 g := this; omega) rfl l1 trivial
        (by refine ⟨rfl, fun a b hz => ?_⟩
            rw [mj_wI_1]
            by_cases q1 : a = 0
            · by_cases q2 : b = 50
              · subst q1; subst q2; simp at hz
              · rw [if_pos q1, if_neg q2]
            · rw [if_neg q1])
        (by show (if g_fm g = 0 then g_n1 g + 1 else g_n1 g) = _; rw [if_pos (by rw [← l2]; rfl)]) (by show g_fm g - 1 = 0; rw [← l2]; rfl)
      exact ⟨g_n1 g, x', e, f, by omega, he.fr f, lmk _ (by omega), Or.inl ⟨hov, r⟩⟩
    | cons f0 r0 =>
      rw [hfr] at l1 l2 l3 l6 l7 l8 l9
      have ln : (f0 :: r0).length = r0.length + 1 := rfl
      have hf0 : f0 < g_n1 g := l8 f0 (by simp)
      have hnd := List.nodup_cons.mp l7
      rw [if_neg (by rw [l1, ln]; exact nI_nle (by omega) (by simp at l3; omega)), l1, ln, nI_pred, nI_clamp (by simp at l3; omega), mj_g_k (mj_in_nI (by simp at l3; omega) (by omega)), l6.1]
      obtain ⟨x', e, f, r⟩ := fin f0 (g_n1 g) r0.length r0 (mj_wI x 0 57 (nI r0.length)) hf0 l5 rfl (by simp at l3; omega) (fun f hf => ⟨l8 f (by simp [hf]), fun q => hnd.1 (q ▸ hf), by rw [hfr]; simp [hf]⟩) hnd.2 (Nat.le_refl _) (fun l hl hv q => (l9 l hl hv).2.1 (by rw [q]; simp)) l4 rfl l6.2
        (by refine ⟨rfl, fun a b hz => ?_⟩
            rw [mj_wI_1]
            by_cases q1 : a = 0
            · by_cases q2 : b = 57
              · subst q1; subst q2; simp at hz
              · rw [if_pos q1, if_neg q2]
            · rw [if_neg q1])
        (by show (if g_fm g = 0 then g_n1 g + 1 else g_n1 g) = _; rw [if_neg (by rw [← l2]; simp)]) (by show g_fm g - 1 = _; rw [← l2]; simp)
      exact ⟨f0, x', e, f, by omega, he.fr f, lmk _ (by omega), Or.inl ⟨hov, r⟩⟩
  · have hm : wM g (w_lb F g) := (wM.rf g).lb F
    obtain ⟨h1, h2, h3, h4, h5, h6, ⟨n, n1, n2⟩, ⟨f, f1, f2, f3⟩, h9⟩ := h
    have tail : ∀ (k : Nat) (y : mj_X), k < 300000 → zfr (zw ba pf lf) x y → m1 ba lf c y → ∃ x', rX1_label d (61, [some (.ref 0), some (.int (nI k))], [], y) = some (some (.int (nI k)), x') ∧ zfr (zw ba pf lf) x x' ∧ m1 ba lf c x' := by
      intro k y hk fy hy
      rw [bX1_label_61, nI_clamp (by omega), mj_g_k (mj_in_nI (by omega) (by omega)), mj_g_k (mj_in_nI (by omega) (by omega))]
      exact ⟨_, rfl, (fy.w _ rfl).w _ rfl, hy⟩
    cases f with
    | zero =>
      rw [if_pos (by rw [f2]; decide)]
      by_cases q : n = 300000
      · rw [if_pos (by rw [n2, q]; rfl)]
        exact ⟨0, _, rfl, (zfr.rf _ x).w _ rfl, by omega, he.fr ((zfr.rf _ x).w _ rfl), lmk _ (by omega), Or.inr ⟨⟨rfl, h2, h3, h4, h5, h6, ⟨n, n1, n2⟩, ⟨0, Nat.zero_le _, f2, fun j hj => by omega⟩, h9⟩, ho.mono hm⟩⟩
      · rw [if_neg (fun e => q (by rw [n2] at e; exact (nI_eq (b := 300000) (by omega) (by omega)).mp e)), n2, nI_1]
        obtain ⟨x', e, f, r⟩ := tail n (mj_wI x 0 50 (nI (n + 1))) (by omega) ((zfr.rf _ x).w _ rfl) ⟨h1, h2, h3, h4, h5, h6, ⟨n + 1, by omega, rfl⟩, ⟨0, Nat.zero_le _, f2, fun j hj => by omega⟩, h9⟩
        exact ⟨n, x', e, f, by omega, he.fr f, lmk _ (by omega), Or.inr ⟨r, ho.mono hm⟩⟩
    | succ f =>
      obtain ⟨m, m1_, m2⟩ := f3 f (by omega)
      rw [if_neg (by rw [f2]; exact nI_nle (by omega) (by omega)), f2, nI_pred, nI_clamp (by omega), mj_g_k (mj_in_nI (by omega) (by omega)), m2]
      obtain ⟨x', e, ff, r⟩ := tail m (mj_wI x 0 57 (nI f)) m1_ ((zfr.rf _ x).w _ rfl) ⟨h1, h2, h3, h4, h5, h6, ⟨n, n1, n2⟩, ⟨f, by omega, rfl, fun j hj => f3 j (by omega)⟩, h9⟩
      exact ⟨m, x', e, ff, m1_, he.fr ff, lmk _ m1_, Or.inr ⟨r, ho.mono hm⟩⟩
/-- a label is put -/
theorem m_put {d : Nat} (hd : 1 ≤ d) {l : Nat} (h : Q1 nt N M w ba pf rf lf c lm lv x g) (hok : g_ok (w_put l g)) (hl : l < g_nl g) (hv : lv l = true) : J1 nt N M w ba pf rf lf c (kX1 d 51 [.ref 0, .int (nI (lm l))] x) x lm lv g (w_put l g) := by
  obtain ⟨d, rfl⟩ : ∃ c, d = c + 1 := ⟨d - 1, by omega⟩
  obtain ⟨he, hlm, h⟩ := h
  have hk := hlm l hl
  obtain ⟨u1, u2, u3, u4⟩ := w_put_lb l g
  have hpl : g_pl (w_put l g) = g_pl g := by unfold w_put; cases g_al g <;> cases g_goes g l <;> rfl
  have hit : g_it (w_put l g) = g_it g := by unfold w_put; cases g_al g <;> cases g_goes g l <;> rfl
  have he' : ∀ {y : mj_X}, zfr (zw ba pf lf) x y → z_env nt N M ba pf lf (g_pl (w_put l g)) y := by intro y f; rw [hpl]; exact he.fr f
  have hlm' : ∀ k, k < g_nl (w_put l g) → lm k < 300000 := by rw [u3]; exact hlm
  rw [eX1_put, nI_clamp (by omega), mj_g_k (mj_in_nI (by omega) (by omega)), mj_g_k (mj_in_nI (by omega) (by omega))]
  rcases h with ⟨hov, h⟩ | ⟨h, ho⟩
  · obtain ⟨h1, h2, h3, ⟨fr, l1, l2, l3, l4, l5, l6, l7, l8, l9, l10, l11, l12, l13⟩, h5, h6, ⟨s1, s2, s3, s4⟩⟩ := h
    obtain ⟨p1, p2, p3, p4⟩ := l9 l hl hv
    have h13 := l13 l hl
    -- the labels behind it
    have zl : ∀ {lb : wL}, lb.1 = g_nl g → (lb.2.1 = fun k => if k = l then some (g_it g).length else g_lat g k) → lb.2.2.1 = g_goes g → lb.2.2.2 = g.2.2.2.2.2.2.2.2.1.2.2.2 → z_l w c lm lv (g_it g) (x.1 0 50) (x.1 0 57) (upd (x.1 49) (lm l) (x.1 0 32)) (x.1 50) (x.1 57) lb := by
      intro lb e1 e2 e3 e4
      refine ⟨fr, l1, by rw [e4]; exact l2, l3, by rw [e4]; exact l4, by rw [e4]; exact l5, l6, l7, by rw [e4]; exact l8, fun k hk hkv => ?_, by rw [e1]; exact l10, by rw [e1, e3]; exact l11, fun k i hk hi => ?_, by rw [e1, e4]; exact l13⟩
      · rw [e1] at hk
        obtain ⟨q1, q2, q3, q4⟩ := l9 k hk hkv
        rw [e2, e3, e4]
        refine ⟨q1, q2, ?_, q4⟩
        show upd (x.1 49) (lm l) (x.1 0 32) (lm k) = z_lo w (g_it g) (if k = l then some (g_it g).length else g_lat g k)
        by_cases q : k = l
        · rw [if_pos q, q, pk_us, h2.2.2.1]
          show nI _ = nI (w_at w (g_it g) (g_it g).length)
          rw [w_at_len]
        · rw [if_neg q, pk_un (fun e => q (l10 k l hk hl hkv hv e))]; exact q3
      · rw [e1] at hk
        rw [e2] at hi
        have hi : (if k = l then some (g_it g).length else g_lat g k) = some i := hi
        by_cases q : k = l
        · rw [if_pos q] at hi; injection hi with hi; omega
        · rw [if_neg q] at hi; exact l12 k i hk hi
    cases ha : g_al g
    · rw [if_pos (by rw [s1, ha]; rfl), p4]
      cases hg : g_goes g l
      · rw [show (g.2.2.2.2.2.2.2.2.1.2.2.1 l) = false from hg, cond_false, if_pos (by decide)]
        have e : w_put l g = s_lb (g_nl g, (fun k => if k = l then some (g_it g).length else g_lat g k), g_goes g, g_lF g, g_lc g) g := by unfold w_put; rw [ha, hg]; rfl
        have f := (zfr.rf (zw ba pf lf) x).w (k := 49) (j := lm l) (x.1 0 32) rfl
        refine ⟨lm, lv, _, rfl, ⟨he' f, hlm', Or.inl ⟨by rw [u4]; exact hov, ?_⟩⟩, fun _ _ => ⟨rfl, rfl⟩, f⟩
        rw [e]
        exact ⟨h1, h2, h3, zl rfl rfl rfl rfl, h5, h6, ⟨s1, s2, s3, s4⟩⟩
      · rw [show (g.2.2.2.2.2.2.2.2.1.2.2.1 l) = true from hg, cond_true, if_neg (nI_pos (by omega)), mj_g_k (mj_in_nI (by omega) (by omega))]
        have e : w_put l g = s_al true (s_fr (g_lF g l) (s_lb (g_nl g, (fun k => if k = l then some (g_it g).length else g_lat g k), g_goes g, g_lF g, g_lc g) g)) := by unfold w_put; rw [ha, hg]; rfl
        have f := (((zfr.rf (zw ba pf lf) x).w (k := 49) (j := lm l) (x.1 0 32) rfl).w (k := 0) (j := 35) 1 rfl).w (k := 0) (j := 36) (nI (g_lF g l).2.length) rfl
        refine ⟨lm, lv, _, rfl, ⟨he' f, hlm', Or.inl ⟨by rw [u4]; exact hov, ?_⟩⟩, fun _ _ => ⟨rfl, rfl⟩, f⟩
        rw [e]
        exact ⟨h1, h2, h3, zl rfl rfl rfl rfl, h5, h6, ⟨rfl, fun _ => rfl, s3, s4⟩⟩
    · rw [if_neg (by rw [s1, ha]; decide)]
      have e : w_put l g = s_ok (w_fit (g_L g, g_st g) (g_lF g l)) (s_fr (g_lF g l) (s_lb (g_nl g, (fun k => if k = l then some (g_it g).length else g_lat g k), g_goes g, g_lF g, g_lc g) g)) := by unfold w_put; rw [ha]; rfl
      have hfit : w_fit (g_L g, g_st g) (g_lF g l) := by rw [e] at hok; exact hok.2
      have f := (zfr.rf (zw ba pf lf) x).w (k := 49) (j := lm l) (x.1 0 32) rfl
      refine ⟨lm, lv, _, rfl, ⟨he' f, hlm', Or.inl ⟨by rw [u4]; exact hov, ?_⟩⟩, fun _ _ => ⟨rfl, rfl⟩, f⟩
      rw [e]
      refine ⟨h1, h2, h3, zl rfl rfl rfl rfl, h5, h6, ⟨s1, fun _ => ?_, s3, s4⟩⟩
      show x.1 0 36 = nI (g_lF g l).2.length
      rw [← hfit.2]; exact s2 ha
  · have hm : wM g (w_put l g) := (wM.rf g).put l
    obtain ⟨b, hb⟩ := h.2.2.2.2.1
    by_cases q0 : x.1 0 35 = 0
    · rw [if_pos q0]
      by_cases q1 : x.1 50 (lm l) < 0
      · rw [if_pos q1]
        exact ⟨lm, lv, _, rfl, ⟨he' ((zfr.rf _ x).w _ rfl), hlm', Or.inr ⟨h, ho.mono hm⟩⟩, fun _ _ => ⟨rfl, rfl⟩, (zfr.rf _ x).w _ rfl⟩
      · rw [if_neg q1, mj_g_k (mj_in_nI (by omega) (by omega))]
        have f := (((zfr.rf (zw ba pf lf) x).w (k := 49) (j := lm l) (x.1 0 32) rfl).w (k := 0) (j := 35) 1 rfl).w (k := 0) (j := 36) (x.1 50 (lm l)) rfl
        obtain ⟨a1, a2, a3, a4, a5, a6⟩ := h
        exact ⟨lm, lv, _, rfl, ⟨he' f, hlm', Or.inr ⟨⟨a1, a2, a3, a4, ⟨true, rfl⟩, a6⟩, ho.mono hm⟩⟩, fun _ _ => ⟨rfl, rfl⟩, f⟩
    · rw [if_neg q0]
      exact ⟨lm, lv, _, rfl, ⟨he' ((zfr.rf _ x).w _ rfl), hlm', Or.inr ⟨h, ho.mono hm⟩⟩, fun _ _ => ⟨rfl, rfl⟩, (zfr.rf _ x).w _ rfl⟩
/-- one comes to a label -/
theorem m_come {d : Nat} (hd : 1 ≤ d) {l : Nat} (h : Q1 nt N M w ba pf rf lf c lm lv x g) (hal : g_al g = true ∨ g_ov g = true) (hok : g_ok (w_come l g)) (hl : l < g_nl g) (hv : lv l = true) : J1 nt N M w ba pf rf lf c (kX1 d 50 [.ref 0, .int (nI (lm l))] x) x lm lv g (w_come l g) := by
  obtain ⟨d, rfl⟩ : ∃ c, d = c + 1 := ⟨d - 1, by omega⟩
  obtain ⟨he, hlm, h⟩ := h
  have hk := hlm l hl
  rw [eX1_come, nI_clamp (by omega), mj_g_k (mj_in_nI (by omega) (by omega))]
  have f := (zfr.rf (zw ba pf lf) x).w (k := 50) (j := lm l) (x.1 0 36) rfl
  refine ⟨lm, lv, _, rfl, ⟨he.fr f, hlm, ?_⟩, fun _ _ => ⟨rfl, rfl⟩, f⟩
  rcases h with ⟨hov, h⟩ | ⟨h, ho⟩
  · left
    have ha : g_al g = true := hal.resolve_right (by rw [hov]; simp)
    obtain ⟨h1, h2, h3, ⟨fr, l1, l2, l3, l4, l5, l6, l7, l8, l9, l10, l11, l12, l13⟩, h5, h6, ⟨s1, s2, s3, s4⟩⟩ := h
    have hfit : l < g_nl g ∧ w_fit (g_L g, g_st g) (g_lF g l) := hok.2
    refine ⟨hov, h1, h2, h3, ⟨fr, l1, l2, l3, l4, l5, l6, l7, l8, fun k hk hkv => ?_, l10, fun k hk hg => ?_, l12, l13⟩, h5, h6, ⟨s1, s2, s3, s4⟩⟩
    · obtain ⟨q1, q2, q3, q4⟩ := l9 k hk hkv
      refine ⟨q1, q2, q3, ?_⟩
      show upd (x.1 50) (lm l) (x.1 0 36) (lm k) = (bif (if k = l then true else g_goes g k) then nI (g_lF g k).2.length else -1)
      by_cases q : k = l
      · rw [if_pos q, q, pk_us, s2 ha]
        show nI _ = nI _
        rw [← hfit.2.2]
      · rw [if_neg q, pk_un (fun e => q (l10 k l hk hl hkv hv e))]; exact q4
    · have hg : (if k = l then true else g_goes g k) = true := hg
      by_cases q : k = l
      · rw [q]; exact hv
      · rw [if_neg q] at hg; exact l11 k hk hg
  · exact Or.inr ⟨h, ho.mono ((wM.rf g).come l)⟩
end
