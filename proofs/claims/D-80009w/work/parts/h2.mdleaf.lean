/-! single codes of CodeWriterModel -/
def sp_wide (t : Int32) : Bool := decide (t = 2) || decide (t = 4)
def sp_pl (t : Int32) : Int32 := if t = 0 then 0 else if sp_wide t = true then 2 else 1
theorem sX1_placesOf {d : Nat} (hd : 1 ≤ d) (t : Int32) (x : mj_X) : kX1 d 25 [.int t] x = some (some (.int (sp_pl t)), x) := by
  obtain ⟨d, rfl⟩ : ∃ c, d = c + 1 := ⟨d - 1, by omega⟩
  rw [eX1_placesOf]; unfold sp_pl sp_wide
  by_cases h0 : t = 0 <;> by_cases h1 : t = 2 <;> by_cases h2 : t = 4 <;> simp [h0, h1, h2]
theorem sp_pl_n {t : Nat} (ht : t ≤ 8) : sp_pl (nI t) = nI (w_tl t).length := by
  have : t = 0 ∨ t = 1 ∨ t = 2 ∨ t = 3 ∨ t = 4 ∨ t = 5 ∨ t = 6 ∨ t = 7 ∨ t = 8 := by omega
  rcases this with rfl | rfl | rfl | rfl | rfl | rfl | rfl | rfl | rfl <;> rfl
theorem sX1_letterOf {d : Nat} (hd : 1 ≤ d) {t : Nat} (h1 : 1 ≤ t) (h8 : t ≤ 8) (x : mj_X) : kX1 d 59 [.int (nI t)] x = some (some (.int (nI (w_ltr t))), x) := by
  obtain ⟨d, rfl⟩ : ∃ c, d = c + 1 := ⟨d - 1, by omega⟩
  rw [eX1_letterOf]
  have : t = 1 ∨ t = 2 ∨ t = 3 ∨ t = 4 ∨ t = 5 ∨ t = 6 ∨ t = 7 ∨ t = 8 := by omega
  rcases this with rfl | rfl | rfl | rfl | rfl | rfl | rfl | rfl <;> rfl
theorem nI_st {n off on : Nat} (h : off ≤ n) : nI n + (nI on - nI off) = nI (on + (n - off)) := by
  obtain ⟨k, rfl⟩ : ∃ k, n = off + k := ⟨n - off, by omega⟩
  rw [← nI_add, show off + k - off = k by omega, ← nI_add]
  rw [Int32.add_comm (nI on) (nI k), Int32.add_comm (nI off) (nI k), Int32.add_assoc, Int32.add_comm (nI off) (nI on - nI off), Int32.sub_add_cancel]
section
variable {nt : sp_NT} {N M : Nat} {w : Bool} {ba pf rf lf c : Nat} {lm : Nat → Nat} {lv : Nat → Bool} {x : mj_X} {g : wG}
/-- one byte, as an item of S -/
theorem m_e1 {d : Nat} (hd : 3 ≤ d) {i : wI} {off : Nat} {on : List Nat} {cc a2 a3 : Int32} (h : Q1 nt N M w ba pf rf lf c lm lv x g) (hok : g_ok (w_em i off on g)) (h2 : a2 = nI off) (h3 : a3 = nI on.length) (hi : w_in w i cc []) : J1 nt N M w ba pf rf lf c (kX1 d 42 [.ref 0, .int cc, .int a2, .int a3] x) x lm lv g (w_em i off on g) := by
  subst h2; subst h3
  refine w_em_J hok (fun _ => h) (fun ho hs => m_i1 hd h ho (fun q => ?_) hi)
  rw [nI_st (hs q), List.length_append, List.length_drop]
theorem m_e2 {d : Nat} (hd : 3 ≤ d) {i : wI} {off : Nat} {on : List Nat} {cc a2 a3 v : Int32} (h : Q1 nt N M w ba pf rf lf c lm lv x g) (hok : g_ok (w_em i off on g)) (h2 : a2 = nI off) (h3 : a3 = nI on.length) (hi : w_in w i cc [o8 v]) : J1 nt N M w ba pf rf lf c (mj_rV (kX1 d 42 [.ref 0, .int cc, .int a2, .int a3] x) fun x1 => mj_rV (kX1 d 49 [.ref 0, .int v, .int (1 : Int32)] x1) fun x2 => some (none, x2)) x lm lv g (w_em i off on g) := by
  subst h2; subst h3
  refine w_em_J hok (fun _ => h) (fun ho hs => m_i2 hd h ho (fun q => ?_) hi)
  rw [nI_st (hs q), List.length_append, List.length_drop]
theorem m_e3 {d : Nat} (hd : 3 ≤ d) {i : wI} {off : Nat} {on : List Nat} {cc a2 a3 v : Int32} (h : Q1 nt N M w ba pf rf lf c lm lv x g) (hok : g_ok (w_em i off on g)) (h2 : a2 = nI off) (h3 : a3 = nI on.length) (hi : w_in w i cc (o16 v)) : J1 nt N M w ba pf rf lf c (mj_rV (kX1 d 42 [.ref 0, .int cc, .int a2, .int a3] x) fun x1 => mj_rV (kX1 d 49 [.ref 0, .int v, .int (2 : Int32)] x1) fun x2 => some (none, x2)) x lm lv g (w_em i off on g) := by
  subst h2; subst h3
  refine w_em_J hok (fun _ => h) (fun ho hs => m_i3 hd h ho (fun q => ?_) hi)
  rw [nI_st (hs q), List.length_append, List.length_drop]
/-! loads and stores -/
theorem w_in_loc1 {tag far near t p : Nat} (hp : p ≤ 3) (he : ∀ q, w_enc w w_z q (tag, t, p, 0, []) = w_loc far near t p) (hf : ∀ q r, w_fx w q (tag, t, p, 0, []) r = r) : w_in w (tag, t, p, 0, []) (nI (near + 4 * w_ltr t + p)) [] := ⟨fun q => by rw [he]; unfold w_loc; rw [if_pos hp], hf⟩
theorem w_in_loc2 {tag far near t p : Nat} (hp : ¬ p ≤ 3) (h2 : p < 256) (he : ∀ q, w_enc w w_z q (tag, t, p, 0, []) = w_loc far near t p) (hf : ∀ q r, w_fx w q (tag, t, p, 0, []) r = r) : w_in w (tag, t, p, 0, []) (nI (far + w_ltr t)) [o8 (nI p)] := ⟨fun q => by rw [he]; unfold w_loc; rw [if_neg hp, if_pos h2], hf⟩
/-- a load or a store, whatever the frame behind it -/
theorem m_loc {d : Nat} (hd : 4 ≤ d) {tag far near t p : Nat} {F : wF} {a5 a6 : Int32} (h : Q1 nt N M w ba pf rf lf c lm lv x g) (hok : g_ok (w_es (tag, t, p, 0, []) F g)) (h1 : 1 ≤ t) (h8 : t ≤ 8) (hp : p < 256) (hs : w_q g = false → nI (g_st g).length + (a6 - a5) = nI F.2.length) (he : ∀ q, w_enc w w_z q (tag, t, p, 0, []) = w_loc far near t p) (hf : ∀ q r, w_fx w q (tag, t, p, 0, []) r = r) :
    J1 nt N M w ba pf rf lf c (kX1 d 58 [.ref 0, .int (nI p), .int (nI far), .int (nI near), .int (nI t), .int a5, .int a6] x) x lm lv g (w_es (tag, t, p, 0, []) F g) := by
  obtain ⟨d, rfl⟩ : ∃ c, d = c + 1 := ⟨d - 1, by omega⟩
  rw [eX1_local]
  by_cases q : p ≤ 3
  · rw [if_neg (show ¬ (3 : Int32) < nI p from nI_nlt (a := 3) (b := p) (by omega) (by omega)), sX1_letterOf (by omega) h1 h8, mj_rI_k]
    rw [show (nI near + (4 : Int32) * nI (w_ltr t)) + nI p = nI (near + 4 * w_ltr t + p) by rw [show (4 : Int32) = nI 4 from rfl, nI_mul, nI_add, nI_add]]
    exact J1.end_ (m_i1 (by omega) h hok hs (w_in_loc1 q he hf))
  · rw [if_pos (show (3 : Int32) < nI p from nI_lt (a := 3) (b := p) (by omega) (by omega)), if_neg (show ¬ (256 : Int32) ≤ nI p from nI_ge (a := p) (b := 256) (by omega) (by omega)), sX1_letterOf (by omega) h1 h8, mj_rI_k, nI_add]
    exact m_i2 (by omega) h hok hs (w_in_loc2 q hp he hf)
theorem m_ld {d : Nat} (hd : 5 ≤ d) {t p : Nat} {on : List Nat} (h : Q1 nt N M w ba pf rf lf c lm lv x g) (hok : g_ok (w_ld t p on g)) (h1 : 1 ≤ t) (h8 : t ≤ 8) (hp : p < 256) (hon : on.length = (w_tl t).length) : J1 nt N M w ba pf rf lf c (kX1 d 57 [.ref 0, .int (nI p), .int (nI t)] x) x lm lv g (w_ld t p on g) := by
  obtain ⟨d, rfl⟩ : ∃ c, d = c + 1 := ⟨d - 1, by omega⟩
  rw [eX1_load, sX1_placesOf (by omega), mj_rI_k, sp_pl_n h8]
  refine J1.end_ (w_em_J hok (fun _ => h) (fun ho hs => m_loc (far := 21) (near := 26) (by omega) h ho h1 h8 hp (fun q => ?_) (fun _ => rfl) (fun _ _ => rfl)))
  rw [show (0 : Int32) = nI 0 from rfl, nI_st (Nat.zero_le _), List.length_append, hon]; rfl
theorem m_st {d : Nat} (hd : 5 ≤ d) {t p : Nat} (h : Q1 nt N M w ba pf rf lf c lm lv x g) (hok : g_ok (w_st t p g)) (h1 : 1 ≤ t) (h8 : t ≤ 8) (hp : p < 256) : J1 nt N M w ba pf rf lf c (kX1 d 71 [.ref 0, .int (nI p), .int (nI t)] x) x lm lv g (w_st t p g) := by
  obtain ⟨d, rfl⟩ : ∃ c, d = c + 1 := ⟨d - 1, by omega⟩
  rw [eX1_store, sX1_placesOf (by omega), mj_rI_k, sp_pl_n h8]
  refine J1.end_ (w_em_J hok (fun _ => h) (fun ho hs => m_loc (far := 54) (near := 59) (by omega) h ho h1 h8 hp (fun q => ?_) (fun _ => rfl) (fun _ _ => rfl)))
  rw [show (0 : Int32) = nI 0 from rfl, nI_st (hs q), List.nil_append, List.length_drop, Nat.zero_add]
end
