/-! CodeWriter.isScoped against sp_sc -/
theorem cw_s1 {x : mj_X} {nt : sp_NT} {N D W f : Nat} {n : Int32} (hx : cw_T x nt N) (hn : sp_nd N n = true) (hD : 2 ≤ D) (e : nt 0 n.toNatClampNeg = 1)  (hw : 0 ≤ W) : sp_SC kX0 (cw_sc x) N (D + 2) 28 n W (sp_sc nt (f + 1) n) := by
  intro d hd s hs hW
  obtain ⟨d, rfl⟩ : ∃ c, d = c + 1 := ⟨d - 1, by omega⟩
  have hN := hx.2.1
  have hg := fun r => mj_g_k (sp_nd_in hN hn (Nat.le_refl _)) r
  have hT := cw_sc_T hx s
  have eg : sp_sc nt (f + 1) n s = (true, s) := by rw [sp_sc_s nt f n s, e]; rfl
  rw [wX0_isScoped_0_1 d n (cw_sc x s) (by rw [hT.2.2.1]; exact e), hg, hg, hg, hT.2.2.2.1, hT.2.2.2.2.1, bX0_isScoped_376, eg]
  exact ⟨rfl, .rf hs _ _⟩
theorem cw_s2 {x : mj_X} {nt : sp_NT} {N D W f : Nat} {n : Int32} (hx : cw_T x nt N) (hn : sp_nd N n = true) (hD : 2 ≤ D) (e : nt 0 n.toNatClampNeg = 2)  (hw : 0 ≤ W) : sp_SC kX0 (cw_sc x) N (D + 2) 28 n W (sp_sc nt (f + 1) n) := by
  intro d hd s hs hW
  obtain ⟨d, rfl⟩ : ∃ c, d = c + 1 := ⟨d - 1, by omega⟩
  have hN := hx.2.1
  have hg := fun r => mj_g_k (sp_nd_in hN hn (Nat.le_refl _)) r
  have hT := cw_sc_T hx s
  have eg : sp_sc nt (f + 1) n s = (true, s) := by rw [sp_sc_s nt f n s, e]; rfl
  rw [wX0_isScoped_0_2 d n (cw_sc x s) (by rw [hT.2.2.1]; exact e), hg, hg, hg, hT.2.2.2.1, hT.2.2.2.2.1, bX0_isScoped_376, eg]
  exact ⟨rfl, .rf hs _ _⟩
theorem cw_s3 {x : mj_X} {nt : sp_NT} {N D W f : Nat} {n : Int32} (hx : cw_T x nt N) (hn : sp_nd N n = true) (hD : 2 ≤ D) (e : nt 0 n.toNatClampNeg = 3)  (hw : 0 ≤ W) : sp_SC kX0 (cw_sc x) N (D + 2) 28 n W (sp_sc nt (f + 1) n) := by
  intro d hd s hs hW
  obtain ⟨d, rfl⟩ : ∃ c, d = c + 1 := ⟨d - 1, by omega⟩
  have hN := hx.2.1
  have hg := fun r => mj_g_k (sp_nd_in hN hn (Nat.le_refl _)) r
  have hT := cw_sc_T hx s
  have eg : sp_sc nt (f + 1) n s = (true, s) := by rw [sp_sc_s nt f n s, e]; rfl
  rw [wX0_isScoped_0_3 d n (cw_sc x s) (by rw [hT.2.2.1]; exact e), hg, hg, hg, hT.2.2.2.1, hT.2.2.2.2.1, bX0_isScoped_376, eg]
  exact ⟨rfl, .rf hs _ _⟩
theorem cw_s4 {x : mj_X} {nt : sp_NT} {N D W f : Nat} {n : Int32} (hx : cw_T x nt N) (hn : sp_nd N n = true) (hD : 2 ≤ D) (e : nt 0 n.toNatClampNeg = 4)  (hw : 0 ≤ W) : sp_SC kX0 (cw_sc x) N (D + 2) 28 n W (sp_sc nt (f + 1) n) := by
  intro d hd s hs hW
  obtain ⟨d, rfl⟩ : ∃ c, d = c + 1 := ⟨d - 1, by omega⟩
  have hN := hx.2.1
  have hg := fun r => mj_g_k (sp_nd_in hN hn (Nat.le_refl _)) r
  have hT := cw_sc_T hx s
  have eg : sp_sc nt (f + 1) n s = (true, s) := by rw [sp_sc_s nt f n s, e]; rfl
  rw [wX0_isScoped_0_4 d n (cw_sc x s) (by rw [hT.2.2.1]; exact e), hg, hg, hg, hT.2.2.2.1, hT.2.2.2.2.1, bX0_isScoped_376, eg]
  exact ⟨rfl, .rf hs _ _⟩
theorem cw_s51 {x : mj_X} {nt : sp_NT} {N D W f : Nat} {n : Int32} (hx : cw_T x nt N) (hn : sp_nd N n = true) (hD : 2 ≤ D) (e : nt 0 n.toNatClampNeg = 51)  (hw : 0 ≤ W) : sp_SC kX0 (cw_sc x) N (D + 2) 28 n W (sp_sc nt (f + 1) n) := by
  intro d hd s hs hW
  obtain ⟨d, rfl⟩ : ∃ c, d = c + 1 := ⟨d - 1, by omega⟩
  have hN := hx.2.1
  have hg := fun r => mj_g_k (sp_nd_in hN hn (Nat.le_refl _)) r
  have hT := cw_sc_T hx s
  have eg : sp_sc nt (f + 1) n s = (true, s) := by rw [sp_sc_s nt f n s, e]; rfl
  rw [wX0_isScoped_0_51 d n (cw_sc x s) (by rw [hT.2.2.1]; exact e), hg, hg, hg, hT.2.2.2.1, hT.2.2.2.2.1, bX0_isScoped_376, eg]
  exact ⟨rfl, .rf hs _ _⟩
theorem cw_s71 {x : mj_X} {nt : sp_NT} {N D W f : Nat} {n : Int32} (hx : cw_T x nt N) (hn : sp_nd N n = true) (hD : 2 ≤ D) (e : nt 0 n.toNatClampNeg = 71)  (hw : 0 ≤ W) : sp_SC kX0 (cw_sc x) N (D + 2) 28 n W (sp_sc nt (f + 1) n) := by
  intro d hd s hs hW
  obtain ⟨d, rfl⟩ : ∃ c, d = c + 1 := ⟨d - 1, by omega⟩
  have hN := hx.2.1
  have hg := fun r => mj_g_k (sp_nd_in hN hn (Nat.le_refl _)) r
  have hT := cw_sc_T hx s
  have eg : sp_sc nt (f + 1) n s = (true, s) := by rw [sp_sc_s nt f n s, e]; rfl
  rw [wX0_isScoped_0_71 d n (cw_sc x s) (by rw [hT.2.2.1]; exact e), hg, hg, hg, hT.2.2.2.1, hT.2.2.2.2.1, bX0_isScoped_578, eg]
  exact ⟨rfl, .rf hs _ _⟩
theorem cw_s72 {x : mj_X} {nt : sp_NT} {N D W f : Nat} {n : Int32} (hx : cw_T x nt N) (hn : sp_nd N n = true) (hD : 2 ≤ D) (e : nt 0 n.toNatClampNeg = 72)  (hw : 0 ≤ W) : sp_SC kX0 (cw_sc x) N (D + 2) 28 n W (sp_sc nt (f + 1) n) := by
  intro d hd s hs hW
  obtain ⟨d, rfl⟩ : ∃ c, d = c + 1 := ⟨d - 1, by omega⟩
  have hN := hx.2.1
  have hg := fun r => mj_g_k (sp_nd_in hN hn (Nat.le_refl _)) r
  have hT := cw_sc_T hx s
  have eg : sp_sc nt (f + 1) n s = (true, s) := by rw [sp_sc_s nt f n s, e]; rfl
  rw [wX0_isScoped_0_72 d n (cw_sc x s) (by rw [hT.2.2.1]; exact e), hg, hg, hg, hT.2.2.2.1, hT.2.2.2.2.1, bX0_isScoped_578, eg]
  exact ⟨rfl, .rf hs _ _⟩
theorem cw_s6 {x : mj_X} {nt : sp_NT} {N D W f : Nat} {n : Int32} (hx : cw_T x nt N) (hn : sp_nd N n = true) (hD : 2 ≤ D) (e : nt 0 n.toNatClampNeg = 6) (hV : sp_nd N (nt 1 n.toNatClampNeg) = true) (hw : 0 ≤ W) : sp_SC kX0 (cw_sc x) N (D + 2) 28 n W (sp_sc nt (f + 1) n) := by
  intro d hd s hs hW
  obtain ⟨d, rfl⟩ : ∃ c, d = c + 1 := ⟨d - 1, by omega⟩
  have hN := hx.2.1
  have hg := fun r => mj_g_k (sp_nd_in hN hn (Nat.le_refl _)) r
  have hT := cw_sc_T hx s
  have eg : sp_sc nt (f + 1) n s = (s.2.1 (nt 1 n.toNatClampNeg).toNatClampNeg, s) := by rw [sp_sc_s nt f n s, e]; rfl
  rw [wX0_isScoped_0_6 d n (cw_sc x s) (by rw [hT.2.2.1]; exact e), hg, hg, hg, hT.2.2.2.1, hT.2.2.2.2.1, bX0_isScoped_378, eg]
  rw [mj_g_k (sp_nd_in hN hV (Nat.le_refl _)), cw_sc_I, mj_gb_b]
  exact ⟨rfl, .rf hs _ _⟩
theorem cw_s7 {x : mj_X} {nt : sp_NT} {N D W f wb : Nat} {n : Int32} (hx : cw_T x nt N) (hn : sp_nd N n = true) (hD : 2 ≤ D) (e : nt 0 n.toNatClampNeg = 7) (hV : sp_nd N (nt 1 n.toNatClampNeg) = true) (hB : sp_SC kX0 (cw_sc x) N D 28 (nt 2 n.toNatClampNeg) wb (sp_sc nt f (nt 2 n.toNatClampNeg))) (hw : wb ≤ W) : sp_SC kX0 (cw_sc x) N (D + 2) 28 n W (sp_sc nt (f + 1) n) := by
  intro d hd s hs hW
  obtain ⟨d, rfl⟩ : ∃ c, d = c + 1 := ⟨d - 1, by omega⟩
  have hN := hx.2.1
  have hg := fun r => mj_g_k (sp_nd_in hN hn (Nat.le_refl _)) r
  have hT := cw_sc_T hx s
  have eg : sp_sc nt (f + 1) n s = sp_th (s.2.1 (nt 1 n.toNatClampNeg).toNatClampNeg, s) (sp_sc nt f (nt 2 n.toNatClampNeg)) := by rw [sp_sc_s nt f n s, e]; rfl
  rw [wX0_isScoped_0_7 d n (cw_sc x s) (by rw [hT.2.2.1]; exact e), hg, hg, hg, hT.2.2.2.1, hT.2.2.2.2.1, bX0_isScoped_385, eg]
  rw [mj_g_k (sp_nd_in hN hV (Nat.le_refl _)), cw_sc_I, sp_ib]
  obtain ⟨b1, b2⟩ := hB d (by omega) s hs (by omega)
  unfold sp_th
  cases q : s.2.1 (nt 1 n.toNatClampNeg).toNatClampNeg
  · rw [if_pos rfl]; exact ⟨rfl, .rf hs _ _⟩
  · rw [if_neg (by decide), b1]; exact ⟨sp_ret (cw_sc x) _, b2.mono hw⟩
theorem cw_s22 {x : mj_X} {nt : sp_NT} {N D W f wb : Nat} {n : Int32} (hx : cw_T x nt N) (hn : sp_nd N n = true) (hD : 2 ≤ D) (e : nt 0 n.toNatClampNeg = 22) (hB : sp_SC kX0 (cw_sc x) N D 28 (nt 2 n.toNatClampNeg) wb (sp_sc nt f (nt 2 n.toNatClampNeg))) (hw : wb ≤ W) : sp_SC kX0 (cw_sc x) N (D + 2) 28 n W (sp_sc nt (f + 1) n) := by
  intro d hd s hs hW
  obtain ⟨d, rfl⟩ : ∃ c, d = c + 1 := ⟨d - 1, by omega⟩
  have hN := hx.2.1
  have hg := fun r => mj_g_k (sp_nd_in hN hn (Nat.le_refl _)) r
  have hT := cw_sc_T hx s
  have eg : sp_sc nt (f + 1) n s = sp_sc nt f (nt 2 n.toNatClampNeg) s := by rw [sp_sc_s nt f n s, e]; rfl
  rw [wX0_isScoped_0_22 d n (cw_sc x s) (by rw [hT.2.2.1]; exact e), hg, hg, hg, hT.2.2.2.1, hT.2.2.2.2.1, bX0_isScoped_408, eg]
  obtain ⟨b1, b2⟩ := hB d (by omega) s hs (by omega)
  rw [b1]; exact ⟨sp_retb (cw_sc x) _, b2.mono hw⟩
theorem cw_s46 {x : mj_X} {nt : sp_NT} {N D W f wb : Nat} {n : Int32} (hx : cw_T x nt N) (hn : sp_nd N n = true) (hD : 2 ≤ D) (e : nt 0 n.toNatClampNeg = 46) (hB : sp_SC kX0 (cw_sc x) N D 28 (nt 2 n.toNatClampNeg) wb (sp_sc nt f (nt 2 n.toNatClampNeg))) (hw : wb ≤ W) : sp_SC kX0 (cw_sc x) N (D + 2) 28 n W (sp_sc nt (f + 1) n) := by
  intro d hd s hs hW
  obtain ⟨d, rfl⟩ : ∃ c, d = c + 1 := ⟨d - 1, by omega⟩
  have hN := hx.2.1
  have hg := fun r => mj_g_k (sp_nd_in hN hn (Nat.le_refl _)) r
  have hT := cw_sc_T hx s
  have eg : sp_sc nt (f + 1) n s = sp_sc nt f (nt 2 n.toNatClampNeg) s := by rw [sp_sc_s nt f n s, e]; rfl
  rw [wX0_isScoped_0_46 d n (cw_sc x s) (by rw [hT.2.2.1]; exact e), hg, hg, hg, hT.2.2.2.1, hT.2.2.2.2.1, bX0_isScoped_408, eg]
  obtain ⟨b1, b2⟩ := hB d (by omega) s hs (by omega)
  rw [b1]; exact ⟨sp_retb (cw_sc x) _, b2.mono hw⟩
theorem cw_s85 {x : mj_X} {nt : sp_NT} {N D W f wb : Nat} {n : Int32} (hx : cw_T x nt N) (hn : sp_nd N n = true) (hD : 2 ≤ D) (e : nt 0 n.toNatClampNeg = 85) (hB : sp_SC kX0 (cw_sc x) N D 28 (nt 2 n.toNatClampNeg) wb (sp_sc nt f (nt 2 n.toNatClampNeg))) (hw : wb ≤ W) : sp_SC kX0 (cw_sc x) N (D + 2) 28 n W (sp_sc nt (f + 1) n) := by
  intro d hd s hs hW
  obtain ⟨d, rfl⟩ : ∃ c, d = c + 1 := ⟨d - 1, by omega⟩
  have hN := hx.2.1
  have hg := fun r => mj_g_k (sp_nd_in hN hn (Nat.le_refl _)) r
  have hT := cw_sc_T hx s
  have eg : sp_sc nt (f + 1) n s = sp_sc nt f (nt 2 n.toNatClampNeg) s := by rw [sp_sc_s nt f n s, e]; rfl
  rw [wX0_isScoped_0_85 d n (cw_sc x s) (by rw [hT.2.2.1]; exact e), hg, hg, hg, hT.2.2.2.1, hT.2.2.2.2.1, bX0_isScoped_478, eg]
  obtain ⟨b1, b2⟩ := hB d (by omega) s hs (by omega)
  rw [b1]; exact ⟨sp_retb (cw_sc x) _, b2.mono hw⟩
theorem cw_s34 {x : mj_X} {nt : sp_NT} {N D W f wa : Nat} {n : Int32} (hx : cw_T x nt N) (hn : sp_nd N n = true) (hD : 2 ≤ D) (e : nt 0 n.toNatClampNeg = 34) (hA : sp_SC kX0 (cw_sc x) N D 28 (nt 1 n.toNatClampNeg) wa (sp_sc nt f (nt 1 n.toNatClampNeg))) (hw : wa ≤ W) : sp_SC kX0 (cw_sc x) N (D + 2) 28 n W (sp_sc nt (f + 1) n) := by
  intro d hd s hs hW
  obtain ⟨d, rfl⟩ : ∃ c, d = c + 1 := ⟨d - 1, by omega⟩
  have hN := hx.2.1
  have hg := fun r => mj_g_k (sp_nd_in hN hn (Nat.le_refl _)) r
  have hT := cw_sc_T hx s
  have eg : sp_sc nt (f + 1) n s = sp_sc nt f (nt 1 n.toNatClampNeg) s := by rw [sp_sc_s nt f n s, e]; rfl
  rw [wX0_isScoped_0_34 d n (cw_sc x s) (by rw [hT.2.2.1]; exact e), hg, hg, hg, hT.2.2.2.1, hT.2.2.2.2.1, bX0_isScoped_433, eg]
  obtain ⟨b1, b2⟩ := hA d (by omega) s hs (by omega)
  rw [b1]; exact ⟨sp_retb (cw_sc x) _, b2.mono hw⟩
theorem cw_s48 {x : mj_X} {nt : sp_NT} {N D W f wb : Nat} {n : Int32} (hx : cw_T x nt N) (hn : sp_nd N n = true) (hD : 2 ≤ D) (e : nt 0 n.toNatClampNeg = 48) (hB : ¬ (nt 2 n.toNatClampNeg) = -1 → sp_SC kX0 (cw_sc x) N D 28 (nt 2 n.toNatClampNeg) wb (sp_sc nt f (nt 2 n.toNatClampNeg))) (hw : wb ≤ W) : sp_SC kX0 (cw_sc x) N (D + 2) 28 n W (sp_sc nt (f + 1) n) := by
  intro d hd s hs hW
  obtain ⟨d, rfl⟩ : ∃ c, d = c + 1 := ⟨d - 1, by omega⟩
  have hN := hx.2.1
  have hg := fun r => mj_g_k (sp_nd_in hN hn (Nat.le_refl _)) r
  have hT := cw_sc_T hx s
  have eg : sp_sc nt (f + 1) n s = if (nt 2 n.toNatClampNeg) = -1 then (true, s) else sp_sc nt f (nt 2 n.toNatClampNeg) s := by rw [sp_sc_s nt f n s, e]; rfl
  rw [wX0_isScoped_0_48 d n (cw_sc x s) (by rw [hT.2.2.1]; exact e), hg, hg, hg, hT.2.2.2.1, hT.2.2.2.2.1, bX0_isScoped_414, eg]
  by_cases q : (nt 2 n.toNatClampNeg) = -1
  · rw [if_pos q, if_pos q]; exact ⟨rfl, .rf hs _ _⟩
  · rw [if_neg q, if_neg q]
    obtain ⟨b1, b2⟩ := hB q d (by omega) s hs (by omega)
    rw [b1]; exact ⟨sp_ret (cw_sc x) _, b2.mono hw⟩
theorem cw_s73 {x : mj_X} {nt : sp_NT} {N D W f wa : Nat} {n : Int32} (hx : cw_T x nt N) (hn : sp_nd N n = true) (hD : 2 ≤ D) (e : nt 0 n.toNatClampNeg = 73) (hA : ¬ (nt 1 n.toNatClampNeg) = -1 → sp_SC kX0 (cw_sc x) N D 28 (nt 1 n.toNatClampNeg) wa (sp_sc nt f (nt 1 n.toNatClampNeg))) (hw : wa ≤ W) : sp_SC kX0 (cw_sc x) N (D + 2) 28 n W (sp_sc nt (f + 1) n) := by
  intro d hd s hs hW
  obtain ⟨d, rfl⟩ : ∃ c, d = c + 1 := ⟨d - 1, by omega⟩
  have hN := hx.2.1
  have hg := fun r => mj_g_k (sp_nd_in hN hn (Nat.le_refl _)) r
  have hT := cw_sc_T hx s
  have eg : sp_sc nt (f + 1) n s = if (nt 1 n.toNatClampNeg) = -1 then (true, s) else sp_sc nt f (nt 1 n.toNatClampNeg) s := by rw [sp_sc_s nt f n s, e]; rfl
  rw [wX0_isScoped_0_73 d n (cw_sc x s) (by rw [hT.2.2.1]; exact e), hg, hg, hg, hT.2.2.2.1, hT.2.2.2.2.1, bX0_isScoped_580, eg]
  by_cases q : (nt 1 n.toNatClampNeg) = -1
  · rw [if_pos q, if_pos q]; exact ⟨rfl, .rf hs _ _⟩
  · rw [if_neg q, if_neg q]
    obtain ⟨b1, b2⟩ := hA q d (by omega) s hs (by omega)
    rw [b1]; exact ⟨sp_ret (cw_sc x) _, b2.mono hw⟩
theorem cw_s61 {x : mj_X} {nt : sp_NT} {N D W f wb : Nat} {n : Int32} (hx : cw_T x nt N) (hn : sp_nd N n = true) (hD : 2 ≤ D) (e : nt 0 n.toNatClampNeg = 61) (hV : sp_nd N (nt 1 n.toNatClampNeg) = true) (hB : sp_SC kX0 (cw_sc x) N D 28 (nt 2 n.toNatClampNeg) wb (sp_sc nt f (nt 2 n.toNatClampNeg))) (hw : wb + 1 ≤ W) : sp_SC kX0 (cw_sc x) N (D + 2) 28 n W (sp_sc nt (f + 1) n) := by
  intro d hd s hs hW
  obtain ⟨d, rfl⟩ : ∃ c, d = c + 1 := ⟨d - 1, by omega⟩
  have hN := hx.2.1
  have hg := fun r => mj_g_k (sp_nd_in hN hn (Nat.le_refl _)) r
  have hT := cw_sc_T hx s
  have eg : sp_sc nt (f + 1) n s = sp_th (sp_sc nt f (nt 2 n.toNatClampNeg) s) fun s => (true, sp_fo s (nt 1 n.toNatClampNeg)) := by rw [sp_sc_s nt f n s, e]; rfl
  rw [wX0_isScoped_0_61 d n (cw_sc x s) (by rw [hT.2.2.1]; exact e), hg, hg, hg, hT.2.2.2.1, hT.2.2.2.2.1, bX0_isScoped_439, eg]
  obtain ⟨b1, b2⟩ := hB d (by omega) s hs (by omega)
  rw [b1]
  have hc : (sp_sc nt f (nt 2 n.toNatClampNeg) s).2.1 < 4000 := by have := b2.2.1; omega
  refine ⟨sp_and (cw_sc x) _ _ _ fun q => ?_, b2.th (w2 := 1) (fun q => ⟨Nat.le_succ _, Nat.le_refl _, b2.2.2.fo hc hV⟩) hw⟩
  rw [sX0_force (by omega) hN x hc hV]; rfl
theorem cw_s62 {x : mj_X} {nt : sp_NT} {N D W f wa wb : Nat} {n : Int32} (hx : cw_T x nt N) (hn : sp_nd N n = true) (hD : 2 ≤ D) (e : nt 0 n.toNatClampNeg = 62) (hA : sp_SC kX0 (cw_sc x) N D 28 (nt 1 n.toNatClampNeg) wa (sp_sc nt f (nt 1 n.toNatClampNeg))) (hB : sp_SC kX0 (cw_sc x) N D 28 (nt 2 n.toNatClampNeg) wb (sp_sc nt f (nt 2 n.toNatClampNeg))) (hw : wa + wb ≤ W) : sp_SC kX0 (cw_sc x) N (D + 2) 28 n W (sp_sc nt (f + 1) n) := by
  intro d hd s hs hW
  obtain ⟨d, rfl⟩ : ∃ c, d = c + 1 := ⟨d - 1, by omega⟩
  have hN := hx.2.1
  have hg := fun r => mj_g_k (sp_nd_in hN hn (Nat.le_refl _)) r
  have hT := cw_sc_T hx s
  have eg : sp_sc nt (f + 1) n s = sp_th (sp_sc nt f (nt 1 n.toNatClampNeg) s) (sp_sc nt f (nt 2 n.toNatClampNeg)) := by rw [sp_sc_s nt f n s, e]; rfl
  rw [wX0_isScoped_0_62 d n (cw_sc x s) (by rw [hT.2.2.1]; exact e), hg, hg, hg, hT.2.2.2.1, hT.2.2.2.2.1, bX0_isScoped_456, eg]
  exact sp_two hA hB (by omega) (by omega) hs hW hw
theorem cw_s63 {x : mj_X} {nt : sp_NT} {N D W f wa : Nat} {n : Int32} (hx : cw_T x nt N) (hn : sp_nd N n = true) (hD : 2 ≤ D) (e : nt 0 n.toNatClampNeg = 63) (hA : sp_SC kX0 (cw_sc x) N D 28 (nt 1 n.toNatClampNeg) wa (sp_sc nt f (nt 1 n.toNatClampNeg))) (hw : wa ≤ W) : sp_SC kX0 (cw_sc x) N (D + 2) 28 n W (sp_sc nt (f + 1) n) := by
  intro d hd s hs hW
  obtain ⟨d, rfl⟩ : ∃ c, d = c + 1 := ⟨d - 1, by omega⟩
  have hN := hx.2.1
  have hg := fun r => mj_g_k (sp_nd_in hN hn (Nat.le_refl _)) r
  have hT := cw_sc_T hx s
  have eg : sp_sc nt (f + 1) n s = sp_al s.1 (sp_sc nt f (nt 1 n.toNatClampNeg) s) := by rw [sp_sc_s nt f n s, e]; rfl
  rw [wX0_isScoped_0_63 d n (cw_sc x s) (by rw [hT.2.2.1]; exact e), hg, hg, hg, hT.2.2.2.1, hT.2.2.2.2.1, bX0_isScoped_484, eg]
  obtain ⟨b1, b2⟩ := cw_alone hN hA (by omega) d (by omega) s hs (by omega)
  rw [b1]; exact ⟨sp_retb (cw_sc x) _, b2.mono hw⟩
theorem cw_s77 {x : mj_X} {nt : sp_NT} {N D W f wb : Nat} {n : Int32} (hx : cw_T x nt N) (hn : sp_nd N n = true) (hD : 2 ≤ D) (e : nt 0 n.toNatClampNeg = 77) (hB : sp_SC kX0 (cw_sc x) N D 28 (nt 2 n.toNatClampNeg) wb (sp_sc nt f (nt 2 n.toNatClampNeg))) (hw : wb ≤ W) : sp_SC kX0 (cw_sc x) N (D + 2) 28 n W (sp_sc nt (f + 1) n) := by
  intro d hd s hs hW
  obtain ⟨d, rfl⟩ : ∃ c, d = c + 1 := ⟨d - 1, by omega⟩
  have hN := hx.2.1
  have hg := fun r => mj_g_k (sp_nd_in hN hn (Nat.le_refl _)) r
  have hT := cw_sc_T hx s
  have eg : sp_sc nt (f + 1) n s = sp_al s.1 (sp_sc nt f (nt 2 n.toNatClampNeg) s) := by rw [sp_sc_s nt f n s, e]; rfl
  rw [wX0_isScoped_0_77 d n (cw_sc x s) (by rw [hT.2.2.1]; exact e), hg, hg, hg, hT.2.2.2.1, hT.2.2.2.2.1, bX0_isScoped_648, eg]
  obtain ⟨b1, b2⟩ := cw_alone hN hB (by omega) d (by omega) s hs (by omega)
  rw [b1]; exact ⟨sp_retb (cw_sc x) _, b2.mono hw⟩
theorem cw_s83 {x : mj_X} {nt : sp_NT} {N D W f wb : Nat} {n : Int32} (hx : cw_T x nt N) (hn : sp_nd N n = true) (hD : 2 ≤ D) (e : nt 0 n.toNatClampNeg = 83) (hB : sp_SC kX0 (cw_sc x) N D 28 (nt 2 n.toNatClampNeg) wb (sp_sc nt f (nt 2 n.toNatClampNeg))) (hw : wb ≤ W) : sp_SC kX0 (cw_sc x) N (D + 2) 28 n W (sp_sc nt (f + 1) n) := by
  intro d hd s hs hW
  obtain ⟨d, rfl⟩ : ∃ c, d = c + 1 := ⟨d - 1, by omega⟩
  have hN := hx.2.1
  have hg := fun r => mj_g_k (sp_nd_in hN hn (Nat.le_refl _)) r
  have hT := cw_sc_T hx s
  have eg : sp_sc nt (f + 1) n s = sp_al s.1 (sp_sc nt f (nt 2 n.toNatClampNeg) s) := by rw [sp_sc_s nt f n s, e]; rfl
  rw [wX0_isScoped_0_83 d n (cw_sc x s) (by rw [hT.2.2.1]; exact e), hg, hg, hg, hT.2.2.2.1, hT.2.2.2.2.1, bX0_isScoped_648, eg]
  obtain ⟨b1, b2⟩ := cw_alone hN hB (by omega) d (by omega) s hs (by omega)
  rw [b1]; exact ⟨sp_retb (cw_sc x) _, b2.mono hw⟩
theorem cw_s84 {x : mj_X} {nt : sp_NT} {N D W f wb : Nat} {n : Int32} (hx : cw_T x nt N) (hn : sp_nd N n = true) (hD : 2 ≤ D) (e : nt 0 n.toNatClampNeg = 84) (hB : sp_SC kX0 (cw_sc x) N D 28 (nt 2 n.toNatClampNeg) wb (sp_sc nt f (nt 2 n.toNatClampNeg))) (hw : wb ≤ W) : sp_SC kX0 (cw_sc x) N (D + 2) 28 n W (sp_sc nt (f + 1) n) := by
  intro d hd s hs hW
  obtain ⟨d, rfl⟩ : ∃ c, d = c + 1 := ⟨d - 1, by omega⟩
  have hN := hx.2.1
  have hg := fun r => mj_g_k (sp_nd_in hN hn (Nat.le_refl _)) r
  have hT := cw_sc_T hx s
  have eg : sp_sc nt (f + 1) n s = sp_al s.1 (sp_sc nt f (nt 2 n.toNatClampNeg) s) := by rw [sp_sc_s nt f n s, e]; rfl
  rw [wX0_isScoped_0_84 d n (cw_sc x s) (by rw [hT.2.2.1]; exact e), hg, hg, hg, hT.2.2.2.1, hT.2.2.2.2.1, bX0_isScoped_648, eg]
  obtain ⟨b1, b2⟩ := cw_alone hN hB (by omega) d (by omega) s hs (by omega)
  rw [b1]; exact ⟨sp_retb (cw_sc x) _, b2.mono hw⟩
theorem cw_s64 {x : mj_X} {nt : sp_NT} {N D W f wa wb : Nat} {n : Int32} (hx : cw_T x nt N) (hn : sp_nd N n = true) (hD : 2 ≤ D) (e : nt 0 n.toNatClampNeg = 64) (hA : sp_SC kX0 (cw_sc x) N D 28 (nt 1 n.toNatClampNeg) wa (sp_sc nt f (nt 1 n.toNatClampNeg))) (hB : sp_SC kX0 (cw_sc x) N D 28 (nt 2 n.toNatClampNeg) wb (sp_sc nt f (nt 2 n.toNatClampNeg))) (hw : wa + wb ≤ W) : sp_SC kX0 (cw_sc x) N (D + 2) 28 n W (sp_sc nt (f + 1) n) := by
  intro d hd s hs hW
  obtain ⟨d, rfl⟩ : ∃ c, d = c + 1 := ⟨d - 1, by omega⟩
  have hN := hx.2.1
  have hg := fun r => mj_g_k (sp_nd_in hN hn (Nat.le_refl _)) r
  have hT := cw_sc_T hx s
  have eg : sp_sc nt (f + 1) n s = sp_th (sp_sc nt f (nt 1 n.toNatClampNeg) s) fun s => sp_al s.1 (sp_sc nt f (nt 2 n.toNatClampNeg) s) := by rw [sp_sc_s nt f n s, e]; rfl
  rw [wX0_isScoped_0_64 d n (cw_sc x s) (by rw [hT.2.2.1]; exact e), hg, hg, hg, hT.2.2.2.1, hT.2.2.2.2.1, bX0_isScoped_490, eg]
  exact sp_two hA (cw_alone hN hB (by omega)) (by omega) (by omega) hs hW hw
theorem cw_s67 {x : mj_X} {nt : sp_NT} {N D W f wa wb : Nat} {n : Int32} (hx : cw_T x nt N) (hn : sp_nd N n = true) (hD : 2 ≤ D) (e : nt 0 n.toNatClampNeg = 67) (hA : sp_SC kX0 (cw_sc x) N D 28 (nt 1 n.toNatClampNeg) wa (sp_sc nt f (nt 1 n.toNatClampNeg))) (hB : sp_SC kX0 (cw_sc x) N D 28 (nt 2 n.toNatClampNeg) wb (sp_sc nt f (nt 2 n.toNatClampNeg))) (hw : wa + wb ≤ W) : sp_SC kX0 (cw_sc x) N (D + 2) 28 n W (sp_sc nt (f + 1) n) := by
  intro d hd s hs hW
  obtain ⟨d, rfl⟩ : ∃ c, d = c + 1 := ⟨d - 1, by omega⟩
  have hN := hx.2.1
  have hg := fun r => mj_g_k (sp_nd_in hN hn (Nat.le_refl _)) r
  have hT := cw_sc_T hx s
  have eg : sp_sc nt (f + 1) n s = sp_th (sp_sc nt f (nt 1 n.toNatClampNeg) s) fun s => sp_al s.1 (sp_sc nt f (nt 2 n.toNatClampNeg) s) := by rw [sp_sc_s nt f n s, e]; rfl
  rw [wX0_isScoped_0_67 d n (cw_sc x s) (by rw [hT.2.2.1]; exact e), hg, hg, hg, hT.2.2.2.1, hT.2.2.2.2.1, bX0_isScoped_490, eg]
  exact sp_two hA (cw_alone hN hB (by omega)) (by omega) (by omega) hs hW hw
theorem cw_s70 {x : mj_X} {nt : sp_NT} {N D W f wa wb : Nat} {n : Int32} (hx : cw_T x nt N) (hn : sp_nd N n = true) (hD : 2 ≤ D) (e : nt 0 n.toNatClampNeg = 70) (hA : sp_SC kX0 (cw_sc x) N D 28 (nt 1 n.toNatClampNeg) wa (sp_sc nt f (nt 1 n.toNatClampNeg))) (hB : sp_SC kX0 (cw_sc x) N D 28 (nt 2 n.toNatClampNeg) wb (sp_sc nt f (nt 2 n.toNatClampNeg))) (hw : wa + wb ≤ W) : sp_SC kX0 (cw_sc x) N (D + 2) 28 n W (sp_sc nt (f + 1) n) := by
  intro d hd s hs hW
  obtain ⟨d, rfl⟩ : ∃ c, d = c + 1 := ⟨d - 1, by omega⟩
  have hN := hx.2.1
  have hg := fun r => mj_g_k (sp_nd_in hN hn (Nat.le_refl _)) r
  have hT := cw_sc_T hx s
  have eg : sp_sc nt (f + 1) n s = sp_th (sp_sc nt f (nt 1 n.toNatClampNeg) s) fun s => sp_al s.1 (sp_sc nt f (nt 2 n.toNatClampNeg) s) := by rw [sp_sc_s nt f n s, e]; rfl
  rw [wX0_isScoped_0_70 d n (cw_sc x s) (by rw [hT.2.2.1]; exact e), hg, hg, hg, hT.2.2.2.1, hT.2.2.2.2.1, bX0_isScoped_490, eg]
  exact sp_two hA (cw_alone hN hB (by omega)) (by omega) (by omega) hs hW hw
theorem cw_s80 {x : mj_X} {nt : sp_NT} {N D W f wa wb : Nat} {n : Int32} (hx : cw_T x nt N) (hn : sp_nd N n = true) (hD : 2 ≤ D) (e : nt 0 n.toNatClampNeg = 80) (hA : sp_SC kX0 (cw_sc x) N D 28 (nt 1 n.toNatClampNeg) wa (sp_sc nt f (nt 1 n.toNatClampNeg))) (hB : sp_SC kX0 (cw_sc x) N D 28 (nt 2 n.toNatClampNeg) wb (sp_sc nt f (nt 2 n.toNatClampNeg))) (hw : wa + wb ≤ W) : sp_SC kX0 (cw_sc x) N (D + 2) 28 n W (sp_sc nt (f + 1) n) := by
  intro d hd s hs hW
  obtain ⟨d, rfl⟩ : ∃ c, d = c + 1 := ⟨d - 1, by omega⟩
  have hN := hx.2.1
  have hg := fun r => mj_g_k (sp_nd_in hN hn (Nat.le_refl _)) r
  have hT := cw_sc_T hx s
  have eg : sp_sc nt (f + 1) n s = sp_th (sp_sc nt f (nt 1 n.toNatClampNeg) s) fun s => sp_al s.1 (sp_sc nt f (nt 2 n.toNatClampNeg) s) := by rw [sp_sc_s nt f n s, e]; rfl
  rw [wX0_isScoped_0_80 d n (cw_sc x s) (by rw [hT.2.2.1]; exact e), hg, hg, hg, hT.2.2.2.1, hT.2.2.2.2.1, bX0_isScoped_490, eg]
  exact sp_two hA (cw_alone hN hB (by omega)) (by omega) (by omega) hs hW hw
theorem cw_s69 {x : mj_X} {nt : sp_NT} {N D W f wa wb : Nat} {n : Int32} (hx : cw_T x nt N) (hn : sp_nd N n = true) (hD : 2 ≤ D) (e : nt 0 n.toNatClampNeg = 69) (hA : sp_SC kX0 (cw_sc x) N D 28 (nt 1 n.toNatClampNeg) wa (sp_sc nt f (nt 1 n.toNatClampNeg))) (hB : sp_SC kX0 (cw_sc x) N D 28 (nt 2 n.toNatClampNeg) wb (sp_sc nt f (nt 2 n.toNatClampNeg))) (hw : wa + wb ≤ W) : sp_SC kX0 (cw_sc x) N (D + 2) 28 n W (sp_sc nt (f + 1) n) := by
  intro d hd s hs hW
  obtain ⟨d, rfl⟩ : ∃ c, d = c + 1 := ⟨d - 1, by omega⟩
  have hN := hx.2.1
  have hg := fun r => mj_g_k (sp_nd_in hN hn (Nat.le_refl _)) r
  have hT := cw_sc_T hx s
  have eg : sp_sc nt (f + 1) n s = sp_th (sp_sc nt f (nt 1 n.toNatClampNeg) s) fun s => sp_al s.1 (sp_sc nt f (nt 2 n.toNatClampNeg) s) := by rw [sp_sc_s nt f n s, e]; rfl
  rw [wX0_isScoped_0_69 d n (cw_sc x s) (by rw [hT.2.2.1]; exact e), hg, hg, hg, hT.2.2.2.1, hT.2.2.2.2.1, bX0_isScoped_556, eg]
  exact sp_two hA (cw_alone hN hB (by omega)) (by omega) (by omega) hs hW hw
theorem cw_s66 {x : mj_X} {nt : sp_NT} {N D W f wa wb : Nat} {n : Int32} (hx : cw_T x nt N) (hn : sp_nd N n = true) (hD : 2 ≤ D) (e : nt 0 n.toNatClampNeg = 66) (hA : sp_SC kX0 (cw_sc x) N D 28 (nt 1 n.toNatClampNeg) wa (sp_sc nt f (nt 1 n.toNatClampNeg))) (hB : sp_SC kX0 (cw_sc x) N D 28 (nt 2 n.toNatClampNeg) wb (sp_sc nt f (nt 2 n.toNatClampNeg))) (hw : wa + wb ≤ W) : sp_SC kX0 (cw_sc x) N (D + 2) 28 n W (sp_sc nt (f + 1) n) := by
  intro d hd s hs hW
  obtain ⟨d, rfl⟩ : ∃ c, d = c + 1 := ⟨d - 1, by omega⟩
  have hN := hx.2.1
  have hg := fun r => mj_g_k (sp_nd_in hN hn (Nat.le_refl _)) r
  have hT := cw_sc_T hx s
  have eg : sp_sc nt (f + 1) n s = sp_th (sp_al s.1 (sp_sc nt f (nt 1 n.toNatClampNeg) s)) fun s => sp_al s.1 (sp_sc nt f (nt 2 n.toNatClampNeg) s) := by rw [sp_sc_s nt f n s, e]; rfl
  rw [wX0_isScoped_0_66 d n (cw_sc x s) (by rw [hT.2.2.1]; exact e), hg, hg, hg, hT.2.2.2.1, hT.2.2.2.2.1, bX0_isScoped_512, eg]
  exact sp_two (cw_alone hN hA (by omega)) (cw_alone hN hB (by omega)) (by omega) (by omega) hs hW hw
theorem cw_s79 {x : mj_X} {nt : sp_NT} {N D W f wa wb : Nat} {n : Int32} (hx : cw_T x nt N) (hn : sp_nd N n = true) (hD : 2 ≤ D) (e : nt 0 n.toNatClampNeg = 79) (hA : sp_SC kX0 (cw_sc x) N D 28 (nt 1 n.toNatClampNeg) wa (sp_sc nt f (nt 1 n.toNatClampNeg))) (hB : sp_SC kX0 (cw_sc x) N D 28 (nt 2 n.toNatClampNeg) wb (sp_sc nt f (nt 2 n.toNatClampNeg))) (hw : wa + wb ≤ W) : sp_SC kX0 (cw_sc x) N (D + 2) 28 n W (sp_sc nt (f + 1) n) := by
  intro d hd s hs hW
  obtain ⟨d, rfl⟩ : ∃ c, d = c + 1 := ⟨d - 1, by omega⟩
  have hN := hx.2.1
  have hg := fun r => mj_g_k (sp_nd_in hN hn (Nat.le_refl _)) r
  have hT := cw_sc_T hx s
  have eg : sp_sc nt (f + 1) n s = sp_th (sp_al s.1 (sp_sc nt f (nt 1 n.toNatClampNeg) s)) fun s => sp_al s.1 (sp_sc nt f (nt 2 n.toNatClampNeg) s) := by rw [sp_sc_s nt f n s, e]; rfl
  rw [wX0_isScoped_0_79 d n (cw_sc x s) (by rw [hT.2.2.1]; exact e), hg, hg, hg, hT.2.2.2.1, hT.2.2.2.2.1, bX0_isScoped_512, eg]
  exact sp_two (cw_alone hN hA (by omega)) (cw_alone hN hB (by omega)) (by omega) (by omega) hs hW hw
theorem cw_s68 {x : mj_X} {nt : sp_NT} {N D W f wa wb : Nat} {n : Int32} (hx : cw_T x nt N) (hn : sp_nd N n = true) (hD : 2 ≤ D) (e : nt 0 n.toNatClampNeg = 68) (hA : sp_SC kX0 (cw_sc x) N D 28 (nt 1 n.toNatClampNeg) wa (sp_sc nt f (nt 1 n.toNatClampNeg))) (hB : sp_SC kX0 (cw_sc x) N D 28 (nt 2 n.toNatClampNeg) wb (sp_sc nt f (nt 2 n.toNatClampNeg))) (hw : wa + wb ≤ W) : sp_SC kX0 (cw_sc x) N (D + 2) 28 n W (sp_sc nt (f + 1) n) := by
  intro d hd s hs hW
  obtain ⟨d, rfl⟩ : ∃ c, d = c + 1 := ⟨d - 1, by omega⟩
  have hN := hx.2.1
  have hg := fun r => mj_g_k (sp_nd_in hN hn (Nat.le_refl _)) r
  have hT := cw_sc_T hx s
  have eg : sp_sc nt (f + 1) n s = sp_th (sp_al s.1 (sp_sc nt f (nt 1 n.toNatClampNeg) s)) (sp_sc nt f (nt 2 n.toNatClampNeg)) := by rw [sp_sc_s nt f n s, e]; rfl
  rw [wX0_isScoped_0_68 d n (cw_sc x s) (by rw [hT.2.2.1]; exact e), hg, hg, hg, hT.2.2.2.1, hT.2.2.2.2.1, bX0_isScoped_534, eg]
  exact sp_two (cw_alone hN hA (by omega)) hB (by omega) (by omega) hs hW hw
theorem cw_s75 {x : mj_X} {nt : sp_NT} {N D W f wa wb : Nat} {n : Int32} (hx : cw_T x nt N) (hn : sp_nd N n = true) (hD : 2 ≤ D) (e : nt 0 n.toNatClampNeg = 75) (hA : sp_SC kX0 (cw_sc x) N D 28 (nt 1 n.toNatClampNeg) wa (sp_sc nt f (nt 1 n.toNatClampNeg))) (hB : sp_SC kX0 (cw_sc x) N D 28 (nt 2 n.toNatClampNeg) wb (sp_sc nt f (nt 2 n.toNatClampNeg))) (hw : wa + wb ≤ W) : sp_SC kX0 (cw_sc x) N (D + 2) 28 n W (sp_sc nt (f + 1) n) := by
  intro d hd s hs hW
  obtain ⟨d, rfl⟩ : ∃ c, d = c + 1 := ⟨d - 1, by omega⟩
  have hN := hx.2.1
  have hg := fun r => mj_g_k (sp_nd_in hN hn (Nat.le_refl _)) r
  have hT := cw_sc_T hx s
  have eg : sp_sc nt (f + 1) n s = sp_th (sp_al s.1 (sp_sc nt f (nt 1 n.toNatClampNeg) s)) (sp_sc nt f (nt 2 n.toNatClampNeg)) := by rw [sp_sc_s nt f n s, e]; rfl
  rw [wX0_isScoped_0_75 d n (cw_sc x s) (by rw [hT.2.2.1]; exact e), hg, hg, hg, hT.2.2.2.1, hT.2.2.2.2.1, bX0_isScoped_599, eg]
  exact sp_two (cw_alone hN hA (by omega)) hB (by omega) (by omega) hs hW hw
theorem cw_s76 {x : mj_X} {nt : sp_NT} {N D W f wa wb : Nat} {n : Int32} (hx : cw_T x nt N) (hn : sp_nd N n = true) (hD : 2 ≤ D) (e : nt 0 n.toNatClampNeg = 76) (hA : sp_SC kX0 (cw_sc x) N D 28 (nt 1 n.toNatClampNeg) wa (sp_sc nt f (nt 1 n.toNatClampNeg))) (hB : ¬ (nt 2 n.toNatClampNeg) = -1 → sp_SC kX0 (cw_sc x) N D 28 (nt 2 n.toNatClampNeg) wb (sp_sc nt f (nt 2 n.toNatClampNeg))) (hw : wa + wb ≤ W) : sp_SC kX0 (cw_sc x) N (D + 2) 28 n W (sp_sc nt (f + 1) n) := by
  intro d hd s hs hW
  obtain ⟨d, rfl⟩ : ∃ c, d = c + 1 := ⟨d - 1, by omega⟩
  have hN := hx.2.1
  have hg := fun r => mj_g_k (sp_nd_in hN hn (Nat.le_refl _)) r
  have hT := cw_sc_T hx s
  have eg : sp_sc nt (f + 1) n s = sp_th (sp_sc nt f (nt 1 n.toNatClampNeg) s) fun s => if (nt 2 n.toNatClampNeg) = -1 then (true, s) else sp_sc nt f (nt 2 n.toNatClampNeg) s := by rw [sp_sc_s nt f n s, e]; rfl
  rw [wX0_isScoped_0_76 d n (cw_sc x s) (by rw [hT.2.2.1]; exact e), hg, hg, hg, hT.2.2.2.1, hT.2.2.2.2.1, bX0_isScoped_621, eg]
  exact sp_twoq hA hB (by omega) (by omega) hs hW hw
theorem cw_s82 {x : mj_X} {nt : sp_NT} {N D W f wa wb : Nat} {n : Int32} (hx : cw_T x nt N) (hn : sp_nd N n = true) (hD : 2 ≤ D) (e : nt 0 n.toNatClampNeg = 82) (hA : sp_SC kX0 (cw_sc x) N D 28 (nt 1 n.toNatClampNeg) wa (sp_sc nt f (nt 1 n.toNatClampNeg))) (hB : ¬ (nt 2 n.toNatClampNeg) = -1 → sp_SC kX0 (cw_sc x) N D 28 (nt 2 n.toNatClampNeg) wb (sp_sc nt f (nt 2 n.toNatClampNeg))) (hw : wa + wb ≤ W) : sp_SC kX0 (cw_sc x) N (D + 2) 28 n W (sp_sc nt (f + 1) n) := by
  intro d hd s hs hW
  obtain ⟨d, rfl⟩ : ∃ c, d = c + 1 := ⟨d - 1, by omega⟩
  have hN := hx.2.1
  have hg := fun r => mj_g_k (sp_nd_in hN hn (Nat.le_refl _)) r
  have hT := cw_sc_T hx s
  have eg : sp_sc nt (f + 1) n s = sp_th (sp_sc nt f (nt 1 n.toNatClampNeg) s) fun s => if (nt 2 n.toNatClampNeg) = -1 then (true, s) else sp_sc nt f (nt 2 n.toNatClampNeg) s := by rw [sp_sc_s nt f n s, e]; rfl
  rw [wX0_isScoped_0_82 d n (cw_sc x s) (by rw [hT.2.2.1]; exact e), hg, hg, hg, hT.2.2.2.1, hT.2.2.2.2.1, bX0_isScoped_621, eg]
  exact sp_twoq hA hB (by omega) (by omega) hs hW hw
theorem cw_s78 {x : mj_X} {nt : sp_NT} {N D W f wb : Nat} {n : Int32} (hx : cw_T x nt N) (hn : sp_nd N n = true) (hD : 2 ≤ D) (e : nt 0 n.toNatClampNeg = 78) (hV : sp_nd N (nt 1 n.toNatClampNeg) = true) (hB : sp_SC kX0 (cw_sc x) N D 28 (nt 2 n.toNatClampNeg) wb (sp_sc nt f (nt 2 n.toNatClampNeg))) (hw : wb + 1 ≤ W) : sp_SC kX0 (cw_sc x) N (D + 2) 28 n W (sp_sc nt (f + 1) n) := by
  intro d hd s hs hW
  obtain ⟨d, rfl⟩ : ∃ c, d = c + 1 := ⟨d - 1, by omega⟩
  have hN := hx.2.1
  have hg := fun r => mj_g_k (sp_nd_in hN hn (Nat.le_refl _)) r
  have hT := cw_sc_T hx s
  have eg : sp_sc nt (f + 1) n s = sp_al s.1 (sp_sc nt f (nt 2 n.toNatClampNeg) (sp_fo s (nt 1 n.toNatClampNeg))) := by rw [sp_sc_s nt f n s, e]; rfl
  rw [wX0_isScoped_0_78 d n (cw_sc x s) (by rw [hT.2.2.1]; exact e), hg, hg, hg, hT.2.2.2.1, hT.2.2.2.2.1, bX0_isScoped_654, eg]
  rw [sX0_force (by omega) hN x (by omega) hV, mj_rV_k]
  obtain ⟨b1, b2⟩ := hB d (by omega) (sp_fo s (nt 1 n.toNatClampNeg)) (hs.fo (by omega) hV) (by show s.1 + 1 + wb ≤ 4000; omega)
  have g : sp_SG N (wb + 1) s (sp_sc nt f (nt 2 n.toNatClampNeg) (sp_fo s (nt 1 n.toNatClampNeg))) := ⟨Nat.le_trans (Nat.le_succ _) b2.1, by have : _ ≤ s.1 + 1 + wb := b2.2.1; omega, b2.2.2⟩
  rw [b1]
  unfold sp_o
  rw [mj_rI_k, cw_sc_c, sX0_release (by omega) hN x g.2.2 g.1, mj_rV_k, mj_gb_b]
  exact ⟨rfl, g.al W⟩
theorem cw_s8 {x : mj_X} {nt : sp_NT} {N D W f wa wb : Nat} {n : Int32} (hx : cw_T x nt N) (hn : sp_nd N n = true) (hD : 2 ≤ D) (e : nt 0 n.toNatClampNeg = 8) (hA : sp_SC kX0 (cw_sc x) N D 28 (nt 1 n.toNatClampNeg) wa (sp_sc nt f (nt 1 n.toNatClampNeg))) (hB : ¬ (nt 2 n.toNatClampNeg) = -1 → sp_SC kX0 (cw_sc x) N D 28 (nt 2 n.toNatClampNeg) wb (sp_sc nt f (nt 2 n.toNatClampNeg))) (hw : wa + wb ≤ W) : sp_SC kX0 (cw_sc x) N (D + 2) 28 n W (sp_sc nt (f + 1) n) := by
  intro d hd s hs hW
  obtain ⟨d, rfl⟩ : ∃ c, d = c + 1 := ⟨d - 1, by omega⟩
  have hN := hx.2.1
  have hg := fun r => mj_g_k (sp_nd_in hN hn (Nat.le_refl _)) r
  have hT := cw_sc_T hx s
  have eg : sp_sc nt (f + 1) n s = sp_th (sp_sc nt f (nt 1 n.toNatClampNeg) s) fun s => if (nt 2 n.toNatClampNeg) = -1 then (true, s) else sp_sc nt f (nt 2 n.toNatClampNeg) s := by rw [sp_sc_s nt f n s, e]; rfl
  rw [wX0_isScoped_0_8 d n (cw_sc x s) (by rw [hT.2.2.1]; exact e), hg, hg, hg, hT.2.2.2.1, hT.2.2.2.2.1, bX0_isScoped_681, eg]
  have hh : ∀ s' : sp_SS, ∀ k : Int32 → mj_X → mj_R, mj_g n 4000 (mj_rI (kX0 d 22 [.int ((cw_sc x s').1 1 n.toNatClampNeg)] (cw_sc x s')) k) = k 1 (cw_sc x s') := by
    intro s' k
    rw [hg, (cw_sc_T hx s').2.2.1, sX0_hasB (by omega), e, mj_rI_k]; rfl
  refine ⟨?_, (sp_twoq hA hB (show D ≤ d by omega) (show D ≤ d by omega) hs hW hw).2⟩
  rw [← (sp_twoq hA hB (show D ≤ d by omega) (show D ≤ d by omega) hs hW hw).1, (hA d (by omega) s hs (by omega)).1]
  unfold sp_o
  rw [mj_rI_k, mj_rI_k, sp_ib, sp_ib]
  by_cases q : (sp_sc nt f (nt 1 n.toNatClampNeg) s).1 = false
  · rw [if_pos q, if_pos q]
  · rw [if_neg q, if_neg q, hh, if_neg (by decide)]
theorem cw_s9 {x : mj_X} {nt : sp_NT} {N D W f wa wb : Nat} {n : Int32} (hx : cw_T x nt N) (hn : sp_nd N n = true) (hD : 2 ≤ D) (e : nt 0 n.toNatClampNeg = 9) (hA : sp_SC kX0 (cw_sc x) N D 28 (nt 1 n.toNatClampNeg) wa (sp_sc nt f (nt 1 n.toNatClampNeg))) (hB : ¬ (nt 2 n.toNatClampNeg) = -1 → sp_SC kX0 (cw_sc x) N D 28 (nt 2 n.toNatClampNeg) wb (sp_sc nt f (nt 2 n.toNatClampNeg))) (hw : wa + wb ≤ W) : sp_SC kX0 (cw_sc x) N (D + 2) 28 n W (sp_sc nt (f + 1) n) := by
  intro d hd s hs hW
  obtain ⟨d, rfl⟩ : ∃ c, d = c + 1 := ⟨d - 1, by omega⟩
  have hN := hx.2.1
  have hg := fun r => mj_g_k (sp_nd_in hN hn (Nat.le_refl _)) r
  have hT := cw_sc_T hx s
  have eg : sp_sc nt (f + 1) n s = sp_th (sp_sc nt f (nt 1 n.toNatClampNeg) s) fun s => if (nt 2 n.toNatClampNeg) = -1 then (true, s) else sp_sc nt f (nt 2 n.toNatClampNeg) s := by rw [sp_sc_s nt f n s, e]; rfl
  rw [wX0_isScoped_0_9 d n (cw_sc x s) (by rw [hT.2.2.1]; exact e), hg, hg, hg, hT.2.2.2.1, hT.2.2.2.2.1, bX0_isScoped_681, eg]
  have hh : ∀ s' : sp_SS, ∀ k : Int32 → mj_X → mj_R, mj_g n 4000 (mj_rI (kX0 d 22 [.int ((cw_sc x s').1 1 n.toNatClampNeg)] (cw_sc x s')) k) = k 1 (cw_sc x s') := by
    intro s' k
    rw [hg, (cw_sc_T hx s').2.2.1, sX0_hasB (by omega), e, mj_rI_k]; rfl
  refine ⟨?_, (sp_twoq hA hB (show D ≤ d by omega) (show D ≤ d by omega) hs hW hw).2⟩
  rw [← (sp_twoq hA hB (show D ≤ d by omega) (show D ≤ d by omega) hs hW hw).1, (hA d (by omega) s hs (by omega)).1]
  unfold sp_o
  rw [mj_rI_k, mj_rI_k, sp_ib, sp_ib]
  by_cases q : (sp_sc nt f (nt 1 n.toNatClampNeg) s).1 = false
  · rw [if_pos q, if_pos q]
  · rw [if_neg q, if_neg q, hh, if_neg (by decide)]
theorem cw_s10 {x : mj_X} {nt : sp_NT} {N D W f wa wb : Nat} {n : Int32} (hx : cw_T x nt N) (hn : sp_nd N n = true) (hD : 2 ≤ D) (e : nt 0 n.toNatClampNeg = 10) (hA : sp_SC kX0 (cw_sc x) N D 28 (nt 1 n.toNatClampNeg) wa (sp_sc nt f (nt 1 n.toNatClampNeg))) (hB : ¬ (nt 2 n.toNatClampNeg) = -1 → sp_SC kX0 (cw_sc x) N D 28 (nt 2 n.toNatClampNeg) wb (sp_sc nt f (nt 2 n.toNatClampNeg))) (hw : wa + wb ≤ W) : sp_SC kX0 (cw_sc x) N (D + 2) 28 n W (sp_sc nt (f + 1) n) := by
  intro d hd s hs hW
  obtain ⟨d, rfl⟩ : ∃ c, d = c + 1 := ⟨d - 1, by omega⟩
  have hN := hx.2.1
  have hg := fun r => mj_g_k (sp_nd_in hN hn (Nat.le_refl _)) r
  have hT := cw_sc_T hx s
  have eg : sp_sc nt (f + 1) n s = sp_th (sp_sc nt f (nt 1 n.toNatClampNeg) s) fun s => if (nt 2 n.toNatClampNeg) = -1 then (true, s) else sp_sc nt f (nt 2 n.toNatClampNeg) s := by rw [sp_sc_s nt f n s, e]; rfl
  rw [wX0_isScoped_0_10 d n (cw_sc x s) (by rw [hT.2.2.1]; exact e), hg, hg, hg, hT.2.2.2.1, hT.2.2.2.2.1, bX0_isScoped_681, eg]
  have hh : ∀ s' : sp_SS, ∀ k : Int32 → mj_X → mj_R, mj_g n 4000 (mj_rI (kX0 d 22 [.int ((cw_sc x s').1 1 n.toNatClampNeg)] (cw_sc x s')) k) = k 1 (cw_sc x s') := by
    intro s' k
    rw [hg, (cw_sc_T hx s').2.2.1, sX0_hasB (by omega), e, mj_rI_k]; rfl
  refine ⟨?_, (sp_twoq hA hB (show D ≤ d by omega) (show D ≤ d by omega) hs hW hw).2⟩
  rw [← (sp_twoq hA hB (show D ≤ d by omega) (show D ≤ d by omega) hs hW hw).1, (hA d (by omega) s hs (by omega)).1]
  unfold sp_o
  rw [mj_rI_k, mj_rI_k, sp_ib, sp_ib]
  by_cases q : (sp_sc nt f (nt 1 n.toNatClampNeg) s).1 = false
  · rw [if_pos q, if_pos q]
  · rw [if_neg q, if_neg q, hh, if_neg (by decide)]
theorem cw_s11 {x : mj_X} {nt : sp_NT} {N D W f wa wb : Nat} {n : Int32} (hx : cw_T x nt N) (hn : sp_nd N n = true) (hD : 2 ≤ D) (e : nt 0 n.toNatClampNeg = 11) (hA : sp_SC kX0 (cw_sc x) N D 28 (nt 1 n.toNatClampNeg) wa (sp_sc nt f (nt 1 n.toNatClampNeg))) (hB : ¬ (nt 2 n.toNatClampNeg) = -1 → sp_SC kX0 (cw_sc x) N D 28 (nt 2 n.toNatClampNeg) wb (sp_sc nt f (nt 2 n.toNatClampNeg))) (hw : wa + wb ≤ W) : sp_SC kX0 (cw_sc x) N (D + 2) 28 n W (sp_sc nt (f + 1) n) := by
  intro d hd s hs hW
  obtain ⟨d, rfl⟩ : ∃ c, d = c + 1 := ⟨d - 1, by omega⟩
  have hN := hx.2.1
  have hg := fun r => mj_g_k (sp_nd_in hN hn (Nat.le_refl _)) r
  have hT := cw_sc_T hx s
  have eg : sp_sc nt (f + 1) n s = sp_th (sp_sc nt f (nt 1 n.toNatClampNeg) s) fun s => if (nt 2 n.toNatClampNeg) = -1 then (true, s) else sp_sc nt f (nt 2 n.toNatClampNeg) s := by rw [sp_sc_s nt f n s, e]; rfl
  rw [wX0_isScoped_0_11 d n (cw_sc x s) (by rw [hT.2.2.1]; exact e), hg, hg, hg, hT.2.2.2.1, hT.2.2.2.2.1, bX0_isScoped_681, eg]
  have hh : ∀ s' : sp_SS, ∀ k : Int32 → mj_X → mj_R, mj_g n 4000 (mj_rI (kX0 d 22 [.int ((cw_sc x s').1 1 n.toNatClampNeg)] (cw_sc x s')) k) = k 1 (cw_sc x s') := by
    intro s' k
    rw [hg, (cw_sc_T hx s').2.2.1, sX0_hasB (by omega), e, mj_rI_k]; rfl
  refine ⟨?_, (sp_twoq hA hB (show D ≤ d by omega) (show D ≤ d by omega) hs hW hw).2⟩
  rw [← (sp_twoq hA hB (show D ≤ d by omega) (show D ≤ d by omega) hs hW hw).1, (hA d (by omega) s hs (by omega)).1]
  unfold sp_o
  rw [mj_rI_k, mj_rI_k, sp_ib, sp_ib]
  by_cases q : (sp_sc nt f (nt 1 n.toNatClampNeg) s).1 = false
  · rw [if_pos q, if_pos q]
  · rw [if_neg q, if_neg q, hh, if_neg (by decide)]
theorem cw_s12 {x : mj_X} {nt : sp_NT} {N D W f wa wb : Nat} {n : Int32} (hx : cw_T x nt N) (hn : sp_nd N n = true) (hD : 2 ≤ D) (e : nt 0 n.toNatClampNeg = 12) (hA : sp_SC kX0 (cw_sc x) N D 28 (nt 1 n.toNatClampNeg) wa (sp_sc nt f (nt 1 n.toNatClampNeg))) (hB : ¬ (nt 2 n.toNatClampNeg) = -1 → sp_SC kX0 (cw_sc x) N D 28 (nt 2 n.toNatClampNeg) wb (sp_sc nt f (nt 2 n.toNatClampNeg))) (hw : wa + wb ≤ W) : sp_SC kX0 (cw_sc x) N (D + 2) 28 n W (sp_sc nt (f + 1) n) := by
  intro d hd s hs hW
  obtain ⟨d, rfl⟩ : ∃ c, d = c + 1 := ⟨d - 1, by omega⟩
  have hN := hx.2.1
  have hg := fun r => mj_g_k (sp_nd_in hN hn (Nat.le_refl _)) r
  have hT := cw_sc_T hx s
  have eg : sp_sc nt (f + 1) n s = sp_th (sp_sc nt f (nt 1 n.toNatClampNeg) s) fun s => if (nt 2 n.toNatClampNeg) = -1 then (true, s) else sp_sc nt f (nt 2 n.toNatClampNeg) s := by rw [sp_sc_s nt f n s, e]; rfl
  rw [wX0_isScoped_0_12 d n (cw_sc x s) (by rw [hT.2.2.1]; exact e), hg, hg, hg, hT.2.2.2.1, hT.2.2.2.2.1, bX0_isScoped_681, eg]
  have hh : ∀ s' : sp_SS, ∀ k : Int32 → mj_X → mj_R, mj_g n 4000 (mj_rI (kX0 d 22 [.int ((cw_sc x s').1 1 n.toNatClampNeg)] (cw_sc x s')) k) = k 1 (cw_sc x s') := by
    intro s' k
    rw [hg, (cw_sc_T hx s').2.2.1, sX0_hasB (by omega), e, mj_rI_k]; rfl
  refine ⟨?_, (sp_twoq hA hB (show D ≤ d by omega) (show D ≤ d by omega) hs hW hw).2⟩
  rw [← (sp_twoq hA hB (show D ≤ d by omega) (show D ≤ d by omega) hs hW hw).1, (hA d (by omega) s hs (by omega)).1]
  unfold sp_o
  rw [mj_rI_k, mj_rI_k, sp_ib, sp_ib]
  by_cases q : (sp_sc nt f (nt 1 n.toNatClampNeg) s).1 = false
  · rw [if_pos q, if_pos q]
  · rw [if_neg q, if_neg q, hh, if_neg (by decide)]
theorem cw_s13 {x : mj_X} {nt : sp_NT} {N D W f wa wb : Nat} {n : Int32} (hx : cw_T x nt N) (hn : sp_nd N n = true) (hD : 2 ≤ D) (e : nt 0 n.toNatClampNeg = 13) (hA : sp_SC kX0 (cw_sc x) N D 28 (nt 1 n.toNatClampNeg) wa (sp_sc nt f (nt 1 n.toNatClampNeg))) (hB : ¬ (nt 2 n.toNatClampNeg) = -1 → sp_SC kX0 (cw_sc x) N D 28 (nt 2 n.toNatClampNeg) wb (sp_sc nt f (nt 2 n.toNatClampNeg))) (hw : wa + wb ≤ W) : sp_SC kX0 (cw_sc x) N (D + 2) 28 n W (sp_sc nt (f + 1) n) := by
  intro d hd s hs hW
  obtain ⟨d, rfl⟩ : ∃ c, d = c + 1 := ⟨d - 1, by omega⟩
  have hN := hx.2.1
  have hg := fun r => mj_g_k (sp_nd_in hN hn (Nat.le_refl _)) r
  have hT := cw_sc_T hx s
  have eg : sp_sc nt (f + 1) n s = sp_th (sp_sc nt f (nt 1 n.toNatClampNeg) s) fun s => if (nt 2 n.toNatClampNeg) = -1 then (true, s) else sp_sc nt f (nt 2 n.toNatClampNeg) s := by rw [sp_sc_s nt f n s, e]; rfl
  rw [wX0_isScoped_0_13 d n (cw_sc x s) (by rw [hT.2.2.1]; exact e), hg, hg, hg, hT.2.2.2.1, hT.2.2.2.2.1, bX0_isScoped_681, eg]
  have hh : ∀ s' : sp_SS, ∀ k : Int32 → mj_X → mj_R, mj_g n 4000 (mj_rI (kX0 d 22 [.int ((cw_sc x s').1 1 n.toNatClampNeg)] (cw_sc x s')) k) = k 1 (cw_sc x s') := by
    intro s' k
    rw [hg, (cw_sc_T hx s').2.2.1, sX0_hasB (by omega), e, mj_rI_k]; rfl
  refine ⟨?_, (sp_twoq hA hB (show D ≤ d by omega) (show D ≤ d by omega) hs hW hw).2⟩
  rw [← (sp_twoq hA hB (show D ≤ d by omega) (show D ≤ d by omega) hs hW hw).1, (hA d (by omega) s hs (by omega)).1]
  unfold sp_o
  rw [mj_rI_k, mj_rI_k, sp_ib, sp_ib]
  by_cases q : (sp_sc nt f (nt 1 n.toNatClampNeg) s).1 = false
  · rw [if_pos q, if_pos q]
  · rw [if_neg q, if_neg q, hh, if_neg (by decide)]
theorem cw_s14 {x : mj_X} {nt : sp_NT} {N D W f wa wb : Nat} {n : Int32} (hx : cw_T x nt N) (hn : sp_nd N n = true) (hD : 2 ≤ D) (e : nt 0 n.toNatClampNeg = 14) (hA : sp_SC kX0 (cw_sc x) N D 28 (nt 1 n.toNatClampNeg) wa (sp_sc nt f (nt 1 n.toNatClampNeg))) (hB : ¬ (nt 2 n.toNatClampNeg) = -1 → sp_SC kX0 (cw_sc x) N D 28 (nt 2 n.toNatClampNeg) wb (sp_sc nt f (nt 2 n.toNatClampNeg))) (hw : wa + wb ≤ W) : sp_SC kX0 (cw_sc x) N (D + 2) 28 n W (sp_sc nt (f + 1) n) := by
  intro d hd s hs hW
  obtain ⟨d, rfl⟩ : ∃ c, d = c + 1 := ⟨d - 1, by omega⟩
  have hN := hx.2.1
  have hg := fun r => mj_g_k (sp_nd_in hN hn (Nat.le_refl _)) r
  have hT := cw_sc_T hx s
  have eg : sp_sc nt (f + 1) n s = sp_th (sp_sc nt f (nt 1 n.toNatClampNeg) s) fun s => if (nt 2 n.toNatClampNeg) = -1 then (true, s) else sp_sc nt f (nt 2 n.toNatClampNeg) s := by rw [sp_sc_s nt f n s, e]; rfl
  rw [wX0_isScoped_0_14 d n (cw_sc x s) (by rw [hT.2.2.1]; exact e), hg, hg, hg, hT.2.2.2.1, hT.2.2.2.2.1, bX0_isScoped_681, eg]
  have hh : ∀ s' : sp_SS, ∀ k : Int32 → mj_X → mj_R, mj_g n 4000 (mj_rI (kX0 d 22 [.int ((cw_sc x s').1 1 n.toNatClampNeg)] (cw_sc x s')) k) = k 1 (cw_sc x s') := by
    intro s' k
    rw [hg, (cw_sc_T hx s').2.2.1, sX0_hasB (by omega), e, mj_rI_k]; rfl
  refine ⟨?_, (sp_twoq hA hB (show D ≤ d by omega) (show D ≤ d by omega) hs hW hw).2⟩
  rw [← (sp_twoq hA hB (show D ≤ d by omega) (show D ≤ d by omega) hs hW hw).1, (hA d (by omega) s hs (by omega)).1]
  unfold sp_o
  rw [mj_rI_k, mj_rI_k, sp_ib, sp_ib]
  by_cases q : (sp_sc nt f (nt 1 n.toNatClampNeg) s).1 = false
  · rw [if_pos q, if_pos q]
  · rw [if_neg q, if_neg q, hh, if_neg (by decide)]
theorem cw_s15 {x : mj_X} {nt : sp_NT} {N D W f wa wb : Nat} {n : Int32} (hx : cw_T x nt N) (hn : sp_nd N n = true) (hD : 2 ≤ D) (e : nt 0 n.toNatClampNeg = 15) (hA : sp_SC kX0 (cw_sc x) N D 28 (nt 1 n.toNatClampNeg) wa (sp_sc nt f (nt 1 n.toNatClampNeg))) (hB : ¬ (nt 2 n.toNatClampNeg) = -1 → sp_SC kX0 (cw_sc x) N D 28 (nt 2 n.toNatClampNeg) wb (sp_sc nt f (nt 2 n.toNatClampNeg))) (hw : wa + wb ≤ W) : sp_SC kX0 (cw_sc x) N (D + 2) 28 n W (sp_sc nt (f + 1) n) := by
  intro d hd s hs hW
  obtain ⟨d, rfl⟩ : ∃ c, d = c + 1 := ⟨d - 1, by omega⟩
  have hN := hx.2.1
  have hg := fun r => mj_g_k (sp_nd_in hN hn (Nat.le_refl _)) r
  have hT := cw_sc_T hx s
  have eg : sp_sc nt (f + 1) n s = sp_th (sp_sc nt f (nt 1 n.toNatClampNeg) s) fun s => if (nt 2 n.toNatClampNeg) = -1 then (true, s) else sp_sc nt f (nt 2 n.toNatClampNeg) s := by rw [sp_sc_s nt f n s, e]; rfl
  rw [wX0_isScoped_0_15 d n (cw_sc x s) (by rw [hT.2.2.1]; exact e), hg, hg, hg, hT.2.2.2.1, hT.2.2.2.2.1, bX0_isScoped_681, eg]
  have hh : ∀ s' : sp_SS, ∀ k : Int32 → mj_X → mj_R, mj_g n 4000 (mj_rI (kX0 d 22 [.int ((cw_sc x s').1 1 n.toNatClampNeg)] (cw_sc x s')) k) = k 1 (cw_sc x s') := by
    intro s' k
    rw [hg, (cw_sc_T hx s').2.2.1, sX0_hasB (by omega), e, mj_rI_k]; rfl
  refine ⟨?_, (sp_twoq hA hB (show D ≤ d by omega) (show D ≤ d by omega) hs hW hw).2⟩
  rw [← (sp_twoq hA hB (show D ≤ d by omega) (show D ≤ d by omega) hs hW hw).1, (hA d (by omega) s hs (by omega)).1]
  unfold sp_o
  rw [mj_rI_k, mj_rI_k, sp_ib, sp_ib]
  by_cases q : (sp_sc nt f (nt 1 n.toNatClampNeg) s).1 = false
  · rw [if_pos q, if_pos q]
  · rw [if_neg q, if_neg q, hh, if_neg (by decide)]
theorem cw_s16 {x : mj_X} {nt : sp_NT} {N D W f wa wb : Nat} {n : Int32} (hx : cw_T x nt N) (hn : sp_nd N n = true) (hD : 2 ≤ D) (e : nt 0 n.toNatClampNeg = 16) (hA : sp_SC kX0 (cw_sc x) N D 28 (nt 1 n.toNatClampNeg) wa (sp_sc nt f (nt 1 n.toNatClampNeg))) (hB : ¬ (nt 2 n.toNatClampNeg) = -1 → sp_SC kX0 (cw_sc x) N D 28 (nt 2 n.toNatClampNeg) wb (sp_sc nt f (nt 2 n.toNatClampNeg))) (hw : wa + wb ≤ W) : sp_SC kX0 (cw_sc x) N (D + 2) 28 n W (sp_sc nt (f + 1) n) := by
  intro d hd s hs hW
  obtain ⟨d, rfl⟩ : ∃ c, d = c + 1 := ⟨d - 1, by omega⟩
  have hN := hx.2.1
  have hg := fun r => mj_g_k (sp_nd_in hN hn (Nat.le_refl _)) r
  have hT := cw_sc_T hx s
  have eg : sp_sc nt (f + 1) n s = sp_th (sp_sc nt f (nt 1 n.toNatClampNeg) s) fun s => if (nt 2 n.toNatClampNeg) = -1 then (true, s) else sp_sc nt f (nt 2 n.toNatClampNeg) s := by rw [sp_sc_s nt f n s, e]; rfl
  rw [wX0_isScoped_0_16 d n (cw_sc x s) (by rw [hT.2.2.1]; exact e), hg, hg, hg, hT.2.2.2.1, hT.2.2.2.2.1, bX0_isScoped_681, eg]
  have hh : ∀ s' : sp_SS, ∀ k : Int32 → mj_X → mj_R, mj_g n 4000 (mj_rI (kX0 d 22 [.int ((cw_sc x s').1 1 n.toNatClampNeg)] (cw_sc x s')) k) = k 1 (cw_sc x s') := by
    intro s' k
    rw [hg, (cw_sc_T hx s').2.2.1, sX0_hasB (by omega), e, mj_rI_k]; rfl
  refine ⟨?_, (sp_twoq hA hB (show D ≤ d by omega) (show D ≤ d by omega) hs hW hw).2⟩
  rw [← (sp_twoq hA hB (show D ≤ d by omega) (show D ≤ d by omega) hs hW hw).1, (hA d (by omega) s hs (by omega)).1]
  unfold sp_o
  rw [mj_rI_k, mj_rI_k, sp_ib, sp_ib]
  by_cases q : (sp_sc nt f (nt 1 n.toNatClampNeg) s).1 = false
  · rw [if_pos q, if_pos q]
  · rw [if_neg q, if_neg q, hh, if_neg (by decide)]
theorem cw_s17 {x : mj_X} {nt : sp_NT} {N D W f wa wb : Nat} {n : Int32} (hx : cw_T x nt N) (hn : sp_nd N n = true) (hD : 2 ≤ D) (e : nt 0 n.toNatClampNeg = 17) (hA : sp_SC kX0 (cw_sc x) N D 28 (nt 1 n.toNatClampNeg) wa (sp_sc nt f (nt 1 n.toNatClampNeg))) (hB : ¬ (nt 2 n.toNatClampNeg) = -1 → sp_SC kX0 (cw_sc x) N D 28 (nt 2 n.toNatClampNeg) wb (sp_sc nt f (nt 2 n.toNatClampNeg))) (hw : wa + wb ≤ W) : sp_SC kX0 (cw_sc x) N (D + 2) 28 n W (sp_sc nt (f + 1) n) := by
  intro d hd s hs hW
  obtain ⟨d, rfl⟩ : ∃ c, d = c + 1 := ⟨d - 1, by omega⟩
  have hN := hx.2.1
  have hg := fun r => mj_g_k (sp_nd_in hN hn (Nat.le_refl _)) r
  have hT := cw_sc_T hx s
  have eg : sp_sc nt (f + 1) n s = sp_th (sp_sc nt f (nt 1 n.toNatClampNeg) s) fun s => if (nt 2 n.toNatClampNeg) = -1 then (true, s) else sp_sc nt f (nt 2 n.toNatClampNeg) s := by rw [sp_sc_s nt f n s, e]; rfl
  rw [wX0_isScoped_0_17 d n (cw_sc x s) (by rw [hT.2.2.1]; exact e), hg, hg, hg, hT.2.2.2.1, hT.2.2.2.2.1, bX0_isScoped_681, eg]
  have hh : ∀ s' : sp_SS, ∀ k : Int32 → mj_X → mj_R, mj_g n 4000 (mj_rI (kX0 d 22 [.int ((cw_sc x s').1 1 n.toNatClampNeg)] (cw_sc x s')) k) = k 1 (cw_sc x s') := by
    intro s' k
    rw [hg, (cw_sc_T hx s').2.2.1, sX0_hasB (by omega), e, mj_rI_k]; rfl
  refine ⟨?_, (sp_twoq hA hB (show D ≤ d by omega) (show D ≤ d by omega) hs hW hw).2⟩
  rw [← (sp_twoq hA hB (show D ≤ d by omega) (show D ≤ d by omega) hs hW hw).1, (hA d (by omega) s hs (by omega)).1]
  unfold sp_o
  rw [mj_rI_k, mj_rI_k, sp_ib, sp_ib]
  by_cases q : (sp_sc nt f (nt 1 n.toNatClampNeg) s).1 = false
  · rw [if_pos q, if_pos q]
  · rw [if_neg q, if_neg q, hh, if_neg (by decide)]
theorem cw_s18 {x : mj_X} {nt : sp_NT} {N D W f wa wb : Nat} {n : Int32} (hx : cw_T x nt N) (hn : sp_nd N n = true) (hD : 2 ≤ D) (e : nt 0 n.toNatClampNeg = 18) (hA : sp_SC kX0 (cw_sc x) N D 28 (nt 1 n.toNatClampNeg) wa (sp_sc nt f (nt 1 n.toNatClampNeg))) (hB : ¬ (nt 2 n.toNatClampNeg) = -1 → sp_SC kX0 (cw_sc x) N D 28 (nt 2 n.toNatClampNeg) wb (sp_sc nt f (nt 2 n.toNatClampNeg))) (hw : wa + wb ≤ W) : sp_SC kX0 (cw_sc x) N (D + 2) 28 n W (sp_sc nt (f + 1) n) := by
  intro d hd s hs hW
  obtain ⟨d, rfl⟩ : ∃ c, d = c + 1 := ⟨d - 1, by omega⟩
  have hN := hx.2.1
  have hg := fun r => mj_g_k (sp_nd_in hN hn (Nat.le_refl _)) r
  have hT := cw_sc_T hx s
  have eg : sp_sc nt (f + 1) n s = sp_th (sp_sc nt f (nt 1 n.toNatClampNeg) s) fun s => if (nt 2 n.toNatClampNeg) = -1 then (true, s) else sp_sc nt f (nt 2 n.toNatClampNeg) s := by rw [sp_sc_s nt f n s, e]; rfl
  rw [wX0_isScoped_0_18 d n (cw_sc x s) (by rw [hT.2.2.1]; exact e), hg, hg, hg, hT.2.2.2.1, hT.2.2.2.2.1, bX0_isScoped_681, eg]
  have hh : ∀ s' : sp_SS, ∀ k : Int32 → mj_X → mj_R, mj_g n 4000 (mj_rI (kX0 d 22 [.int ((cw_sc x s').1 1 n.toNatClampNeg)] (cw_sc x s')) k) = k 1 (cw_sc x s') := by
    intro s' k
    rw [hg, (cw_sc_T hx s').2.2.1, sX0_hasB (by omega), e, mj_rI_k]; rfl
  refine ⟨?_, (sp_twoq hA hB (show D ≤ d by omega) (show D ≤ d by omega) hs hW hw).2⟩
  rw [← (sp_twoq hA hB (show D ≤ d by omega) (show D ≤ d by omega) hs hW hw).1, (hA d (by omega) s hs (by omega)).1]
  unfold sp_o
  rw [mj_rI_k, mj_rI_k, sp_ib, sp_ib]
  by_cases q : (sp_sc nt f (nt 1 n.toNatClampNeg) s).1 = false
  · rw [if_pos q, if_pos q]
  · rw [if_neg q, if_neg q, hh, if_neg (by decide)]
theorem cw_s19 {x : mj_X} {nt : sp_NT} {N D W f wa wb : Nat} {n : Int32} (hx : cw_T x nt N) (hn : sp_nd N n = true) (hD : 2 ≤ D) (e : nt 0 n.toNatClampNeg = 19) (hA : sp_SC kX0 (cw_sc x) N D 28 (nt 1 n.toNatClampNeg) wa (sp_sc nt f (nt 1 n.toNatClampNeg))) (hB : ¬ (nt 2 n.toNatClampNeg) = -1 → sp_SC kX0 (cw_sc x) N D 28 (nt 2 n.toNatClampNeg) wb (sp_sc nt f (nt 2 n.toNatClampNeg))) (hw : wa + wb ≤ W) : sp_SC kX0 (cw_sc x) N (D + 2) 28 n W (sp_sc nt (f + 1) n) := by
  intro d hd s hs hW
  obtain ⟨d, rfl⟩ : ∃ c, d = c + 1 := ⟨d - 1, by omega⟩
  have hN := hx.2.1
  have hg := fun r => mj_g_k (sp_nd_in hN hn (Nat.le_refl _)) r
  have hT := cw_sc_T hx s
  have eg : sp_sc nt (f + 1) n s = sp_th (sp_sc nt f (nt 1 n.toNatClampNeg) s) fun s => if (nt 2 n.toNatClampNeg) = -1 then (true, s) else sp_sc nt f (nt 2 n.toNatClampNeg) s := by rw [sp_sc_s nt f n s, e]; rfl
  rw [wX0_isScoped_0_19 d n (cw_sc x s) (by rw [hT.2.2.1]; exact e), hg, hg, hg, hT.2.2.2.1, hT.2.2.2.2.1, bX0_isScoped_681, eg]
  have hh : ∀ s' : sp_SS, ∀ k : Int32 → mj_X → mj_R, mj_g n 4000 (mj_rI (kX0 d 22 [.int ((cw_sc x s').1 1 n.toNatClampNeg)] (cw_sc x s')) k) = k 1 (cw_sc x s') := by
    intro s' k
    rw [hg, (cw_sc_T hx s').2.2.1, sX0_hasB (by omega), e, mj_rI_k]; rfl
  refine ⟨?_, (sp_twoq hA hB (show D ≤ d by omega) (show D ≤ d by omega) hs hW hw).2⟩
  rw [← (sp_twoq hA hB (show D ≤ d by omega) (show D ≤ d by omega) hs hW hw).1, (hA d (by omega) s hs (by omega)).1]
  unfold sp_o
  rw [mj_rI_k, mj_rI_k, sp_ib, sp_ib]
  by_cases q : (sp_sc nt f (nt 1 n.toNatClampNeg) s).1 = false
  · rw [if_pos q, if_pos q]
  · rw [if_neg q, if_neg q, hh, if_neg (by decide)]
theorem cw_s20 {x : mj_X} {nt : sp_NT} {N D W f wa wb : Nat} {n : Int32} (hx : cw_T x nt N) (hn : sp_nd N n = true) (hD : 2 ≤ D) (e : nt 0 n.toNatClampNeg = 20) (hA : sp_SC kX0 (cw_sc x) N D 28 (nt 1 n.toNatClampNeg) wa (sp_sc nt f (nt 1 n.toNatClampNeg))) (hB : ¬ (nt 2 n.toNatClampNeg) = -1 → sp_SC kX0 (cw_sc x) N D 28 (nt 2 n.toNatClampNeg) wb (sp_sc nt f (nt 2 n.toNatClampNeg))) (hw : wa + wb ≤ W) : sp_SC kX0 (cw_sc x) N (D + 2) 28 n W (sp_sc nt (f + 1) n) := by
  intro d hd s hs hW
  obtain ⟨d, rfl⟩ : ∃ c, d = c + 1 := ⟨d - 1, by omega⟩
  have hN := hx.2.1
  have hg := fun r => mj_g_k (sp_nd_in hN hn (Nat.le_refl _)) r
  have hT := cw_sc_T hx s
  have eg : sp_sc nt (f + 1) n s = sp_th (sp_sc nt f (nt 1 n.toNatClampNeg) s) fun s => if (nt 2 n.toNatClampNeg) = -1 then (true, s) else sp_sc nt f (nt 2 n.toNatClampNeg) s := by rw [sp_sc_s nt f n s, e]; rfl
  rw [wX0_isScoped_0_20 d n (cw_sc x s) (by rw [hT.2.2.1]; exact e), hg, hg, hg, hT.2.2.2.1, hT.2.2.2.2.1, bX0_isScoped_681, eg]
  have hh : ∀ s' : sp_SS, ∀ k : Int32 → mj_X → mj_R, mj_g n 4000 (mj_rI (kX0 d 22 [.int ((cw_sc x s').1 1 n.toNatClampNeg)] (cw_sc x s')) k) = k 1 (cw_sc x s') := by
    intro s' k
    rw [hg, (cw_sc_T hx s').2.2.1, sX0_hasB (by omega), e, mj_rI_k]; rfl
  refine ⟨?_, (sp_twoq hA hB (show D ≤ d by omega) (show D ≤ d by omega) hs hW hw).2⟩
  rw [← (sp_twoq hA hB (show D ≤ d by omega) (show D ≤ d by omega) hs hW hw).1, (hA d (by omega) s hs (by omega)).1]
  unfold sp_o
  rw [mj_rI_k, mj_rI_k, sp_ib, sp_ib]
  by_cases q : (sp_sc nt f (nt 1 n.toNatClampNeg) s).1 = false
  · rw [if_pos q, if_pos q]
  · rw [if_neg q, if_neg q, hh, if_neg (by decide)]
theorem cw_s21 {x : mj_X} {nt : sp_NT} {N D W f wa wb : Nat} {n : Int32} (hx : cw_T x nt N) (hn : sp_nd N n = true) (hD : 2 ≤ D) (e : nt 0 n.toNatClampNeg = 21) (hA : sp_SC kX0 (cw_sc x) N D 28 (nt 1 n.toNatClampNeg) wa (sp_sc nt f (nt 1 n.toNatClampNeg))) (hB : ¬ (nt 2 n.toNatClampNeg) = -1 → sp_SC kX0 (cw_sc x) N D 28 (nt 2 n.toNatClampNeg) wb (sp_sc nt f (nt 2 n.toNatClampNeg))) (hw : wa + wb ≤ W) : sp_SC kX0 (cw_sc x) N (D + 2) 28 n W (sp_sc nt (f + 1) n) := by
  intro d hd s hs hW
  obtain ⟨d, rfl⟩ : ∃ c, d = c + 1 := ⟨d - 1, by omega⟩
  have hN := hx.2.1
  have hg := fun r => mj_g_k (sp_nd_in hN hn (Nat.le_refl _)) r
  have hT := cw_sc_T hx s
  have eg : sp_sc nt (f + 1) n s = sp_th (sp_sc nt f (nt 1 n.toNatClampNeg) s) fun s => if (nt 2 n.toNatClampNeg) = -1 then (true, s) else sp_sc nt f (nt 2 n.toNatClampNeg) s := by rw [sp_sc_s nt f n s, e]; rfl
  rw [wX0_isScoped_0_21 d n (cw_sc x s) (by rw [hT.2.2.1]; exact e), hg, hg, hg, hT.2.2.2.1, hT.2.2.2.2.1, bX0_isScoped_681, eg]
  have hh : ∀ s' : sp_SS, ∀ k : Int32 → mj_X → mj_R, mj_g n 4000 (mj_rI (kX0 d 22 [.int ((cw_sc x s').1 1 n.toNatClampNeg)] (cw_sc x s')) k) = k 1 (cw_sc x s') := by
    intro s' k
    rw [hg, (cw_sc_T hx s').2.2.1, sX0_hasB (by omega), e, mj_rI_k]; rfl
  refine ⟨?_, (sp_twoq hA hB (show D ≤ d by omega) (show D ≤ d by omega) hs hW hw).2⟩
  rw [← (sp_twoq hA hB (show D ≤ d by omega) (show D ≤ d by omega) hs hW hw).1, (hA d (by omega) s hs (by omega)).1]
  unfold sp_o
  rw [mj_rI_k, mj_rI_k, sp_ib, sp_ib]
  by_cases q : (sp_sc nt f (nt 1 n.toNatClampNeg) s).1 = false
  · rw [if_pos q, if_pos q]
  · rw [if_neg q, if_neg q, hh, if_neg (by decide)]
theorem cw_s23 {x : mj_X} {nt : sp_NT} {N D W f wa wb : Nat} {n : Int32} (hx : cw_T x nt N) (hn : sp_nd N n = true) (hD : 2 ≤ D) (e : nt 0 n.toNatClampNeg = 23) (hA : sp_SC kX0 (cw_sc x) N D 28 (nt 1 n.toNatClampNeg) wa (sp_sc nt f (nt 1 n.toNatClampNeg))) (hB : ¬ (nt 2 n.toNatClampNeg) = -1 → sp_SC kX0 (cw_sc x) N D 28 (nt 2 n.toNatClampNeg) wb (sp_sc nt f (nt 2 n.toNatClampNeg))) (hw : wa + wb ≤ W) : sp_SC kX0 (cw_sc x) N (D + 2) 28 n W (sp_sc nt (f + 1) n) := by
  intro d hd s hs hW
  obtain ⟨d, rfl⟩ : ∃ c, d = c + 1 := ⟨d - 1, by omega⟩
  have hN := hx.2.1
  have hg := fun r => mj_g_k (sp_nd_in hN hn (Nat.le_refl _)) r
  have hT := cw_sc_T hx s
  have eg : sp_sc nt (f + 1) n s = sp_th (sp_sc nt f (nt 1 n.toNatClampNeg) s) fun s => if (nt 2 n.toNatClampNeg) = -1 then (true, s) else sp_sc nt f (nt 2 n.toNatClampNeg) s := by rw [sp_sc_s nt f n s, e]; rfl
  rw [wX0_isScoped_0_23 d n (cw_sc x s) (by rw [hT.2.2.1]; exact e), hg, hg, hg, hT.2.2.2.1, hT.2.2.2.2.1, bX0_isScoped_681, eg]
  have hh : ∀ s' : sp_SS, ∀ k : Int32 → mj_X → mj_R, mj_g n 4000 (mj_rI (kX0 d 22 [.int ((cw_sc x s').1 1 n.toNatClampNeg)] (cw_sc x s')) k) = k 1 (cw_sc x s') := by
    intro s' k
    rw [hg, (cw_sc_T hx s').2.2.1, sX0_hasB (by omega), e, mj_rI_k]; rfl
  refine ⟨?_, (sp_twoq hA hB (show D ≤ d by omega) (show D ≤ d by omega) hs hW hw).2⟩
  rw [← (sp_twoq hA hB (show D ≤ d by omega) (show D ≤ d by omega) hs hW hw).1, (hA d (by omega) s hs (by omega)).1]
  unfold sp_o
  rw [mj_rI_k, mj_rI_k, sp_ib, sp_ib]
  by_cases q : (sp_sc nt f (nt 1 n.toNatClampNeg) s).1 = false
  · rw [if_pos q, if_pos q]
  · rw [if_neg q, if_neg q, hh, if_neg (by decide)]
theorem cw_s24 {x : mj_X} {nt : sp_NT} {N D W f wa wb : Nat} {n : Int32} (hx : cw_T x nt N) (hn : sp_nd N n = true) (hD : 2 ≤ D) (e : nt 0 n.toNatClampNeg = 24) (hA : sp_SC kX0 (cw_sc x) N D 28 (nt 1 n.toNatClampNeg) wa (sp_sc nt f (nt 1 n.toNatClampNeg))) (hB : ¬ (nt 2 n.toNatClampNeg) = -1 → sp_SC kX0 (cw_sc x) N D 28 (nt 2 n.toNatClampNeg) wb (sp_sc nt f (nt 2 n.toNatClampNeg))) (hw : wa + wb ≤ W) : sp_SC kX0 (cw_sc x) N (D + 2) 28 n W (sp_sc nt (f + 1) n) := by
  intro d hd s hs hW
  obtain ⟨d, rfl⟩ : ∃ c, d = c + 1 := ⟨d - 1, by omega⟩
  have hN := hx.2.1
  have hg := fun r => mj_g_k (sp_nd_in hN hn (Nat.le_refl _)) r
  have hT := cw_sc_T hx s
  have eg : sp_sc nt (f + 1) n s = sp_th (sp_sc nt f (nt 1 n.toNatClampNeg) s) fun s => if (nt 2 n.toNatClampNeg) = -1 then (true, s) else sp_sc nt f (nt 2 n.toNatClampNeg) s := by rw [sp_sc_s nt f n s, e]; rfl
  rw [wX0_isScoped_0_24 d n (cw_sc x s) (by rw [hT.2.2.1]; exact e), hg, hg, hg, hT.2.2.2.1, hT.2.2.2.2.1, bX0_isScoped_681, eg]
  have hh : ∀ s' : sp_SS, ∀ k : Int32 → mj_X → mj_R, mj_g n 4000 (mj_rI (kX0 d 22 [.int ((cw_sc x s').1 1 n.toNatClampNeg)] (cw_sc x s')) k) = k 1 (cw_sc x s') := by
    intro s' k
    rw [hg, (cw_sc_T hx s').2.2.1, sX0_hasB (by omega), e, mj_rI_k]; rfl
  refine ⟨?_, (sp_twoq hA hB (show D ≤ d by omega) (show D ≤ d by omega) hs hW hw).2⟩
  rw [← (sp_twoq hA hB (show D ≤ d by omega) (show D ≤ d by omega) hs hW hw).1, (hA d (by omega) s hs (by omega)).1]
  unfold sp_o
  rw [mj_rI_k, mj_rI_k, sp_ib, sp_ib]
  by_cases q : (sp_sc nt f (nt 1 n.toNatClampNeg) s).1 = false
  · rw [if_pos q, if_pos q]
  · rw [if_neg q, if_neg q, hh, if_neg (by decide)]
theorem cw_s25 {x : mj_X} {nt : sp_NT} {N D W f wa wb : Nat} {n : Int32} (hx : cw_T x nt N) (hn : sp_nd N n = true) (hD : 2 ≤ D) (e : nt 0 n.toNatClampNeg = 25) (hA : sp_SC kX0 (cw_sc x) N D 28 (nt 1 n.toNatClampNeg) wa (sp_sc nt f (nt 1 n.toNatClampNeg))) (hB : ¬ (nt 2 n.toNatClampNeg) = -1 → sp_SC kX0 (cw_sc x) N D 28 (nt 2 n.toNatClampNeg) wb (sp_sc nt f (nt 2 n.toNatClampNeg))) (hw : wa + wb ≤ W) : sp_SC kX0 (cw_sc x) N (D + 2) 28 n W (sp_sc nt (f + 1) n) := by
  intro d hd s hs hW
  obtain ⟨d, rfl⟩ : ∃ c, d = c + 1 := ⟨d - 1, by omega⟩
  have hN := hx.2.1
  have hg := fun r => mj_g_k (sp_nd_in hN hn (Nat.le_refl _)) r
  have hT := cw_sc_T hx s
  have eg : sp_sc nt (f + 1) n s = sp_th (sp_sc nt f (nt 1 n.toNatClampNeg) s) fun s => if (nt 2 n.toNatClampNeg) = -1 then (true, s) else sp_sc nt f (nt 2 n.toNatClampNeg) s := by rw [sp_sc_s nt f n s, e]; rfl
  rw [wX0_isScoped_0_25 d n (cw_sc x s) (by rw [hT.2.2.1]; exact e), hg, hg, hg, hT.2.2.2.1, hT.2.2.2.2.1, bX0_isScoped_681, eg]
  have hh : ∀ s' : sp_SS, ∀ k : Int32 → mj_X → mj_R, mj_g n 4000 (mj_rI (kX0 d 22 [.int ((cw_sc x s').1 1 n.toNatClampNeg)] (cw_sc x s')) k) = k 1 (cw_sc x s') := by
    intro s' k
    rw [hg, (cw_sc_T hx s').2.2.1, sX0_hasB (by omega), e, mj_rI_k]; rfl
  refine ⟨?_, (sp_twoq hA hB (show D ≤ d by omega) (show D ≤ d by omega) hs hW hw).2⟩
  rw [← (sp_twoq hA hB (show D ≤ d by omega) (show D ≤ d by omega) hs hW hw).1, (hA d (by omega) s hs (by omega)).1]
  unfold sp_o
  rw [mj_rI_k, mj_rI_k, sp_ib, sp_ib]
  by_cases q : (sp_sc nt f (nt 1 n.toNatClampNeg) s).1 = false
  · rw [if_pos q, if_pos q]
  · rw [if_neg q, if_neg q, hh, if_neg (by decide)]
theorem cw_s26 {x : mj_X} {nt : sp_NT} {N D W f wa wb : Nat} {n : Int32} (hx : cw_T x nt N) (hn : sp_nd N n = true) (hD : 2 ≤ D) (e : nt 0 n.toNatClampNeg = 26) (hA : sp_SC kX0 (cw_sc x) N D 28 (nt 1 n.toNatClampNeg) wa (sp_sc nt f (nt 1 n.toNatClampNeg))) (hB : ¬ (nt 2 n.toNatClampNeg) = -1 → sp_SC kX0 (cw_sc x) N D 28 (nt 2 n.toNatClampNeg) wb (sp_sc nt f (nt 2 n.toNatClampNeg))) (hw : wa + wb ≤ W) : sp_SC kX0 (cw_sc x) N (D + 2) 28 n W (sp_sc nt (f + 1) n) := by
  intro d hd s hs hW
  obtain ⟨d, rfl⟩ : ∃ c, d = c + 1 := ⟨d - 1, by omega⟩
  have hN := hx.2.1
  have hg := fun r => mj_g_k (sp_nd_in hN hn (Nat.le_refl _)) r
  have hT := cw_sc_T hx s
  have eg : sp_sc nt (f + 1) n s = sp_th (sp_sc nt f (nt 1 n.toNatClampNeg) s) fun s => if (nt 2 n.toNatClampNeg) = -1 then (true, s) else sp_sc nt f (nt 2 n.toNatClampNeg) s := by rw [sp_sc_s nt f n s, e]; rfl
  rw [wX0_isScoped_0_26 d n (cw_sc x s) (by rw [hT.2.2.1]; exact e), hg, hg, hg, hT.2.2.2.1, hT.2.2.2.2.1, bX0_isScoped_681, eg]
  have hh : ∀ s' : sp_SS, ∀ k : Int32 → mj_X → mj_R, mj_g n 4000 (mj_rI (kX0 d 22 [.int ((cw_sc x s').1 1 n.toNatClampNeg)] (cw_sc x s')) k) = k 1 (cw_sc x s') := by
    intro s' k
    rw [hg, (cw_sc_T hx s').2.2.1, sX0_hasB (by omega), e, mj_rI_k]; rfl
  refine ⟨?_, (sp_twoq hA hB (show D ≤ d by omega) (show D ≤ d by omega) hs hW hw).2⟩
  rw [← (sp_twoq hA hB (show D ≤ d by omega) (show D ≤ d by omega) hs hW hw).1, (hA d (by omega) s hs (by omega)).1]
  unfold sp_o
  rw [mj_rI_k, mj_rI_k, sp_ib, sp_ib]
  by_cases q : (sp_sc nt f (nt 1 n.toNatClampNeg) s).1 = false
  · rw [if_pos q, if_pos q]
  · rw [if_neg q, if_neg q, hh, if_neg (by decide)]
theorem cw_s27 {x : mj_X} {nt : sp_NT} {N D W f wa wb : Nat} {n : Int32} (hx : cw_T x nt N) (hn : sp_nd N n = true) (hD : 2 ≤ D) (e : nt 0 n.toNatClampNeg = 27) (hA : sp_SC kX0 (cw_sc x) N D 28 (nt 1 n.toNatClampNeg) wa (sp_sc nt f (nt 1 n.toNatClampNeg))) (hB : ¬ (nt 2 n.toNatClampNeg) = -1 → sp_SC kX0 (cw_sc x) N D 28 (nt 2 n.toNatClampNeg) wb (sp_sc nt f (nt 2 n.toNatClampNeg))) (hw : wa + wb ≤ W) : sp_SC kX0 (cw_sc x) N (D + 2) 28 n W (sp_sc nt (f + 1) n) := by
  intro d hd s hs hW
  obtain ⟨d, rfl⟩ : ∃ c, d = c + 1 := ⟨d - 1, by omega⟩
  have hN := hx.2.1
  have hg := fun r => mj_g_k (sp_nd_in hN hn (Nat.le_refl _)) r
  have hT := cw_sc_T hx s
  have eg : sp_sc nt (f + 1) n s = sp_th (sp_sc nt f (nt 1 n.toNatClampNeg) s) fun s => if (nt 2 n.toNatClampNeg) = -1 then (true, s) else sp_sc nt f (nt 2 n.toNatClampNeg) s := by rw [sp_sc_s nt f n s, e]; rfl
  rw [wX0_isScoped_0_27 d n (cw_sc x s) (by rw [hT.2.2.1]; exact e), hg, hg, hg, hT.2.2.2.1, hT.2.2.2.2.1, bX0_isScoped_681, eg]
  have hh : ∀ s' : sp_SS, ∀ k : Int32 → mj_X → mj_R, mj_g n 4000 (mj_rI (kX0 d 22 [.int ((cw_sc x s').1 1 n.toNatClampNeg)] (cw_sc x s')) k) = k 1 (cw_sc x s') := by
    intro s' k
    rw [hg, (cw_sc_T hx s').2.2.1, sX0_hasB (by omega), e, mj_rI_k]; rfl
  refine ⟨?_, (sp_twoq hA hB (show D ≤ d by omega) (show D ≤ d by omega) hs hW hw).2⟩
  rw [← (sp_twoq hA hB (show D ≤ d by omega) (show D ≤ d by omega) hs hW hw).1, (hA d (by omega) s hs (by omega)).1]
  unfold sp_o
  rw [mj_rI_k, mj_rI_k, sp_ib, sp_ib]
  by_cases q : (sp_sc nt f (nt 1 n.toNatClampNeg) s).1 = false
  · rw [if_pos q, if_pos q]
  · rw [if_neg q, if_neg q, hh, if_neg (by decide)]
theorem cw_s28 {x : mj_X} {nt : sp_NT} {N D W f wa wb : Nat} {n : Int32} (hx : cw_T x nt N) (hn : sp_nd N n = true) (hD : 2 ≤ D) (e : nt 0 n.toNatClampNeg = 28) (hA : sp_SC kX0 (cw_sc x) N D 28 (nt 1 n.toNatClampNeg) wa (sp_sc nt f (nt 1 n.toNatClampNeg))) (hB : ¬ (nt 2 n.toNatClampNeg) = -1 → sp_SC kX0 (cw_sc x) N D 28 (nt 2 n.toNatClampNeg) wb (sp_sc nt f (nt 2 n.toNatClampNeg))) (hw : wa + wb ≤ W) : sp_SC kX0 (cw_sc x) N (D + 2) 28 n W (sp_sc nt (f + 1) n) := by
  intro d hd s hs hW
  obtain ⟨d, rfl⟩ : ∃ c, d = c + 1 := ⟨d - 1, by omega⟩
  have hN := hx.2.1
  have hg := fun r => mj_g_k (sp_nd_in hN hn (Nat.le_refl _)) r
  have hT := cw_sc_T hx s
  have eg : sp_sc nt (f + 1) n s = sp_th (sp_sc nt f (nt 1 n.toNatClampNeg) s) fun s => if (nt 2 n.toNatClampNeg) = -1 then (true, s) else sp_sc nt f (nt 2 n.toNatClampNeg) s := by rw [sp_sc_s nt f n s, e]; rfl
  rw [wX0_isScoped_0_28 d n (cw_sc x s) (by rw [hT.2.2.1]; exact e), hg, hg, hg, hT.2.2.2.1, hT.2.2.2.2.1, bX0_isScoped_681, eg]
  have hh : ∀ s' : sp_SS, ∀ k : Int32 → mj_X → mj_R, mj_g n 4000 (mj_rI (kX0 d 22 [.int ((cw_sc x s').1 1 n.toNatClampNeg)] (cw_sc x s')) k) = k 1 (cw_sc x s') := by
    intro s' k
    rw [hg, (cw_sc_T hx s').2.2.1, sX0_hasB (by omega), e, mj_rI_k]; rfl
  refine ⟨?_, (sp_twoq hA hB (show D ≤ d by omega) (show D ≤ d by omega) hs hW hw).2⟩
  rw [← (sp_twoq hA hB (show D ≤ d by omega) (show D ≤ d by omega) hs hW hw).1, (hA d (by omega) s hs (by omega)).1]
  unfold sp_o
  rw [mj_rI_k, mj_rI_k, sp_ib, sp_ib]
  by_cases q : (sp_sc nt f (nt 1 n.toNatClampNeg) s).1 = false
  · rw [if_pos q, if_pos q]
  · rw [if_neg q, if_neg q, hh, if_neg (by decide)]
theorem cw_s29 {x : mj_X} {nt : sp_NT} {N D W f wa wb : Nat} {n : Int32} (hx : cw_T x nt N) (hn : sp_nd N n = true) (hD : 2 ≤ D) (e : nt 0 n.toNatClampNeg = 29) (hA : sp_SC kX0 (cw_sc x) N D 28 (nt 1 n.toNatClampNeg) wa (sp_sc nt f (nt 1 n.toNatClampNeg))) (hB : ¬ (nt 2 n.toNatClampNeg) = -1 → sp_SC kX0 (cw_sc x) N D 28 (nt 2 n.toNatClampNeg) wb (sp_sc nt f (nt 2 n.toNatClampNeg))) (hw : wa + wb ≤ W) : sp_SC kX0 (cw_sc x) N (D + 2) 28 n W (sp_sc nt (f + 1) n) := by
  intro d hd s hs hW
  obtain ⟨d, rfl⟩ : ∃ c, d = c + 1 := ⟨d - 1, by omega⟩
  have hN := hx.2.1
  have hg := fun r => mj_g_k (sp_nd_in hN hn (Nat.le_refl _)) r
  have hT := cw_sc_T hx s
  have eg : sp_sc nt (f + 1) n s = sp_th (sp_sc nt f (nt 1 n.toNatClampNeg) s) fun s => if (nt 2 n.toNatClampNeg) = -1 then (true, s) else sp_sc nt f (nt 2 n.toNatClampNeg) s := by rw [sp_sc_s nt f n s, e]; rfl
  rw [wX0_isScoped_0_29 d n (cw_sc x s) (by rw [hT.2.2.1]; exact e), hg, hg, hg, hT.2.2.2.1, hT.2.2.2.2.1, bX0_isScoped_681, eg]
  have hh : ∀ s' : sp_SS, ∀ k : Int32 → mj_X → mj_R, mj_g n 4000 (mj_rI (kX0 d 22 [.int ((cw_sc x s').1 1 n.toNatClampNeg)] (cw_sc x s')) k) = k 1 (cw_sc x s') := by
    intro s' k
    rw [hg, (cw_sc_T hx s').2.2.1, sX0_hasB (by omega), e, mj_rI_k]; rfl
  refine ⟨?_, (sp_twoq hA hB (show D ≤ d by omega) (show D ≤ d by omega) hs hW hw).2⟩
  rw [← (sp_twoq hA hB (show D ≤ d by omega) (show D ≤ d by omega) hs hW hw).1, (hA d (by omega) s hs (by omega)).1]
  unfold sp_o
  rw [mj_rI_k, mj_rI_k, sp_ib, sp_ib]
  by_cases q : (sp_sc nt f (nt 1 n.toNatClampNeg) s).1 = false
  · rw [if_pos q, if_pos q]
  · rw [if_neg q, if_neg q, hh, if_neg (by decide)]
theorem cw_s30 {x : mj_X} {nt : sp_NT} {N D W f wa wb : Nat} {n : Int32} (hx : cw_T x nt N) (hn : sp_nd N n = true) (hD : 2 ≤ D) (e : nt 0 n.toNatClampNeg = 30) (hA : sp_SC kX0 (cw_sc x) N D 28 (nt 1 n.toNatClampNeg) wa (sp_sc nt f (nt 1 n.toNatClampNeg))) (hB : ¬ (nt 2 n.toNatClampNeg) = -1 → sp_SC kX0 (cw_sc x) N D 28 (nt 2 n.toNatClampNeg) wb (sp_sc nt f (nt 2 n.toNatClampNeg))) (hw : wa + wb ≤ W) : sp_SC kX0 (cw_sc x) N (D + 2) 28 n W (sp_sc nt (f + 1) n) := by
  intro d hd s hs hW
  obtain ⟨d, rfl⟩ : ∃ c, d = c + 1 := ⟨d - 1, by omega⟩
  have hN := hx.2.1
  have hg := fun r => mj_g_k (sp_nd_in hN hn (Nat.le_refl _)) r
  have hT := cw_sc_T hx s
  have eg : sp_sc nt (f + 1) n s = sp_th (sp_sc nt f (nt 1 n.toNatClampNeg) s) fun s => if (nt 2 n.toNatClampNeg) = -1 then (true, s) else sp_sc nt f (nt 2 n.toNatClampNeg) s := by rw [sp_sc_s nt f n s, e]; rfl
  rw [wX0_isScoped_0_30 d n (cw_sc x s) (by rw [hT.2.2.1]; exact e), hg, hg, hg, hT.2.2.2.1, hT.2.2.2.2.1, bX0_isScoped_681, eg]
  have hh : ∀ s' : sp_SS, ∀ k : Int32 → mj_X → mj_R, mj_g n 4000 (mj_rI (kX0 d 22 [.int ((cw_sc x s').1 1 n.toNatClampNeg)] (cw_sc x s')) k) = k 1 (cw_sc x s') := by
    intro s' k
    rw [hg, (cw_sc_T hx s').2.2.1, sX0_hasB (by omega), e, mj_rI_k]; rfl
  refine ⟨?_, (sp_twoq hA hB (show D ≤ d by omega) (show D ≤ d by omega) hs hW hw).2⟩
  rw [← (sp_twoq hA hB (show D ≤ d by omega) (show D ≤ d by omega) hs hW hw).1, (hA d (by omega) s hs (by omega)).1]
  unfold sp_o
  rw [mj_rI_k, mj_rI_k, sp_ib, sp_ib]
  by_cases q : (sp_sc nt f (nt 1 n.toNatClampNeg) s).1 = false
  · rw [if_pos q, if_pos q]
  · rw [if_neg q, if_neg q, hh, if_neg (by decide)]
theorem cw_s31 {x : mj_X} {nt : sp_NT} {N D W f wa wb : Nat} {n : Int32} (hx : cw_T x nt N) (hn : sp_nd N n = true) (hD : 2 ≤ D) (e : nt 0 n.toNatClampNeg = 31) (hA : sp_SC kX0 (cw_sc x) N D 28 (nt 1 n.toNatClampNeg) wa (sp_sc nt f (nt 1 n.toNatClampNeg))) (hB : ¬ (nt 2 n.toNatClampNeg) = -1 → sp_SC kX0 (cw_sc x) N D 28 (nt 2 n.toNatClampNeg) wb (sp_sc nt f (nt 2 n.toNatClampNeg))) (hw : wa + wb ≤ W) : sp_SC kX0 (cw_sc x) N (D + 2) 28 n W (sp_sc nt (f + 1) n) := by
  intro d hd s hs hW
  obtain ⟨d, rfl⟩ : ∃ c, d = c + 1 := ⟨d - 1, by omega⟩
  have hN := hx.2.1
  have hg := fun r => mj_g_k (sp_nd_in hN hn (Nat.le_refl _)) r
  have hT := cw_sc_T hx s
  have eg : sp_sc nt (f + 1) n s = sp_th (sp_sc nt f (nt 1 n.toNatClampNeg) s) fun s => if (nt 2 n.toNatClampNeg) = -1 then (true, s) else sp_sc nt f (nt 2 n.toNatClampNeg) s := by rw [sp_sc_s nt f n s, e]; rfl
  rw [wX0_isScoped_0_31 d n (cw_sc x s) (by rw [hT.2.2.1]; exact e), hg, hg, hg, hT.2.2.2.1, hT.2.2.2.2.1, bX0_isScoped_681, eg]
  have hh : ∀ s' : sp_SS, ∀ k : Int32 → mj_X → mj_R, mj_g n 4000 (mj_rI (kX0 d 22 [.int ((cw_sc x s').1 1 n.toNatClampNeg)] (cw_sc x s')) k) = k 1 (cw_sc x s') := by
    intro s' k
    rw [hg, (cw_sc_T hx s').2.2.1, sX0_hasB (by omega), e, mj_rI_k]; rfl
  refine ⟨?_, (sp_twoq hA hB (show D ≤ d by omega) (show D ≤ d by omega) hs hW hw).2⟩
  rw [← (sp_twoq hA hB (show D ≤ d by omega) (show D ≤ d by omega) hs hW hw).1, (hA d (by omega) s hs (by omega)).1]
  unfold sp_o
  rw [mj_rI_k, mj_rI_k, sp_ib, sp_ib]
  by_cases q : (sp_sc nt f (nt 1 n.toNatClampNeg) s).1 = false
  · rw [if_pos q, if_pos q]
  · rw [if_neg q, if_neg q, hh, if_neg (by decide)]
theorem cw_s32 {x : mj_X} {nt : sp_NT} {N D W f wa wb : Nat} {n : Int32} (hx : cw_T x nt N) (hn : sp_nd N n = true) (hD : 2 ≤ D) (e : nt 0 n.toNatClampNeg = 32) (hA : sp_SC kX0 (cw_sc x) N D 28 (nt 1 n.toNatClampNeg) wa (sp_sc nt f (nt 1 n.toNatClampNeg))) (hB : ¬ (nt 2 n.toNatClampNeg) = -1 → sp_SC kX0 (cw_sc x) N D 28 (nt 2 n.toNatClampNeg) wb (sp_sc nt f (nt 2 n.toNatClampNeg))) (hw : wa + wb ≤ W) : sp_SC kX0 (cw_sc x) N (D + 2) 28 n W (sp_sc nt (f + 1) n) := by
  intro d hd s hs hW
  obtain ⟨d, rfl⟩ : ∃ c, d = c + 1 := ⟨d - 1, by omega⟩
  have hN := hx.2.1
  have hg := fun r => mj_g_k (sp_nd_in hN hn (Nat.le_refl _)) r
  have hT := cw_sc_T hx s
  have eg : sp_sc nt (f + 1) n s = sp_th (sp_sc nt f (nt 1 n.toNatClampNeg) s) fun s => if (nt 2 n.toNatClampNeg) = -1 then (true, s) else sp_sc nt f (nt 2 n.toNatClampNeg) s := by rw [sp_sc_s nt f n s, e]; rfl
  rw [wX0_isScoped_0_32 d n (cw_sc x s) (by rw [hT.2.2.1]; exact e), hg, hg, hg, hT.2.2.2.1, hT.2.2.2.2.1, bX0_isScoped_681, eg]
  have hh : ∀ s' : sp_SS, ∀ k : Int32 → mj_X → mj_R, mj_g n 4000 (mj_rI (kX0 d 22 [.int ((cw_sc x s').1 1 n.toNatClampNeg)] (cw_sc x s')) k) = k 1 (cw_sc x s') := by
    intro s' k
    rw [hg, (cw_sc_T hx s').2.2.1, sX0_hasB (by omega), e, mj_rI_k]; rfl
  refine ⟨?_, (sp_twoq hA hB (show D ≤ d by omega) (show D ≤ d by omega) hs hW hw).2⟩
  rw [← (sp_twoq hA hB (show D ≤ d by omega) (show D ≤ d by omega) hs hW hw).1, (hA d (by omega) s hs (by omega)).1]
  unfold sp_o
  rw [mj_rI_k, mj_rI_k, sp_ib, sp_ib]
  by_cases q : (sp_sc nt f (nt 1 n.toNatClampNeg) s).1 = false
  · rw [if_pos q, if_pos q]
  · rw [if_neg q, if_neg q, hh, if_neg (by decide)]
theorem cw_s33 {x : mj_X} {nt : sp_NT} {N D W f wa wb : Nat} {n : Int32} (hx : cw_T x nt N) (hn : sp_nd N n = true) (hD : 2 ≤ D) (e : nt 0 n.toNatClampNeg = 33) (hA : sp_SC kX0 (cw_sc x) N D 28 (nt 1 n.toNatClampNeg) wa (sp_sc nt f (nt 1 n.toNatClampNeg))) (hB : ¬ (nt 2 n.toNatClampNeg) = -1 → sp_SC kX0 (cw_sc x) N D 28 (nt 2 n.toNatClampNeg) wb (sp_sc nt f (nt 2 n.toNatClampNeg))) (hw : wa + wb ≤ W) : sp_SC kX0 (cw_sc x) N (D + 2) 28 n W (sp_sc nt (f + 1) n) := by
  intro d hd s hs hW
  obtain ⟨d, rfl⟩ : ∃ c, d = c + 1 := ⟨d - 1, by omega⟩
  have hN := hx.2.1
  have hg := fun r => mj_g_k (sp_nd_in hN hn (Nat.le_refl _)) r
  have hT := cw_sc_T hx s
  have eg : sp_sc nt (f + 1) n s = sp_th (sp_sc nt f (nt 1 n.toNatClampNeg) s) fun s => if (nt 2 n.toNatClampNeg) = -1 then (true, s) else sp_sc nt f (nt 2 n.toNatClampNeg) s := by rw [sp_sc_s nt f n s, e]; rfl
  rw [wX0_isScoped_0_33 d n (cw_sc x s) (by rw [hT.2.2.1]; exact e), hg, hg, hg, hT.2.2.2.1, hT.2.2.2.2.1, bX0_isScoped_681, eg]
  have hh : ∀ s' : sp_SS, ∀ k : Int32 → mj_X → mj_R, mj_g n 4000 (mj_rI (kX0 d 22 [.int ((cw_sc x s').1 1 n.toNatClampNeg)] (cw_sc x s')) k) = k 1 (cw_sc x s') := by
    intro s' k
    rw [hg, (cw_sc_T hx s').2.2.1, sX0_hasB (by omega), e, mj_rI_k]; rfl
  refine ⟨?_, (sp_twoq hA hB (show D ≤ d by omega) (show D ≤ d by omega) hs hW hw).2⟩
  rw [← (sp_twoq hA hB (show D ≤ d by omega) (show D ≤ d by omega) hs hW hw).1, (hA d (by omega) s hs (by omega)).1]
  unfold sp_o
  rw [mj_rI_k, mj_rI_k, sp_ib, sp_ib]
  by_cases q : (sp_sc nt f (nt 1 n.toNatClampNeg) s).1 = false
  · rw [if_pos q, if_pos q]
  · rw [if_neg q, if_neg q, hh, if_neg (by decide)]
theorem cw_s35 {x : mj_X} {nt : sp_NT} {N D W f wa wb : Nat} {n : Int32} (hx : cw_T x nt N) (hn : sp_nd N n = true) (hD : 2 ≤ D) (e : nt 0 n.toNatClampNeg = 35) (hA : sp_SC kX0 (cw_sc x) N D 28 (nt 1 n.toNatClampNeg) wa (sp_sc nt f (nt 1 n.toNatClampNeg))) (hB : ¬ (nt 2 n.toNatClampNeg) = -1 → sp_SC kX0 (cw_sc x) N D 28 (nt 2 n.toNatClampNeg) wb (sp_sc nt f (nt 2 n.toNatClampNeg))) (hw : wa + wb ≤ W) : sp_SC kX0 (cw_sc x) N (D + 2) 28 n W (sp_sc nt (f + 1) n) := by
  intro d hd s hs hW
  obtain ⟨d, rfl⟩ : ∃ c, d = c + 1 := ⟨d - 1, by omega⟩
  have hN := hx.2.1
  have hg := fun r => mj_g_k (sp_nd_in hN hn (Nat.le_refl _)) r
  have hT := cw_sc_T hx s
  have eg : sp_sc nt (f + 1) n s = sp_th (sp_sc nt f (nt 1 n.toNatClampNeg) s) fun s => if (nt 2 n.toNatClampNeg) = -1 then (true, s) else sp_sc nt f (nt 2 n.toNatClampNeg) s := by rw [sp_sc_s nt f n s, e]; rfl
  rw [wX0_isScoped_0_35 d n (cw_sc x s) (by rw [hT.2.2.1]; exact e), hg, hg, hg, hT.2.2.2.1, hT.2.2.2.2.1, bX0_isScoped_681, eg]
  have hh : ∀ s' : sp_SS, ∀ k : Int32 → mj_X → mj_R, mj_g n 4000 (mj_rI (kX0 d 22 [.int ((cw_sc x s').1 1 n.toNatClampNeg)] (cw_sc x s')) k) = k 1 (cw_sc x s') := by
    intro s' k
    rw [hg, (cw_sc_T hx s').2.2.1, sX0_hasB (by omega), e, mj_rI_k]; rfl
  refine ⟨?_, (sp_twoq hA hB (show D ≤ d by omega) (show D ≤ d by omega) hs hW hw).2⟩
  rw [← (sp_twoq hA hB (show D ≤ d by omega) (show D ≤ d by omega) hs hW hw).1, (hA d (by omega) s hs (by omega)).1]
  unfold sp_o
  rw [mj_rI_k, mj_rI_k, sp_ib, sp_ib]
  by_cases q : (sp_sc nt f (nt 1 n.toNatClampNeg) s).1 = false
  · rw [if_pos q, if_pos q]
  · rw [if_neg q, if_neg q, hh, if_neg (by decide)]
theorem cw_s36 {x : mj_X} {nt : sp_NT} {N D W f wa wb : Nat} {n : Int32} (hx : cw_T x nt N) (hn : sp_nd N n = true) (hD : 2 ≤ D) (e : nt 0 n.toNatClampNeg = 36) (hA : sp_SC kX0 (cw_sc x) N D 28 (nt 1 n.toNatClampNeg) wa (sp_sc nt f (nt 1 n.toNatClampNeg))) (hB : ¬ (nt 2 n.toNatClampNeg) = -1 → sp_SC kX0 (cw_sc x) N D 28 (nt 2 n.toNatClampNeg) wb (sp_sc nt f (nt 2 n.toNatClampNeg))) (hw : wa + wb ≤ W) : sp_SC kX0 (cw_sc x) N (D + 2) 28 n W (sp_sc nt (f + 1) n) := by
  intro d hd s hs hW
  obtain ⟨d, rfl⟩ : ∃ c, d = c + 1 := ⟨d - 1, by omega⟩
  have hN := hx.2.1
  have hg := fun r => mj_g_k (sp_nd_in hN hn (Nat.le_refl _)) r
  have hT := cw_sc_T hx s
  have eg : sp_sc nt (f + 1) n s = sp_th (sp_sc nt f (nt 1 n.toNatClampNeg) s) fun s => if (nt 2 n.toNatClampNeg) = -1 then (true, s) else sp_sc nt f (nt 2 n.toNatClampNeg) s := by rw [sp_sc_s nt f n s, e]; rfl
  rw [wX0_isScoped_0_36 d n (cw_sc x s) (by rw [hT.2.2.1]; exact e), hg, hg, hg, hT.2.2.2.1, hT.2.2.2.2.1, bX0_isScoped_681, eg]
  have hh : ∀ s' : sp_SS, ∀ k : Int32 → mj_X → mj_R, mj_g n 4000 (mj_rI (kX0 d 22 [.int ((cw_sc x s').1 1 n.toNatClampNeg)] (cw_sc x s')) k) = k 1 (cw_sc x s') := by
    intro s' k
    rw [hg, (cw_sc_T hx s').2.2.1, sX0_hasB (by omega), e, mj_rI_k]; rfl
  refine ⟨?_, (sp_twoq hA hB (show D ≤ d by omega) (show D ≤ d by omega) hs hW hw).2⟩
  rw [← (sp_twoq hA hB (show D ≤ d by omega) (show D ≤ d by omega) hs hW hw).1, (hA d (by omega) s hs (by omega)).1]
  unfold sp_o
  rw [mj_rI_k, mj_rI_k, sp_ib, sp_ib]
  by_cases q : (sp_sc nt f (nt 1 n.toNatClampNeg) s).1 = false
  · rw [if_pos q, if_pos q]
  · rw [if_neg q, if_neg q, hh, if_neg (by decide)]
theorem cw_s37 {x : mj_X} {nt : sp_NT} {N D W f wa wb : Nat} {n : Int32} (hx : cw_T x nt N) (hn : sp_nd N n = true) (hD : 2 ≤ D) (e : nt 0 n.toNatClampNeg = 37) (hA : sp_SC kX0 (cw_sc x) N D 28 (nt 1 n.toNatClampNeg) wa (sp_sc nt f (nt 1 n.toNatClampNeg))) (hB : ¬ (nt 2 n.toNatClampNeg) = -1 → sp_SC kX0 (cw_sc x) N D 28 (nt 2 n.toNatClampNeg) wb (sp_sc nt f (nt 2 n.toNatClampNeg))) (hw : wa + wb ≤ W) : sp_SC kX0 (cw_sc x) N (D + 2) 28 n W (sp_sc nt (f + 1) n) := by
  intro d hd s hs hW
  obtain ⟨d, rfl⟩ : ∃ c, d = c + 1 := ⟨d - 1, by omega⟩
  have hN := hx.2.1
  have hg := fun r => mj_g_k (sp_nd_in hN hn (Nat.le_refl _)) r
  have hT := cw_sc_T hx s
  have eg : sp_sc nt (f + 1) n s = sp_th (sp_sc nt f (nt 1 n.toNatClampNeg) s) fun s => if (nt 2 n.toNatClampNeg) = -1 then (true, s) else sp_sc nt f (nt 2 n.toNatClampNeg) s := by rw [sp_sc_s nt f n s, e]; rfl
  rw [wX0_isScoped_0_37 d n (cw_sc x s) (by rw [hT.2.2.1]; exact e), hg, hg, hg, hT.2.2.2.1, hT.2.2.2.2.1, bX0_isScoped_681, eg]
  have hh : ∀ s' : sp_SS, ∀ k : Int32 → mj_X → mj_R, mj_g n 4000 (mj_rI (kX0 d 22 [.int ((cw_sc x s').1 1 n.toNatClampNeg)] (cw_sc x s')) k) = k 1 (cw_sc x s') := by
    intro s' k
    rw [hg, (cw_sc_T hx s').2.2.1, sX0_hasB (by omega), e, mj_rI_k]; rfl
  refine ⟨?_, (sp_twoq hA hB (show D ≤ d by omega) (show D ≤ d by omega) hs hW hw).2⟩
  rw [← (sp_twoq hA hB (show D ≤ d by omega) (show D ≤ d by omega) hs hW hw).1, (hA d (by omega) s hs (by omega)).1]
  unfold sp_o
  rw [mj_rI_k, mj_rI_k, sp_ib, sp_ib]
  by_cases q : (sp_sc nt f (nt 1 n.toNatClampNeg) s).1 = false
  · rw [if_pos q, if_pos q]
  · rw [if_neg q, if_neg q, hh, if_neg (by decide)]
theorem cw_s38 {x : mj_X} {nt : sp_NT} {N D W f wa wb : Nat} {n : Int32} (hx : cw_T x nt N) (hn : sp_nd N n = true) (hD : 2 ≤ D) (e : nt 0 n.toNatClampNeg = 38) (hA : sp_SC kX0 (cw_sc x) N D 28 (nt 1 n.toNatClampNeg) wa (sp_sc nt f (nt 1 n.toNatClampNeg))) (hB : ¬ (nt 2 n.toNatClampNeg) = -1 → sp_SC kX0 (cw_sc x) N D 28 (nt 2 n.toNatClampNeg) wb (sp_sc nt f (nt 2 n.toNatClampNeg))) (hw : wa + wb ≤ W) : sp_SC kX0 (cw_sc x) N (D + 2) 28 n W (sp_sc nt (f + 1) n) := by
  intro d hd s hs hW
  obtain ⟨d, rfl⟩ : ∃ c, d = c + 1 := ⟨d - 1, by omega⟩
  have hN := hx.2.1
  have hg := fun r => mj_g_k (sp_nd_in hN hn (Nat.le_refl _)) r
  have hT := cw_sc_T hx s
  have eg : sp_sc nt (f + 1) n s = sp_th (sp_sc nt f (nt 1 n.toNatClampNeg) s) fun s => if (nt 2 n.toNatClampNeg) = -1 then (true, s) else sp_sc nt f (nt 2 n.toNatClampNeg) s := by rw [sp_sc_s nt f n s, e]; rfl
  rw [wX0_isScoped_0_38 d n (cw_sc x s) (by rw [hT.2.2.1]; exact e), hg, hg, hg, hT.2.2.2.1, hT.2.2.2.2.1, bX0_isScoped_681, eg]
  have hh : ∀ s' : sp_SS, ∀ k : Int32 → mj_X → mj_R, mj_g n 4000 (mj_rI (kX0 d 22 [.int ((cw_sc x s').1 1 n.toNatClampNeg)] (cw_sc x s')) k) = k 1 (cw_sc x s') := by
    intro s' k
    rw [hg, (cw_sc_T hx s').2.2.1, sX0_hasB (by omega), e, mj_rI_k]; rfl
  refine ⟨?_, (sp_twoq hA hB (show D ≤ d by omega) (show D ≤ d by omega) hs hW hw).2⟩
  rw [← (sp_twoq hA hB (show D ≤ d by omega) (show D ≤ d by omega) hs hW hw).1, (hA d (by omega) s hs (by omega)).1]
  unfold sp_o
  rw [mj_rI_k, mj_rI_k, sp_ib, sp_ib]
  by_cases q : (sp_sc nt f (nt 1 n.toNatClampNeg) s).1 = false
  · rw [if_pos q, if_pos q]
  · rw [if_neg q, if_neg q, hh, if_neg (by decide)]
theorem cw_s39 {x : mj_X} {nt : sp_NT} {N D W f wa wb : Nat} {n : Int32} (hx : cw_T x nt N) (hn : sp_nd N n = true) (hD : 2 ≤ D) (e : nt 0 n.toNatClampNeg = 39) (hA : sp_SC kX0 (cw_sc x) N D 28 (nt 1 n.toNatClampNeg) wa (sp_sc nt f (nt 1 n.toNatClampNeg))) (hB : ¬ (nt 2 n.toNatClampNeg) = -1 → sp_SC kX0 (cw_sc x) N D 28 (nt 2 n.toNatClampNeg) wb (sp_sc nt f (nt 2 n.toNatClampNeg))) (hw : wa + wb ≤ W) : sp_SC kX0 (cw_sc x) N (D + 2) 28 n W (sp_sc nt (f + 1) n) := by
  intro d hd s hs hW
  obtain ⟨d, rfl⟩ : ∃ c, d = c + 1 := ⟨d - 1, by omega⟩
  have hN := hx.2.1
  have hg := fun r => mj_g_k (sp_nd_in hN hn (Nat.le_refl _)) r
  have hT := cw_sc_T hx s
  have eg : sp_sc nt (f + 1) n s = sp_th (sp_sc nt f (nt 1 n.toNatClampNeg) s) fun s => if (nt 2 n.toNatClampNeg) = -1 then (true, s) else sp_sc nt f (nt 2 n.toNatClampNeg) s := by rw [sp_sc_s nt f n s, e]; rfl
  rw [wX0_isScoped_0_39 d n (cw_sc x s) (by rw [hT.2.2.1]; exact e), hg, hg, hg, hT.2.2.2.1, hT.2.2.2.2.1, bX0_isScoped_681, eg]
  have hh : ∀ s' : sp_SS, ∀ k : Int32 → mj_X → mj_R, mj_g n 4000 (mj_rI (kX0 d 22 [.int ((cw_sc x s').1 1 n.toNatClampNeg)] (cw_sc x s')) k) = k 1 (cw_sc x s') := by
    intro s' k
    rw [hg, (cw_sc_T hx s').2.2.1, sX0_hasB (by omega), e, mj_rI_k]; rfl
  refine ⟨?_, (sp_twoq hA hB (show D ≤ d by omega) (show D ≤ d by omega) hs hW hw).2⟩
  rw [← (sp_twoq hA hB (show D ≤ d by omega) (show D ≤ d by omega) hs hW hw).1, (hA d (by omega) s hs (by omega)).1]
  unfold sp_o
  rw [mj_rI_k, mj_rI_k, sp_ib, sp_ib]
  by_cases q : (sp_sc nt f (nt 1 n.toNatClampNeg) s).1 = false
  · rw [if_pos q, if_pos q]
  · rw [if_neg q, if_neg q, hh, if_neg (by decide)]
theorem cw_s40 {x : mj_X} {nt : sp_NT} {N D W f wa wb : Nat} {n : Int32} (hx : cw_T x nt N) (hn : sp_nd N n = true) (hD : 2 ≤ D) (e : nt 0 n.toNatClampNeg = 40) (hA : sp_SC kX0 (cw_sc x) N D 28 (nt 1 n.toNatClampNeg) wa (sp_sc nt f (nt 1 n.toNatClampNeg))) (hB : ¬ (nt 2 n.toNatClampNeg) = -1 → sp_SC kX0 (cw_sc x) N D 28 (nt 2 n.toNatClampNeg) wb (sp_sc nt f (nt 2 n.toNatClampNeg))) (hw : wa + wb ≤ W) : sp_SC kX0 (cw_sc x) N (D + 2) 28 n W (sp_sc nt (f + 1) n) := by
  intro d hd s hs hW
  obtain ⟨d, rfl⟩ : ∃ c, d = c + 1 := ⟨d - 1, by omega⟩
  have hN := hx.2.1
  have hg := fun r => mj_g_k (sp_nd_in hN hn (Nat.le_refl _)) r
  have hT := cw_sc_T hx s
  have eg : sp_sc nt (f + 1) n s = sp_th (sp_sc nt f (nt 1 n.toNatClampNeg) s) fun s => if (nt 2 n.toNatClampNeg) = -1 then (true, s) else sp_sc nt f (nt 2 n.toNatClampNeg) s := by rw [sp_sc_s nt f n s, e]; rfl
  rw [wX0_isScoped_0_40 d n (cw_sc x s) (by rw [hT.2.2.1]; exact e), hg, hg, hg, hT.2.2.2.1, hT.2.2.2.2.1, bX0_isScoped_681, eg]
  have hh : ∀ s' : sp_SS, ∀ k : Int32 → mj_X → mj_R, mj_g n 4000 (mj_rI (kX0 d 22 [.int ((cw_sc x s').1 1 n.toNatClampNeg)] (cw_sc x s')) k) = k 1 (cw_sc x s') := by
    intro s' k
    rw [hg, (cw_sc_T hx s').2.2.1, sX0_hasB (by omega), e, mj_rI_k]; rfl
  refine ⟨?_, (sp_twoq hA hB (show D ≤ d by omega) (show D ≤ d by omega) hs hW hw).2⟩
  rw [← (sp_twoq hA hB (show D ≤ d by omega) (show D ≤ d by omega) hs hW hw).1, (hA d (by omega) s hs (by omega)).1]
  unfold sp_o
  rw [mj_rI_k, mj_rI_k, sp_ib, sp_ib]
  by_cases q : (sp_sc nt f (nt 1 n.toNatClampNeg) s).1 = false
  · rw [if_pos q, if_pos q]
  · rw [if_neg q, if_neg q, hh, if_neg (by decide)]
theorem cw_s41 {x : mj_X} {nt : sp_NT} {N D W f wa wb : Nat} {n : Int32} (hx : cw_T x nt N) (hn : sp_nd N n = true) (hD : 2 ≤ D) (e : nt 0 n.toNatClampNeg = 41) (hA : sp_SC kX0 (cw_sc x) N D 28 (nt 1 n.toNatClampNeg) wa (sp_sc nt f (nt 1 n.toNatClampNeg))) (hB : ¬ (nt 2 n.toNatClampNeg) = -1 → sp_SC kX0 (cw_sc x) N D 28 (nt 2 n.toNatClampNeg) wb (sp_sc nt f (nt 2 n.toNatClampNeg))) (hw : wa + wb ≤ W) : sp_SC kX0 (cw_sc x) N (D + 2) 28 n W (sp_sc nt (f + 1) n) := by
  intro d hd s hs hW
  obtain ⟨d, rfl⟩ : ∃ c, d = c + 1 := ⟨d - 1, by omega⟩
  have hN := hx.2.1
  have hg := fun r => mj_g_k (sp_nd_in hN hn (Nat.le_refl _)) r
  have hT := cw_sc_T hx s
  have eg : sp_sc nt (f + 1) n s = sp_th (sp_sc nt f (nt 1 n.toNatClampNeg) s) fun s => if (nt 2 n.toNatClampNeg) = -1 then (true, s) else sp_sc nt f (nt 2 n.toNatClampNeg) s := by rw [sp_sc_s nt f n s, e]; rfl
  rw [wX0_isScoped_0_41 d n (cw_sc x s) (by rw [hT.2.2.1]; exact e), hg, hg, hg, hT.2.2.2.1, hT.2.2.2.2.1, bX0_isScoped_681, eg]
  have hh : ∀ s' : sp_SS, ∀ k : Int32 → mj_X → mj_R, mj_g n 4000 (mj_rI (kX0 d 22 [.int ((cw_sc x s').1 1 n.toNatClampNeg)] (cw_sc x s')) k) = k 1 (cw_sc x s') := by
    intro s' k
    rw [hg, (cw_sc_T hx s').2.2.1, sX0_hasB (by omega), e, mj_rI_k]; rfl
  refine ⟨?_, (sp_twoq hA hB (show D ≤ d by omega) (show D ≤ d by omega) hs hW hw).2⟩
  rw [← (sp_twoq hA hB (show D ≤ d by omega) (show D ≤ d by omega) hs hW hw).1, (hA d (by omega) s hs (by omega)).1]
  unfold sp_o
  rw [mj_rI_k, mj_rI_k, sp_ib, sp_ib]
  by_cases q : (sp_sc nt f (nt 1 n.toNatClampNeg) s).1 = false
  · rw [if_pos q, if_pos q]
  · rw [if_neg q, if_neg q, hh, if_neg (by decide)]
theorem cw_s42 {x : mj_X} {nt : sp_NT} {N D W f wa wb : Nat} {n : Int32} (hx : cw_T x nt N) (hn : sp_nd N n = true) (hD : 2 ≤ D) (e : nt 0 n.toNatClampNeg = 42) (hA : sp_SC kX0 (cw_sc x) N D 28 (nt 1 n.toNatClampNeg) wa (sp_sc nt f (nt 1 n.toNatClampNeg))) (hB : ¬ (nt 2 n.toNatClampNeg) = -1 → sp_SC kX0 (cw_sc x) N D 28 (nt 2 n.toNatClampNeg) wb (sp_sc nt f (nt 2 n.toNatClampNeg))) (hw : wa + wb ≤ W) : sp_SC kX0 (cw_sc x) N (D + 2) 28 n W (sp_sc nt (f + 1) n) := by
  intro d hd s hs hW
  obtain ⟨d, rfl⟩ : ∃ c, d = c + 1 := ⟨d - 1, by omega⟩
  have hN := hx.2.1
  have hg := fun r => mj_g_k (sp_nd_in hN hn (Nat.le_refl _)) r
  have hT := cw_sc_T hx s
  have eg : sp_sc nt (f + 1) n s = sp_th (sp_sc nt f (nt 1 n.toNatClampNeg) s) fun s => if (nt 2 n.toNatClampNeg) = -1 then (true, s) else sp_sc nt f (nt 2 n.toNatClampNeg) s := by rw [sp_sc_s nt f n s, e]; rfl
  rw [wX0_isScoped_0_42 d n (cw_sc x s) (by rw [hT.2.2.1]; exact e), hg, hg, hg, hT.2.2.2.1, hT.2.2.2.2.1, bX0_isScoped_681, eg]
  have hh : ∀ s' : sp_SS, ∀ k : Int32 → mj_X → mj_R, mj_g n 4000 (mj_rI (kX0 d 22 [.int ((cw_sc x s').1 1 n.toNatClampNeg)] (cw_sc x s')) k) = k 1 (cw_sc x s') := by
    intro s' k
    rw [hg, (cw_sc_T hx s').2.2.1, sX0_hasB (by omega), e, mj_rI_k]; rfl
  refine ⟨?_, (sp_twoq hA hB (show D ≤ d by omega) (show D ≤ d by omega) hs hW hw).2⟩
  rw [← (sp_twoq hA hB (show D ≤ d by omega) (show D ≤ d by omega) hs hW hw).1, (hA d (by omega) s hs (by omega)).1]
  unfold sp_o
  rw [mj_rI_k, mj_rI_k, sp_ib, sp_ib]
  by_cases q : (sp_sc nt f (nt 1 n.toNatClampNeg) s).1 = false
  · rw [if_pos q, if_pos q]
  · rw [if_neg q, if_neg q, hh, if_neg (by decide)]
theorem cw_s43 {x : mj_X} {nt : sp_NT} {N D W f wa wb : Nat} {n : Int32} (hx : cw_T x nt N) (hn : sp_nd N n = true) (hD : 2 ≤ D) (e : nt 0 n.toNatClampNeg = 43) (hA : sp_SC kX0 (cw_sc x) N D 28 (nt 1 n.toNatClampNeg) wa (sp_sc nt f (nt 1 n.toNatClampNeg))) (hB : ¬ (nt 2 n.toNatClampNeg) = -1 → sp_SC kX0 (cw_sc x) N D 28 (nt 2 n.toNatClampNeg) wb (sp_sc nt f (nt 2 n.toNatClampNeg))) (hw : wa + wb ≤ W) : sp_SC kX0 (cw_sc x) N (D + 2) 28 n W (sp_sc nt (f + 1) n) := by
  intro d hd s hs hW
  obtain ⟨d, rfl⟩ : ∃ c, d = c + 1 := ⟨d - 1, by omega⟩
  have hN := hx.2.1
  have hg := fun r => mj_g_k (sp_nd_in hN hn (Nat.le_refl _)) r
  have hT := cw_sc_T hx s
  have eg : sp_sc nt (f + 1) n s = sp_th (sp_sc nt f (nt 1 n.toNatClampNeg) s) fun s => if (nt 2 n.toNatClampNeg) = -1 then (true, s) else sp_sc nt f (nt 2 n.toNatClampNeg) s := by rw [sp_sc_s nt f n s, e]; rfl
  rw [wX0_isScoped_0_43 d n (cw_sc x s) (by rw [hT.2.2.1]; exact e), hg, hg, hg, hT.2.2.2.1, hT.2.2.2.2.1, bX0_isScoped_681, eg]
  have hh : ∀ s' : sp_SS, ∀ k : Int32 → mj_X → mj_R, mj_g n 4000 (mj_rI (kX0 d 22 [.int ((cw_sc x s').1 1 n.toNatClampNeg)] (cw_sc x s')) k) = k 1 (cw_sc x s') := by
    intro s' k
    rw [hg, (cw_sc_T hx s').2.2.1, sX0_hasB (by omega), e, mj_rI_k]; rfl
  refine ⟨?_, (sp_twoq hA hB (show D ≤ d by omega) (show D ≤ d by omega) hs hW hw).2⟩
  rw [← (sp_twoq hA hB (show D ≤ d by omega) (show D ≤ d by omega) hs hW hw).1, (hA d (by omega) s hs (by omega)).1]
  unfold sp_o
  rw [mj_rI_k, mj_rI_k, sp_ib, sp_ib]
  by_cases q : (sp_sc nt f (nt 1 n.toNatClampNeg) s).1 = false
  · rw [if_pos q, if_pos q]
  · rw [if_neg q, if_neg q, hh, if_neg (by decide)]
theorem cw_s44 {x : mj_X} {nt : sp_NT} {N D W f wa wb : Nat} {n : Int32} (hx : cw_T x nt N) (hn : sp_nd N n = true) (hD : 2 ≤ D) (e : nt 0 n.toNatClampNeg = 44) (hA : sp_SC kX0 (cw_sc x) N D 28 (nt 1 n.toNatClampNeg) wa (sp_sc nt f (nt 1 n.toNatClampNeg))) (hB : ¬ (nt 2 n.toNatClampNeg) = -1 → sp_SC kX0 (cw_sc x) N D 28 (nt 2 n.toNatClampNeg) wb (sp_sc nt f (nt 2 n.toNatClampNeg))) (hw : wa + wb ≤ W) : sp_SC kX0 (cw_sc x) N (D + 2) 28 n W (sp_sc nt (f + 1) n) := by
  intro d hd s hs hW
  obtain ⟨d, rfl⟩ : ∃ c, d = c + 1 := ⟨d - 1, by omega⟩
  have hN := hx.2.1
  have hg := fun r => mj_g_k (sp_nd_in hN hn (Nat.le_refl _)) r
  have hT := cw_sc_T hx s
  have eg : sp_sc nt (f + 1) n s = sp_th (sp_sc nt f (nt 1 n.toNatClampNeg) s) fun s => if (nt 2 n.toNatClampNeg) = -1 then (true, s) else sp_sc nt f (nt 2 n.toNatClampNeg) s := by rw [sp_sc_s nt f n s, e]; rfl
  rw [wX0_isScoped_0_44 d n (cw_sc x s) (by rw [hT.2.2.1]; exact e), hg, hg, hg, hT.2.2.2.1, hT.2.2.2.2.1, bX0_isScoped_681, eg]
  have hh : ∀ s' : sp_SS, ∀ k : Int32 → mj_X → mj_R, mj_g n 4000 (mj_rI (kX0 d 22 [.int ((cw_sc x s').1 1 n.toNatClampNeg)] (cw_sc x s')) k) = k 1 (cw_sc x s') := by
    intro s' k
    rw [hg, (cw_sc_T hx s').2.2.1, sX0_hasB (by omega), e, mj_rI_k]; rfl
  refine ⟨?_, (sp_twoq hA hB (show D ≤ d by omega) (show D ≤ d by omega) hs hW hw).2⟩
  rw [← (sp_twoq hA hB (show D ≤ d by omega) (show D ≤ d by omega) hs hW hw).1, (hA d (by omega) s hs (by omega)).1]
  unfold sp_o
  rw [mj_rI_k, mj_rI_k, sp_ib, sp_ib]
  by_cases q : (sp_sc nt f (nt 1 n.toNatClampNeg) s).1 = false
  · rw [if_pos q, if_pos q]
  · rw [if_neg q, if_neg q, hh, if_neg (by decide)]
theorem cw_s45 {x : mj_X} {nt : sp_NT} {N D W f wa wb : Nat} {n : Int32} (hx : cw_T x nt N) (hn : sp_nd N n = true) (hD : 2 ≤ D) (e : nt 0 n.toNatClampNeg = 45) (hA : sp_SC kX0 (cw_sc x) N D 28 (nt 1 n.toNatClampNeg) wa (sp_sc nt f (nt 1 n.toNatClampNeg))) (hB : ¬ (nt 2 n.toNatClampNeg) = -1 → sp_SC kX0 (cw_sc x) N D 28 (nt 2 n.toNatClampNeg) wb (sp_sc nt f (nt 2 n.toNatClampNeg))) (hw : wa + wb ≤ W) : sp_SC kX0 (cw_sc x) N (D + 2) 28 n W (sp_sc nt (f + 1) n) := by
  intro d hd s hs hW
  obtain ⟨d, rfl⟩ : ∃ c, d = c + 1 := ⟨d - 1, by omega⟩
  have hN := hx.2.1
  have hg := fun r => mj_g_k (sp_nd_in hN hn (Nat.le_refl _)) r
  have hT := cw_sc_T hx s
  have eg : sp_sc nt (f + 1) n s = sp_th (sp_sc nt f (nt 1 n.toNatClampNeg) s) fun s => if (nt 2 n.toNatClampNeg) = -1 then (true, s) else sp_sc nt f (nt 2 n.toNatClampNeg) s := by rw [sp_sc_s nt f n s, e]; rfl
  rw [wX0_isScoped_0_45 d n (cw_sc x s) (by rw [hT.2.2.1]; exact e), hg, hg, hg, hT.2.2.2.1, hT.2.2.2.2.1, bX0_isScoped_681, eg]
  have hh : ∀ s' : sp_SS, ∀ k : Int32 → mj_X → mj_R, mj_g n 4000 (mj_rI (kX0 d 22 [.int ((cw_sc x s').1 1 n.toNatClampNeg)] (cw_sc x s')) k) = k 1 (cw_sc x s') := by
    intro s' k
    rw [hg, (cw_sc_T hx s').2.2.1, sX0_hasB (by omega), e, mj_rI_k]; rfl
  refine ⟨?_, (sp_twoq hA hB (show D ≤ d by omega) (show D ≤ d by omega) hs hW hw).2⟩
  rw [← (sp_twoq hA hB (show D ≤ d by omega) (show D ≤ d by omega) hs hW hw).1, (hA d (by omega) s hs (by omega)).1]
  unfold sp_o
  rw [mj_rI_k, mj_rI_k, sp_ib, sp_ib]
  by_cases q : (sp_sc nt f (nt 1 n.toNatClampNeg) s).1 = false
  · rw [if_pos q, if_pos q]
  · rw [if_neg q, if_neg q, hh, if_neg (by decide)]
theorem cw_s47 {x : mj_X} {nt : sp_NT} {N D W f wa wb : Nat} {n : Int32} (hx : cw_T x nt N) (hn : sp_nd N n = true) (hD : 2 ≤ D) (e : nt 0 n.toNatClampNeg = 47) (hA : sp_SC kX0 (cw_sc x) N D 28 (nt 1 n.toNatClampNeg) wa (sp_sc nt f (nt 1 n.toNatClampNeg))) (hB : ¬ (nt 2 n.toNatClampNeg) = -1 → sp_SC kX0 (cw_sc x) N D 28 (nt 2 n.toNatClampNeg) wb (sp_sc nt f (nt 2 n.toNatClampNeg))) (hw : wa + wb ≤ W) : sp_SC kX0 (cw_sc x) N (D + 2) 28 n W (sp_sc nt (f + 1) n) := by
  intro d hd s hs hW
  obtain ⟨d, rfl⟩ : ∃ c, d = c + 1 := ⟨d - 1, by omega⟩
  have hN := hx.2.1
  have hg := fun r => mj_g_k (sp_nd_in hN hn (Nat.le_refl _)) r
  have hT := cw_sc_T hx s
  have eg : sp_sc nt (f + 1) n s = sp_th (sp_sc nt f (nt 1 n.toNatClampNeg) s) fun s => if (nt 2 n.toNatClampNeg) = -1 then (true, s) else sp_sc nt f (nt 2 n.toNatClampNeg) s := by rw [sp_sc_s nt f n s, e]; rfl
  rw [wX0_isScoped_0_47 d n (cw_sc x s) (by rw [hT.2.2.1]; exact e), hg, hg, hg, hT.2.2.2.1, hT.2.2.2.2.1, bX0_isScoped_681, eg]
  have hh : ∀ s' : sp_SS, ∀ k : Int32 → mj_X → mj_R, mj_g n 4000 (mj_rI (kX0 d 22 [.int ((cw_sc x s').1 1 n.toNatClampNeg)] (cw_sc x s')) k) = k 1 (cw_sc x s') := by
    intro s' k
    rw [hg, (cw_sc_T hx s').2.2.1, sX0_hasB (by omega), e, mj_rI_k]; rfl
  refine ⟨?_, (sp_twoq hA hB (show D ≤ d by omega) (show D ≤ d by omega) hs hW hw).2⟩
  rw [← (sp_twoq hA hB (show D ≤ d by omega) (show D ≤ d by omega) hs hW hw).1, (hA d (by omega) s hs (by omega)).1]
  unfold sp_o
  rw [mj_rI_k, mj_rI_k, sp_ib, sp_ib]
  by_cases q : (sp_sc nt f (nt 1 n.toNatClampNeg) s).1 = false
  · rw [if_pos q, if_pos q]
  · rw [if_neg q, if_neg q, hh, if_neg (by decide)]
theorem cw_s49 {x : mj_X} {nt : sp_NT} {N D W f wa wb : Nat} {n : Int32} (hx : cw_T x nt N) (hn : sp_nd N n = true) (hD : 2 ≤ D) (e : nt 0 n.toNatClampNeg = 49) (hA : sp_SC kX0 (cw_sc x) N D 28 (nt 1 n.toNatClampNeg) wa (sp_sc nt f (nt 1 n.toNatClampNeg))) (hB : ¬ (nt 2 n.toNatClampNeg) = -1 → sp_SC kX0 (cw_sc x) N D 28 (nt 2 n.toNatClampNeg) wb (sp_sc nt f (nt 2 n.toNatClampNeg))) (hw : wa + wb ≤ W) : sp_SC kX0 (cw_sc x) N (D + 2) 28 n W (sp_sc nt (f + 1) n) := by
  intro d hd s hs hW
  obtain ⟨d, rfl⟩ : ∃ c, d = c + 1 := ⟨d - 1, by omega⟩
  have hN := hx.2.1
  have hg := fun r => mj_g_k (sp_nd_in hN hn (Nat.le_refl _)) r
  have hT := cw_sc_T hx s
  have eg : sp_sc nt (f + 1) n s = sp_th (sp_sc nt f (nt 1 n.toNatClampNeg) s) fun s => if (nt 2 n.toNatClampNeg) = -1 then (true, s) else sp_sc nt f (nt 2 n.toNatClampNeg) s := by rw [sp_sc_s nt f n s, e]; rfl
  rw [wX0_isScoped_0_49 d n (cw_sc x s) (by rw [hT.2.2.1]; exact e), hg, hg, hg, hT.2.2.2.1, hT.2.2.2.2.1, bX0_isScoped_681, eg]
  have hh : ∀ s' : sp_SS, ∀ k : Int32 → mj_X → mj_R, mj_g n 4000 (mj_rI (kX0 d 22 [.int ((cw_sc x s').1 1 n.toNatClampNeg)] (cw_sc x s')) k) = k 1 (cw_sc x s') := by
    intro s' k
    rw [hg, (cw_sc_T hx s').2.2.1, sX0_hasB (by omega), e, mj_rI_k]; rfl
  refine ⟨?_, (sp_twoq hA hB (show D ≤ d by omega) (show D ≤ d by omega) hs hW hw).2⟩
  rw [← (sp_twoq hA hB (show D ≤ d by omega) (show D ≤ d by omega) hs hW hw).1, (hA d (by omega) s hs (by omega)).1]
  unfold sp_o
  rw [mj_rI_k, mj_rI_k, sp_ib, sp_ib]
  by_cases q : (sp_sc nt f (nt 1 n.toNatClampNeg) s).1 = false
  · rw [if_pos q, if_pos q]
  · rw [if_neg q, if_neg q, hh, if_neg (by decide)]
theorem cw_s60 {x : mj_X} {nt : sp_NT} {N D W f wa wb : Nat} {n : Int32} (hx : cw_T x nt N) (hn : sp_nd N n = true) (hD : 2 ≤ D) (e : nt 0 n.toNatClampNeg = 60) (hA : sp_SC kX0 (cw_sc x) N D 28 (nt 1 n.toNatClampNeg) wa (sp_sc nt f (nt 1 n.toNatClampNeg))) (hB : ¬ (nt 2 n.toNatClampNeg) = -1 → sp_SC kX0 (cw_sc x) N D 28 (nt 2 n.toNatClampNeg) wb (sp_sc nt f (nt 2 n.toNatClampNeg))) (hw : wa + wb ≤ W) : sp_SC kX0 (cw_sc x) N (D + 2) 28 n W (sp_sc nt (f + 1) n) := by
  intro d hd s hs hW
  obtain ⟨d, rfl⟩ : ∃ c, d = c + 1 := ⟨d - 1, by omega⟩
  have hN := hx.2.1
  have hg := fun r => mj_g_k (sp_nd_in hN hn (Nat.le_refl _)) r
  have hT := cw_sc_T hx s
  have eg : sp_sc nt (f + 1) n s = sp_th (sp_sc nt f (nt 1 n.toNatClampNeg) s) fun s => if (nt 2 n.toNatClampNeg) = -1 then (true, s) else sp_sc nt f (nt 2 n.toNatClampNeg) s := by rw [sp_sc_s nt f n s, e]; rfl
  rw [wX0_isScoped_0_60 d n (cw_sc x s) (by rw [hT.2.2.1]; exact e), hg, hg, hg, hT.2.2.2.1, hT.2.2.2.2.1, bX0_isScoped_681, eg]
  have hh : ∀ s' : sp_SS, ∀ k : Int32 → mj_X → mj_R, mj_g n 4000 (mj_rI (kX0 d 22 [.int ((cw_sc x s').1 1 n.toNatClampNeg)] (cw_sc x s')) k) = k 1 (cw_sc x s') := by
    intro s' k
    rw [hg, (cw_sc_T hx s').2.2.1, sX0_hasB (by omega), e, mj_rI_k]; rfl
  refine ⟨?_, (sp_twoq hA hB (show D ≤ d by omega) (show D ≤ d by omega) hs hW hw).2⟩
  rw [← (sp_twoq hA hB (show D ≤ d by omega) (show D ≤ d by omega) hs hW hw).1, (hA d (by omega) s hs (by omega)).1]
  unfold sp_o
  rw [mj_rI_k, mj_rI_k, sp_ib, sp_ib]
  by_cases q : (sp_sc nt f (nt 1 n.toNatClampNeg) s).1 = false
  · rw [if_pos q, if_pos q]
  · rw [if_neg q, if_neg q, hh, if_neg (by decide)]
theorem cw_s65 {x : mj_X} {nt : sp_NT} {N D W f wa wb : Nat} {n : Int32} (hx : cw_T x nt N) (hn : sp_nd N n = true) (hD : 2 ≤ D) (e : nt 0 n.toNatClampNeg = 65) (hA : sp_SC kX0 (cw_sc x) N D 28 (nt 1 n.toNatClampNeg) wa (sp_sc nt f (nt 1 n.toNatClampNeg))) (hB : ¬ (nt 2 n.toNatClampNeg) = -1 → sp_SC kX0 (cw_sc x) N D 28 (nt 2 n.toNatClampNeg) wb (sp_sc nt f (nt 2 n.toNatClampNeg))) (hw : wa + wb ≤ W) : sp_SC kX0 (cw_sc x) N (D + 2) 28 n W (sp_sc nt (f + 1) n) := by
  intro d hd s hs hW
  obtain ⟨d, rfl⟩ : ∃ c, d = c + 1 := ⟨d - 1, by omega⟩
  have hN := hx.2.1
  have hg := fun r => mj_g_k (sp_nd_in hN hn (Nat.le_refl _)) r
  have hT := cw_sc_T hx s
  have eg : sp_sc nt (f + 1) n s = sp_th (sp_sc nt f (nt 1 n.toNatClampNeg) s) fun s => if (nt 2 n.toNatClampNeg) = -1 then (true, s) else sp_sc nt f (nt 2 n.toNatClampNeg) s := by rw [sp_sc_s nt f n s, e]; rfl
  rw [wX0_isScoped_0_65 d n (cw_sc x s) (by rw [hT.2.2.1]; exact e), hg, hg, hg, hT.2.2.2.1, hT.2.2.2.2.1, bX0_isScoped_681, eg]
  have hh : ∀ s' : sp_SS, ∀ k : Int32 → mj_X → mj_R, mj_g n 4000 (mj_rI (kX0 d 22 [.int ((cw_sc x s').1 1 n.toNatClampNeg)] (cw_sc x s')) k) = k 1 (cw_sc x s') := by
    intro s' k
    rw [hg, (cw_sc_T hx s').2.2.1, sX0_hasB (by omega), e, mj_rI_k]; rfl
  refine ⟨?_, (sp_twoq hA hB (show D ≤ d by omega) (show D ≤ d by omega) hs hW hw).2⟩
  rw [← (sp_twoq hA hB (show D ≤ d by omega) (show D ≤ d by omega) hs hW hw).1, (hA d (by omega) s hs (by omega)).1]
  unfold sp_o
  rw [mj_rI_k, mj_rI_k, sp_ib, sp_ib]
  by_cases q : (sp_sc nt f (nt 1 n.toNatClampNeg) s).1 = false
  · rw [if_pos q, if_pos q]
  · rw [if_neg q, if_neg q, hh, if_neg (by decide)]
theorem cw_s74 {x : mj_X} {nt : sp_NT} {N D W f wa wb : Nat} {n : Int32} (hx : cw_T x nt N) (hn : sp_nd N n = true) (hD : 2 ≤ D) (e : nt 0 n.toNatClampNeg = 74) (hA : sp_SC kX0 (cw_sc x) N D 28 (nt 1 n.toNatClampNeg) wa (sp_sc nt f (nt 1 n.toNatClampNeg))) (hB : ¬ (nt 2 n.toNatClampNeg) = -1 → sp_SC kX0 (cw_sc x) N D 28 (nt 2 n.toNatClampNeg) wb (sp_sc nt f (nt 2 n.toNatClampNeg))) (hw : wa + wb ≤ W) : sp_SC kX0 (cw_sc x) N (D + 2) 28 n W (sp_sc nt (f + 1) n) := by
  intro d hd s hs hW
  obtain ⟨d, rfl⟩ : ∃ c, d = c + 1 := ⟨d - 1, by omega⟩
  have hN := hx.2.1
  have hg := fun r => mj_g_k (sp_nd_in hN hn (Nat.le_refl _)) r
  have hT := cw_sc_T hx s
  have eg : sp_sc nt (f + 1) n s = sp_th (sp_sc nt f (nt 1 n.toNatClampNeg) s) fun s => if (nt 2 n.toNatClampNeg) = -1 then (true, s) else sp_sc nt f (nt 2 n.toNatClampNeg) s := by rw [sp_sc_s nt f n s, e]; rfl
  rw [wX0_isScoped_0_74 d n (cw_sc x s) (by rw [hT.2.2.1]; exact e), hg, hg, hg, hT.2.2.2.1, hT.2.2.2.2.1, bX0_isScoped_681, eg]
  have hh : ∀ s' : sp_SS, ∀ k : Int32 → mj_X → mj_R, mj_g n 4000 (mj_rI (kX0 d 22 [.int ((cw_sc x s').1 1 n.toNatClampNeg)] (cw_sc x s')) k) = k 1 (cw_sc x s') := by
    intro s' k
    rw [hg, (cw_sc_T hx s').2.2.1, sX0_hasB (by omega), e, mj_rI_k]; rfl
  refine ⟨?_, (sp_twoq hA hB (show D ≤ d by omega) (show D ≤ d by omega) hs hW hw).2⟩
  rw [← (sp_twoq hA hB (show D ≤ d by omega) (show D ≤ d by omega) hs hW hw).1, (hA d (by omega) s hs (by omega)).1]
  unfold sp_o
  rw [mj_rI_k, mj_rI_k, sp_ib, sp_ib]
  by_cases q : (sp_sc nt f (nt 1 n.toNatClampNeg) s).1 = false
  · rw [if_pos q, if_pos q]
  · rw [if_neg q, if_neg q, hh, if_neg (by decide)]
theorem cw_s81 {x : mj_X} {nt : sp_NT} {N D W f wa wb : Nat} {n : Int32} (hx : cw_T x nt N) (hn : sp_nd N n = true) (hD : 2 ≤ D) (e : nt 0 n.toNatClampNeg = 81) (hA : sp_SC kX0 (cw_sc x) N D 28 (nt 1 n.toNatClampNeg) wa (sp_sc nt f (nt 1 n.toNatClampNeg))) (hB : ¬ (nt 2 n.toNatClampNeg) = -1 → sp_SC kX0 (cw_sc x) N D 28 (nt 2 n.toNatClampNeg) wb (sp_sc nt f (nt 2 n.toNatClampNeg))) (hw : wa + wb ≤ W) : sp_SC kX0 (cw_sc x) N (D + 2) 28 n W (sp_sc nt (f + 1) n) := by
  intro d hd s hs hW
  obtain ⟨d, rfl⟩ : ∃ c, d = c + 1 := ⟨d - 1, by omega⟩
  have hN := hx.2.1
  have hg := fun r => mj_g_k (sp_nd_in hN hn (Nat.le_refl _)) r
  have hT := cw_sc_T hx s
  have eg : sp_sc nt (f + 1) n s = sp_th (sp_sc nt f (nt 1 n.toNatClampNeg) s) fun s => if (nt 2 n.toNatClampNeg) = -1 then (true, s) else sp_sc nt f (nt 2 n.toNatClampNeg) s := by rw [sp_sc_s nt f n s, e]; rfl
  rw [wX0_isScoped_0_81 d n (cw_sc x s) (by rw [hT.2.2.1]; exact e), hg, hg, hg, hT.2.2.2.1, hT.2.2.2.2.1, bX0_isScoped_681, eg]
  have hh : ∀ s' : sp_SS, ∀ k : Int32 → mj_X → mj_R, mj_g n 4000 (mj_rI (kX0 d 22 [.int ((cw_sc x s').1 1 n.toNatClampNeg)] (cw_sc x s')) k) = k 1 (cw_sc x s') := by
    intro s' k
    rw [hg, (cw_sc_T hx s').2.2.1, sX0_hasB (by omega), e, mj_rI_k]; rfl
  refine ⟨?_, (sp_twoq hA hB (show D ≤ d by omega) (show D ≤ d by omega) hs hW hw).2⟩
  rw [← (sp_twoq hA hB (show D ≤ d by omega) (show D ≤ d by omega) hs hW hw).1, (hA d (by omega) s hs (by omega)).1]
  unfold sp_o
  rw [mj_rI_k, mj_rI_k, sp_ib, sp_ib]
  by_cases q : (sp_sc nt f (nt 1 n.toNatClampNeg) s).1 = false
  · rw [if_pos q, if_pos q]
  · rw [if_neg q, if_neg q, hh, if_neg (by decide)]
