/-! CodeWriterModel.isScopedStatement, all kinds -/
theorem md_exSC {y : mj_X} {nt : sp_NT} {N M f : Nat} {res par : Nat → Int32} (hy : md_T y nt N) (hF : sp_WF nt N M res par) (hM : M ≤ 40) {n : Int32} (hn : sp_nd N n = true) (hE : sp_Ex (nt 0 n.toNatClampNeg) = true) (h4 : (nt 4 n.toNatClampNeg).toInt ≤ f) : sp_SC kX1 (md_sc y) N (f + 1) 28 n 0 (sp_sc nt f n) := by
  intro d hd s hs _
  obtain ⟨h1, h2⟩ := sX1_isScoped hy hF hM f n hn hE h4 d hd s
  exact ⟨h1, by rw [h2]; exact Nat.le_refl _, by rw [h2]; exact Nat.le_refl _, by rw [h2]; exact hs⟩
theorem sp_SC.mono {K : Nat → Nat → List Value → mj_X → mj_R} {σ : sp_SS → mj_X} {N D D' m : Nat} {n : Int32} {w : Nat} {g : sp_SS → Bool × sp_SS} (h : sp_SC K σ N D m n w g) (hD : D ≤ D') : sp_SC K σ N D' m n w g := fun d hd => h d (Nat.le_trans hD hd)
theorem md_s60 {y : mj_X} {nt : sp_NT} {N M D f : Nat} {res par : Nat → Int32} (hy : md_T y nt N) (hF : sp_WF nt N M res par) (hM : M ≤ 40) {w : Nat → Nat} (hw : sp_WT nt N w) (hD : f + 2 ≤ D) (hS : md_S y nt N D w (f + 1)) {n : Int32} (hn : sp_nd N n = true) (h4 : (nt 4 n.toNatClampNeg).toInt ≤ (f + 1 : Nat)) (e : nt 0 n.toNatClampNeg = 60) : sp_SC kX1 (md_sc y) N (D + 3) 27 n (w n.toNatClampNeg) (sp_sc nt (f + 1) n) := by
  intro d hd s hs hW
  obtain ⟨d, rfl⟩ : ∃ c, d = c + 1 := ⟨d - 1, by omega⟩
  have hN := hy.2.1
  have hi := sp_nd_lt hN hn
  have hg := fun r => mj_g_k (sp_nd_in hN hn (Nat.le_refl _)) r
  have hT := md_sc_T hy s
  obtain ⟨ka, kb⟩ := sp_k60 (hF.1 _ hi) (hF.ty hM hN _ (Nat.le_of_lt hi)) e
  obtain ⟨a4, a5, a6⟩ := hF.fa hN hw hn (by rw [e]; rfl) (ka.elim (fun q => q.1) (fun q => q.1))
  have eg : sp_sc nt (f + 1) n s = sp_sc nt f (nt 1 n.toNatClampNeg) s := by
    rw [sp_sc_s nt f n s, e]
    show sp_th _ (fun s => if (nt 2 n.toNatClampNeg) = -1 then (true, s) else _) = _
    simp only [if_pos kb]; exact sp_th_id _
  rw [wX1_isScopedStatement_0_60 d n _ (by rw [hT.2.2.1]; exact e), hg, hg, hg, hT.2.2.2.1, hT.2.2.2.2.1, bX1_isScopedStatement_140, eg]
  obtain ⟨u1, u2⟩ := md_exSC hy hF hM a4 (ka.elim (fun q => sp_E_Ex q.2.1) (fun q => by rw [q.2]; rfl)) (show _ ≤ (f : Int) by omega) d (by omega) s hs (by omega)
  rw [u1]; exact ⟨sp_retb _ _, u2.mono (by omega)⟩
theorem md_s74 {y : mj_X} {nt : sp_NT} {N M D f : Nat} {res par : Nat → Int32} (hy : md_T y nt N) (hF : sp_WF nt N M res par) (hM : M ≤ 40) {w : Nat → Nat} (hw : sp_WT nt N w) (hD : f + 2 ≤ D) (hS : md_S y nt N D w (f + 1)) {n : Int32} (hn : sp_nd N n = true) (h4 : (nt 4 n.toNatClampNeg).toInt ≤ (f + 1 : Nat)) (e : nt 0 n.toNatClampNeg = 74) : sp_SC kX1 (md_sc y) N (D + 3) 27 n (w n.toNatClampNeg) (sp_sc nt (f + 1) n) := by
  intro d hd s hs hW
  obtain ⟨d, rfl⟩ : ∃ c, d = c + 1 := ⟨d - 1, by omega⟩
  have hN := hy.2.1
  have hi := sp_nd_lt hN hn
  have hg := fun r => mj_g_k (sp_nd_in hN hn (Nat.le_refl _)) r
  have hT := md_sc_T hy s
  obtain ⟨kb, ka⟩ := sp_k74 (hF.1 _ hi) (hF.ty hM hN _ (Nat.le_of_lt hi)) e
  obtain ⟨a4, a5, a6⟩ := hF.fa hN hw hn (by rw [e]; rfl) ka.1
  have eg : sp_sc nt (f + 1) n s = sp_sc nt f (nt 1 n.toNatClampNeg) s := by
    rw [sp_sc_s nt f n s, e]
    show sp_th _ (fun s => if (nt 2 n.toNatClampNeg) = -1 then (true, s) else _) = _
    simp only [if_pos kb]; exact sp_th_id _
  rw [wX1_isScopedStatement_0_74 d n _ (by rw [hT.2.2.1]; exact e), hg, hg, hg, hT.2.2.2.1, hT.2.2.2.2.1, bX1_isScopedStatement_140, eg]
  obtain ⟨u1, u2⟩ := md_exSC hy hF hM a4 (sp_E_Ex ka.2.1) (show _ ≤ (f : Int) by omega) d (by omega) s hs (by omega)
  rw [u1]; exact ⟨sp_retb _ _, u2.mono (by omega)⟩
theorem md_s61 {y : mj_X} {nt : sp_NT} {N M D f : Nat} {res par : Nat → Int32} (hy : md_T y nt N) (hF : sp_WF nt N M res par) (hM : M ≤ 40) {w : Nat → Nat} (hw : sp_WT nt N w) (hD : f + 2 ≤ D) (hS : md_S y nt N D w (f + 1)) {n : Int32} (hn : sp_nd N n = true) (h4 : (nt 4 n.toNatClampNeg).toInt ≤ (f + 1 : Nat)) (e : nt 0 n.toNatClampNeg = 61) : sp_SC kX1 (md_sc y) N (D + 3) 27 n (w n.toNatClampNeg) (sp_sc nt (f + 1) n) := by
  intro d hd s hs hW
  obtain ⟨d, rfl⟩ : ∃ c, d = c + 1 := ⟨d - 1, by omega⟩
  have hN := hy.2.1
  have hi := sp_nd_lt hN hn
  have hg := fun r => mj_g_k (sp_nd_in hN hn (Nat.le_refl _)) r
  have hT := md_sc_T hy s
  obtain ⟨⟨k1, -⟩, k2, k3, -⟩ := sp_k61 (hF.1 _ hi) (hF.ty hM hN _ (Nat.le_of_lt hi)) e
  obtain ⟨a4, a5, a6⟩ := hF.fa hN hw hn (by rw [e]; rfl) k1
  obtain ⟨b4, b5, b6⟩ := hF.fb hN hw hn (by rw [e]; rfl) k2
  have hab := sp_WF.fab hN hw hn (by rw [e]; rfl) k1 (by rw [e]; rfl) k2
  have eg : sp_sc nt (f + 1) n s = sp_th (sp_sc nt f (nt 2 n.toNatClampNeg) s) fun s => (true, sp_fo s (nt 1 n.toNatClampNeg)) := by
    rw [sp_sc_s nt f n s, e]
    rfl
  rw [wX1_isScopedStatement_0_61 d n _ (by rw [hT.2.2.1]; exact e), hg, hg, hg, hT.2.2.2.1, hT.2.2.2.2.1, bX1_isScopedStatement_146, eg]
  obtain ⟨b1, b2⟩ := md_exSC hy hF hM b4 (sp_E_Ex k3) (show _ ≤ (f : Int) by omega) d (by omega) s hs (by omega)
  rw [b1]
  have hv : 1 ≤ w (nt 2 n.toNatClampNeg).toNatClampNeg := by have := hw _ (sp_nd_lt hN b4); omega
  have hc : (sp_sc nt f (nt 2 n.toNatClampNeg) s).2.1 < 4000 := by have := b2.2.1; omega
  refine ⟨sp_and (md_sc y) _ _ _ fun q => ?_, b2.th (w2 := 1) (fun q => ⟨Nat.le_succ _, Nat.le_refl _, b2.2.2.fo hc a4⟩) (by omega)⟩
  rw [sX1_declare (by omega) hN y (Nat.le_of_lt hc) a4]; rfl
theorem md_s62 {y : mj_X} {nt : sp_NT} {N M D f : Nat} {res par : Nat → Int32} (hy : md_T y nt N) (hF : sp_WF nt N M res par) (hM : M ≤ 40) {w : Nat → Nat} (hw : sp_WT nt N w) (hD : f + 2 ≤ D) (hS : md_S y nt N D w (f + 1)) {n : Int32} (hn : sp_nd N n = true) (h4 : (nt 4 n.toNatClampNeg).toInt ≤ (f + 1 : Nat)) (e : nt 0 n.toNatClampNeg = 62) : sp_SC kX1 (md_sc y) N (D + 3) 27 n (w n.toNatClampNeg) (sp_sc nt (f + 1) n) := by
  intro d hd s hs hW
  obtain ⟨d, rfl⟩ : ∃ c, d = c + 1 := ⟨d - 1, by omega⟩
  have hN := hy.2.1
  have hi := sp_nd_lt hN hn
  have hg := fun r => mj_g_k (sp_nd_in hN hn (Nat.le_refl _)) r
  have hT := md_sc_T hy s
  obtain ⟨⟨k1, k2⟩, k3, k4⟩ := sp_k62 (hF.1 _ hi) (hF.ty hM hN _ (Nat.le_of_lt hi)) e
  obtain ⟨a4, a5, a6⟩ := hF.fa hN hw hn (by rw [e]; rfl) k1
  obtain ⟨b4, b5, b6⟩ := hF.fb hN hw hn (by rw [e]; rfl) k3
  have hab := sp_WF.fab hN hw hn (by rw [e]; rfl) k1 (by rw [e]; rfl) k3
  have eg : sp_sc nt (f + 1) n s = sp_th (sp_sc nt f (nt 1 n.toNatClampNeg) s) (sp_sc nt f (nt 2 n.toNatClampNeg)) := by
    rw [sp_sc_s nt f n s, e]
    rfl
  rw [wX1_isScopedStatement_0_62 d n _ (by rw [hT.2.2.1]; exact e), hg, hg, hg, hT.2.2.2.1, hT.2.2.2.2.1, bX1_isScopedStatement_163, eg]
  exact sp_two (hS f _ (by omega) a4 k2 (by omega)) (hS f _ (by omega) b4 k4 (by omega)) (by omega) (by omega) hs hW (by omega)
theorem md_s63 {y : mj_X} {nt : sp_NT} {N M D f : Nat} {res par : Nat → Int32} (hy : md_T y nt N) (hF : sp_WF nt N M res par) (hM : M ≤ 40) {w : Nat → Nat} (hw : sp_WT nt N w) (hD : f + 2 ≤ D) (hS : md_S y nt N D w (f + 1)) {n : Int32} (hn : sp_nd N n = true) (h4 : (nt 4 n.toNatClampNeg).toInt ≤ (f + 1 : Nat)) (e : nt 0 n.toNatClampNeg = 63) : sp_SC kX1 (md_sc y) N (D + 3) 27 n (w n.toNatClampNeg) (sp_sc nt (f + 1) n) := by
  intro d hd s hs hW
  obtain ⟨d, rfl⟩ : ∃ c, d = c + 1 := ⟨d - 1, by omega⟩
  have hN := hy.2.1
  have hi := sp_nd_lt hN hn
  have hg := fun r => mj_g_k (sp_nd_in hN hn (Nat.le_refl _)) r
  have hT := md_sc_T hy s
  obtain ⟨⟨k1, k2⟩, -⟩ := sp_k63 (hF.1 _ hi) (hF.ty hM hN _ (Nat.le_of_lt hi)) e
  obtain ⟨a4, a5, a6⟩ := hF.fa hN hw hn (by rw [e]; rfl) k1
  have eg : sp_sc nt (f + 1) n s = sp_al s.1 (sp_sc nt f (nt 1 n.toNatClampNeg) s) := by
    rw [sp_sc_s nt f n s, e]
    rfl
  rw [wX1_isScopedStatement_0_63 d n _ (by rw [hT.2.2.1]; exact e), hg, hg, hg, hT.2.2.2.1, hT.2.2.2.2.1, bX1_isScopedStatement_185, eg]
  obtain ⟨b1, b2⟩ := md_place hN (hS f _ (by omega) a4 k2 (by omega)) (by omega) d (by omega) s hs (by omega)
  rw [b1]; exact ⟨sp_retb _ _, b2.mono (by omega)⟩
theorem md_s64 {y : mj_X} {nt : sp_NT} {N M D f : Nat} {res par : Nat → Int32} (hy : md_T y nt N) (hF : sp_WF nt N M res par) (hM : M ≤ 40) {w : Nat → Nat} (hw : sp_WT nt N w) (hD : f + 2 ≤ D) (hS : md_S y nt N D w (f + 1)) {n : Int32} (hn : sp_nd N n = true) (h4 : (nt 4 n.toNatClampNeg).toInt ≤ (f + 1 : Nat)) (e : nt 0 n.toNatClampNeg = 64) : sp_SC kX1 (md_sc y) N (D + 3) 27 n (w n.toNatClampNeg) (sp_sc nt (f + 1) n) := by
  intro d hd s hs hW
  obtain ⟨d, rfl⟩ : ∃ c, d = c + 1 := ⟨d - 1, by omega⟩
  have hN := hy.2.1
  have hi := sp_nd_lt hN hn
  have hg := fun r => mj_g_k (sp_nd_in hN hn (Nat.le_refl _)) r
  have hT := md_sc_T hy s
  obtain ⟨⟨k1, k2, -⟩, k3, k4⟩ := sp_k64 (hF.1 _ hi) (hF.ty hM hN _ (Nat.le_of_lt hi)) e
  obtain ⟨a4, a5, a6⟩ := hF.fa hN hw hn (by rw [e]; rfl) k1
  obtain ⟨b4, b5, b6⟩ := hF.fb hN hw hn (by rw [e]; rfl) k3
  have hab := sp_WF.fab hN hw hn (by rw [e]; rfl) k1 (by rw [e]; rfl) k3
  have eg : sp_sc nt (f + 1) n s = sp_th (sp_sc nt f (nt 1 n.toNatClampNeg) s) fun s => sp_al s.1 (sp_sc nt f (nt 2 n.toNatClampNeg) s) := by
    rw [sp_sc_s nt f n s, e]
    rfl
  rw [wX1_isScopedStatement_0_64 d n _ (by rw [hT.2.2.1]; exact e), hg, hg, hg, hT.2.2.2.1, hT.2.2.2.2.1, bX1_isScopedStatement_191, eg]
  exact sp_two (md_exSC hy hF hM a4 (sp_E_Ex k2) (show _ ≤ (f : Int) by omega)) (md_place hN (hS f _ (by omega) b4 k4 (by omega)) (by omega)) (by omega) (by omega) hs hW (by omega)
theorem md_s67 {y : mj_X} {nt : sp_NT} {N M D f : Nat} {res par : Nat → Int32} (hy : md_T y nt N) (hF : sp_WF nt N M res par) (hM : M ≤ 40) {w : Nat → Nat} (hw : sp_WT nt N w) (hD : f + 2 ≤ D) (hS : md_S y nt N D w (f + 1)) {n : Int32} (hn : sp_nd N n = true) (h4 : (nt 4 n.toNatClampNeg).toInt ≤ (f + 1 : Nat)) (e : nt 0 n.toNatClampNeg = 67) : sp_SC kX1 (md_sc y) N (D + 3) 27 n (w n.toNatClampNeg) (sp_sc nt (f + 1) n) := by
  intro d hd s hs hW
  obtain ⟨d, rfl⟩ : ∃ c, d = c + 1 := ⟨d - 1, by omega⟩
  have hN := hy.2.1
  have hi := sp_nd_lt hN hn
  have hg := fun r => mj_g_k (sp_nd_in hN hn (Nat.le_refl _)) r
  have hT := md_sc_T hy s
  obtain ⟨⟨k1, k2, -⟩, k3, k4⟩ := sp_k67 (hF.1 _ hi) (hF.ty hM hN _ (Nat.le_of_lt hi)) e
  obtain ⟨a4, a5, a6⟩ := hF.fa hN hw hn (by rw [e]; rfl) k1
  obtain ⟨b4, b5, b6⟩ := hF.fb hN hw hn (by rw [e]; rfl) k3
  have hab := sp_WF.fab hN hw hn (by rw [e]; rfl) k1 (by rw [e]; rfl) k3
  have eg : sp_sc nt (f + 1) n s = sp_th (sp_sc nt f (nt 1 n.toNatClampNeg) s) fun s => sp_al s.1 (sp_sc nt f (nt 2 n.toNatClampNeg) s) := by
    rw [sp_sc_s nt f n s, e]
    rfl
  rw [wX1_isScopedStatement_0_67 d n _ (by rw [hT.2.2.1]; exact e), hg, hg, hg, hT.2.2.2.1, hT.2.2.2.2.1, bX1_isScopedStatement_191, eg]
  exact sp_two (md_exSC hy hF hM a4 (sp_E_Ex k2) (show _ ≤ (f : Int) by omega)) (md_place hN (hS f _ (by omega) b4 k4 (by omega)) (by omega)) (by omega) (by omega) hs hW (by omega)
theorem md_s80 {y : mj_X} {nt : sp_NT} {N M D f : Nat} {res par : Nat → Int32} (hy : md_T y nt N) (hF : sp_WF nt N M res par) (hM : M ≤ 40) {w : Nat → Nat} (hw : sp_WT nt N w) (hD : f + 2 ≤ D) (hS : md_S y nt N D w (f + 1)) {n : Int32} (hn : sp_nd N n = true) (h4 : (nt 4 n.toNatClampNeg).toInt ≤ (f + 1 : Nat)) (e : nt 0 n.toNatClampNeg = 80) : sp_SC kX1 (md_sc y) N (D + 3) 27 n (w n.toNatClampNeg) (sp_sc nt (f + 1) n) := by
  intro d hd s hs hW
  obtain ⟨d, rfl⟩ : ∃ c, d = c + 1 := ⟨d - 1, by omega⟩
  have hN := hy.2.1
  have hi := sp_nd_lt hN hn
  have hg := fun r => mj_g_k (sp_nd_in hN hn (Nat.le_refl _)) r
  have hT := md_sc_T hy s
  obtain ⟨⟨k1, k2, -⟩, -, k3, k4⟩ := sp_k80 (hF.1 _ hi) (hF.ty hM hN _ (Nat.le_of_lt hi)) e
  obtain ⟨a4, a5, a6⟩ := hF.fa hN hw hn (by rw [e]; rfl) k1
  obtain ⟨b4, b5, b6⟩ := hF.fb hN hw hn (by rw [e]; rfl) k3
  have hab := sp_WF.fab hN hw hn (by rw [e]; rfl) k1 (by rw [e]; rfl) k3
  have eg : sp_sc nt (f + 1) n s = sp_th (sp_sc nt f (nt 1 n.toNatClampNeg) s) fun s => sp_al s.1 (sp_sc nt f (nt 2 n.toNatClampNeg) s) := by
    rw [sp_sc_s nt f n s, e]
    rfl
  rw [wX1_isScopedStatement_0_80 d n _ (by rw [hT.2.2.1]; exact e), hg, hg, hg, hT.2.2.2.1, hT.2.2.2.2.1, bX1_isScopedStatement_191, eg]
  exact sp_two (md_exSC hy hF hM a4 (sp_E_Ex k2) (show _ ≤ (f : Int) by omega)) (md_place hN (hS f _ (by omega) b4 k4 (by omega)) (by omega)) (by omega) (by omega) hs hW (by omega)
theorem md_s68 {y : mj_X} {nt : sp_NT} {N M D f : Nat} {res par : Nat → Int32} (hy : md_T y nt N) (hF : sp_WF nt N M res par) (hM : M ≤ 40) {w : Nat → Nat} (hw : sp_WT nt N w) (hD : f + 2 ≤ D) (hS : md_S y nt N D w (f + 1)) {n : Int32} (hn : sp_nd N n = true) (h4 : (nt 4 n.toNatClampNeg).toInt ≤ (f + 1 : Nat)) (e : nt 0 n.toNatClampNeg = 68) : sp_SC kX1 (md_sc y) N (D + 3) 27 n (w n.toNatClampNeg) (sp_sc nt (f + 1) n) := by
  intro d hd s hs hW
  obtain ⟨d, rfl⟩ : ∃ c, d = c + 1 := ⟨d - 1, by omega⟩
  have hN := hy.2.1
  have hi := sp_nd_lt hN hn
  have hg := fun r => mj_g_k (sp_nd_in hN hn (Nat.le_refl _)) r
  have hT := md_sc_T hy s
  obtain ⟨⟨k1, k2⟩, k3, k4, -⟩ := sp_k68 (hF.1 _ hi) (hF.ty hM hN _ (Nat.le_of_lt hi)) e
  obtain ⟨a4, a5, a6⟩ := hF.fa hN hw hn (by rw [e]; rfl) k1
  obtain ⟨b4, b5, b6⟩ := hF.fb hN hw hn (by rw [e]; rfl) k3
  have hab := sp_WF.fab hN hw hn (by rw [e]; rfl) k1 (by rw [e]; rfl) k3
  have eg : sp_sc nt (f + 1) n s = sp_th (sp_al s.1 (sp_sc nt f (nt 1 n.toNatClampNeg) s)) (sp_sc nt f (nt 2 n.toNatClampNeg)) := by
    rw [sp_sc_s nt f n s, e]
    rfl
  rw [wX1_isScopedStatement_0_68 d n _ (by rw [hT.2.2.1]; exact e), hg, hg, hg, hT.2.2.2.1, hT.2.2.2.2.1, bX1_isScopedStatement_253, eg]
  exact sp_two (md_place hN (hS f _ (by omega) a4 k2 (by omega)) (by omega)) (md_exSC hy hF hM b4 (sp_E_Ex k4) (show _ ≤ (f : Int) by omega)) (by omega) (by omega) hs hW (by omega)
theorem md_s79 {y : mj_X} {nt : sp_NT} {N M D f : Nat} {res par : Nat → Int32} (hy : md_T y nt N) (hF : sp_WF nt N M res par) (hM : M ≤ 40) {w : Nat → Nat} (hw : sp_WT nt N w) (hD : f + 2 ≤ D) (hS : md_S y nt N D w (f + 1)) {n : Int32} (hn : sp_nd N n = true) (h4 : (nt 4 n.toNatClampNeg).toInt ≤ (f + 1 : Nat)) (e : nt 0 n.toNatClampNeg = 79) : sp_SC kX1 (md_sc y) N (D + 3) 27 n (w n.toNatClampNeg) (sp_sc nt (f + 1) n) := by
  intro d hd s hs hW
  obtain ⟨d, rfl⟩ : ∃ c, d = c + 1 := ⟨d - 1, by omega⟩
  have hN := hy.2.1
  have hi := sp_nd_lt hN hn
  have hg := fun r => mj_g_k (sp_nd_in hN hn (Nat.le_refl _)) r
  have hT := md_sc_T hy s
  obtain ⟨⟨k1, k2⟩, k3, k4⟩ := sp_k79 (hF.1 _ hi) (hF.ty hM hN _ (Nat.le_of_lt hi)) e
  obtain ⟨a4, a5, a6⟩ := hF.fa hN hw hn (by rw [e]; rfl) k1
  obtain ⟨b4, b5, b6⟩ := hF.fb hN hw hn (by rw [e]; rfl) k3
  have hab := sp_WF.fab hN hw hn (by rw [e]; rfl) k1 (by rw [e]; rfl) k3
  have eg : sp_sc nt (f + 1) n s = sp_th (sp_al s.1 (sp_sc nt f (nt 1 n.toNatClampNeg) s)) fun s => sp_al s.1 (sp_sc nt f (nt 2 n.toNatClampNeg) s) := by
    rw [sp_sc_s nt f n s, e]
    rfl
  rw [wX1_isScopedStatement_0_79 d n _ (by rw [hT.2.2.1]; exact e), hg, hg, hg, hT.2.2.2.1, hT.2.2.2.2.1, bX1_isScopedStatement_356, eg]
  exact sp_two (md_place hN (hS f _ (by omega) a4 k2 (by omega)) (by omega)) (md_place hN (hS f _ (by omega) b4 k4 (by omega)) (by omega)) (by omega) (by omega) hs hW (by omega)
theorem md_s71 {y : mj_X} {nt : sp_NT} {N M D f : Nat} {res par : Nat → Int32} (hy : md_T y nt N) (hF : sp_WF nt N M res par) (hM : M ≤ 40) {w : Nat → Nat} (hw : sp_WT nt N w) (hD : f + 2 ≤ D) (hS : md_S y nt N D w (f + 1)) {n : Int32} (hn : sp_nd N n = true) (h4 : (nt 4 n.toNatClampNeg).toInt ≤ (f + 1 : Nat)) (e : nt 0 n.toNatClampNeg = 71) : sp_SC kX1 (md_sc y) N (D + 3) 27 n (w n.toNatClampNeg) (sp_sc nt (f + 1) n) := by
  intro d hd s hs hW
  obtain ⟨d, rfl⟩ : ∃ c, d = c + 1 := ⟨d - 1, by omega⟩
  have hN := hy.2.1
  have hi := sp_nd_lt hN hn
  have hg := fun r => mj_g_k (sp_nd_in hN hn (Nat.le_refl _)) r
  have hT := md_sc_T hy s

  have eg : sp_sc nt (f + 1) n s = (true, s) := by
    rw [sp_sc_s nt f n s, e]
    rfl
  rw [wX1_isScopedStatement_0_71 d n _ (by rw [hT.2.2.1]; exact e), hg, hg, hg, hT.2.2.2.1, hT.2.2.2.2.1, bX1_isScopedStatement_438, eg]
  exact ⟨rfl, .rf hs _ _⟩
theorem md_s72 {y : mj_X} {nt : sp_NT} {N M D f : Nat} {res par : Nat → Int32} (hy : md_T y nt N) (hF : sp_WF nt N M res par) (hM : M ≤ 40) {w : Nat → Nat} (hw : sp_WT nt N w) (hD : f + 2 ≤ D) (hS : md_S y nt N D w (f + 1)) {n : Int32} (hn : sp_nd N n = true) (h4 : (nt 4 n.toNatClampNeg).toInt ≤ (f + 1 : Nat)) (e : nt 0 n.toNatClampNeg = 72) : sp_SC kX1 (md_sc y) N (D + 3) 27 n (w n.toNatClampNeg) (sp_sc nt (f + 1) n) := by
  intro d hd s hs hW
  obtain ⟨d, rfl⟩ : ∃ c, d = c + 1 := ⟨d - 1, by omega⟩
  have hN := hy.2.1
  have hi := sp_nd_lt hN hn
  have hg := fun r => mj_g_k (sp_nd_in hN hn (Nat.le_refl _)) r
  have hT := md_sc_T hy s

  have eg : sp_sc nt (f + 1) n s = (true, s) := by
    rw [sp_sc_s nt f n s, e]
    rfl
  rw [wX1_isScopedStatement_0_72 d n _ (by rw [hT.2.2.1]; exact e), hg, hg, hg, hT.2.2.2.1, hT.2.2.2.2.1, bX1_isScopedStatement_438, eg]
  exact ⟨rfl, .rf hs _ _⟩
theorem md_s85 {y : mj_X} {nt : sp_NT} {N M D f : Nat} {res par : Nat → Int32} (hy : md_T y nt N) (hF : sp_WF nt N M res par) (hM : M ≤ 40) {w : Nat → Nat} (hw : sp_WT nt N w) (hD : f + 2 ≤ D) (hS : md_S y nt N D w (f + 1)) {n : Int32} (hn : sp_nd N n = true) (h4 : (nt 4 n.toNatClampNeg).toInt ≤ (f + 1 : Nat)) (e : nt 0 n.toNatClampNeg = 85) : sp_SC kX1 (md_sc y) N (D + 3) 27 n (w n.toNatClampNeg) (sp_sc nt (f + 1) n) := by
  intro d hd s hs hW
  obtain ⟨d, rfl⟩ : ∃ c, d = c + 1 := ⟨d - 1, by omega⟩
  have hN := hy.2.1
  have hi := sp_nd_lt hN hn
  have hg := fun r => mj_g_k (sp_nd_in hN hn (Nat.le_refl _)) r
  have hT := md_sc_T hy s
  obtain ⟨-, -, k3, k4⟩ := sp_k85 (hF.1 _ hi) (hF.ty hM hN _ (Nat.le_of_lt hi)) e
  obtain ⟨b4, b5, b6⟩ := hF.fb hN hw hn (by rw [e]; rfl) k3
  have eg : sp_sc nt (f + 1) n s = sp_sc nt f (nt 2 n.toNatClampNeg) s := by
    rw [sp_sc_s nt f n s, e]
    rfl
  rw [wX1_isScopedStatement_0_85 d n _ (by rw [hT.2.2.1]; exact e), hg, hg, hg, hT.2.2.2.1, hT.2.2.2.2.1, bX1_isScopedStatement_432, eg]
  obtain ⟨b1, b2⟩ := (hS f _ (by omega) b4 k4 (by omega)) d (by omega) s hs (by omega)
  rw [b1]; exact ⟨sp_retb _ _, b2.mono (by omega)⟩
theorem md_s73 {y : mj_X} {nt : sp_NT} {N M D f : Nat} {res par : Nat → Int32} (hy : md_T y nt N) (hF : sp_WF nt N M res par) (hM : M ≤ 40) {w : Nat → Nat} (hw : sp_WT nt N w) (hD : f + 2 ≤ D) (hS : md_S y nt N D w (f + 1)) {n : Int32} (hn : sp_nd N n = true) (h4 : (nt 4 n.toNatClampNeg).toInt ≤ (f + 1 : Nat)) (e : nt 0 n.toNatClampNeg = 73) : sp_SC kX1 (md_sc y) N (D + 3) 27 n (w n.toNatClampNeg) (sp_sc nt (f + 1) n) := by
  intro d hd s hs hW
  obtain ⟨d, rfl⟩ : ∃ c, d = c + 1 := ⟨d - 1, by omega⟩
  have hN := hy.2.1
  have hi := sp_nd_lt hN hn
  have hg := fun r => mj_g_k (sp_nd_in hN hn (Nat.le_refl _)) r
  have hT := md_sc_T hy s
  obtain ⟨-, k1⟩ := sp_k73 (hF.1 _ hi) (hF.ty hM hN _ (Nat.le_of_lt hi)) e
  have eg : sp_sc nt (f + 1) n s = if (nt 1 n.toNatClampNeg) = -1 then (true, s) else sp_sc nt f (nt 1 n.toNatClampNeg) s := by
    rw [sp_sc_s nt f n s, e]
    rfl
  rw [wX1_isScopedStatement_0_73 d n _ (by rw [hT.2.2.1]; exact e), hg, hg, hg, hT.2.2.2.1, hT.2.2.2.2.1, bX1_isScopedStatement_315, eg]
  by_cases q : (nt 1 n.toNatClampNeg) = -1
  · rw [if_pos q, if_pos q]; exact ⟨rfl, .rf hs _ _⟩
  · rw [if_neg q, if_neg q]
    obtain ⟨k2, k3, -⟩ := k1.resolve_left q
    obtain ⟨a4, a5, a6⟩ := hF.fa hN hw hn (by rw [e]; rfl) k2
    obtain ⟨b1, b2⟩ := md_exSC hy hF hM a4 (sp_E_Ex k3) (show _ ≤ (f : Int) by omega) d (by omega) s hs (by omega)
    rw [b1]; exact ⟨sp_ret _ _, b2.mono (by omega)⟩
theorem md_s75 {y : mj_X} {nt : sp_NT} {N M D f : Nat} {res par : Nat → Int32} (hy : md_T y nt N) (hF : sp_WF nt N M res par) (hM : M ≤ 40) {w : Nat → Nat} (hw : sp_WT nt N w) (hD : f + 2 ≤ D) (hS : md_S y nt N D w (f + 1)) {n : Int32} (hn : sp_nd N n = true) (h4 : (nt 4 n.toNatClampNeg).toInt ≤ (f + 1 : Nat)) (e : nt 0 n.toNatClampNeg = 75) : sp_SC kX1 (md_sc y) N (D + 3) 27 n (w n.toNatClampNeg) (sp_sc nt (f + 1) n) := by
  intro d hd s hs hW
  obtain ⟨d, rfl⟩ : ∃ c, d = c + 1 := ⟨d - 1, by omega⟩
  have hN := hy.2.1
  have hi := sp_nd_lt hN hn
  have hg := fun r => mj_g_k (sp_nd_in hN hn (Nat.le_refl _)) r
  have hT := md_sc_T hy s
  obtain ⟨⟨k1, k2⟩, k3, k4⟩ := sp_k75 (hF.1 _ hi) (hF.ty hM hN _ (Nat.le_of_lt hi)) e
  obtain ⟨a4, a5, a6⟩ := hF.fa hN hw hn (by rw [e]; rfl) k1
  obtain ⟨b4, b5, b6⟩ := hF.fb hN hw hn (by rw [e]; rfl) k3
  have hab := sp_WF.fab hN hw hn (by rw [e]; rfl) k1 (by rw [e]; rfl) k3
  have eg : sp_sc nt (f + 1) n s = sp_th (sp_al s.1 (sp_sc nt f (nt 1 n.toNatClampNeg) s)) (sp_sc nt f (nt 2 n.toNatClampNeg)) := by
    rw [sp_sc_s nt f n s, e]
    rfl
  rw [wX1_isScopedStatement_0_75 d n _ (by rw [hT.2.2.1]; exact e), hg, hg, hg, hT.2.2.2.1, hT.2.2.2.2.1, bX1_isScopedStatement_334, eg]
  have hb : sp_SC kX1 (md_sc y) N (D + 2) 29 (nt 2 n.toNatClampNeg) (w (nt 2 n.toNatClampNeg).toNatClampNeg) (sp_sc nt f (nt 2 n.toNatClampNeg)) := by
    intro d hd s hs hW
    obtain ⟨d, rfl⟩ : ∃ c, d = c + 1 := ⟨d - 1, by omega⟩
    rw [eX1_isScopedHandlers]
    exact md_hands hy hF hM hw (by omega) hS f (by omega) _ b4 k4 (by omega) d (by omega) _ _ _ s hs hW
  exact sp_two (md_place hN (hS f _ (by omega) a4 k2 (by omega)) (by omega)) hb (by omega) (by omega) hs hW (by omega)
theorem md_s81 {y : mj_X} {nt : sp_NT} {N M D f : Nat} {res par : Nat → Int32} (hy : md_T y nt N) (hF : sp_WF nt N M res par) (hM : M ≤ 40) {w : Nat → Nat} (hw : sp_WT nt N w) (hD : f + 2 ≤ D) (hS : md_S y nt N D w (f + 1)) {n : Int32} (hn : sp_nd N n = true) (h4 : (nt 4 n.toNatClampNeg).toInt ≤ (f + 1 : Nat)) (e : nt 0 n.toNatClampNeg = 81) : sp_SC kX1 (md_sc y) N (D + 3) 27 n (w n.toNatClampNeg) (sp_sc nt (f + 1) n) := by
  intro d hd s hs hW
  obtain ⟨d, rfl⟩ : ∃ c, d = c + 1 := ⟨d - 1, by omega⟩
  have hN := hy.2.1
  have hi := sp_nd_lt hN hn
  have hg := fun r => mj_g_k (sp_nd_in hN hn (Nat.le_refl _)) r
  have hT := md_sc_T hy s
  obtain ⟨⟨k1, k2, -⟩, k3, k4⟩ := sp_k81 (hF.1 _ hi) (hF.ty hM hN _ (Nat.le_of_lt hi)) e
  obtain ⟨a4, a5, a6⟩ := hF.fa hN hw hn (by rw [e]; rfl) k1
  obtain ⟨b4, b5, b6⟩ := hF.fb hN hw hn (by rw [e]; rfl) k3
  have hab := sp_WF.fab hN hw hn (by rw [e]; rfl) k1 (by rw [e]; rfl) k3
  have eg : sp_sc nt (f + 1) n s = sp_th (sp_sc nt f (nt 1 n.toNatClampNeg) s) (sp_sc nt f (nt 2 n.toNatClampNeg)) := by
    rw [sp_sc_s nt f n s, e]
    show sp_th _ (fun s => if (nt 2 n.toNatClampNeg) = -1 then (true, s) else _) = _
    simp only [if_neg (sp_nd_n1 k3)]
  rw [wX1_isScopedStatement_0_81 d n _ (by rw [hT.2.2.1]; exact e), hg, hg, hg, hT.2.2.2.1, hT.2.2.2.2.1, bX1_isScopedStatement_378, eg]
  obtain ⟨b1, b2⟩ := md_exSC hy hF hM a4 (sp_E_Ex k2) (show _ ≤ (f : Int) by omega) d (by omega) s hs (by omega)
  rw [b1]
  have l := md_cases hy hF hM hw (by omega) hS f (by omega) _ b4 k4 (by omega) d (by omega) n (nt 1 n.toNatClampNeg) (nt 2 n.toNatClampNeg) (sp_sc nt f (nt 1 n.toNatClampNeg) s).2 b2.2.2 (by have := b2.2.1; omega)
  generalize sp_sc nt f (nt 1 n.toNatClampNeg) s = r at b2 l
  refine ⟨?_, b2.th (fun q => l.2) (by omega)⟩
  unfold sp_th
  cases q1 : r.1
  · unfold sp_o; rw [mj_rI_k, q1, bX1_isScopedStatement_388, if_neg (sp_nd_n1 k3), if_pos (show sp_b false = 0 from rfl)]; simp only [cond_false, q1]; rfl
  · rw [show sp_o (md_sc y) r = some (some (.int (sp_b r.1)), md_sc y r.2) from rfl, mj_rI_k, q1]; exact l.1
theorem md_s65 {y : mj_X} {nt : sp_NT} {N M D f : Nat} {res par : Nat → Int32} (hy : md_T y nt N) (hF : sp_WF nt N M res par) (hM : M ≤ 40) {w : Nat → Nat} (hw : sp_WT nt N w) (hD : f + 2 ≤ D) (hS : md_S y nt N D w (f + 1)) {n : Int32} (hn : sp_nd N n = true) (h4 : (nt 4 n.toNatClampNeg).toInt ≤ (f + 1 : Nat)) (e : nt 0 n.toNatClampNeg = 65) : sp_SC kX1 (md_sc y) N (D + 3) 27 n (w n.toNatClampNeg) (sp_sc nt (f + 1) n) := by
  intro d hd s hs hW
  obtain ⟨d, rfl⟩ : ∃ c, d = c + 1 := ⟨d - 1, by omega⟩
  have hN := hy.2.1
  have hi := sp_nd_lt hN hn
  have hg := fun r => mj_g_k (sp_nd_in hN hn (Nat.le_refl _)) r
  have hT := md_sc_T hy s
  obtain ⟨⟨k1, k2, -⟩, k3, k4⟩ := sp_k65 (hF.1 _ hi) (hF.ty hM hN _ (Nat.le_of_lt hi)) e
  obtain ⟨a4, a5, a6⟩ := hF.fa hN hw hn (by rw [e]; rfl) k1
  obtain ⟨b4, b5, b6⟩ := hF.fb hN hw hn (by rw [e]; rfl) k3
  have hab := sp_WF.fab hN hw hn (by rw [e]; rfl) k1 (by rw [e]; rfl) k3
  have bi := sp_nd_lt hN b4
  obtain ⟨⟨j1, j2⟩, j3, j4⟩ := sp_k66 (hF.1 _ bi) (hF.ty hM hN _ (Nat.le_of_lt bi)) k4
  obtain ⟨p4, p5, p6⟩ := hF.fa hN hw b4 (by rw [k4]; rfl) j1
  obtain ⟨q4, q5, q6⟩ := hF.fb hN hw b4 (by rw [k4]; rfl) j3
  have hpq := sp_WF.fab hN hw b4 (by rw [k4]; rfl) j1 (by rw [k4]; rfl) j3
  have f1 := sp_dp1 hF hN p4
  have eg : sp_sc nt (f + 1) n s = sp_th (sp_sc nt f (nt 1 n.toNatClampNeg) s) fun s => sp_th (sp_al s.1 (sp_sc nt (f - 1) (nt 1 (nt 2 n.toNatClampNeg).toNatClampNeg) s)) fun s => sp_al s.1 (sp_sc nt (f - 1) (nt 2 (nt 2 n.toNatClampNeg).toNatClampNeg) s) := by
    rw [sp_sc_s nt f n s, e]
    show sp_th _ (fun s => if (nt 2 n.toNatClampNeg) = -1 then (true, s) else _) = _
    simp only [if_neg (sp_nd_n1 k3)]
    congr 1
    funext s1
    obtain ⟨g, rfl⟩ : ∃ c, f = c + 1 := ⟨f - 1, by have := sp_dp1 hF hN b4; omega⟩
    rw [sp_sc_s nt g _ s1, k4]; rfl
  rw [wX1_isScopedStatement_0_65 d n _ (by rw [hT.2.2.1]; exact e), hg, hg, hg, hT.2.2.2.1, hT.2.2.2.2.1, bX1_isScopedStatement_213, eg]
  have hgb := fun r => mj_g_k (sp_nd_in hN b4 (Nat.le_refl _)) r
  obtain ⟨b1, b2⟩ := md_exSC hy hF hM a4 (sp_E_Ex k2) (show _ ≤ (f : Int) by omega) d (by omega) s hs (by omega)
  rw [b1]
  generalize sp_sc nt f (nt 1 n.toNatClampNeg) s = r at b2
  have c := md_place hN (hS (f - 1) _ (by omega) p4 j2 (by omega)) (by omega) d (by omega) r.2 b2.2.2 (by have := b2.2.1; omega)
  dsimp only at c
  generalize hr1 : sp_al r.2.1 (sp_sc nt (f - 1) (nt 1 (nt 2 n.toNatClampNeg).toNatClampNeg) r.2) = r1 at c
  have c2 := md_place hN (hS (f - 1) _ (by omega) q4 j4 (by omega)) (by omega) d (by omega) r1.2 c.2.2.2 (by have := b2.2.1; have := c.2.2.1; omega)
  dsimp only at c2
  refine ⟨sp_and (md_sc y) _ _ _ fun q => ?_, b2.th (w2 := w (nt 2 n.toNatClampNeg).toNatClampNeg) (fun q => ?_) (by omega)⟩
  · rw [hgb, (md_sc_T hy r.2).2.2.2.1, c.1, hr1]
    refine sp_and (md_sc y) _ _ _ fun q2 => ?_
    rw [hgb, (md_sc_T hy r1.2).2.2.2.2.1, c2.1]; exact sp_ret _ _
  · rw [hr1]
    exact c.2.th (fun q => c2.2) (by omega)
theorem md_s69 {y : mj_X} {nt : sp_NT} {N M D f : Nat} {res par : Nat → Int32} (hy : md_T y nt N) (hF : sp_WF nt N M res par) (hM : M ≤ 40) {w : Nat → Nat} (hw : sp_WT nt N w) (hD : f + 2 ≤ D) (hS : md_S y nt N D w (f + 1)) {n : Int32} (hn : sp_nd N n = true) (h4 : (nt 4 n.toNatClampNeg).toInt ≤ (f + 1 : Nat)) (e : nt 0 n.toNatClampNeg = 69) : sp_SC kX1 (md_sc y) N (D + 3) 27 n (w n.toNatClampNeg) (sp_sc nt (f + 1) n) := by
  intro d hd s hs hW
  obtain ⟨d, rfl⟩ : ∃ c, d = c + 1 := ⟨d - 1, by omega⟩
  have hN := hy.2.1
  have hi := sp_nd_lt hN hn
  have hg := fun r => mj_g_k (sp_nd_in hN hn (Nat.le_refl _)) r
  have hT := md_sc_T hy s
  obtain ⟨⟨k1, k2⟩, k3, k4⟩ := sp_k69 (hF.1 _ hi) (hF.ty hM hN _ (Nat.le_of_lt hi)) e
  obtain ⟨a4, a5, a6⟩ := hF.fa hN hw hn (by rw [e]; rfl) k1
  obtain ⟨b4, b5, b6⟩ := hF.fb hN hw hn (by rw [e]; rfl) k3
  have hab := sp_WF.fab hN hw hn (by rw [e]; rfl) k1 (by rw [e]; rfl) k3
  have ai := sp_nd_lt hN a4
  obtain ⟨⟨j1, j2, -⟩, j3, j4⟩ := sp_k70 (hF.1 _ ai) (hF.ty hM hN _ (Nat.le_of_lt ai)) k2
  obtain ⟨p4, p5, p6⟩ := hF.fa hN hw a4 (by rw [k2]; rfl) j1
  obtain ⟨q4, q5, q6⟩ := hF.fb hN hw a4 (by rw [k2]; rfl) j3
  have hpq := sp_WF.fab hN hw a4 (by rw [k2]; rfl) j1 (by rw [k2]; rfl) j3
  have f1 := sp_dp1 hF hN p4
  have eg : sp_sc nt (f + 1) n s = sp_th (sp_sc nt (f - 1) (nt 1 (nt 1 n.toNatClampNeg).toNatClampNeg) s) fun s => sp_th (sp_al s.1 (sp_sc nt (f - 1) (nt 2 (nt 1 n.toNatClampNeg).toNatClampNeg) s)) fun s => sp_al s.1 (sp_sc nt f (nt 2 n.toNatClampNeg) s) := by
    rw [sp_sc_s nt f n s, e]
    show sp_th (sp_sc nt f (nt 1 n.toNatClampNeg) s) (fun s => sp_al s.1 (sp_sc nt f (nt 2 n.toNatClampNeg) s)) = _
    obtain ⟨g, rfl⟩ : ∃ c, f = c + 1 := ⟨f - 1, by have := sp_dp1 hF hN a4; omega⟩
    rw [sp_sc_s nt g _ s, k2]
    show sp_th (sp_th (sp_sc nt g (nt 1 (nt 1 n.toNatClampNeg).toNatClampNeg) s) fun s => sp_al s.1 (sp_sc nt g (nt 2 (nt 1 n.toNatClampNeg).toNatClampNeg) s)) _ = _
    exact sp_th_as _ _ _
  rw [wX1_isScopedStatement_0_69 d n _ (by rw [hT.2.2.1]; exact e), hg, hg, hg, hT.2.2.2.1, hT.2.2.2.2.1, bX1_isScopedStatement_275, eg]
  have hga := fun r => mj_g_k (sp_nd_in hN a4 (Nat.le_refl _)) r
  obtain ⟨b1, b2⟩ := md_exSC (f := f - 1) hy hF hM p4 (sp_E_Ex j2) (by omega) d (by omega) s hs (by omega)
  rw [hga, hT.2.2.2.1, b1]
  generalize sp_sc nt (f - 1) (nt 1 (nt 1 n.toNatClampNeg).toNatClampNeg) s = r at b2
  have c := md_place hN (hS (f - 1) _ (by omega) q4 j4 (by omega)) (by omega) d (by omega) r.2 b2.2.2 (by have := b2.2.1; omega)
  dsimp only at c
  generalize hr1 : sp_al r.2.1 (sp_sc nt (f - 1) (nt 2 (nt 1 n.toNatClampNeg).toNatClampNeg) r.2) = r1 at c
  have c2 := md_place hN (hS f _ (by omega) b4 k4 (by omega)) (by omega) d (by omega) r1.2 c.2.2.2 (by have := b2.2.1; have := c.2.2.1; omega)
  dsimp only at c2
  refine ⟨sp_and (md_sc y) _ _ _ fun q => ?_, b2.th (w2 := w (nt 1 n.toNatClampNeg).toNatClampNeg + w (nt 2 n.toNatClampNeg).toNatClampNeg) (fun q => ?_) (by omega)⟩
  · rw [hga, (md_sc_T hy r.2).2.2.2.2.1, c.1, hr1]
    refine sp_and (md_sc y) _ _ _ fun q2 => ?_
    rw [c2.1]; exact sp_ret _ _
  · rw [hr1]
    exact c.2.th (fun q => c2.2) (by omega)
theorem sX1_isScopedStatement {y : mj_X} {nt : sp_NT} {N M : Nat} {res par : Nat → Int32} (hy : md_T y nt N) (hF : sp_WF nt N M res par) (hM : M ≤ 40) {w : Nat → Nat} (hw : sp_WT nt N w) : ∀ f0, md_S y nt N (3 * f0 + 2) w f0 := by
  have hN := hy.2.1
  intro f0
  induction f0 with
  | zero => intro f n hf; omega
  | succ g ih =>
    intro f n hf hn hk h4
    by_cases q : f < g
    · exact (ih f n q hn hk h4).mono (by omega)
    · obtain rfl : f = g := by omega
      obtain ⟨f, rfl⟩ : ∃ c, f = c + 1 := ⟨f - 1, by have := sp_dp1 hF hN hn; omega⟩
      have hin := sp_isK_in _ (hF.1 _ (sp_nd_lt hN hn)).1
      simp only [List.mem_cons, List.not_mem_nil, or_false] at hin
      rcases hin with e | e | e | e | e | e | e | e | e | e | e | e | e | e | e | e | e | e | e | e | e | e | e | e | e | e | e | e | e | e | e | e | e | e | e | e | e | e | e | e | e | e | e | e | e | e | e | e | e | e | e | e | e | e | e | e | e | e | e | e | e | e | e | e | e | e | e | e | e | e | e | e | e | e | e | e | e
      · rw [e] at hk; exact absurd hk (by decide)
      · rw [e] at hk; exact absurd hk (by decide)
      · rw [e] at hk; exact absurd hk (by decide)
      · rw [e] at hk; exact absurd hk (by decide)
      · rw [e] at hk; exact absurd hk (by decide)
      · rw [e] at hk; exact absurd hk (by decide)
      · rw [e] at hk; exact absurd hk (by decide)
      · rw [e] at hk; exact absurd hk (by decide)
      · rw [e] at hk; exact absurd hk (by decide)
      · rw [e] at hk; exact absurd hk (by decide)
      · rw [e] at hk; exact absurd hk (by decide)
      · rw [e] at hk; exact absurd hk (by decide)
      · rw [e] at hk; exact absurd hk (by decide)
      · rw [e] at hk; exact absurd hk (by decide)
      · rw [e] at hk; exact absurd hk (by decide)
      · rw [e] at hk; exact absurd hk (by decide)
      · rw [e] at hk; exact absurd hk (by decide)
      · rw [e] at hk; exact absurd hk (by decide)
      · rw [e] at hk; exact absurd hk (by decide)
      · rw [e] at hk; exact absurd hk (by decide)
      · rw [e] at hk; exact absurd hk (by decide)
      · rw [e] at hk; exact absurd hk (by decide)
      · rw [e] at hk; exact absurd hk (by decide)
      · rw [e] at hk; exact absurd hk (by decide)
      · rw [e] at hk; exact absurd hk (by decide)
      · rw [e] at hk; exact absurd hk (by decide)
      · rw [e] at hk; exact absurd hk (by decide)
      · rw [e] at hk; exact absurd hk (by decide)
      · rw [e] at hk; exact absurd hk (by decide)
      · rw [e] at hk; exact absurd hk (by decide)
      · rw [e] at hk; exact absurd hk (by decide)
      · rw [e] at hk; exact absurd hk (by decide)
      · rw [e] at hk; exact absurd hk (by decide)
      · rw [e] at hk; exact absurd hk (by decide)
      · rw [e] at hk; exact absurd hk (by decide)
      · rw [e] at hk; exact absurd hk (by decide)
      · rw [e] at hk; exact absurd hk (by decide)
      · rw [e] at hk; exact absurd hk (by decide)
      · rw [e] at hk; exact absurd hk (by decide)
      · rw [e] at hk; exact absurd hk (by decide)
      · rw [e] at hk; exact absurd hk (by decide)
      · rw [e] at hk; exact absurd hk (by decide)
      · rw [e] at hk; exact absurd hk (by decide)
      · rw [e] at hk; exact absurd hk (by decide)
      · rw [e] at hk; exact absurd hk (by decide)
      · rw [e] at hk; exact absurd hk (by decide)
      · rw [e] at hk; exact absurd hk (by decide)
      · rw [e] at hk; exact absurd hk (by decide)
      · rw [e] at hk; exact absurd hk (by decide)
      · rw [e] at hk; exact absurd hk (by decide)
      · exact md_s60 hy hF hM hw (by omega) ih hn h4 e
      · exact md_s61 hy hF hM hw (by omega) ih hn h4 e
      · exact md_s62 hy hF hM hw (by omega) ih hn h4 e
      · exact md_s63 hy hF hM hw (by omega) ih hn h4 e
      · exact md_s64 hy hF hM hw (by omega) ih hn h4 e
      · exact md_s65 hy hF hM hw (by omega) ih hn h4 e
      · rw [e] at hk; exact absurd hk (by decide)
      · exact md_s67 hy hF hM hw (by omega) ih hn h4 e
      · exact md_s68 hy hF hM hw (by omega) ih hn h4 e
      · exact md_s69 hy hF hM hw (by omega) ih hn h4 e
      · rw [e] at hk; exact absurd hk (by decide)
      · exact md_s71 hy hF hM hw (by omega) ih hn h4 e
      · exact md_s72 hy hF hM hw (by omega) ih hn h4 e
      · exact md_s73 hy hF hM hw (by omega) ih hn h4 e
      · exact md_s74 hy hF hM hw (by omega) ih hn h4 e
      · exact md_s75 hy hF hM hw (by omega) ih hn h4 e
      · rw [e] at hk; exact absurd hk (by decide)
      · rw [e] at hk; exact absurd hk (by decide)
      · rw [e] at hk; exact absurd hk (by decide)
      · exact md_s79 hy hF hM hw (by omega) ih hn h4 e
      · exact md_s80 hy hF hM hw (by omega) ih hn h4 e
      · exact md_s81 hy hF hM hw (by omega) ih hn h4 e
      · rw [e] at hk; exact absurd hk (by decide)
      · rw [e] at hk; exact absurd hk (by decide)
      · rw [e] at hk; exact absurd hk (by decide)
      · exact md_s85 hy hF hM hw (by omega) ih hn h4 e
      · rw [e] at hk; exact absurd hk (by decide)
