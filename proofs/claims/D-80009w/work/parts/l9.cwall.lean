/-! every statement of CodeWriter, by induction; the switch is still owed (its statement: k81) -/
def k81 (nt : sp_NT) (N : Nat) : Prop := ∀ (f : Nat) (n : Int32) (P : yP) (hp : Nat) (H : List wSl) (O : List (Int32 × List (Nat × Nat))) (K sb : Nat) (C : Nat → Prop) (V : List wSl) (lm : Nat → Nat) (lv ct : Nat → Bool) (x : mj_X) (g : wG) (d : Nat), 6 * f + 263 ≤ d → wA nt N 40 n → nK nt n = 81 → f + 1 ≤ 200 → x.1 0 29 = 0 → w_q g = false → (∀ m, wA nt N 40 m → kS nt N f m) → (∀ c, c ∈ g_cx g → w_cok nt N c) → K ≤ 200 - (f + 1) → sb + 1 ≤ 2000000000 → Y2 nt N P hp H O K (200 - f) sb C none V lm lv ct x g → g_ok (w_bd nt (wV nt 40) (wS nt f) n g) →
  KS nt N P hp H O K (200 - (f + 1)) (sb + 1) (g_nl g) (z_skl V) C ct g (rX0_act d (481, [some (.ref 0), some (.int n), some (.int (nA nt n)), some (.int (nB nt n)), none, none, none], [], x)) x lm lv (w_bd nt (wV nt 40) (wS nt f) n g)
section
variable {nt : sp_NT} {N M : Nat} {P : yP} {hp : Nat} {H V : List wSl} {O : List (Int32 × List (Nat × Nat))} {K u sb : Nat} {C : Nat → Prop} {o : Option Int32} {lm lm' lm1 : Nat → Nat} {lv lv' lv1 ct ct' : Nat → Bool} {x y x1 : mj_X} {g G : wG} {res par : Nat → Int32} {f : Nat} {n : Int32}
theorem kS_of (hT : wTb nt N M res par) (H81 : k81 nt N) : ∀ (f : Nat) (n : Int32), f ≤ 200 → wA nt N 40 n → kS nt N f n := by
  intro f
  induction f with
  | zero => intro n _ _; exact kS_0
  | succ f ih =>
    intro n hf hA P hp H O K sb C V lm lv ct x g d hd hf' h hC hok
    obtain ⟨d, rfl⟩ : ∃ e, d = e + 1 := ⟨d - 1, by omega⟩
    have R : ∀ m, wA nt N 40 m → kS nt N f m := fun m hm => ih m (by omega) hm
    have T0 : x.1 1 n.toNatClampNeg = nK nt n := congrFun h.T.1 _
    rcases sp_Sk_k hA.2.1 with hk | hk | hk | hk | hk | hk | hk | hk | hk | hk | hk | hk | hk | hk | hk | hk | hk | hk
    · exact k_entry (g := g) hf hA.1 (wX0_act_0_60 d n x (T0.trans hk)) h hok (fun x' x0 hq hK hs q ok => k_s60 (g := s_ac g) (x := x') (by omega) hT hA hk hf hq hK hs q ok)
    · exact k_entry (g := g) hf hA.1 (wX0_act_0_61 d n x (T0.trans hk)) h hok (fun x' x0 hq hK hs q ok => k_s61 (g := s_ac g) (x := x') (by omega) hT hA hk hf hq hK hs q ok)
    · exact k_entry (g := g) hf hA.1 (wX0_act_0_62 d n x (T0.trans hk)) h hok (fun x' x0 hq hK hs q ok => k_s62 (g := s_ac g) (x := x') (by omega) hT hA hk hf R hC hK hs q ok)
    · exact k_entry (g := g) hf hA.1 (wX0_act_0_63 d n x (T0.trans hk)) h hok (fun x' x0 hq hK hs q ok => k_s63 (g := s_ac g) (x := x') (by omega) hT hA hk hf R hC hK hs q ok)
    · exact k_entry (g := g) hf hA.1 (wX0_act_0_64 d n x (T0.trans hk)) h hok (fun x' x0 hq hK hs q ok => k_s64 (g := s_ac g) (x := x') (by omega) hT hA hk hf x0 R hC hK hs q ok)
    · exact k_entry (g := g) hf hA.1 (wX0_act_0_65 d n x (T0.trans hk)) h hok (fun x' x0 hq hK hs q ok => k_s65 (g := s_ac g) (x := x') (by omega) hT hA hk hf x0 R hC hK hs q ok)
    · exact k_entry (g := g) hf hA.1 (wX0_act_0_67 d n x (T0.trans hk)) h hok (fun x' x0 hq hK hs q ok => k_s67 (g := s_ac g) (x := x') (by omega) hT hA (Or.inl hk) hf x0 R hC hK hs q ok)
    · exact k_entry (g := g) hf hA.1 (wX0_act_0_68 d n x (T0.trans hk)) h hok (fun x' x0 hq hK hs q ok => k_s67 (g := s_ac g) (x := x') (by omega) hT hA (Or.inr (Or.inl hk)) hf x0 R hC hK hs q ok)
    · exact k_entry (g := g) hf hA.1 (wX0_act_0_69 d n x (T0.trans hk)) h hok (fun x' x0 hq hK hs q ok => k_s67 (g := s_ac g) (x := x') (by omega) hT hA (Or.inr (Or.inr hk)) hf x0 R hC hK hs q ok)
    · exact k_entry (g := g) hf hA.1 (wX0_act_0_71 d n x (T0.trans hk)) h hok (fun x' x0 hq hK hs q ok => k_s71 (g := s_ac g) (x := x') (by omega) hT hA ((sp_k71 (hT.ok hA.1).1 (hT.ok hA.1).2 hk).2) (Or.inl hk) hf x0 hq R hC hK hs q ok)
    · exact k_entry (g := g) hf hA.1 (wX0_act_0_72 d n x (T0.trans hk)) h hok (fun x' x0 hq hK hs q ok => k_s71 (g := s_ac g) (x := x') (by omega) hT hA ((sp_k72 (hT.ok hA.1).1 (hT.ok hA.1).2 hk).2) (Or.inr hk) hf x0 hq R hC hK hs q ok)
    · exact k_entry (g := g) hf hA.1 (wX0_act_0_73 d n x (T0.trans hk)) h hok (fun x' x0 hq hK hs q ok => k_s73 (g := s_ac g) (x := x') (by omega) hT hA hk hf hq R hC hK hs q ok)
    · exact k_entry (g := g) hf hA.1 (wX0_act_0_74 d n x (T0.trans hk)) h hok (fun x' x0 hq hK hs q ok => k_s74 (g := s_ac g) (x := x') (by omega) hT hA hk hf hK hs q ok)
    · exact k_entry (g := g) hf hA.1 (wX0_act_0_75 d n x (T0.trans hk)) h hok (fun x' x0 hq hK hs q ok => k_s75 (g := s_ac g) (x := x') (by omega) hT hA hk hf x0 R hC hK hs q ok)
    · exact k_entry (g := g) hf hA.1 (wX0_act_0_79 d n x (T0.trans hk)) h hok (fun x' x0 hq hK hs q ok => k_s79 (g := s_ac g) (x := x') (by omega) hT hA hk hf x0 R hC hK hs q ok)
    · exact k_entry (g := g) hf hA.1 (wX0_act_0_80 d n x (T0.trans hk)) h hok (fun x' x0 hq hK hs q ok => k_s80 (g := s_ac g) (x := x') (by omega) hT hA hk hf x0 hq R hC hK hs q ok)
    · exact k_entry (g := g) hf hA.1 (wX0_act_0_81 d n x (T0.trans hk)) h hok (fun x' x0 hq hK hs q ok => H81 f n P hp H O K sb C V lm lv ct x' (s_ac g) d (by omega) hA hk hf x0 hq R hC hK hs q ok)
    · exact k_entry (g := g) hf hA.1 (wX0_act_0_85 d n x (T0.trans hk)) h hok (fun x' x0 hq hK hs q ok => k_s85 (g := s_ac g) (x := x') (by omega) hT hA hk hf x0 R hC hK hs q ok)
end
