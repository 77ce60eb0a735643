/-! every statement of CodeWriterModel, by induction -/
section
variable {nt : sp_NT} {N M : Nat} {w : Bool} {ba pf rf lf c hp : Nat} {H V : List wSl} {K u : Nat} {o : Option Int32} {lm lm' : Nat → Nat} {lv lv' : Nat → Bool} {x y : mj_X} {g G : wG} {res par : Nat → Int32} {f : Nat} {n : Int32}
theorem mS_all (hT : wTb nt N M res par) (hc1 : 83 ≤ c) (hc2 : c ≤ 3990) : ∀ (f : Nat) (n : Int32), f ≤ 200 → wA nt N 40 n → mS nt N M w ba pf rf lf c f n := by
  intro f
  induction f with
  | zero => intro n _ _; exact mS_0
  | succ f ih =>
    intro n hf hA d hp H V K lm lv x g hd hf' h hC hok
    obtain ⟨d, rfl⟩ : ∃ e, d = e + 1 := ⟨d - 1, by omega⟩
    have R : ∀ m, wA nt N 40 m → mS nt N M w ba pf rf lf c f m := fun m hm => ih m (by omega) hm
    have T0 : x.1 2 n.toNatClampNeg = nK nt n := congrFun h.T.1 _
    rcases sp_Sk_k hA.2.1 with hk | hk | hk | hk | hk | hk | hk | hk | hk | hk | hk | hk | hk | hk | hk | hk | hk | hk
    · exact m_entry (g := g) hf hA.1 (wX1_statement_0_60 d n x (T0.trans hk)) h hok (fun x' x0 hq hK q ok => m_s60 (g := s_ac g) (x := x') (by omega) hc1 hc2 hT hA hk hf x0 hq hK q ok)
    · exact m_entry (g := g) hf hA.1 (wX1_statement_0_61 d n x (T0.trans hk)) h hok (fun x' x0 hq hK q ok => m_s61 (g := s_ac g) (x := x') (by omega) hc1 hc2 hT hA hk hf hq hK q ok)
    · exact m_entry (g := g) hf hA.1 (wX1_statement_0_62 d n x (T0.trans hk)) h hok (fun x' x0 hq hK q ok => m_s62 (g := s_ac g) (x := x') (by omega) hT hA hk hf R hC hK q ok)
    · exact m_entry (g := g) hf hA.1 (wX1_statement_0_63 d n x (T0.trans hk)) h hok (fun x' x0 hq hK q ok => m_s63 (g := s_ac g) (x := x') (by omega) hT hA hk hf R hC hK q ok)
    · exact m_entry (g := g) hf hA.1 (wX1_statement_0_64 d n x (T0.trans hk)) h hok (fun x' x0 hq hK q ok => m_s64 (g := s_ac g) (x := x') (by omega) hc1 hc2 hT hA hk hf R hC hK q ok)
    · exact m_entry (g := g) hf hA.1 (wX1_statement_0_65 d n x (T0.trans hk)) h hok (fun x' x0 hq hK q ok => m_s65 (g := s_ac g) (x := x') (by omega) hc1 hc2 hT hA hk hf R hC hK q ok)
    · exact m_entry (g := g) hf hA.1 (wX1_statement_0_67 d n x (T0.trans hk)) h hok (fun x' x0 hq hK q ok => m_s67 (g := s_ac g) (x := x') (by omega) hc1 hc2 hT hA (Or.inl hk) hf R hC hK q ok)
    · exact m_entry (g := g) hf hA.1 (wX1_statement_0_68 d n x (T0.trans hk)) h hok (fun x' x0 hq hK q ok => m_s67 (g := s_ac g) (x := x') (by omega) hc1 hc2 hT hA (Or.inr (Or.inl hk)) hf R hC hK q ok)
    · exact m_entry (g := g) hf hA.1 (wX1_statement_0_69 d n x (T0.trans hk)) h hok (fun x' x0 hq hK q ok => m_s67 (g := s_ac g) (x := x') (by omega) hc1 hc2 hT hA (Or.inr (Or.inr hk)) hf R hC hK q ok)
    · exact m_entry (g := g) hf hA.1 (wX1_statement_0_71 d n x (T0.trans hk)) h hok (fun x' x0 hq hK q ok => m_s71 (g := s_ac g) (x := x') (by omega) hT ((sp_k71 (hT.ok hA.1).1 (hT.ok hA.1).2 hk).2) hk hf R hC hK q ok)
    · exact m_entry (g := g) hf hA.1 (wX1_statement_0_72 d n x (T0.trans hk)) h hok (fun x' x0 hq hK q ok => m_s72 (g := s_ac g) (x := x') (by omega) hT ((sp_k72 (hT.ok hA.1).1 (hT.ok hA.1).2 hk).2) hk hf R hC hK q ok)
    · exact m_entry (g := g) hf hA.1 (wX1_statement_0_73 d n x (T0.trans hk)) h hok (fun x' x0 hq hK q ok => m_s73 (g := s_ac g) (x := x') (by omega) hc1 hc2 hT hA hk hf hq R hC hK q ok)
    · exact m_entry (g := g) hf hA.1 (wX1_statement_0_74 d n x (T0.trans hk)) h hok (fun x' x0 hq hK q ok => m_s74 (g := s_ac g) (x := x') (by omega) hc1 hc2 hT hA hk hf hK q ok)
    · exact m_entry (g := g) hf hA.1 (wX1_statement_0_75 d n x (T0.trans hk)) h hok (fun x' x0 hq hK q ok => m_s75 (g := s_ac g) (x := x') (by omega) hc1 hc2 hT hA hk hf R hC hK q ok)
    · exact m_entry (g := g) hf hA.1 (wX1_statement_0_79 d n x (T0.trans hk)) h hok (fun x' x0 hq hK q ok => m_s79 (g := s_ac g) (x := x') (by omega) hc1 hc2 hT hA hk hf R hC hK q ok)
    · exact m_entry (g := g) hf hA.1 (wX1_statement_0_80 d n x (T0.trans hk)) h hok (fun x' x0 hq hK q ok => m_s80 (g := s_ac g) (x := x') (by omega) hc1 hc2 hT hA hk hf R hq hC hK q ok)
    · exact m_entry (g := g) hf hA.1 (wX1_statement_0_81 d n x (T0.trans hk)) h hok (fun x' x0 hq hK q ok => m_s81 (g := s_ac g) (x := x') (by omega) hc1 hc2 hT hA hk hf R hq hC hK q ok)
    · exact m_entry (g := g) hf hA.1 (wX1_statement_0_out d n x (Or.inr (by rw [T0, hk]; decide))) h hok (fun x' x0 hq hK q ok => m_s85 (g := s_ac g) (x := x') (by omega) hT hA hk hf R hC hK q ok)
end
