/-! the small machine's run as one function: every instruction goes on at one place, or ends -/
def mj_Li (F : (mj_S → mj_R) → mj_R) : Prop := (∃ s, ∀ k, F k = k s) ∨ (∃ r, ∀ k, F k = r)
theorem mj_Li.k (s : mj_S) : mj_Li (fun k => k s) := Or.inl ⟨s, fun _ => rfl⟩
theorem mj_Li.c (r : mj_R) : mj_Li (fun _ => r) := Or.inr ⟨r, fun _ => rfl⟩
theorem mj_Li.e {F} (h : mj_Li F) (l n : Nat) : mj_Li (fun k => mj_e l n (F k)) := by
  unfold mj_e; cases Nat.beq l n
  · exact mj_Li.c none
  · exact h
theorem mj_Li.b {F} (h : mj_Li F) (b : Bool) : mj_Li (fun k => bif b then F k else none) := by
  cases b
  · exact mj_Li.c none
  · exact h
theorem mj_Li.g {F} (h : mj_Li F) (i : Int32) (n : Nat) : mj_Li (fun k => mj_g i n (F k)) := mj_Li.b h _
theorem mj_Li.gb {F} (h : mj_Li F) (i : Int32) : mj_Li (fun k => mj_gb i (F k)) := mj_Li.b h _
theorem mj_Li.few {F} (h : mj_Li F) (l : List Value) : mj_Li (fun k => mj_few l (F k)) := mj_Li.b h _
theorem mj_Li.ite {F G} (h : mj_Li F) (g : mj_Li G) (c : Prop) [Decidable c] : mj_Li (fun k => if c then F k else G k) := by
  by_cases hc : c
  · simp only [hc, if_true]; exact h
  · simp only [hc, if_false]; exact g
theorem mj_Li.d32 {F} (h : mj_Li F) (i : Int32) : mj_Li (fun k => mj_d32 i (F k)) := mj_Li.ite (mj_Li.c none) h _
theorem mj_Li.d64 {F} (h : mj_Li F) (i : Int64) : mj_Li (fun k => mj_d64 i (F k)) := mj_Li.ite (mj_Li.c none) h _
theorem mj_Li.n32 {F} (h : mj_Li F) (i : UInt32) : mj_Li (fun k => mj_n32 i (F k)) := mj_Li.ite h (mj_Li.c none) _
theorem mj_Li.n64 {F} (h : mj_Li F) (i : UInt64) : mj_Li (fun k => mj_n64 i (F k)) := mj_Li.ite h (mj_Li.c none) _
theorem mj_Li.pI {F : Int32 → List Value → (mj_S → mj_R) → mj_R} (h : ∀ a r, mj_Li (F a r)) (st : List Value) : mj_Li (fun k => mj_pI st fun a r => F a r k) := by
  unfold mj_pI; split
  · exact h _ _
  · exact mj_Li.c none
theorem mj_Li.pL {F : Int64 → List Value → (mj_S → mj_R) → mj_R} (h : ∀ a r, mj_Li (F a r)) (st : List Value) : mj_Li (fun k => mj_pL st fun a r => F a r k) := by
  unfold mj_pL; split
  · exact h _ _
  · exact mj_Li.c none
theorem mj_Li.pF {F : UInt32 → List Value → (mj_S → mj_R) → mj_R} (h : ∀ a r, mj_Li (F a r)) (st : List Value) : mj_Li (fun k => mj_pF st fun a r => F a r k) := by
  unfold mj_pF; split
  · exact h _ _
  · exact mj_Li.c none
theorem mj_Li.pD {F : UInt64 → List Value → (mj_S → mj_R) → mj_R} (h : ∀ a r, mj_Li (F a r)) (st : List Value) : mj_Li (fun k => mj_pD st fun a r => F a r k) := by
  unfold mj_pD; split
  · exact h _ _
  · exact mj_Li.c none
theorem mj_Li.pA {F : Nat → List Value → (mj_S → mj_R) → mj_R} (h : ∀ a r, mj_Li (F a r)) (st : List Value) : mj_Li (fun k => mj_pA st fun a r => F a r k) := by
  unfold mj_pA; split
  · exact h _ _
  · exact mj_Li.c none
theorem mj_Li.lI {F : Int32 → (mj_S → mj_R) → mj_R} (h : ∀ a, mj_Li (F a)) (ls : mj_L) (n : Nat) : mj_Li (fun k => mj_lI ls n fun a => F a k) := by
  unfold mj_lI; split
  · exact h _
  · exact mj_Li.c none
theorem mj_Li.lL {F : Int64 → (mj_S → mj_R) → mj_R} (h : ∀ a, mj_Li (F a)) (ls : mj_L) (n : Nat) : mj_Li (fun k => mj_lL ls n fun a => F a k) := by
  unfold mj_lL; split
  · exact h _
  · exact mj_Li.c none
theorem mj_Li.lF {F : UInt32 → (mj_S → mj_R) → mj_R} (h : ∀ a, mj_Li (F a)) (ls : mj_L) (n : Nat) : mj_Li (fun k => mj_lF ls n fun a => F a k) := by
  unfold mj_lF; split
  · exact h _
  · exact mj_Li.c none
theorem mj_Li.lD {F : UInt64 → (mj_S → mj_R) → mj_R} (h : ∀ a, mj_Li (F a)) (ls : mj_L) (n : Nat) : mj_Li (fun k => mj_lD ls n fun a => F a k) := by
  unfold mj_lD; split
  · exact h _
  · exact mj_Li.c none
theorem mj_Li.lA {F : Nat → (mj_S → mj_R) → mj_R} (h : ∀ a, mj_Li (F a)) (ls : mj_L) (n : Nat) : mj_Li (fun k => mj_lA ls n fun a => F a k) := by
  unfold mj_lA; split
  · exact h _
  · exact mj_Li.c none
theorem mj_Li.s1 {F : mj_L → (mj_S → mj_R) → mj_R} (h : ∀ a, mj_Li (F a)) (ls : mj_L) (n : Nat) (v : Value) : mj_Li (fun k => mj_s1 ls n v fun a => F a k) := mj_Li.b (h _) _
theorem mj_Li.s2 {F : mj_L → (mj_S → mj_R) → mj_R} (h : ∀ a, mj_Li (F a)) (ls : mj_L) (n : Nat) (v : Value) : mj_Li (fun k => mj_s2 ls n v fun a => F a k) := mj_Li.b (h _) _
theorem mj_Li.j {F : Nat → (mj_S → mj_R) → mj_R} (h : ∀ a, mj_Li (F a)) (pc : Nat) (off : Int) : mj_Li (fun k => mj_j pc off fun a => F a k) := by
  unfold mj_j; split
  · exact h _
  · exact mj_Li.c none
theorem mj_Li.sw {F : Int → (mj_S → mj_R) → mj_R} (h : ∀ a, mj_Li (F a)) (x : Int32) (dflt : Int) (offs : List Int) : ∀ v : Int, mj_Li (fun k => mj_sw x v dflt offs fun a => F a k) := by
  induction offs with
  | nil => intro v; exact h _
  | cons o os ih => intro v; exact mj_Li.ite (h _) (ih _) _
theorem mj_Li.lk {F : Int → (mj_S → mj_R) → mj_R} (h : ∀ a, mj_Li (F a)) (x : Int32) (dflt : Int) (ps : List (Int × Int)) : mj_Li (fun k => mj_lk x dflt ps fun a => F a k) := by
  induction ps with
  | nil => exact h _
  | cons o os ih => exact mj_Li.ite (h _) ih _
theorem mj_Li.rV {F : mj_X → (mj_S → mj_R) → mj_R} (h : ∀ a, mj_Li (F a)) (r : mj_R) : mj_Li (fun k => mj_rV r fun a => F a k) := by
  unfold mj_rV; split
  · exact h _
  · exact mj_Li.c none
theorem mj_Li.rI {F : Int32 → mj_X → (mj_S → mj_R) → mj_R} (h : ∀ v a, mj_Li (F v a)) (r : mj_R) : mj_Li (fun k => mj_rI r fun v a => F v a k) := by
  unfold mj_rI; split
  · exact h _ _
  · exact mj_Li.c none
theorem mj_Li.rL {F : Int64 → mj_X → (mj_S → mj_R) → mj_R} (h : ∀ v a, mj_Li (F v a)) (r : mj_R) : mj_Li (fun k => mj_rL r fun v a => F v a k) := by
  unfold mj_rL; split
  · exact h _ _
  · exact mj_Li.c none
theorem mj_Li.rF {F : UInt32 → mj_X → (mj_S → mj_R) → mj_R} (h : ∀ v a, mj_Li (F v a)) (r : mj_R) : mj_Li (fun k => mj_rF r fun v a => F v a k) := by
  unfold mj_rF; split
  · exact h _ _
  · exact mj_Li.c none
theorem mj_Li.rD {F : UInt64 → mj_X → (mj_S → mj_R) → mj_R} (h : ∀ v a, mj_Li (F v a)) (r : mj_R) : mj_Li (fun k => mj_rD r fun v a => F v a k) := by
  unfold mj_rD; split
  · exact h _ _
  · exact mj_Li.c none
theorem mj_Li.rr {F : List Value → mj_X → (mj_S → mj_R) → mj_R} (h : ∀ v a, mj_Li (F v a)) (t : Nat) (r : mj_R) (rest : List Value) : mj_Li (fun k => mj_rr t r rest fun v a => F v a k) := by
  unfold mj_rr; split
  · exact mj_Li.rV (fun _ => h _ _) _
  · exact mj_Li.rL (fun _ _ => h _ _) _
  · exact mj_Li.rF (fun _ _ => h _ _) _
  · exact mj_Li.rD (fun _ _ => h _ _) _
  · exact mj_Li.rI (fun _ _ => h _ _) _
theorem mj_Li.iv {F : List Value → mj_X → (mj_S → mj_R) → mj_R} (h : ∀ v a, mj_Li (F v a)) (cd : mj_C) (cal : Nat → List Value → mj_X → mj_R) (idx : Nat) (st : List Value) (x : mj_X) : mj_Li (fun k => mj_iv cd cal idx st x fun v a => F v a k) := by
  unfold mj_iv; split
  · exact mj_Li.c none
  · refine mj_Li.b ?_ _
    split
    · exact mj_Li.few (mj_Li.rr h _ _ _) _
    · exact mj_Li.c none
theorem mj_Li.is {F : List Value → mj_X → (mj_S → mj_R) → mj_R} (h : ∀ v a, mj_Li (F v a)) (cd : mj_C) (cal : Nat → List Value → mj_X → mj_R) (idx : Nat) (st : List Value) (x : mj_X) : mj_Li (fun k => mj_is cd cal idx st x fun v a => F v a k) := by
  unfold mj_is; split
  · exact mj_Li.c none
  · exact mj_Li.b (mj_Li.few (mj_Li.rr h _ _ _) _) _
theorem mj_Li.gf {F : List Value → (mj_S → mj_R) → mj_R} (h : ∀ v, mj_Li (F v)) (cd : mj_C) (idx : Nat) (st : List Value) (x : mj_X) : mj_Li (fun k => mj_gf cd idx st x fun v => F v k) := by
  unfold mj_gf; repeat' split
  all_goals first | exact h _ | exact mj_Li.c none
theorem mj_Li.pf {F : List Value → mj_X → (mj_S → mj_R) → mj_R} (h : ∀ v a, mj_Li (F v a)) (cd : mj_C) (idx : Nat) (st : List Value) (x : mj_X) : mj_Li (fun k => mj_pf cd idx st x fun v a => F v a k) := by
  unfold mj_pf; repeat' split
  all_goals first | exact h _ _ | exact mj_Li.gb (h _ _) _ | exact mj_Li.c none
theorem mj_Li.ar {F : Nat → (mj_S → mj_R) → mj_R} (h : ∀ v, mj_Li (F v)) (cd : mj_C) (a kd : Nat) : mj_Li (fun k => mj_ar cd a kd fun v => F v k) := by
  unfold mj_ar; split
  · exact mj_Li.c none
  · exact mj_Li.b (h _) _
theorem mj_Li.bl {F : Nat → (mj_S → mj_R) → mj_R} (h : ∀ v, mj_Li (F v)) (cd : mj_C) (a : Nat) : mj_Li (fun k => mj_bl cd a fun v => F v k) := by
  unfold mj_bl; repeat' split
  all_goals first | exact h _ | exact mj_Li.c none
theorem mj_Li.bs {F : Nat → Int32 → (mj_S → mj_R) → mj_R} (h : ∀ v w, mj_Li (F v w)) (cd : mj_C) (a : Nat) (v : Int32) : mj_Li (fun k => mj_bs cd a v fun v w => F v w k) := by
  unfold mj_bs; repeat' split
  all_goals first | exact h _ _ | exact mj_Li.gb (h _ _) _ | exact mj_Li.c none
theorem mj_Li.al {F : Nat → (mj_S → mj_R) → mj_R} (h : ∀ v, mj_Li (F v)) (cd : mj_C) (a : Nat) : mj_Li (fun k => mj_al cd a fun v => F v k) := by
  unfold mj_al; split
  · exact mj_Li.c none
  · exact mj_Li.b (h _) _
theorem mj_Li.ck1 {F : Value → (mj_S → mj_R) → mj_R} (h : ∀ v, mj_Li (F v)) (cd : mj_C) (a : Nat) : mj_Li (fun k => mj_ck1 cd a fun v => F v k) := by
  unfold mj_ck1; repeat' split
  all_goals first | exact h _ | exact mj_Li.c none
theorem mj_Li.ckw {F : Value → (mj_S → mj_R) → mj_R} (h : ∀ v, mj_Li (F v)) (cd : mj_C) (a : Nat) : mj_Li (fun k => mj_ckw cd a fun v => F v k) := by
  unfold mj_ckw; repeat' split
  all_goals first | exact h _ | exact mj_Li.c none
theorem mj_Li.ck2 {F : Value → (mj_S → mj_R) → mj_R} (h : ∀ v, mj_Li (F v)) (cd : mj_C) (a : Nat) : mj_Li (fun k => mj_ck2 cd a fun v => F v k) := by
  unfold mj_ck2; repeat' split
  all_goals first | exact h _ | exact mj_Li.c none
theorem mj_Li.if_ {F G} (h : mj_Li F) (g : mj_Li G) (c : ClassFile.Cond) (a b : Int32) : mj_Li (fun k => mj_if c a b (F k) (G k)) := by
  cases c
  all_goals first | exact mj_Li.ite h g _ | exact mj_Li.ite g h _
set_option maxHeartbeats 4000000 in
theorem mj_lin (cd : mj_C) (rt : Nat) (cal : Nat → List Value → mj_X → mj_R) (i : Instr) (len pc : Nat) (ls : mj_L) (st : List Value) (x : mj_X) : mj_Li (mj_st cd rt cal i len pc ls st x) := by
  unfold mj_st
  split
  all_goals first
    | exact mj_Li.c none
    | (refine mj_Li.e ?_ _ _; exact mj_Li.k _)
    | skip
  all_goals repeat' first
    | exact mj_Li.c _
    | exact mj_Li.k _
    | (refine mj_Li.e ?_ _ _)
    | (refine mj_Li.lI (fun _ => ?_) _ _)
    | (refine mj_Li.lL (fun _ => ?_) _ _)
    | (refine mj_Li.lF (fun _ => ?_) _ _)
    | (refine mj_Li.lD (fun _ => ?_) _ _)
    | (refine mj_Li.lA (fun _ => ?_) _ _)
    | (refine mj_Li.pI (fun _ _ => ?_) _)
    | (refine mj_Li.pL (fun _ _ => ?_) _)
    | (refine mj_Li.pF (fun _ _ => ?_) _)
    | (refine mj_Li.pD (fun _ _ => ?_) _)
    | (refine mj_Li.pA (fun _ _ => ?_) _)
    | (refine mj_Li.s1 (fun _ => ?_) _ _ _)
    | (refine mj_Li.s2 (fun _ => ?_) _ _ _)
    | (refine mj_Li.ck1 (fun _ => ?_) _ _)
    | (refine mj_Li.ckw (fun _ => ?_) _ _)
    | (refine mj_Li.ck2 (fun _ => ?_) _ _)
    | (refine mj_Li.d32 ?_ _)
    | (refine mj_Li.d64 ?_ _)
    | (refine mj_Li.n32 ?_ _)
    | (refine mj_Li.n64 ?_ _)
    | (refine mj_Li.g ?_ _ _)
    | (refine mj_Li.j (fun _ => ?_) _ _)
    | (refine mj_Li.if_ ?_ ?_ _ _ _)
    | (refine mj_Li.sw (fun _ => ?_) _ _ _ _)
    | (refine mj_Li.lk (fun _ => ?_) _ _ _)
    | (refine mj_Li.gf (fun _ => ?_) _ _ _ _)
    | (refine mj_Li.pf (fun _ _ => ?_) _ _ _ _)
    | (refine mj_Li.ar (fun _ => ?_) _ _ _)
    | (refine mj_Li.bl (fun _ => ?_) _ _)
    | (refine mj_Li.bs (fun _ _ => ?_) _ _ _)
    | (refine mj_Li.al (fun _ => ?_) _ _)
    | (refine mj_Li.iv (fun _ _ => ?_) _ _ _ _ _)
    | (refine mj_Li.is (fun _ _ => ?_) _ _ _ _ _)
    | (refine mj_Li.b ?_ _)
    | split
theorem mj_lin0 (cd : mj_C) (rt : Nat) (tab : mj_T) (cal : Nat → List Value → mj_X → mj_R) (s : mj_S) : mj_Li (mj_s0 cd rt tab cal s) := by
  unfold mj_s0
  split
  · exact mj_lin _ _ _ _ _ _ _ _ _
  · exact mj_Li.c none
section MjFix
variable {cd : mj_C} {rt : Nat} {tab : mj_T} {cal : Nat → List Value → mj_X → mj_R}
theorem mj_mono1 : ∀ (n : Nat) (s : mj_S) (r : Option Value × mj_X), mj_ex cd rt tab cal n s = some r → mj_ex cd rt tab cal (n + 1) s = some r := by
  intro n
  induction n with
  | zero => intro s r h; cases h
  | succ n ih =>
    intro s r h
    show mj_s0 cd rt tab cal s (mj_ex cd rt tab cal (n + 1)) = some r
    have h : mj_s0 cd rt tab cal s (mj_ex cd rt tab cal n) = some r := h
    rcases mj_lin0 cd rt tab cal s with ⟨s', hs⟩ | ⟨c, hc⟩
    · rw [hs] at h ⊢; exact ih _ _ h
    · rw [hc] at h ⊢; exact h
theorem mj_mono {n m : Nat} (hnm : n ≤ m) {s : mj_S} {r : Option Value × mj_X} (h : mj_ex cd rt tab cal n s = some r) : mj_ex cd rt tab cal m s = some r := by
  induction hnm with
  | refl => exact h
  | step _ ih => exact mj_mono1 _ _ _ ih
theorem mj_det {n m : Nat} {s : mj_S} {r r' : Option Value × mj_X} (h : mj_ex cd rt tab cal n s = some r) (h' : mj_ex cd rt tab cal m s = some r') : r = r' := by
  rcases Nat.le_total n m with q | q
  · have := mj_mono q h; rw [h'] at this; cases this; rfl
  · have := mj_mono q h'; rw [h] at this; cases this; rfl
end MjFix
/-- a method's run from a place on: what any number of steps comes to -/
noncomputable def mj_run (cd : mj_C) (rt : Nat) (tab : mj_T) (cal : Nat → List Value → mj_X → mj_R) (s : mj_S) : mj_R :=
  @dite _ (∃ n r, mj_ex cd rt tab cal n s = some r) (Classical.propDecidable _) (fun h => mj_ex cd rt tab cal h.choose s) (fun _ => none)
section MjFix2
variable {cd : mj_C} {rt : Nat} {tab : mj_T} {cal : Nat → List Value → mj_X → mj_R}
theorem mj_run_iff {s : mj_S} {r : Option Value × mj_X} : mj_run cd rt tab cal s = some r ↔ ∃ n, mj_ex cd rt tab cal n s = some r := by
  unfold mj_run
  by_cases h : ∃ n r, mj_ex cd rt tab cal n s = some r
  · rw [dif_pos h]
    obtain ⟨r', hr'⟩ := h.choose_spec
    constructor
    · intro e; exact ⟨_, e⟩
    · rintro ⟨n, hn⟩
      rw [mj_det hn hr', hr']
  · rw [dif_neg h]
    constructor
    · intro e; cases e
    · rintro ⟨n, hn⟩; exact absurd ⟨n, r, hn⟩ h
/-- the run's own equation -/
theorem mj_run_eq (s : mj_S) : mj_run cd rt tab cal s = mj_s0 cd rt tab cal s (mj_run cd rt tab cal) := by
  refine Option.ext fun r => ?_
  rw [mj_run_iff]
  rcases mj_lin0 cd rt tab cal s with ⟨s', hs⟩ | ⟨c, hc⟩
  · rw [hs, mj_run_iff]
    constructor
    · rintro ⟨n, hn⟩
      cases n with
      | zero => cases hn
      | succ n => exact ⟨n, by have hn : mj_s0 cd rt tab cal s (mj_ex cd rt tab cal n) = some r := hn; rw [hs] at hn; exact hn⟩
    · rintro ⟨n, hn⟩
      exact ⟨n + 1, by show mj_s0 cd rt tab cal s (mj_ex cd rt tab cal n) = some r; rw [hs]; exact hn⟩
  · rw [hc]
    constructor
    · rintro ⟨n, hn⟩
      cases n with
      | zero => cases hn
      | succ n => have hn : mj_s0 cd rt tab cal s (mj_ex cd rt tab cal n) = some r := hn; rw [hc] at hn; exact hn
    · intro h
      exact ⟨1, by show mj_s0 cd rt tab cal s (mj_ex cd rt tab cal 0) = some r; rw [hc]; exact h⟩
/-- many steps, up to places that are asked for, and up to a switch -/
def mj_isw : Instr → Bool
  | .tableswitch _ _ _ _ => true
  | .lookupswitch _ _ => true
  | _ => false
def mj_to (cd : mj_C) (rt : Nat) (tab : mj_T) (cal : Nat → List Value → mj_X → mj_R) (stop : Nat → Bool) : Nat → mj_S → (mj_S → mj_R) → mj_R
  | 0, s, k => k s
  | n + 1, s, k => match tab s.1 with
    | some q => mj_st cd rt cal q.1 q.2 s.1 s.2.1 s.2.2.1 s.2.2.2 (bif mj_isw q.1 then k else fun s' => bif stop s'.1 then k s' else mj_to cd rt tab cal stop n s' k)
    | none => none
theorem mj_run_to (stop : Nat → Bool) : ∀ (n : Nat) (s : mj_S), mj_run cd rt tab cal s = mj_to cd rt tab cal stop n s (mj_run cd rt tab cal) := by
  intro n
  induction n with
  | zero => intro s; rfl
  | succ n ih =>
    intro s
    rw [mj_run_eq]
    unfold mj_s0 mj_to
    cases tab s.1 with
    | none => rfl
    | some q =>
      show mj_st cd rt cal q.1 q.2 s.1 s.2.1 s.2.2.1 s.2.2.2 _ = mj_st cd rt cal q.1 q.2 s.1 s.2.1 s.2.2.1 s.2.2.2 _
      congr 1
      cases mj_isw q.1
      · funext s'
        show _ = bif stop s'.1 then _ else _
        cases stop s'.1
        · exact ih s'
        · rfl
      · rfl
end MjFix2
