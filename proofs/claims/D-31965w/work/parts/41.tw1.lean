/-! THE TWIN's METHODS: what each makes of the bank -/
def bI (b : Bool) : Int32 := if b = true then 1 else 0
theorem bI0 {b : Bool} : bI b = 0 ↔ b = false := by cases b <;> simp [bI]
theorem bI1 {b : Bool} : ¬ bI b = 0 ↔ b = true := by cases b <;> simp [bI]
theorem bI_n (b : Bool) : narrow .boolean (.int (bI b)) = .int (bI b) := by cases b <;> rfl
theorem bI_v (b : Bool) : vp_nar .boolean (bI b) = bI b := by cases b <;> rfl
theorem b_in {x a : Int32} {n : Nat} (h0 : 0 ≤ x) (h1 : x ≤ a) (hn : a.toNatClampNeg < n) : vp_in x n := by
  rintro (h | h)
  · exact absurd h (Int32.not_lt.mpr h0)
  · have h2 : x.toNatClampNeg ≤ a.toNatClampNeg := by
      show x.toInt.toNat ≤ a.toInt.toNat
      have := Int32.le_iff_toInt_le.mp h1
      omega
    omega
def bIn (x a c : Int32) : Bool := decide (a ≤ x) && decide (x ≤ c)
theorem bIn_t {x a c : Int32} (h : bIn x a c = true) : a ≤ x ∧ x ≤ c := by simpa [bIn] using h
theorem bIn_v {x c : Int32} {n : Nat} (h : bIn x 0 c = true) (hn : c.toNatClampNeg < n) : vp_in x n := b_in (bIn_t h).1 (bIn_t h).2 hn
section B41
variable {G : mG} {b : Nat} {M : mM} {am : Nat} {ad : bA} {S : bS}
theorem b_isIn {K : Int32 → mM → Prop} {x a c : Int32} (kk : K (bI (bIn x a c)) M) : wp_X4_isIn G b K M x a c := by
  unfold wp_X4_isIn wb_X4_isIn_14 wb_X4_isIn_15
  by_cases h1 : x < a
  · have e : bIn x a c = false := by simp [bIn, Int32.not_le.mpr h1]
    rw [e] at kk
    exact ⟨fun _ => ⟨rfl, kk⟩, fun z => absurd h1 z⟩
  · refine ⟨fun z => absurd z h1, fun _ => ?_⟩
    by_cases h2 : c < x
    · have e : bIn x a c = false := by simp [bIn, Int32.not_le.mpr h2]
      rw [e] at kk
      exact ⟨fun _ => ⟨rfl, kk⟩, fun z => absurd h2 z⟩
    · have e : bIn x a c = true := by simp [bIn, Int32.not_lt.mp h1, Int32.not_lt.mp h2]
      rw [e] at kk
      exact ⟨fun z => absurd z h2, fun _ => ⟨rfl, kk⟩⟩
theorem b_noCell {K : Int32 → mM → Prop} {x : Int32} (kk : K (bI (!bIn x 0 35)) M) : wp_X4_noCell G b K M x := by
  unfold wp_X4_noCell wb_X4_noCell_15
  refine b_isIn ⟨fun h => ?_, fun h => ?_⟩
  · rw [bI1.mp h] at kk; exact ⟨rfl, kk⟩
  · rw [bI0.mp h] at kk; exact ⟨rfl, kk⟩
theorem b_noPond {K : Int32 → mM → Prop} {x : Int32} (kk : K (bI (!bIn x 0 3)) M) : wp_X4_noPond G b K M x := by
  unfold wp_X4_noPond wb_X4_noPond_14
  refine b_isIn ⟨fun h => ?_, fun h => ?_⟩
  · rw [bI1.mp h] at kk; exact ⟨rfl, kk⟩
  · rw [bI0.mp h] at kk; exact ⟨rfl, kk⟩
theorem b_noKind {K : Int32 → mM → Prop} {x : Int32} (kk : K (bI (!bIn x 0 3)) M) : wp_X4_noKind G b K M x := by
  unfold wp_X4_noKind wb_X4_noKind_14
  refine b_isIn ⟨fun h => ?_, fun h => ?_⟩
  · rw [bI1.mp h] at kk; exact ⟨rfl, kk⟩
  · rw [bI0.mp h] at kk; exact ⟨rfl, kk⟩
/-- which exception of three -/
def bE (p q r : Bool) : Int32 := if p = true then 1 else if q = true then 2 else if r = true then 3 else 0
theorem bE_0 {p q r : Bool} (h : bE p q r = 0) : p = false ∧ q = false ∧ r = false := by revert h; cases p <;> cases q <;> cases r <;> decide
theorem b_fails (h : bM M am ad S) {K : Int32 → mM → Prop} {p q r : Bool} (kk : ∀ M', bM M' am ad (bU S 0 0 0 0 (bE p q r)) → K (bI (decide (bE p q r ≠ 0))) M') : wp_X4_fails G b K M am (bI p) (bI q) (bI r) := by
  have fin : wb_X4_fails_26 G K b M am am (bE p q r) := by
    unfold wb_X4_fails_26 wb_X4_fails_41
    refine b_pfi h (by decide) (fun M' hM' => b_gfi hM' (by decide) ?_)
    rw [bU_s]
    have k2 := kk M' hM'
    revert k2
    cases p <;> cases q <;> cases r <;> (intro k2; refine ⟨fun z => ?_, fun z => ?_⟩) <;> first | exact ⟨rfl, k2⟩ | exact absurd z (by decide)
  unfold wp_X4_fails
  revert fin
  cases p <;> cases q <;> cases r <;> intro fin
  · exact ⟨fun _ => ⟨fun _ => ⟨fun _ => fin, fun z => absurd rfl z⟩, fun z => absurd rfl z⟩, fun z => absurd rfl z⟩
  · exact ⟨fun _ => ⟨fun _ => ⟨fun z => absurd z (by decide), fun _ => fin⟩, fun z => absurd rfl z⟩, fun z => absurd rfl z⟩
  · exact ⟨fun _ => ⟨fun z => absurd z (by decide), fun _ => fin⟩, fun z => absurd rfl z⟩
  · exact ⟨fun _ => ⟨fun z => absurd z (by decide), fun _ => fin⟩, fun z => absurd rfl z⟩
  · exact ⟨fun z => absurd z (by decide), fun _ => fin⟩
  · exact ⟨fun z => absurd z (by decide), fun _ => fin⟩
  · exact ⟨fun z => absurd z (by decide), fun _ => fin⟩
  · exact ⟨fun z => absurd z (by decide), fun _ => fin⟩
/-- a check, and what comes behind it -/
theorem b_chk {K : Int32 → mM → Prop} {A B : mM → Prop} {p q r : Bool} (h : bM M am ad S) (hK : ∀ v M', K v M' = ((v = 0 → A M') ∧ (¬ v = 0 → B M'))) (hA : p = false → q = false → r = false → ∀ M', bM M' am ad (bU S 0 0 0 0 0) → A M') (hB : ¬ bE p q r = 0 → ∀ M', bM M' am ad (bU S 0 0 0 0 (bE p q r)) → B M') : wp_X4_fails G b K M am (bI p) (bI q) (bI r) := by
  refine b_fails h fun M' hM' => ?_
  rw [hK]
  refine ⟨fun z => ?_, fun z => ?_⟩
  · have e : bE p q r = 0 := by simpa using bI0.mp z
    obtain ⟨h1, h2, h3⟩ := bE_0 e
    rw [e] at hM'
    exact hA h1 h2 h3 M' hM'
  · have e : ¬ bE p q r = 0 := by simpa using bI1.mp z
    exact hB e M' hM'
theorem b_depth (h : bM M am ad S) {x : Int32} (hx : vp_in x 36) (hp : vp_in (S 5 x.toNatClampNeg 0 0) 4) {K : Int32 → mM → Prop} (kk : K (S 8 (S 5 x.toNatClampNeg 0 0).toNatClampNeg 0 0 - S 3 x.toNatClampNeg 0 0) M) : wp_X4_depth G b K M am x := by
  unfold wp_X4_depth
  repeat (first
    | exact And.intro rfl (by assumption)
    | (refine ⟨bM.isc (by assumption), ?_⟩)
    | refine b_gfi (by assumption) (by decide) ?_
    | refine b_gfa (by assumption) (by decide) ?_
    | refine b_pfi (by assumption) (by decide) (fun M' hM' => ?_)
    | refine b_ld1 (by assumption) (by decide) (by first | assumption | fail) ?_
    | refine b_lda (by assumption) (by decide) (by first | assumption | fail) ?_
    | refine b_ld2 (by assumption) (by decide) (by first | assumption | exact bLt (by first | assumption | fail)) (by first | assumption | fail) ?_
    | refine b_lda2 (by assumption) (by decide) (by first | assumption | exact bLt (by first | assumption | fail)) (by first | assumption | fail) ?_
    | refine b_ld3 (by assumption) (by decide) (by first | assumption | exact bLt (by first | assumption | fail)) (by first | assumption | exact bLt (by first | assumption | fail)) (by first | assumption | fail) ?_
    | refine b_st1 (by assumption) (by decide) (by first | assumption | fail) (fun M' hM' => ?_)
    | refine b_st2 (by assumption) (by decide) (by first | assumption | exact bLt (by first | assumption | fail)) (by first | assumption | fail) (fun M' hM' => ?_)
    | refine b_st3 (by assumption) (by decide) (by first | assumption | exact bLt (by first | assumption | fail)) (by first | assumption | exact bLt (by first | assumption | fail)) (by first | assumption | fail) (fun M' hM' => ?_))
  exact kk
theorem b_answered (h : bM M am ad S) {x : Int32} {K : Int32 → mM → Prop} (kk : ∀ M', bM M' am ad (bU S 0 0 0 0 0) → K x M') : wp_X4_answered G b K M am x := by
  unfold wp_X4_answered
  exact b_pfi h (by decide) kk
theorem b_thrown (h : bM M am ad S) {K : Int32 → mM → Prop} (kk : K (S 0 0 0 0) M) : wp_X4_thrown G b K M am := by
  unfold wp_X4_thrown
  exact b_gfi h (by decide) kk
end B41
