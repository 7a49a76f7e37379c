/-! THE TWIN's reading of a text -/
/-- the letter at a place -/
def lt (S : bS) (p : Nat) : Int32 := if nn (S 18 0 0 0) ≤ p then -1 else S 22 p 0 0
def wayB (x : Int32) : Bool := decide (x = 78) || (decide (x = 69) || (decide (x = 83) || decide (x = 87)))
section B60
variable {G : mG} {b : Nat} {am : Nat} {ad : bA}
theorem b_letter {M : mM} {S : bS} (h : bM M am ad S) (hL : bIn (S 18 0 0 0) 0 60 = true) {p : Nat} (hp : p < 2 ^ 31) {K : Int32 → mM → Prop} (kk : K (lt S p) M) : wp_X4_letter G b K M am (Int32.ofNat p) := by
  obtain ⟨a0, a1⟩ := bIn_t hL
  have e18 : S 18 0 0 0 = Int32.ofNat (nn (S 18 0 0 0)) := i_of a0
  have hle : nn (S 18 0 0 0) ≤ 60 := i_nle a0 a1
  have hiff : S 18 0 0 0 ≤ Int32.ofNat p ↔ nn (S 18 0 0 0) ≤ p := by
    have := i_le (a := nn (S 18 0 0 0)) (c := p) (nn_lt _) hp
    rw [← e18] at this
    exact this
  unfold lt at kk
  unfold wp_X4_letter wb_X4_letter_18
  refine b_gfi h (by decide) ⟨fun z => ?_, fun z => b_gfa h (by decide) ?_⟩
  · rw [if_pos (hiff.mp z)] at kk
    exact kk
  · have z2 : ¬ nn (S 18 0 0 0) ≤ p := fun y => z (hiff.mpr y)
    have hx : vp_in (Int32.ofNat p) 60 := i_vp hp (by omega)
    rw [if_neg z2] at kk
    refine b_ld1 h (by decide) hx ?_
    rw [show (Int32.ofNat p).toNatClampNeg = p from i_nn hp]
    exact kk
theorem b_is {M : mM} {S : bS} (h : bM M am ad S) (hL : bIn (S 18 0 0 0) 0 60 = true) {p : Nat} (hp : p < 2 ^ 31) (hs : S 19 0 0 0 = Int32.ofNat p) {x : Int32} {K : Int32 → mM → Prop} (kk : K (bI (decide (lt S p = x))) M) : wp_X4_is G b K M am x := by
  unfold wp_X4_is wb_X4_is_17
  refine b_gfi h (by decide) ?_
  rw [hs]
  refine ⟨h.isc, b_letter h hL hp ⟨fun z => ?_, fun z => ?_⟩⟩
  · rw [decide_eq_false z] at kk; exact ⟨rfl, kk⟩
  · rw [decide_eq_true z] at kk; exact ⟨rfl, kk⟩
theorem b_isWay {M : mM} {x : Int32} {K : Int32 → mM → Prop} (kk : K (bI (wayB x)) M) : wp_X4_isWay G b K M x := by
  unfold wayB at kk
  unfold wp_X4_isWay wb_X4_isWay_24 wb_X4_isWay_29
  refine ⟨fun z => ?_, fun z => ⟨fun z2 => ?_, fun z2 => ⟨fun z3 => ?_, fun z3 => ⟨fun z4 => ?_, fun z4 => ?_⟩⟩⟩⟩
  · rw [decide_eq_true z] at kk; exact ⟨rfl, kk⟩
  · rw [decide_eq_false z, decide_eq_true z2] at kk; exact ⟨rfl, kk⟩
  · rw [decide_eq_false z, decide_eq_false z2, decide_eq_true z3] at kk; exact ⟨rfl, kk⟩
  · rw [decide_eq_false z, decide_eq_false z2, decide_eq_false z3, decide_eq_false z4] at kk; exact ⟨rfl, kk⟩
  · rw [decide_eq_false z, decide_eq_false z2, decide_eq_false z3, decide_eq_true z4] at kk; exact ⟨rfl, kk⟩
theorem b_wrong {M : mM} {S : bS} (h : bM M am ad S) {x : Int32} {K : Int32 → mM → Prop} (kk : ∀ M', bM M' am ad (bU (bU S 20 0 0 0 x) 21 0 0 0 (S 19 0 0 0)) → K 0 M') : wp_X4_wrong G b K M am x := by
  unfold wp_X4_wrong
  refine b_pfi h (by decide) fun M1 h1 => b_gfi h1 (by decide) (b_pfi h1 (by decide) fun M2 h2 => ⟨rfl, kk M2 ?_⟩)
  rw [bU_f (by decide)] at h2
  exact h2
end B60
