/-! THE TWIN's step -/
def nRow (S : bS) (c : Int32) : Int32 := if c = 78 then S 25 0 0 0 / 6 - 1 else if c = 83 then S 25 0 0 0 / 6 + 1 else S 25 0 0 0 / 6
def nCol (S : bS) (c : Int32) : Int32 := if c = 69 then (S 25 0 0 0 - S 25 0 0 0 / 6 * 6) + 1 else if c = 87 then (S 25 0 0 0 - S 25 0 0 0 / 6 * 6) - 1 else S 25 0 0 0 - S 25 0 0 0 / 6 * 6
/-- 0, or why a step cannot be gone -/
def eSt (S : bS) (c : Int32) : Int32 := if S 23 (nn (S 24 0 0 0)) 0 0 = 31 then 3 else if bIn (nRow S c) 0 5 = true then (if bIn (nCol S c) 0 5 = true then 0 else 4) else 4
def sStO (S : bS) (c : Int32) : bS := bU (bU (bU S 25 0 0 0 (6 * nRow S c + nCol S c)) 23 (nn (S 24 0 0 0)) 0 0 (S 23 (nn (S 24 0 0 0)) 0 0 + 1)) 26 (nn (S 24 0 0 0)) (nn (S 23 (nn (S 24 0 0 0)) 0 0)) 0 (6 * nRow S c + nCol S c)
def sStp (S : bS) (c : Int32) (k : Nat) : bS := if eSt S c = 0 then bU (sStO S c) 19 0 0 0 (Int32.ofNat k) else bU (bU (bU S 19 0 0 0 (Int32.ofNat k)) 20 0 0 0 (eSt S c)) 21 0 0 0 (Int32.ofNat k)
theorem bU_cm {S : bS} {f g i j k i' j' k' : Nat} {x y : Int32} (h : f ≠ g) : bU (bU S f i j k x) g i' j' k' y = bU (bU S g i' j' k' y) f i j k x := by
  funext a b c d
  unfold bU
  by_cases h1 : a = g ∧ b = i' ∧ c = j' ∧ d = k'
  · rw [if_pos h1, if_neg (by intro z; exact h (z.1.symm.trans h1.1)), if_pos h1]
  · rw [if_neg h1, if_neg h1]
section B64
variable {G : mG} {b : Nat} {am : Nat} {ad : bA}
theorem b_step {M : mM} {S : bS} (h : bM M am ad S) (hL : bIn (S 18 0 0 0) 0 60 = true) (hR : vp_in (S 24 0 0 0) 8) (h23 : bIn (S 23 (nn (S 24 0 0 0)) 0 0) 0 31 = true) {p : Nat} (hp : p < nn (S 18 0 0 0)) {K : Int32 → mM → Prop} (kk : ∀ M', bM M' am ad (sStp S (lt S p) p) → K (bI (decide (eSt S (lt S p) = 0))) M') : wp_X4_step G b K M am (Int32.ofNat p) := by
  have hle : nn (S 18 0 0 0) ≤ 60 := i_nle (bIn_t hL).1 (bIn_t hL).2
  have hx : vp_in (Int32.ofNat p) 60 := i_vp (by omega) (by omega)
  have e : (Int32.ofNat p).toNatClampNeg = p := i_nn (by omega)
  have el := lt_on hp
  unfold wp_X4_step
  refine b_gfa h (by decide) (b_ld1 h (by decide) hx ?_)
  rw [e, ← el]
  generalize hc : lt S p = c at kk
  refine b_gfi h (by decide) (b_gfi h (by decide) (b_pfi h (by decide) fun M1 h1 => b_gfa h1 (by decide) (b_gfi h1 (by decide) (b_ld1 h1 (by decide) hR ?_))))
  have wr4 : eSt S c = 4 → wb_X4_step_126 G K b M1 am := fun h4 => by
    unfold wb_X4_step_126
    refine ⟨h1.isc, b_wrong h1 fun M2 h2 => ⟨rfl, ?_⟩⟩
    unfold sStp at kk
    rw [h4, if_neg (by decide)] at kk
    rw [bU_s] at h2
    exact kk M2 h2
  have f104 : ∀ (n31 : ¬ S 23 (nn (S 24 0 0 0)) 0 0 = 31) (x y : Int32), x = nRow S c → y = nCol S c → wb_X4_step_104 G K b M1 am x y := by
    intro n31 x y hx1 hy1
    subst hx1
    subst hy1
    have hs : vp_in (S 23 (nn (S 24 0 0 0)) 0 0) 31 := by
      obtain ⟨a0, a1⟩ := bIn_t h23
      have n1 : nn (S 23 (nn (S 24 0 0 0)) 0 0) ≤ 31 := i_nle a0 a1
      have n2 : ¬ nn (S 23 (nn (S 24 0 0 0)) 0 0) = 31 := fun z => n31 (by rw [i_of a0, z]; rfl)
      rw [i_of a0]
      exact i_vp (by omega) (by omega)
    unfold wb_X4_step_104
    refine b_isIn ⟨fun z => wr4 ?_, fun z => b_isIn ⟨fun z2 => ?_, fun z2 => wr4 ?_⟩⟩
    · unfold eSt; rw [if_neg n31, bI0.mp z]; rfl
    · have e0 : eSt S c = 0 := by unfold eSt; rw [if_neg n31, bI1.mp z, bI1.mp z2]; rfl
      rw [e0] at kk
      unfold sStp at kk
      rw [if_pos e0] at kk
      refine b_pfi h1 (by decide) fun M2 h2 => b_gfa h2 (by decide) (b_gfi h2 (by decide) (b_lda h2 (by decide) hR (b_gfa h2 (by decide) (b_gfi h2 (by decide) (b_ld1 h2 (by decide) hR (b_st1 h2 (by decide) hR fun M3 h3 => b_gfi h3 (by decide) (b_st2 h3 (by decide) (bLt hR) hs fun M4 h4 => ⟨rfl, kk M4 ?_⟩)))))))
      unfold sStO
      rw [bU_cm (f := 26) (g := 19) (by decide), bU_cm (f := 23) (g := 19) (by decide), bU_cm (f := 25) (g := 19) (by decide)]
      exact h4
    · unfold eSt; rw [if_neg n31, bI1.mp z, bI0.mp z2]; rfl
  have f74 : ∀ (n31 : ¬ S 23 (nn (S 24 0 0 0)) 0 0 = 31) (x : Int32), x = nRow S c → wb_X4_step_74 G K b M1 am c (S 25 0 0 0 - S 25 0 0 0 / 6 * 6) x := by
    intro n31 x hx1
    unfold wb_X4_step_74
    refine ⟨fun z => ⟨fun z2 => f104 n31 _ _ hx1 ?_, fun z2 => f104 n31 _ _ hx1 ?_⟩, fun z => f104 n31 _ _ hx1 ?_⟩
    · unfold nCol; rw [if_neg z, if_neg z2]
    · unfold nCol; rw [if_neg z, if_pos z2]
    · unfold nCol; rw [if_pos z]
  refine ⟨fun z => ⟨fun z2 => ⟨fun z3 => f74 z _ ?_, fun z3 => f74 z _ ?_⟩, fun z2 => f74 z _ ?_⟩, fun z => ⟨h1.isc, b_wrong h1 fun M2 h2 => ⟨rfl, ?_⟩⟩⟩
  · unfold nRow; rw [if_neg z2, if_neg z3]
  · unfold nRow; rw [if_neg z2, if_pos z3]
  · unfold nRow; rw [if_pos z2]
  · have h3 : eSt S c = 3 := by unfold eSt; rw [if_pos (show S 23 (nn (S 24 0 0 0)) 0 0 = 31 from z)]
    unfold sStp at kk
    rw [h3, if_neg (by decide)] at kk
    rw [bU_s] at h2
    exact kk M2 h2
end B64
