/-! THE TWIN's tell: distances' bounds; frames of banks -/
theorem dist_bd : ∀ a : Nat, a < 36 → ∀ c : Nat, c < 36 → 0 ≤ dist (Int32.ofNat a) (Int32.ofNat c) ∧ dist (Int32.ofNat a) (Int32.ofNat c) ≤ 5 := by decide +kernel
theorem vp_of {x : Int32} {n : Nat} (h : vp_in x n) : x = Int32.ofNat (nn x) := i_of (Int32.not_lt.mp fun z => h (Or.inl z))
theorem dist_b {x y : Int32} (hx : vp_in x 36) (hy : vp_in y 36) : 0 ≤ dist x y ∧ dist x y ≤ 5 := by
  rw [vp_of hx, vp_of hy]
  exact dist_bd _ (bLt hx) _ (bLt hy)
theorem iMin_0 {x y : Int32} (hx : 0 ≤ x) (hy : 0 ≤ y) : 0 ≤ iMin x y := by unfold iMin; split <;> assumption
theorem farN_0 {S : bS} {r : Nat} {c : Int32} (hS : ∀ j, j < 31 → vp_in (S 26 r j 0) 36) (hc : vp_in c 36) : ∀ n, n ≤ 31 → 0 ≤ farN S r c n
  | 0, _ => (by decide : (0 : Int32) ≤ 36)
  | n + 1, h => iMin_0 (farN_0 hS hc n (by omega)) (dist_b (hS n (by omega)) hc).1
theorem far_0 {S : bS} (hX : bX S) {r : Nat} (hr : r < 8) {c : Int32} (hc : vp_in c 36) : 0 ≤ far S r c :=
  farN_0 (fun j hj => hX.2.2.2.2.2.2.1 r j hr hj) hc _ (i_nle (bIn_t (hX.2.2.2.2.2.1 r hr)).1 (bIn_t (hX.2.2.2.2.2.1 r hr)).2)
/-- the same but for some fields -/
def bOf (L : List Nat) (S S' : bS) : Prop := ∀ f, f ∉ L → S' f = S f
theorem bOf.refl (L : List Nat) (S : bS) : bOf L S S := fun _ _ => rfl
theorem bOf.trans {L : List Nat} {S S' S'' : bS} (h : bOf L S S') (h' : bOf L S' S'') : bOf L S S'' := fun f hf => (h' f hf).trans (h f hf)
theorem bOf.U {L : List Nat} {S : bS} {f i j k : Nat} {x : Int32} (h : f ∈ L) : bOf L S (bU S f i j k x) := fun g hg => by
  funext a b c
  exact bU_f fun z => hg (z ▸ h)
theorem bOf.mono {L L' : List Nat} {S S' : bS} (h : bOf L S S') (hl : ∀ f, f ∈ L → f ∈ L') : bOf L' S S' := fun f hf => h f fun z => hf (hl f z)
theorem bOf.it {L : List Nat} {f : Nat → bS → bS} (h : ∀ k S, bOf L S (f k S)) : ∀ n S, bOf L S (itN f n S)
  | 0, S => bOf.refl L S
  | n + 1, S => (bOf.it h n S).trans (h n _)
theorem bX.of {L : List Nat} {S S' : bS} (h : bX S) (hs : bOf L S S') (hL : ∀ f, f ∈ [24, 27, 28, 29, 2, 23, 26, 30, 31, 32, 33, 36, 37, 38, 39, 4] → f ∉ L) : bX S' := by
  unfold bX
  rw [hs 24 (hL 24 (by decide)), hs 27 (hL 27 (by decide)), hs 28 (hL 28 (by decide)), hs 29 (hL 29 (by decide)), hs 2 (hL 2 (by decide)), hs 23 (hL 23 (by decide)), hs 26 (hL 26 (by decide)), hs 30 (hL 30 (by decide)), hs 31 (hL 31 (by decide)), hs 32 (hL 32 (by decide)), hs 33 (hL 33 (by decide)), hs 36 (hL 36 (by decide)), hs 37 (hL 37 (by decide)), hs 38 (hL 38 (by decide)), hs 39 (hL 39 (by decide)), hs 4 (hL 4 (by decide))]
  exact h
theorem bQ.of {L : List Nat} {S S' : bS} (h : bQ S) (hs : bOf L S S') (hL : ∀ f, f ∈ [43, 44] → f ∉ L) : bQ S' := by
  unfold bQ
  rw [hs 43 (hL 43 (by decide)), hs 44 (hL 44 (by decide))]
  exact h
def pct (h : Int32) : Int32 := if h = 0 then 100 else if h = 1 then 80 else if h = 2 then 90 else 40
def tellR (S : bS) (w c : Nat) : Int32 := far S (nn (S 31 w 0 0)) (Int32.ofNat c)
def tellP (S : bS) (w c k : Nat) (sh : Int32) : Int32 := cv S k (nn (S 4 c 0 0)) (nn (tellR S w c)) * pct (S 32 w 0 0) / 100 * sh / 1000
def tellS (S : bS) (w c k : Nat) (p : Int32) : bS :=
  bU (bU S 45 (nn (S 33 w 0 0)) c k (iMax (S 45 (nn (S 33 w 0 0)) c k) (S 41 w c k))) 46 (nn (S 33 w 0 0)) c k
    (if S 45 (nn (S 33 w 0 0)) c k = -1 then ((S 41 w c k + 1) * 1000 - 1) / p else iMin (S 46 (nn (S 33 w 0 0)) c k) (((S 41 w c k + 1) * 1000 - 1) / p))
def sTell (w c : Nat) (sh : Int32) (k : Nat) (S : bS) : bS := if tellR S w c ≤ 3 then (if 50 ≤ tellP S w c k sh then tellS S w c k (tellP S w c k sh) else S) else S
theorem sTell_of (w c : Nat) (sh : Int32) (k : Nat) (S : bS) : bOf [45, 46] S (sTell w c sh k S) := by
  unfold sTell tellS
  split
  · split
    · exact (bOf.U (by decide)).trans (bOf.U (by decide))
    · exact bOf.refl _ _
  · exact bOf.refl _ _
section B55
variable {G : mG} {b : Nat} {am : Nat} {ad : bA}
theorem b_tell {M : mM} {S : bS} (h : bM M am ad S) (hX : bX S) (hQ : bQ S) {x1 x2 x3 x4 : Int32} (h1 : vp_in x1 40) (h2 : vp_in x2 36) (h3 : vp_in x3 4) {P : mM → Prop} (kk : ∀ M', bM M' am ad (sTell (nn x1) (nn x2) x4 (nn x3) S) → P M') : wp_X4_tell G b P M am x1 x2 x3 x4 := by
  have hw := hX.2.2.2.2.2.2.2.1 _ (bLt h1)
  have hr := hw.2.1
  have hy := hw.2.2.2
  have hc := hX.2.2.2.2.2.2.2.2.2 _ (bLt h2)
  have eR : far S (nn (S 31 (nn x1) 0 0)) x2 = tellR S (nn x1) (nn x2) := by unfold tellR; rw [← vp_of h2]
  have hR0 : 0 ≤ tellR S (nn x1) (nn x2) := by rw [← eR]; exact far_0 hX (bLt hr) h2
  unfold sTell at kk
  unfold wp_X4_tell
  refine b_gfa h (by decide) (b_ld1 h (by decide) h1 ⟨h.isc, b_far h hX hr ?_⟩)
  rw [show far S (nn (S 31 x1.toNatClampNeg 0 0)) x2 = tellR S (nn x1) (nn x2) from eR]
  refine ⟨fun z => ?_, fun z => ?_⟩
  · rw [if_pos z] at kk
    have hR3 : nn (tellR S (nn x1) (nn x2)) < 4 := Nat.lt_of_le_of_lt (i_nle hR0 z) (by decide)
    have last : ∀ p : Int32, p = cv S (nn x3) (nn (S 4 (nn x2) 0 0)) (nn (tellR S (nn x1) (nn x2))) → ∀ t : Int32, t = pct (S 32 (nn x1) 0 0) → wb_X4_tell_75 G P b M am x1 x2 x3 x4 p t := by
      intro p hp t ht
      unfold wb_X4_tell_75
      intro g hg
      have eg : g = tellP S (nn x1) (nn x2) (nn x3) x4 := by rw [hg, hp, ht]; rfl
      refine ⟨fun y => ?_, fun y => ?_⟩
      · rw [← eg, if_pos y] at kk
        have hg0 : ¬ g = 0 := fun q => absurd (q ▸ y) (by decide)
        refine b_gfa h (by decide) (b_lda h (by decide) h1 (b_lda2 h (by decide) (bLt h1) h2 (b_ld3 h (by decide) (bLt h1) (bLt h2) h3 ⟨hg0, ?_⟩)))
        refine b_gfa h (by decide) (b_ld1 h (by decide) h1 (b_gfa h (by decide) (b_lda h (by decide) hy (b_lda2 h (by decide) (bLt hy) h2 (b_ld3 h (by decide) (bLt hy) (bLt h2) h3 ?_)))))
        have fin : ∀ u : Bool, u = decide (S 45 (nn (S 33 (nn x1) 0 0)) (nn x2) (nn x3) = -1) → wb_X4_tell_151 G P b M am x2 x3 (S 41 (nn x1) (nn x2) (nn x3)) (((S 41 (nn x1) (nn x2) (nn x3) + 1) * 1000 - 1) / g) (S 33 (nn x1) 0 0) (bI u) := by
          intro u hu
          unfold wb_X4_tell_151 wb_X4_tell_216
          refine b_gfa h (by decide) (b_lda h (by decide) hy (b_lda2 h (by decide) (bLt hy) h2 ?_))
          refine b_gfa h (by decide) (b_lda h (by decide) hy (b_lda2 h (by decide) (bLt hy) h2 (b_ld3 h (by decide) (bLt hy) (bLt h2) h3 ?_)))
          intro g2 hg2
          refine b_st3 h (by decide) (bLt hy) (bLt h2) h3 fun M1 hM1 => ?_
          refine b_gfa hM1 (by decide) (b_lda hM1 (by decide) hy (b_lda2 hM1 (by decide) (bLt hy) h2 ⟨fun q => ?_, fun q => ?_⟩))
          · refine b_gfa hM1 (by decide) (b_lda hM1 (by decide) hy (b_lda2 hM1 (by decide) (bLt hy) h2 (b_ld3 hM1 (by decide) (bLt hy) (bLt h2) h3 ?_)))
            intro g3 hg3
            refine b_st3 hM1 (by decide) (bLt hy) (bLt h2) h3 fun M2 hM2 => kk M2 ?_
            have hn : ¬ S 45 (nn (S 33 (nn x1) 0 0)) (nn x2) (nn x3) = -1 := by
              rw [bI0.mp q] at hu
              exact of_decide_eq_false hu.symm
            unfold tellS
            rw [if_neg hn]
            rw [hg3, hg2] at hM2
            rw [bU_f (by decide)] at hM2
            exact hM2
          · refine b_st3 hM1 (by decide) (bLt hy) (bLt h2) h3 fun M2 hM2 => kk M2 ?_
            have hn : S 45 (nn (S 33 (nn x1) 0 0)) (nn x2) (nn x3) = -1 := by
              rw [bI1.mp q] at hu
              exact of_decide_eq_true hu.symm
            unfold tellS
            rw [if_pos hn]
            rw [hg2] at hM2
            exact hM2
        exact ⟨fun q => fin false (decide_eq_false q).symm, fun q => fin true (decide_eq_true q).symm⟩
      · rw [← eg, if_neg y] at kk
        exact kk M h
    refine b_gfa h (by decide) (b_ld1 h (by decide) h1 (b_gfa h (by decide) (b_ld1 h (by decide) h2 ⟨h.isc, ?_⟩)))
    rw [i_of hR0]
    refine b_cv h hQ h3 hc _ 0 5 _ hR3 (by omega) ?_
    refine ⟨fun q0 => ⟨fun q1 => ⟨fun q2 => last _ rfl _ ?_, fun q2 => last _ rfl _ ?_⟩, fun q1 => last _ rfl _ ?_⟩, fun q0 => last _ rfl _ ?_⟩
    · unfold pct; rw [if_neg q0, if_neg q1, if_neg q2]
    · unfold pct; rw [if_neg q0, if_neg q1, if_pos q2]
    · unfold pct; rw [if_neg q0, if_pos q1]
    · unfold pct; rw [if_pos q0]
  · rw [if_neg z] at kk
    exact kk M h
end B55
