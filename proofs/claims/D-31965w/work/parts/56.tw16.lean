/-! THE TWIN's add -/
def sLook (r s c : Nat) (S : bS) : bS := if 3 < dist (S 26 r s 0) (Int32.ofNat c) then S else
  bU S 43 (nn (S 4 c 0 0)) (nn (dist (S 26 r s 0) (Int32.ofNat c))) 0 (S 43 (nn (S 4 c 0 0)) (nn (dist (S 26 r s 0) (Int32.ofNat c))) 0 + 1)
def sLooks (r s : Nat) (S : bS) : bS := itN (sLook r s) 36 S
def noteD (S : bS) (r n : Nat) : Int32 := dist (S 26 r (nn (S 37 n 0 0)) 0) (S 38 n 0 0)
def sBird (w : Int32) (r n : Nat) (S : bS) : bS := if S 36 n 0 0 = w then
  bU S 44 (nn (S 39 n 0 0)) (nn (S 4 (nn (S 38 n 0 0)) 0 0)) (nn (noteD S r n)) (S 44 (nn (S 39 n 0 0)) (nn (S 4 (nn (S 38 n 0 0)) 0 0)) (nn (noteD S r n)) + S 40 n 0 0) else S
def sNear (w r c : Nat) (S : bS) : bS := bU S 42 w c 0 (if 1 < far S r (Int32.ofNat c) then 0 else 1)
def sAdd1 (r : Nat) (S : bS) : bS := itN (sLooks r) (nn (S 23 r 0 0)) S
def sAdd2 (w : Int32) (r : Nat) (S : bS) : bS := itN (sBird w r) (nn (S 29 0 0 0)) S
def sAdd (S : bS) (w : Int32) : bS := itN (sNear (nn w) (nn (S 31 (nn w) 0 0))) 36 (sAdd2 w (nn (S 31 (nn w) 0 0)) (sAdd1 (nn (S 31 (nn w) 0 0)) S))
/-- each note lies near the cell it was made from -/
def bNt (S : bS) : Prop := ∀ n, n < nn (S 29 0 0 0) → noteD S (nn (S 31 (nn (S 36 n 0 0)) 0 0)) n ≤ 3
theorem bNt.of {L : List Nat} {S S' : bS} (h : bNt S) (hs : bOf L S S') (hL : ∀ f, f ∈ [29, 31, 36, 26, 37, 38] → f ∉ L) : bNt S' := by
  unfold bNt noteD
  rw [hs 29 (hL 29 (by decide)), hs 31 (hL 31 (by decide)), hs 36 (hL 36 (by decide)), hs 26 (hL 26 (by decide)), hs 37 (hL 37 (by decide)), hs 38 (hL 38 (by decide))]
  exact h
theorem sLook_of (r s c : Nat) (S : bS) : bOf [43] S (sLook r s c S) := by
  unfold sLook
  split
  · exact bOf.refl _ _
  · exact bOf.U (by decide)
theorem sLooks_of (r s : Nat) (S : bS) : bOf [43] S (sLooks r s S) := bOf.it (sLook_of r s) 36 S
theorem sBird_of (w : Int32) (r n : Nat) (S : bS) : bOf [44] S (sBird w r n S) := by
  unfold sBird
  split
  · exact bOf.U (by decide)
  · exact bOf.refl _ _
theorem sNear_of (w r c : Nat) (S : bS) : bOf [42] S (sNear w r c S) := bOf.U (by decide)
theorem nlt36 {c : Nat} (h : c < 36) : ¬ (36 : Int32) ≤ Int32.ofNat c := fun z => absurd ((i_le (a := 36) (by decide) (by omega)).mp z) (by omega)
section B56
variable {G : mG} {b : Nat} {am : Nat} {ad : bA}
theorem b_add22 {P : mM → Prop} {K9 : Nat → mM → Nat → Int32 → Int32 → Int32 → Prop} {x1 x2 x3 : Int32} (h2 : vp_in x2 8) (h3 : vp_in x3 31) : ∀ (n c q : Nat) (M : mM) (S : bS), c + n = 36 → n < q → bM M am ad S → bX S → (∀ M', bM M' am ad (itF (sLook (nn x2) (nn x3)) c n S) → K9 b M' am x1 x2 (x3 + 1)) → wl_X4_add_22 G P K9 q b M am x1 x2 x3 (Int32.ofNat c)
  | _, _, 0, _, _, _, hq, _, _, _ => absurd hq (Nat.not_lt_zero _)
  | 0, c, q + 1, M, S, hc, _, h, _, kk => by
    unfold wl_X4_add_22
    exact ⟨fun _ => kk M h, fun z => absurd ((i_le (a := 36) (by decide) (by omega)).mpr (by omega)) z⟩
  | n + 1, c, q + 1, M, S, hc, hq, h, hX, kk => by
    have hx : vp_in (Int32.ofNat c) 36 := i_vp (by omega) (by omega)
    have e : nn (Int32.ofNat c) = c := i_nn (by omega)
    have ih : ∀ M', bM M' am ad (sLook (nn x2) (nn x3) c S) → wl_X4_add_22 G P K9 q b M' am x1 x2 x3 (Int32.ofNat c + 1) := fun M' hM' => by
      rw [i_s]
      exact b_add22 h2 h3 n (c + 1) q M' (sLook (nn x2) (nn x3) c S) (by omega) (by omega) hM' (hX.of (sLook_of _ _ _ _) (by decide)) kk
    have hcell := hX.2.2.2.2.2.2.1 _ _ (bLt h2) (bLt h3)
    have hcov := hX.2.2.2.2.2.2.2.2.2 _ (bLt hx)
    obtain ⟨d0, _⟩ := dist_b hcell hx
    unfold wl_X4_add_22 wb_X4_add_76
    refine ⟨fun z => absurd z (nlt36 (by omega)), fun _ => b_gfa h (by decide) (b_lda h (by decide) h2 (b_ld2 h (by decide) (bLt h2) h3 (b_dist ⟨fun z => ih M ?_, fun z => ?_⟩)))⟩
    · unfold sLook; rw [if_pos z]; exact h
    · have hd : vp_in (dist (S 26 (nn x2) (nn x3) 0) (Int32.ofNat c)) 4 := b_in (a := 3) d0 (Int32.not_lt.mp z) (by decide)
      refine b_gfa h (by decide) (b_gfa h (by decide) (b_ld1 h (by decide) hx (b_lda h (by decide) hcov (b_gfa h (by decide) (b_lda h (by decide) h2 (b_ld2 h (by decide) (bLt h2) h3 (b_dist ?_)))))))
      refine b_ld2 h (by decide) (bLt hcov) hd (b_st2 h (by decide) (bLt hcov) hd fun M' hM' => ih M' ?_)
      unfold sLook
      rw [if_neg z]
      rw [show (Int32.ofNat c).toNatClampNeg = c from e] at hM'
      exact hM'
theorem b_add171 {P : mM → Prop} {x1 x2 : Int32} (h1 : vp_in x1 40) (h2 : vp_in x2 8) : ∀ (n c q : Nat) (M : mM) (S : bS), c + n = 36 → n < q → bM M am ad S → bX S → (∀ M', bM M' am ad (itF (sNear (nn x1) (nn x2)) c n S) → P M') → wl_X4_add_171 G P q b M am x1 x2 (Int32.ofNat c)
  | _, _, 0, _, _, _, hq, _, _, _ => absurd hq (Nat.not_lt_zero _)
  | 0, c, q + 1, M, S, hc, _, h, _, kk => by
    unfold wl_X4_add_171
    exact ⟨fun _ => kk M h, fun z => absurd ((i_le (a := 36) (by decide) (by omega)).mpr (by omega)) z⟩
  | n + 1, c, q + 1, M, S, hc, hq, h, hX, kk => by
    have hx : vp_in (Int32.ofNat c) 36 := i_vp (by omega) (by omega)
    have e : nn (Int32.ofNat c) = c := i_nn (by omega)
    have ih : ∀ M', bM M' am ad (sNear (nn x1) (nn x2) c S) → wl_X4_add_171 G P q b M' am x1 x2 (Int32.ofNat c + 1) := fun M' hM' => by
      rw [i_s]
      exact b_add171 h1 h2 n (c + 1) q M' (sNear (nn x1) (nn x2) c S) (by omega) (by omega) hM' (hX.of (sNear_of _ _ _ _) (by decide)) kk
    unfold wl_X4_add_171 wb_X4_add_199
    refine ⟨fun z => absurd z (nlt36 (by omega)), fun _ => b_gfa h (by decide) (b_lda h (by decide) h1 ⟨h.isc, b_far h hX h2 ⟨fun z => ?_, fun z => ?_⟩⟩)⟩
    · refine b_stn2 h (by decide) (bLt h1) rfl hx fun M' hM' => ih M' ?_
      unfold sNear
      rw [if_pos z]
      rw [show (Int32.ofNat c).toNatClampNeg = c from e] at hM'
      exact hM'
    · refine b_stn2 h (by decide) (bLt h1) rfl hx fun M' hM' => ih M' ?_
      unfold sNear
      rw [if_neg z]
      rw [show (Int32.ofNat c).toNatClampNeg = c from e] at hM'
      exact hM'
theorem b_add90 {P : mM → Prop} {x1 x2 : Int32} (h1 : vp_in x1 40) (h2 : vp_in x2 8) {N : Nat} (hN : N ≤ 200) : ∀ (n c q : Nat) (M : mM) (S : bS), c + n = N → n < q → bM M am ad S → bX S → bNt S → S 29 0 0 0 = Int32.ofNat N → S 31 (nn x1) 0 0 = x2 → (∀ M', bM M' am ad (itF (sBird x1 (nn x2)) c n S) → ∃ n171, wl_X4_add_171 G P n171 b M' am x1 x2 0) → wl_X4_add_90 G P q b M am x1 x2 (Int32.ofNat c)
  | _, _, 0, _, _, _, hq, _, _, _, _, _, _ => absurd hq (Nat.not_lt_zero _)
  | 0, c, q + 1, M, S, hc, _, h, _, _, hs, _, kk => by
    have : c = N := by omega
    subst this
    unfold wl_X4_add_90
    refine b_gfi h (by decide) ?_
    rw [hs]
    exact ⟨fun _ => kk M h, fun z => absurd (Int32.le_refl _) z⟩
  | n + 1, c, q + 1, M, S, hc, hq, h, hX, hNN, hs, hr, kk => by
    have hx : vp_in (Int32.ofNat c) 200 := i_vp (by omega) (by omega)
    have e : nn (Int32.ofNat c) = c := i_nn (by omega)
    have hlt : ¬ Int32.ofNat N ≤ Int32.ofNat c := fun z => absurd ((i_le (by omega) (by omega)).mp z) (by omega)
    have ho := sBird_of x1 (nn x2) c S
    have ih : ∀ M', bM M' am ad (sBird x1 (nn x2) c S) → wl_X4_add_90 G P q b M' am x1 x2 (Int32.ofNat c + 1) := fun M' hM' => by
      rw [i_s]
      exact b_add90 h1 h2 hN n (c + 1) q M' (sBird x1 (nn x2) c S) (by omega) (by omega) hM' (hX.of ho (by decide)) (hNN.of ho (by decide)) (by rw [ho 29 (by decide)]; exact hs) (by rw [ho 31 (by decide)]; exact hr) kk
    obtain ⟨n0, n1, n2, n3⟩ := hX.2.2.2.2.2.2.2.2.1 c (by omega)
    have hcov := hX.2.2.2.2.2.2.2.2.2 _ (bLt n2)
    have hcell := hX.2.2.2.2.2.2.1 _ _ (bLt h2) (bLt n1)
    obtain ⟨d0, _⟩ := dist_b hcell n2
    unfold wl_X4_add_90 wb_X4_add_163
    refine b_gfi h (by decide) ?_
    rw [hs]
    refine ⟨fun z => absurd z hlt, fun _ => b_gfa h (by decide) (b_ld1 h (by decide) hx ?_)⟩
    rw [show (Int32.ofNat c).toNatClampNeg = c from e]
    refine ⟨fun z => ih M ?_, fun z => ?_⟩
    · unfold sBird; rw [if_neg z]; exact h
    · have hd3 : noteD S (nn x2) c ≤ 3 := by
        have := hNN c (by rw [hs, i_nn (by omega)]; omega)
        rw [z, hr] at this
        exact this
      have hd : vp_in (noteD S (nn x2) c) 4 := b_in (a := 3) d0 hd3 (by decide)
      refine b_gfa h (by decide) (b_gfa h (by decide) (b_ld1 h (by decide) hx ?_))
      rw [show (Int32.ofNat c).toNatClampNeg = c from e]
      refine b_lda h (by decide) n3 (b_gfa h (by decide) (b_gfa h (by decide) (b_ld1 h (by decide) hx ?_)))
      rw [show (Int32.ofNat c).toNatClampNeg = c from e]
      refine b_ld1 h (by decide) n2 (b_lda2 h (by decide) (bLt n3) hcov (b_gfa h (by decide) (b_lda h (by decide) h2 (b_gfa h (by decide) (b_ld1 h (by decide) hx ?_)))))
      rw [show (Int32.ofNat c).toNatClampNeg = c from e]
      refine b_ld2 h (by decide) (bLt h2) n1 (b_gfa h (by decide) (b_ld1 h (by decide) hx (b_dist ?_)))
      rw [show (Int32.ofNat c).toNatClampNeg = c from e]
      refine b_ld3 h (by decide) (bLt n3) (bLt hcov) hd (b_gfa h (by decide) (b_ld1 h (by decide) hx ?_))
      rw [show (Int32.ofNat c).toNatClampNeg = c from e]
      refine b_st3 h (by decide) (bLt n3) (bLt hcov) hd fun M' hM' => ih M' ?_
      unfold sBird
      rw [if_pos z]
      exact hM'
theorem b_add9 {P : mM → Prop} {x1 x2 : Int32} (h1 : vp_in x1 40) (h2 : vp_in x2 8) {N : Nat} (hN : N ≤ 31) : ∀ (n c q : Nat) (M : mM) (S : bS), c + n = N → n < q → bM M am ad S → bX S → S 23 (nn x2) 0 0 = Int32.ofNat N → (∀ M', bM M' am ad (itF (sLooks (nn x2)) c n S) → ∃ n90, wl_X4_add_90 G P n90 b M' am x1 x2 0) → wl_X4_add_9 G P q b M am x1 x2 (Int32.ofNat c)
  | _, _, 0, _, _, _, hq, _, _, _, _ => absurd hq (Nat.not_lt_zero _)
  | 0, c, q + 1, M, S, hc, _, h, _, hs, kk => by
    have : c = N := by omega
    subst this
    unfold wl_X4_add_9
    refine b_gfa h (by decide) (b_ld1 h (by decide) h2 ?_)
    rw [hs]
    exact ⟨fun _ => kk M h, fun z => absurd (Int32.le_refl _) z⟩
  | n + 1, c, q + 1, M, S, hc, hq, h, hX, hs, kk => by
    have hx : vp_in (Int32.ofNat c) 31 := i_vp (by omega) (by omega)
    have e : nn (Int32.ofNat c) = c := i_nn (by omega)
    have hlt : ¬ Int32.ofNat N ≤ Int32.ofNat c := fun z => absurd ((i_le (by omega) (by omega)).mp z) (by omega)
    have ho := sLooks_of (nn x2) c S
    unfold wl_X4_add_9
    refine b_gfa h (by decide) (b_ld1 h (by decide) h2 ?_)
    rw [hs]
    refine ⟨fun z => absurd z hlt, fun _ => ⟨37, b_add22 h2 hx 36 0 37 M S (by omega) (by omega) h hX fun M' hM' => ?_⟩⟩
    rw [itF_it, e] at hM'
    rw [i_s]
    exact b_add9 h1 h2 hN n (c + 1) q M' (sLooks (nn x2) c S) (by omega) (by omega) hM' (hX.of ho (by decide)) (by rw [ho 23 (by decide)]; exact hs) kk
theorem b_add {P : mM → Prop} {M : mM} {S : bS} (h : bM M am ad S) (hX : bX S) (hN : bNt S) {x1 : Int32} (h1 : vp_in x1 40) (kk : ∀ M', bM M' am ad (sAdd S x1) → P M') : wp_X4_add G b P M am x1 := by
  have h2 : vp_in (S 31 (nn x1) 0 0) 8 := (hX.2.2.2.2.2.2.2.1 _ (bLt h1)).2.1
  obtain ⟨c0, c1⟩ := bIn_t (hX.2.2.2.2.2.1 _ (bLt h2))
  obtain ⟨d0, d1⟩ := bIn_t hX.2.2.2.1
  unfold wp_X4_add
  refine b_gfa h (by decide) (b_ld1 h (by decide) h1 ⟨_, b_add9 h1 h2 (N := nn (S 23 (nn (S 31 (nn x1) 0 0)) 0 0)) (i_nle c0 c1) _ 0 _ M S (Nat.zero_add _) (Nat.lt_succ_self _) h hX (i_of c0) fun M1 hM1 => ?_⟩)
  rw [itF_it] at hM1
  have o1 : bOf [43] S (sAdd1 (nn (S 31 (nn x1) 0 0)) S) := bOf.it (sLooks_of _) _ S
  have hX1 : bX (sAdd1 (nn (S 31 (nn x1) 0 0)) S) := hX.of o1 (by decide)
  refine ⟨_, b_add90 h1 h2 (N := nn (S 29 0 0 0)) (i_nle d0 d1) _ 0 _ M1 _ (Nat.zero_add _) (Nat.lt_succ_self _) hM1 hX1 (hN.of o1 (by decide)) (by rw [show (itN (sLooks (nn (S 31 (nn x1) 0 0))) (nn (S 23 (nn (S 31 (nn x1) 0 0)) 0 0)) S) 29 = S 29 from o1 29 (by decide)]; exact i_of d0) (by rw [show (itN (sLooks (nn (S 31 (nn x1) 0 0))) (nn (S 23 (nn (S 31 (nn x1) 0 0)) 0 0)) S) 31 = S 31 from o1 31 (by decide)]) fun M2 hM2 => ?_⟩
  rw [itF_it] at hM2
  have e29 : nn (sAdd1 (nn (S 31 (nn x1) 0 0)) S 29 0 0 0) = nn (S 29 0 0 0) := by rw [o1 29 (by decide)]
  have o2 : bOf [44] (sAdd1 (nn (S 31 (nn x1) 0 0)) S) (sAdd2 x1 (nn (S 31 (nn x1) 0 0)) (sAdd1 (nn (S 31 (nn x1) 0 0)) S)) := bOf.it (sBird_of _ _) _ _
  have hM2' : bM M2 am ad (sAdd2 x1 (nn (S 31 (nn x1) 0 0)) (sAdd1 (nn (S 31 (nn x1) 0 0)) S)) := by
    unfold sAdd2
    rw [e29]
    exact hM2
  refine ⟨37, b_add171 h1 h2 36 0 37 M2 _ (by omega) (by omega) hM2' (hX1.of o2 (by decide)) fun M3 hM3 => kk M3 ?_⟩
  rw [itF_it] at hM3
  exact hM3
end B56
