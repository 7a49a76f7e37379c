/-! THE TWIN's nextRoute, numbers, total, meanDoubt -/
theorem wthN_47 (S : bS) (lo hi : Int32) (r : Nat) : wth (fB S lo hi) r = wth S r := by
  unfold wth
  generalize (36 : Nat) = n
  induction n with
  | zero => rfl
  | succ n ih =>
    unfold wthN
    rw [ih, far_47]
    have hk : ∀ (a : Int64) (m : Nat), wthK (fB S lo hi) n a m = wthK S n a m := by
      intro a m
      induction m with
      | zero => rfl
      | succ m ih2 => unfold wthK; rw [ih2, dbt_47, fB_o (f := 12) (by decide)]
    rw [hk]
/-- the sum of all doubts -/
def mdK (S : bS) (c : Nat) (a : Int64) : Nat → Int64
  | 0 => a
  | n + 1 => mdK S c a n + (dbt S c n).toInt64
def mdN (S : bS) : Nat → Int64
  | 0 => 0
  | n + 1 => mdK S n (mdN S n) 4
theorem nxt_r (S : bS) : ∀ n, n ≤ 8 → nxt S n = -1 ∨ ∃ r, r < n ∧ nxt S n = Int32.ofNat r
  | 0, _ => Or.inl rfl
  | n + 1, hn => by
    show (if nxt S n = -1 then Int32.ofNat n else if lg_cmp (wth S n) (wth S (nn (nxt S n))) ≤ 0 then nxt S n else Int32.ofNat n) = -1 ∨ ∃ r, r < n + 1 ∧ (if nxt S n = -1 then Int32.ofNat n else if lg_cmp (wth S n) (wth S (nn (nxt S n))) ≤ 0 then nxt S n else Int32.ofNat n) = Int32.ofNat r
    refine Or.inr ?_
    by_cases h1 : nxt S n = -1
    · exact ⟨n, by omega, by rw [if_pos h1]⟩
    · rw [if_neg h1]
      by_cases h2 : lg_cmp (wth S n) (wth S (nn (nxt S n))) ≤ 0
      · rw [if_pos h2]
        rcases nxt_r S n (by omega) with h | ⟨r, hr, h⟩
        · exact absurd h h1
        · exact ⟨r, by omega, h⟩
      · exact ⟨n, by omega, by rw [if_neg h2]⟩
section B50
variable {G : mG} {b : Nat} {am : Nat} {ad : bA}
theorem b_nxt4 {P : Int32 → mM → Prop} {S : bS} (hX : bX S) {N : Nat} (hN : N ≤ 8) (hs : S 24 0 0 0 = Int32.ofNat N) (kk : ∀ M', bM' M' am ad (z0 S) → P (nxt S N) M') : ∀ (n c q : Nat) (M : mM), c + n = N → n < q → bM' M am ad S → wl_X4_nextRoute_4 G P q b M am (nxt S c) (Int32.ofNat c)
  | _, _, 0, _, _, hq, _ => absurd hq (Nat.not_lt_zero _)
  | 0, c, q + 1, M, hc, _, h => by
    have : c = N := by omega
    subst this
    obtain ⟨lo, hi, h0⟩ := id h
    unfold wl_X4_nextRoute_4
    refine b_gfi h0 (by decide) ?_
    rw [fB_o (f := 24) (by decide), hs]
    refine ⟨fun _ => ⟨h0.isc, b_answered h0 fun M' hM' => kk M' ⟨lo, hi, ?_⟩⟩, fun z => absurd (Int32.le_refl _) z⟩
    have : bU (fB S lo hi) 0 0 0 0 0 = fB (z0 S) lo hi := by
      funext f i j k
      unfold fB z0 bU
      by_cases h1 : f = 0 ∧ i = 0 ∧ j = 0 ∧ k = 0
      · obtain ⟨rfl, rfl, rfl, rfl⟩ := h1; rfl
      · simp only [if_neg h1]
    rw [this] at hM'
    exact hM'
  | n + 1, c, q + 1, M, hc, hq, h => by
    have hx : vp_in (Int32.ofNat c) 8 := i_vp (by omega) (by omega)
    have e : nn (Int32.ofNat c) = c := i_nn (by omega)
    have hlt : ¬ Int32.ofNat N ≤ Int32.ofNat c := fun z => absurd ((i_le (by omega) (by omega)).mp z) (by omega)
    obtain ⟨lo, hi, h0⟩ := id h
    have ih : ∀ M', bM' M' am ad S → wl_X4_nextRoute_4 G P q b M' am (nxt S (c + 1)) (Int32.ofNat c + 1) := fun M' hM' => by
      rw [i_s]
      exact b_nxt4 hX hN hs kk n (c + 1) q M' (by omega) (by omega) hM'
    have ex : nxt S (c + 1) = (if nxt S c = -1 then Int32.ofNat c else if lg_cmp (wth S c) (wth S (nn (nxt S c))) ≤ 0 then nxt S c else Int32.ofNat c) := rfl
    unfold wl_X4_nextRoute_4 wb_X4_nextRoute_31 wb_X4_nextRoute_33
    refine b_gfi h0 (by decide) ?_
    rw [fB_o (f := 24) (by decide), hs]
    refine ⟨fun z => absurd z hlt, fun _ => ⟨fun z => ?_, fun z => ⟨h0.isc, b_wth h hX hx fun M1 h1 => ?_⟩⟩⟩
    · have := ih M h
      rw [ex, if_pos z] at this
      exact this
    · have hn : vp_in (nxt S c) 8 := by
        rcases nxt_r S c (by omega) with w | ⟨r, hr, w⟩
        · exact absurd w z
        · rw [w]; exact i_vp (by omega) (by omega)
      obtain ⟨lo1, hi1, h10⟩ := id h1
      refine ⟨h10.isc, b_wth h1 hX hn fun M2 h2 => ⟨fun w => ?_, fun w => ?_⟩⟩
      · rw [e] at w
        have := ih M2 h2
        rw [ex, if_neg z, if_pos w] at this
        exact this
      · rw [e] at w
        have := ih M2 h2
        rw [ex, if_neg z, if_neg w] at this
        exact this
theorem t_nextRoute {M : mM} {S : bS} (h : bM M am ad S) (hX : bX S) {K : Int32 → mM → Prop} (kk : ∀ M', bM' M' am ad (z0 S) → K (nxt S (nn (S 24 0 0 0))) M') : wp_X4_nextRoute G b K M am := by
  obtain ⟨a0, a1⟩ := bIn_t hX.1
  unfold wp_X4_nextRoute
  exact ⟨_, b_nxt4 hX (N := nn (S 24 0 0 0)) (i_nle a0 a1) (i_of a0) kk (nn (S 24 0 0 0)) 0 _ M (by omega) (Nat.lt_succ_self _) (bM'.of h)⟩
theorem t_numbers {M : mM} {S : bS} (h : bM M am ad S) (hX : bX S) {c k y o : Int32} {K : Int32 → mM → Prop} (k0 : eNum S c k y = 0 → ∀ M', bM' M' am ad (z0 S) → K (aNum (z0 S) (nn c) (nn k) (nn y) o) M') (k1 : ¬ eNum S c k y = 0 → ∀ M', bM M' am ad (bU S 0 0 0 0 (eNum S c k y)) → K 0 M') : wp_X4_numbers G b K M am c k y o := by
  have fin : ∀ u w : Bool, u = (!bIn c 0 35 || !bIn k 0 3) → w = (!bIn y 0 (S 2 0 0 0)) → wb_X4_numbers_37 G K b M am c k y o am (bI u) (bI w) := by
    intro u w hu hw
    have he : eNum S c k y = bE u w false := by rw [hu, hw]; rfl
    rw [he] at k0 k1
    unfold wb_X4_numbers_37 wb_X4_numbers_76
    refine ⟨h.isc, b_chk (r := false) h (fun _ _ => rfl) (fun h1 h2 _ M' hM' => ⟨hM'.isc, ?_⟩) (fun h1 M' hM' => k1 h1 M' hM')⟩
    rw [h1] at hu
    rw [h2] at hw
    have h3 := Bool.or_eq_false_iff.mp hu.symm
    have hc : vp_in c 36 := bIn_v (not_f h3.1) (by decide)
    have hk : vp_in k 4 := bIn_v (not_f h3.2) (by decide)
    have hy2 := bIn_t (not_f hw.symm)
    have hy : vp_in y 10 := b_in (a := 9) hy2.1 (Int32.le_trans hy2.2 (bIn_t hX.2.2.2.2.1).2) (by decide)
    have k9 := k0 (by rw [h1, h2]; rfl)
    unfold aNum vNum at k9
    refine b_find hM' hc hk hy fun M2 h2M => ⟨fun z => ⟨fun z2 => b_gfi h2M (by decide) ?_, fun z2 => b_gfi h2M (by decide) ?_⟩, fun z => ?_⟩
    · have := k9 M2 ⟨_, _, h2M⟩
      rw [if_neg (show ¬ (fnd (z0 S) (nn c) (nn k) (nn y + 1)).1 = 0 from z), if_pos z2] at this
      exact this
    · have := k9 M2 ⟨_, _, h2M⟩
      rw [if_neg (show ¬ (fnd (z0 S) (nn c) (nn k) (nn y + 1)).1 = 0 from z), if_neg z2] at this
      exact this
    · have := k9 M2 ⟨_, _, h2M⟩
      rw [if_pos (show (fnd (z0 S) (nn c) (nn k) (nn y + 1)).1 = 0 from z)] at this
      exact this
  have mid : ∀ u : Bool, u = (!bIn c 0 35 || !bIn k 0 3) → wb_X4_numbers_20 G K b M am c k y o am (bI u) := by
    intro u hu
    unfold wb_X4_numbers_20
    exact b_gfi h (by decide) (b_isIn ⟨fun h1 => fin u false hu (by rw [bI1.mp h1]; rfl), fun h1 => fin u true hu (by rw [bI0.mp h1]; rfl)⟩)
  unfold wp_X4_numbers wb_X4_numbers_15
  refine b_noCell ⟨fun h1 => mid true (by rw [bI1.mp h1]; rfl), fun h1 => b_noKind ⟨fun h2 => mid false (by rw [bI0.mp h1, bI0.mp h2]; rfl), fun h2 => mid true (by rw [bI1.mp h2]; simp)⟩⟩
theorem b_tot {P : Int64 → mM → Prop} {S : bS} (hX : bX S) {k o : Int32} (hk : vp_in k 4) (kk : ∀ M', bM' M' am ad S → P (totN S (nn k) o 36) M') : ∀ (n c q : Nat) (M : mM), c + n = 36 → n < q → bM' M am ad S → wl_X4_total_20 G P q b M am k o (totN S (nn k) o c) (Int32.ofNat c)
  | _, _, 0, _, _, hq, _ => absurd hq (Nat.not_lt_zero _)
  | 0, c, q + 1, M, hc, _, h => by
    have : c = 36 := by omega
    subst this
    unfold wl_X4_total_20
    exact ⟨fun _ => kk M h, fun z => absurd (by decide) z⟩
  | n + 1, c, q + 1, M, hc, hq, h => by
    have hx : vp_in (Int32.ofNat c) 36 := i_vp (by omega) (by omega)
    have e : nn (Int32.ofNat c) = c := i_nn (by omega)
    have hlt : ¬ (36 : Int32) ≤ Int32.ofNat c := fun z => absurd ((i_le (a := 36) (by decide) (by omega)).mp z) (by omega)
    have hy : vp_in (S 2 0 0 0) 10 := bIn_v (c := 9) hX.2.2.2.2.1 (by decide)
    obtain ⟨lo, hi, h0⟩ := id h
    have ih : ∀ M', bM' M' am ad S → wl_X4_total_20 G P q b M' am k o (totN S (nn k) o (c + 1)) (Int32.ofNat c + 1) := fun M' hM' => by
      rw [i_s]
      exact b_tot hX hk kk n (c + 1) q M' (by omega) (by omega) hM'
    have ex : totN S (nn k) o (c + 1) = (if (fnd S c (nn k) (nn (S 2 0 0 0) + 1)).1 = 0 then totN S (nn k) o c else totN S (nn k) o c + (vNum (fnd S c (nn k) (nn (S 2 0 0 0) + 1)) o).toInt64) := rfl
    unfold wl_X4_total_20 wb_X4_total_59 wb_X4_total_61
    refine ⟨fun z => absurd z hlt, fun _ => b_gfi h0 (by decide) ⟨h0.isc, ?_⟩⟩
    rw [fB_o (f := 2) (by decide)]
    refine b_find h0 hx hk hy fun M1 h1 => ?_
    rw [fnd_47, e] at h1 ⊢
    have h1' : bM' M1 am ad S := by rw [fB_fB] at h1; exact ⟨_, _, h1⟩
    refine ⟨fun z => ?_, fun z => ⟨fun z2 => b_gfi h1 (by decide) ?_, fun z2 => b_gfi h1 (by decide) ?_⟩⟩
    · have := ih M1 h1'
      rw [ex, if_pos z] at this
      exact this
    · have := ih M1 h1'
      rw [ex, if_neg z] at this
      unfold vNum at this
      rw [if_pos z2] at this
      exact this
    · have := ih M1 h1'
      rw [ex, if_neg z] at this
      unfold vNum at this
      rw [if_neg z2] at this
      exact this
theorem t_total {M : mM} {S : bS} (h : bM M am ad S) (hX0 : bX (z0 S)) {k o : Int32} {K : Int64 → mM → Prop} (k0 : bIn k 0 3 = true → ∀ M', bM' M' am ad (z0 S) → K (totN (z0 S) (nn k) o 36) M') (k1 : bIn k 0 3 = false → ∀ M', bM M' am ad (bU S 0 0 0 0 1) → K 0 M') : wp_X4_total G b K M am k o := by
  unfold wp_X4_total
  refine b_noKind ⟨h.isc, b_chk (q := false) (r := false) h (fun _ _ => rfl) (fun h1 _ _ M' hM' => ⟨37, ?_⟩) (fun h1 M' hM' => ?_)⟩
  · have hk := not_f h1
    exact b_tot hX0 (bIn_v hk (by decide)) (k0 hk) 36 0 37 M' (by omega) (by omega) (bM'.of hM')
  · have hu : bIn k 0 3 = false := by
      cases hh : bIn k 0 3 with
      | false => rfl
      | true => rw [hh] at h1; exact absurd rfl h1
    rw [hu] at hM'
    exact k1 hu M' hM'
end B50
