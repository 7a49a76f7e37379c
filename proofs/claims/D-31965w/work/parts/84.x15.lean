/-! THE CLASS's cellAt, addSluice -/
theorem bIn_m1 (t : Int32) : bIn (t - (-1)) 0 4 = !(decide (t ≠ -1) && !bIn t 0 3) := by
  have f1 : t.toInt < 2 ^ 31 := Int32.toInt_lt t
  have f0 : -2 ^ 31 ≤ t.toInt := Int32.le_toInt t
  have s : (t - (-1)).toInt = (t.toInt + 1).bmod (2 ^ 32) := by
    rw [Int32.toInt_sub]; rfl
  have e1 : (t = -1) ↔ t.toInt = -1 := ⟨fun z => by rw [z]; rfl, fun z => Int32.toInt_inj.mp z⟩
  have hb : ∀ (x : Int32) (n : Nat) (c : Int32), c.toInt = (n : Int) → (bIn x 0 c = true ↔ 0 ≤ x.toInt ∧ x.toInt ≤ n) := fun x n c hc => by
    unfold bIn
    rw [Bool.and_eq_true, decide_eq_true_iff, decide_eq_true_iff, Int32.le_iff_toInt_le, Int32.le_iff_toInt_le, hc]; rfl
  have h4 := hb (t - (-1)) 4 4 rfl
  have h3 := hb t 3 3 rfl
  rw [s] at h4
  rw [Bool.eq_iff_iff, h4]
  simp only [Bool.not_eq_true', Bool.and_eq_false_imp, decide_eq_true_iff, ne_eq, Bool.not_eq_false']
  rw [h3, e1]
  by_cases z : t.toInt = 2 ^ 31 - 1
  · rw [z]
    constructor
    · intro h
      exact absurd h (by decide)
    · intro h
      exact absurd (h (by decide)) (by decide)
  · rw [Int.bmod_eq_of_le (by omega) (by omega)]
    constructor
    · intro h y
      omega
    · intro h
      by_cases y : t.toInt = -1
      · omega
      · have := h y
        omega
section B84
variable {G : mG} {b : Nat} {κ : xK} {M : mM} {ad : xA} {X : bS}
theorem x_depth (h : rX κ M ad X) {c : Nat} (hc : c < 36) (h5 : vp_in (X 5 c 0 0) 4) {K : Int32 → mM → Prop} (kk : K (X 8 (nn (X 5 c 0 0)) 0 0 - X 3 c 0 0) M) : wp_X1_depthOf G b K M κ.2.2.1 (ad 20 c 0) := by
  unfold wp_X1_depthOf
  exact gfa_ h.main rfl (gfi_ (h.at (xl20 hc)) rfl (ldi_ (h.at (xl0 (t := 2) (by decide))) h5 (gfi_ (h.at (xl20 hc)) rfl kk)))
theorem x_lik {P : Int32 → mM → Prop} (h : rX κ M ad X) {c : Nat} {d : Int32} (h5 : ¬ X 5 c 0 0 = -1) (hd : d = X 8 (nn (X 5 c 0 0)) 0 0 - X 3 c 0 0) (kk : P (bitsN X c 4) M) : ∀ (n k f : Nat), k + n = 4 → n < f → wl_X1_likers_4 G P f b M κ.2.2.1 d (bitsN X c k) (Int32.ofNat k)
  | _, _, 0, _, hq => absurd hq (Nat.not_lt_zero _)
  | 0, k, f + 1, hk, _ => by
    have : k = 4 := by omega
    subst this
    unfold wl_X1_likers_4
    exact ⟨fun _ => kk, fun z => absurd (by decide) z⟩
  | n + 1, k, f + 1, hk, hq => by
    have hv : vp_in (Int32.ofNat k) 4 := i_vp (by omega) (by omega)
    have e : (Int32.ofNat k).toNatClampNeg = k := i_nn (by omega)
    have ih := x_lik h h5 hd kk n (k + 1) f (by omega) (by omega)
    have hs : suits X c k = bIn d (X 10 k 0 0) (X 11 k 0 0) := by
      unfold suits
      rw [hd, decide_eq_true (show X 5 c 0 0 ≠ -1 from h5), Bool.true_and]
    have no : suits X c k = false → wb_X1_likers_42 G P (wl_X1_likers_4 G P f) b M κ.2.2.1 d (Int32.ofNat k) (bitsN X c k) := fun h2 => by
      rw [show bitsN X c (k + 1) = bitsN X c k by show (if suits X c k = true then _ else _) = _; rw [h2]; rfl] at ih
      unfold wb_X1_likers_42 wb_X1_likers_43
      rw [i_s, show bitsN X c k ||| 0 = bitsN X c k from Int32.or_zero]
      exact ih
    unfold wl_X1_likers_4
    refine ⟨fun z => absurd ((i_le (a := 4) (by decide) (by omega)).mp z) (by omega), fun _ => gfa_ h.main rfl (lda_ (v := ad 21 k 0) (h.at (xl0 (t := 1) (by decide))) hv (by rw [e]; exact if_pos (by omega)) (gfi_ (h.at (xl21 (by omega))) rfl ⟨fun z => no ?_, fun z => gfa_ h.main rfl (lda_ (v := ad 21 k 0) (h.at (xl0 (t := 1) (by decide))) hv (by rw [e]; exact if_pos (by omega)) (gfi_ (h.at (xl21 (by omega))) rfl ⟨fun y => no ?_, fun y => ?_⟩))⟩))⟩
    · rw [hs]; unfold bIn
      rw [decide_eq_false (Int32.not_le.mpr z)]; rfl
    · rw [hs]; unfold bIn
      rw [decide_eq_false (Int32.not_le.mpr y), Bool.and_false]
    · have h2 : suits X c k = true := by
        rw [hs]; unfold bIn
        rw [decide_eq_true (Int32.not_lt.mp z), decide_eq_true (Int32.not_lt.mp y)]; rfl
      rw [show bitsN X c (k + 1) = (bitsN X c k ||| (1 <<< (Int32.ofNat k &&& 31))) by show (if suits X c k = true then _ else _) = _; rw [h2]; rfl] at ih
      unfold wb_X1_likers_43
      rw [i_s]
      exact ih
theorem x0_cellAt (h : rX κ M ad X) (h5 : ∀ c, c < 36 → X 5 c 0 0 = -1 ∨ vp_in (X 5 c 0 0) 4) {c q : Int32} {K : Int32 → mM → Prop} (hb : 30 ≤ b) (kk : ∀ M', rX κ M' ad X → (eCellAt c q = 0 → xOut κ M' (aCellAt X (nn c) q).toInt64) → K (eCellAt c q) M') : wp_X0_cellAt G b K M κ.2.2.1 c q κ.2.2.2 := by
  unfold eCellAt at kk
  unfold wp_X0_cellAt wp_X1_cellAt wb_X0_cellAt_13 wb_X0_cellAt_17
  refine ⟨h.isc, b, 0, rfl, 7, b - 7, by omega, x_cix (m := 35) (by decide) (by decide) (by omega) (fun z => ⟨b - 7, 0, rfl, x_crg (by omega) (fun y => ?_) fun y q => Or.inl ⟨rfl, ?_⟩⟩) fun z q => Or.inr ⟨rfl, ?_⟩⟩
  · rw [z, y] at kk
    have hi : vp_in c 36 := bIn_v z (by decide)
    have hc := bLn hi
    have ha := h.at (xl20 hc)
    have fin : ∀ v, v = aCellAt X (nn c) q → stl M 4 κ.2.2.2 0 v.toInt64 fun M5 => K 0 M5 := fun v hv => x_out h fun M' h' ho => kk M' h' fun _ => by rw [← hv]; exact ho
    refine gfa_ h.main rfl (lda_ (v := ad 20 (nn c) 0) (h.at (xl0 (t := 0) (by decide))) hi (if_pos hc) ⟨fun z0 => gfi_ ha rfl (fin _ ?_), fun z1 => gfi_ ha rfl (fin _ ?_), fun z2 => gfi_ ha rfl (fin _ ?_), fun z3 => gfi_ ha rfl ⟨fun w => ⟨h.isc, x_depth h hc ((h5 _ hc).resolve_left w) (fin _ ?_)⟩, fun w => fin _ ?_⟩, fun z0 z1 z2 z3 => gfi_ ha rfl ⟨fun w => ⟨h.isc, x_depth h hc ((h5 _ hc).resolve_left w) ⟨h.isc, 5, x_lik h w rfl (fin _ ?_) 4 0 5 (by omega) (by omega)⟩⟩, fun w => fin _ ?_⟩⟩)
    · unfold aCellAt; rw [z0]; rfl
    · unfold aCellAt; rw [z1]; rfl
    · unfold aCellAt; rw [z2]; rfl
    · unfold aCellAt
      rw [z3]
      show _ = if X 5 (nn c) 0 0 = -1 then _ else _
      rw [if_neg w]
    · unfold aCellAt
      rw [z3]
      show _ = if X 5 (nn c) 0 0 = -1 then _ else _
      rw [if_pos w]
    · unfold aCellAt
      rw [if_neg z0, if_neg z1, if_neg z2, if_neg z3]
    · unfold aCellAt
      rw [if_neg z0, if_neg z1, if_neg z2, if_neg z3]
      have hs : ∀ k, suits X (nn c) k = false := fun k => by
        unfold suits
        rw [decide_eq_false (fun y : X 5 (nn c) 0 0 ≠ -1 => y w)]; rfl
      have : ∀ k, bitsN X (nn c) k = 0 := fun k => by
        induction k with
        | zero => rfl
        | succ k ih =>
          show (if suits X (nn c) k = true then _ else _) = _
          rw [hs k]
          exact ih
      exact (this 4).symm
  · rw [z, y] at kk
    exact kk M h (fun w9 => by first | exact absurd (show (1 : Int32) = 0 from w9) (by decide) | exact absurd (show (2 : Int32) = 0 from w9) (by decide) | exact absurd (show (3 : Int32) = 0 from w9) (by decide))
  · rw [z] at kk
    exact kk M h (fun w9 => by first | exact absurd (show (1 : Int32) = 0 from w9) (by decide) | exact absurd (show (2 : Int32) = 0 from w9) (by decide) | exact absurd (show (3 : Int32) = 0 from w9) (by decide))
theorem x0_addSluice (h : rX κ M ad X) (hI : xI X) (hG : κ.2.1 = G.2.2 0) (hC : κ.1 (G.2.2 0) = some (false, .inl (5, 0, mRs fun _ => none))) (h8 : bIn (X 13 0 0 0) 0 8 = true) {f t l : Int32} {K : Int32 → mM → Prop} (hb : 400 ≤ b) (kk : ∀ M' ad' X', rX κ M' ad' X' → xI X' → xE (xs (eAddSluice X f t l) X (xSlu X f t l)) X' → (eAddSluice X f t l = 0 → xOut κ M' (X 13 0 0 0).toInt64) → K (eAddSluice X f t l) M') : wp_X0_addSluice G b K M κ.2.2.1 f t l κ.2.2.2 := by
  have hL : 0 < 4 + xN X 3 := by omega
  unfold eAddSluice at kk
  unfold wp_X0_addSluice wp_X1_addSluice wb_X1_addSluice_22 wb_X1_addSluice_51 wb_X0_addSluice_15 wb_X0_addSluice_19 wb_X0_addSluice_23
  refine ⟨h.isc, b, 0, rfl, 7, b - 7, by omega, x_cix (m := 3) (by decide) (by decide) (by omega) (fun z1 => ⟨7, b - 7 - 7, by omega, x_cix (m := 4) (by decide) (by decide) (by omega) (fun z2 => ?_) fun z2 q => Or.inr (Or.inr ⟨rfl, ?_⟩)⟩) fun z1 q => Or.inr (Or.inr ⟨rfl, ?_⟩)⟩
  · rw [bIn_m1] at z2
    have z2 : (decide (t ≠ -1) && !bIn t 0 3) = false := by
      cases hh : (decide (t ≠ -1) && !bIn t 0 3) with
      | false => rfl
      | true => rw [hh] at z2; exact absurd z2 (by decide)
    rw [z1, z2] at kk
    refine ⟨fun z3 => ⟨b - 7 - 7, 0, rfl, x_carg (by omega) (fun y => absurd rfl y) fun _ q => Or.inl ⟨rfl, ?_⟩⟩, fun z3 => ⟨7, b - 7 - 7 - 7, by omega, x_carg (by omega) (fun _ => ⟨7, b - 7 - 7 - 7 - 7, by omega, x_crg (by omega) (fun z4 => ?_) fun z4 q => Or.inl ⟨rfl, ?_⟩⟩) fun y => absurd y (by decide)⟩⟩
    · rw [decide_eq_true z3] at kk
      exact kk M ad X h hI (fun g _ _ => rfl) (fun w9 => by first | exact absurd (show (1 : Int32) = 0 from w9) (by decide) | exact absurd (show (2 : Int32) = 0 from w9) (by decide) | exact absurd (show (3 : Int32) = 0 from w9) (by decide))
    · rw [decide_eq_false z3, z4] at kk
      refine gfa_ h.main rfl ⟨isc_ (h.list hL), x_size h hL ⟨fun z5 => ⟨b - 7 - 7 - 7 - 7, 0, rfl, x_cst (by omega) (fun y => absurd rfl y) fun _ q => Or.inr (Or.inl ⟨rfl, ?_⟩)⟩, fun z5 => ⟨7, b - 7 - 7 - 7 - 7 - 7, by omega, x_cst (by omega) (fun _ => ?_) fun y => absurd y (by decide)⟩⟩⟩
      · have z6 : X 13 0 0 0 = 8 := by
          have := (bIn_t h8).2
          exact Int32.le_antisymm this z5
        rw [decide_eq_true z6] at kk
        exact kk M ad X h hI (fun g _ _ => rfl) (fun w9 => by first | exact absurd (show (1 : Int32) = 0 from w9) (by decide) | exact absurd (show (2 : Int32) = 0 from w9) (by decide) | exact absurd (show (3 : Int32) = 0 from w9) (by decide))
      · have z6 : ¬ X 13 0 0 0 = 8 := fun y => z5 (by show (8 : Int32) ≤ X 13 0 0 0; rw [y]; decide)
        rw [decide_eq_false z6] at kk
        have hn8 : xN X 0 ≤ 8 := i_nle (bIn_t h8).1 (bIn_t h8).2
        refine gfa_ h.main rfl ⟨by omega, fun q hq => ?_⟩
        have hfq := h.fresh (hq q (Nat.le_refl _))
        unfold wp_X5_init
        refine ⟨_, mset_s _ _ _, Nat.le_of_ble_eq_true rfl, ⟨rfl, rfl⟩, ?_⟩
        rw [mset_mset]
        refine ⟨_, mset_s _ _ _, Nat.le_of_ble_eq_true rfl, ?_⟩
        rw [mset_mset]
        refine ⟨_, mset_s _ _ _, Nat.le_of_ble_eq_true rfl, ?_⟩
        rw [mset_mset]
        refine ⟨_, mset_s _ _ _, Nat.le_of_ble_eq_true rfl, ?_⟩
        rw [mset_mset]
        have h1 := h.oth hfq (Sum.inr (4, [Value.int f, .int t, .int l, .int 1]))
        refine ⟨isc_ (h1.list hL), 310, b - 7 - 7 - 7 - 7 - 7 - 5 - 310, by omega, x_slu h1 hI hG hC (by omega) hfq (mset_s _ _ _) (Nat.le_refl _) fun M2 ad2 X2 h2 hI2 hE2 => ?_⟩
        have hL2 : 0 < 4 + xN X2 3 := by omega
        refine gfa_ h2.main rfl ⟨isc_ (h2.list hL2), x_size h2 hL2 ?_⟩
        have e13 : xZ X2 0 - 1 = X 13 0 0 0 := by
          show X2 13 0 0 0 - 1 = _
          rw [hE2 13 (by decide) (by decide)]
          unfold xSlu
          rw [bU_s]
          exact Int32.add_sub_cancel _ _
        rw [e13]
        exact x_out h2 fun M' h' ho => kk M' ad2 X2 h' hI2 hE2 fun _ => ho
    · rw [decide_eq_false z3, z4] at kk
      exact kk M ad X h hI (fun g _ _ => rfl) (fun w9 => by first | exact absurd (show (1 : Int32) = 0 from w9) (by decide) | exact absurd (show (2 : Int32) = 0 from w9) (by decide) | exact absurd (show (3 : Int32) = 0 from w9) (by decide))
  · rw [bIn_m1] at z2
    have z2 : (decide (t ≠ -1) && !bIn t 0 3) = true := by
      cases hh : (decide (t ≠ -1) && !bIn t 0 3) with
      | true => rfl
      | false => rw [hh] at z2; exact absurd z2 (by decide)
    rw [z1, z2] at kk
    exact kk M ad X h hI (fun g _ _ => rfl) (fun w9 => by first | exact absurd (show (1 : Int32) = 0 from w9) (by decide) | exact absurd (show (2 : Int32) = 0 from w9) (by decide) | exact absurd (show (3 : Int32) = 0 from w9) (by decide))
  · rw [z1] at kk
    exact kk M ad X h hI (fun g _ _ => rfl) (fun w9 => by first | exact absurd (show (1 : Int32) = 0 from w9) (by decide) | exact absurd (show (2 : Int32) = 0 from w9) (by decide) | exact absurd (show (3 : Int32) = 0 from w9) (by decide))
end B84
