/-! THE CLASS's nextRoute, doneShare, nextYear -/
theorem xI_of {X X' : bS} (hI : xI X) (h : ∀ f, f ∈ [13, 24, 27, 28, 35, 69] → X' f = X f) : xI X' := by
  have hz : ∀ L, xZ X' L = xZ X L := xZ_of fun f hf => h f (by simp only [List.mem_cons, List.not_mem_nil, or_false] at hf ⊢; omega)
  have hn : ∀ L, xN X' L = xN X L := fun L => by unfold xN; rw [hz]
  refine ⟨by rw [h 28 (by decide)]; exact hI.1, fun L hL => ?_⟩
  rw [hn] at hL
  rw [hz, hn, h 69 (by decide)]
  exact hI.2 L hL
theorem xI_U {X : bS} (hI : xI X) {f i j k : Nat} {x : Int32} (h : f ∉ [13, 24, 27, 28, 35, 69]) : xI (bU X f i j k x) := xI_of hI fun g hg => bU_ff (show g ≠ f from fun z => h (z ▸ hg))
theorem wthK_b {X : bS} {c : Nat} (hJ : bJ X) (hY : bIn (X 2 0 0 0) 0 9 = true) (hP : ∀ k, k < 4 → 0 ≤ (X 12 k 0 0).toInt ∧ (X 12 k 0 0).toInt ≤ 100) (hc : c < 36) {a : Int64} {B : Int} (ha : 0 ≤ a.toInt ∧ a.toInt ≤ B) (hB : B ≤ 2 ^ 50) : ∀ n, n ≤ 4 → 0 ≤ (wthK X c a n).toInt ∧ (wthK X c a n).toInt ≤ B + n * 2 ^ 40
  | 0, _ => ⟨ha.1, by show a.toInt ≤ _; omega⟩
  | n + 1, hn => by
    obtain ⟨i0, i1⟩ := wthK_b hJ hY hP hc ha hB n (by omega)
    obtain ⟨p0, p1⟩ := hP n (by omega)
    have hy : nn (X 2 0 0 0) < 10 := bLn (bIn_v (c := 9) hY (by decide))
    have hd : 0 ≤ (dbt X c n).toInt ∧ (dbt X c n).toInt < 2 ^ 31 := by
      refine ⟨?_, Int32.toInt_lt _⟩
      unfold dbt
      obtain ⟨j0, j1⟩ := j_ok hJ hc (by omega : n < 4) (nn (X 2 0 0 0) + 1) (by omega)
      by_cases z : (fnd X c n (nn (X 2 0 0 0) + 1)).1 = 0
      · rw [if_pos z]; decide
      · obtain ⟨-, -, l0, l1, l2⟩ := j1 z
        have l3 := Int32.toInt_lt (fnd X c n (nn (X 2 0 0 0) + 1)).2.2
        rw [if_neg z, Int32.toInt_sub, Int.bmod_eq_of_le (by omega) (by omega)]
        omega
    have e1 : ((X 12 n 0 0).toInt64 * (dbt X c n).toInt64).toInt = (X 12 n 0 0).toInt * (dbt X c n).toInt := by
      have m1 : (X 12 n 0 0).toInt * (dbt X c n).toInt ≤ 100 * 2 ^ 31 := Int.mul_le_mul p1 (by omega) hd.1 (by omega)
      have m0 : 0 ≤ (X 12 n 0 0).toInt * (dbt X c n).toInt := Int.mul_nonneg p0 hd.1
      rw [i64_m (by rw [Int32.toInt_toInt64, Int32.toInt_toInt64]; omega), Int32.toInt_toInt64, Int32.toInt_toInt64]
    have m1 : (X 12 n 0 0).toInt * (dbt X c n).toInt ≤ 100 * 2 ^ 31 := Int.mul_le_mul p1 (by omega) hd.1 (by omega)
    have m0 : 0 ≤ (X 12 n 0 0).toInt * (dbt X c n).toInt := Int.mul_nonneg p0 hd.1
    show 0 ≤ (wthK X c a n + (X 12 n 0 0).toInt64 * (dbt X c n).toInt64).toInt ∧ (wthK X c a n + (X 12 n 0 0).toInt64 * (dbt X c n).toInt64).toInt ≤ B + ((n + 1 : Nat) : Int) * 2 ^ 40
    have q : (n : Int) ≤ 4 := by omega
    rw [Int64.toInt_add, e1, Int.bmod_eq_of_le (by omega) (by omega)]
    omega
theorem wthN_b {X : bS} {r : Nat} (hJ : bJ X) (hY : bIn (X 2 0 0 0) 0 9 = true) (hP : ∀ k, k < 4 → 0 ≤ (X 12 k 0 0).toInt ∧ (X 12 k 0 0).toInt ≤ 100) : ∀ n, n ≤ 36 → 0 ≤ (wthN X r n).toInt ∧ (wthN X r n).toInt ≤ n * 2 ^ 42
  | 0, _ => by
    show 0 ≤ (0 : Int64).toInt ∧ (0 : Int64).toInt ≤ ((0 : Nat) : Int) * 2 ^ 42
    exact ⟨by decide, by decide⟩
  | n + 1, hn => by
    obtain ⟨i0, i1⟩ := wthN_b (r := r) hJ hY hP n (by omega)
    have q : (n : Int) ≤ 36 := by omega
    show 0 ≤ (if 1 < far X r (Int32.ofNat n) then wthN X r n else wthK X n (wthN X r n) 4).toInt ∧ (if 1 < far X r (Int32.ofNat n) then wthN X r n else wthK X n (wthN X r n) 4).toInt ≤ ((n + 1 : Nat) : Int) * 2 ^ 42
    by_cases z : 1 < far X r (Int32.ofNat n)
    · rw [if_pos z]; omega
    · rw [if_neg z]
      obtain ⟨k0, k1⟩ := wthK_b hJ hY hP (by omega : n < 36) ⟨i0, i1⟩ (by omega) 4 (by omega)
      omega
section B81
variable {G : mG} {b : Nat} {κ : xK} {M : mM} {ad : xA} {X : bS}
def xMo (X : bS) (n : Nat) : Int64 := if nxt X n = -1 then -1 else wth X (nn (nxt X n))
theorem x_nxt9 {P : Int32 → mM → Prop} (h : rX κ M ad X) (hI : xI X) (hJ : bJ X) (hY : bIn (X 2 0 0 0) 0 9 = true) (hR : bRo X) (hP : ∀ k, k < 4 → 0 ≤ (X 12 k 0 0).toInt ∧ (X 12 k 0 0).toInt ≤ 100) {N : Nat} (hN : xN X 1 = N) (kk : P (nxt X N) M) : ∀ (n c q : Nat), c + n = N → n < q → wl_X1_nextRoute_9 G P q b M κ.2.2.1 (nxt X c) (xMo X c) (Int32.ofNat c)
  | _, _, 0, _, hq => absurd hq (Nat.not_lt_zero _)
  | 0, c, q + 1, hc, _ => by
    have : c = N := by omega
    subst this
    have hL : 1 < 4 + xN X 3 := by omega
    obtain ⟨e, -⟩ := hI.z hL
    unfold wl_X1_nextRoute_9
    refine gfa_ h.main rfl ⟨isc_ (h.list hL), x_size h hL ?_⟩
    rw [e, hN]
    exact ⟨fun _ => kk, fun z => absurd (Int32.le_refl _) z⟩
  | n + 1, c, q + 1, hc, hq => by
    have hL : 1 < 4 + xN X 3 := by omega
    obtain ⟨e, e2⟩ := hI.z hL
    have h8 := hR.1
    have hlt : ¬ Int32.ofNat N ≤ Int32.ofNat c := fun z => absurd ((i_le (by omega) (by omega)).mp z) (by omega)
    have hc1 : c < xN X 1 := by omega
    have ih := x_nxt9 (P := P) h hI hJ hY hR hP hN kk n (c + 1) q (by omega) (by omega)
    have ex : nxt X (c + 1) = (if nxt X c = -1 then Int32.ofNat c else if lg_cmp (wth X c) (wth X (nn (nxt X c))) ≤ 0 then nxt X c else Int32.ofNat c) := rfl
    have cn : ¬ Int32.ofNat c = -1 := fun z => by
      have := (i_le (a := 0) (by decide) (by omega : c < 2 ^ 31)).mpr (Nat.zero_le _)
      rw [z] at this
      exact absurd this (by decide)
    have w0 : 0 ≤ (wth X c).toInt := (wthN_b hJ hY hP 36 (by omega)).1
    have go : ∀ (x : Int32) (y : Int64), x = nxt X (c + 1) → y = xMo X (c + 1) → wl_X1_nextRoute_9 G P q b M κ.2.2.1 x y (Int32.ofNat c + 1) := fun x y hx hy => by
      rw [i_s, hx, hy]; exact ih
    unfold wl_X1_nextRoute_9 wb_X1_nextRoute_56
    refine gfa_ h.main rfl ⟨isc_ (h.list hL), x_size h hL ?_⟩
    rw [e, hN]
    refine ⟨fun z => absurd z hlt, fun _ => gfa_ h.main rfl ⟨isc_ (h.list hL), x_get h hI hL (i_vp (by omega) hc1) ?_⟩⟩
    rw [i_nn (by omega)]
    refine ⟨isc_ (h.at (xl24 hL hc1)), h.isc, x_wth h hJ hY hc1 (hR.2 c hc1).1 (hR.far hc1) ⟨fun z => ?_, fun z => ?_⟩⟩
    · rw [lg_cmp_le] at z
      have z1 := Int64.le_iff_toInt_le.mp z
      intro g hg
      subst hg
      have hne : ¬ nxt X c = -1 := fun y => by
        unfold xMo at z1
        rw [if_pos y] at z1
        have : (-1 : Int64).toInt = -1 := rfl
        omega
      have e3 : xMo X c = wth X (nn (nxt X c)) := by unfold xMo; rw [if_neg hne]
      have e4 : nxt X (c + 1) = nxt X c := by
        rw [ex, if_neg hne, if_pos (by rw [lg_cmp_le, ← e3]; exact z)]
      refine go _ _ e4.symm ?_
      have e5 : xMo X (c + 1) = xMo X c := by unfold xMo; rw [e4]
      rw [e5]
      by_cases y : wth X c < xMo X c
      · rw [if_pos y]
      · rw [if_neg y]
        have y1 : ¬ (wth X c).toInt < (xMo X c).toInt := fun w => y (Int64.lt_iff_toInt_lt.mpr w)
        exact Int64.toInt_inj.mp (by omega)
    · rw [lg_cmp_le] at z
      have z1 : ¬ (wth X c).toInt ≤ (xMo X c).toInt := fun w => z (Int64.le_iff_toInt_le.mpr w)
      intro g hg
      subst hg
      have e4 : nxt X (c + 1) = Int32.ofNat c := by
        rw [ex]
        by_cases y : nxt X c = -1
        · rw [if_pos y]
        · rw [if_neg y, if_neg]
          rw [lg_cmp_le]
          intro w
          unfold xMo at z
          rw [if_neg y] at z
          exact z w
      refine go _ _ e4.symm ?_
      have e5 : xMo X (c + 1) = wth X c := by unfold xMo; rw [e4, if_neg cn, i_nn (by omega)]
      rw [e5, if_neg fun y => by have := Int64.lt_iff_toInt_lt.mp y; omega]
theorem x_nextRoute {P : Int32 → mM → Prop} (h : rX κ M ad X) (hI : xI X) (hJ : bJ X) (hY : bIn (X 2 0 0 0) 0 9 = true) (hR : bRo X) (hP : ∀ k, k < 4 → 0 ≤ (X 12 k 0 0).toInt ∧ (X 12 k 0 0).toInt ≤ 100) (kk : P (nxt X (xN X 1)) M) : wp_X1_nextRoute G b P M κ.2.2.1 := by
  unfold wp_X1_nextRoute
  exact ⟨_, x_nxt9 h hI hJ hY hR hP rfl kk _ 0 _ (Nat.zero_add _) (Nat.lt_succ_self _)⟩
theorem x_ds4 {P : UInt32 → mM → Prop} (h : rX κ M ad X) (hI : xI X) {N : Nat} (hN : xN X 3 = N) (hN40 : N ≤ 40) (kk : P (aDone X) M) : ∀ (n c q : Nat), c + n = N → n < q → wl_X1_doneShare_4 G P q b M κ.2.2.1 (doneN X c) (Int32.ofNat c)
  | _, _, 0, _, hq => absurd hq (Nat.not_lt_zero _)
  | 0, c, q + 1, hc, _ => by
    have : c = N := by omega
    subst this
    have hL : 3 < 4 + xN X 3 := by omega
    obtain ⟨e, -⟩ := hI.z hL
    have e28 : X 28 0 0 0 = Int32.ofNat c := by rw [← hN]; exact e
    unfold aDone at kk
    rw [show nn (X 28 0 0 0) = c from hN] at kk
    unfold wl_X1_doneShare_4 wb_X1_doneShare_80
    refine gfa_ h.main rfl ⟨isc_ (h.list hL), x_size h hL ⟨fun _ => gfa_ h.main rfl ⟨isc_ (h.list hL), ?_⟩, fun z => absurd (by rw [e, hN]; exact Int32.le_refl _) z⟩⟩
    unfold wp_J2_isEmpty wb_J2_isEmpty_12
    refine gfi_ (h.list hL) rfl ⟨fun z => ⟨rfl, fun _ => gfa_ h.main rfl ⟨isc_ (h.list hL), x_size h hL ⟨?_, ?_⟩⟩, fun w => absurd rfl w⟩, fun z => ⟨rfl, fun w => absurd w (by decide), fun _ => ?_⟩⟩
    · obtain ⟨m, hm, em⟩ := doneN_n X c hN40
      rw [em, e, hN]
      exact ds_num0 m (by omega) c (by omega) fun z0 => z (by rw [e, hN, z0]; rfl)
    · change ¬ X 28 0 0 0 = 0 at z
      rw [if_neg z] at kk; exact kk
    · change X 28 0 0 0 = 0 at z
      rw [if_pos z] at kk; exact kk
  | n + 1, c, q + 1, hc, hq => by
    have hL : 3 < 4 + xN X 3 := by omega
    obtain ⟨e, -⟩ := hI.z hL
    have hc3 : c < xN X 3 := by omega
    have hlt : ¬ Int32.ofNat N ≤ Int32.ofNat c := fun z => absurd ((i_le (by omega) (by omega)).mp z) (by omega)
    have ih := x_ds4 (P := P) h hI hN hN40 kk n (c + 1) q (by omega) (by omega)
    rw [show doneN X (c + 1) = (if X 34 c 0 0 = 1 then doneN X c + 1 else doneN X c) from rfl] at ih
    unfold wl_X1_doneShare_4 wb_X1_doneShare_43
    refine gfa_ h.main rfl ⟨isc_ (h.list hL), x_size h hL ?_⟩
    rw [e, hN, i_s]
    refine ⟨fun z => absurd z hlt, fun _ => gfa_ h.main rfl ⟨isc_ (h.list hL), x_get h hI hL (i_vp (by omega) hc3) ?_⟩⟩
    rw [i_nn (by omega)]
    refine ⟨isc_ (h.at (xl24 hL hc3)), gfi_ (h.at (xl24 hL hc3)) rfl ⟨fun z => ?_, fun z => ?_⟩⟩
    · rw [if_neg z] at ih
      rw [Int32.add_zero]
      exact ih
    · rw [if_pos z] at ih
      exact ih
theorem x_doneShare {P : UInt32 → mM → Prop} (h : rX κ M ad X) (hI : xI X) (kk : P (aDone X) M) : wp_X1_doneShare G b P M κ.2.2.1 := by
  have h40 : xN X 3 ≤ 40 := i_nle (bIn_t hI.1).1 (bIn_t hI.1).2
  unfold wp_X1_doneShare
  exact ⟨_, x_ds4 h hI rfl h40 kk _ 0 _ (Nat.zero_add _) (Nat.lt_succ_self _)⟩
theorem x_pwst (h : rX κ M ad X) {w : Nat} (hw : w < xN X 3) {v : Int32} {K : mM → Prop} (kk : ∀ M', rX κ M' ad (bU X 34 w 0 0 v) → (∀ a, xO κ ad X a → M' a = M a) → K M') : pfi M (ad 24 3 w) 14 4 v K := by
  have hl : xL X 24 3 w := xl24 (by omega) hw
  refine ⟨_, h.at hl, Nat.le_of_ble_eq_true rfl, kk _ (h.putU hl (by decide) (by decide) ?_ fun i' j' hl' hn => ?_) fun a ha => mset_n (Ne.symm (ha.1 _ _ _ hl))⟩
  · show (Sum.inr (14, [.int (X 30 w 0 0), .int (X 31 w 0 0), .int (X 32 w 0 0), .int (X 33 w 0 0), .int v, .ref (ad 22 (4 + w) 0)]) : mE) = Sum.inr (14, [.int (bU X 34 w 0 0 v 30 w 0 0), .int (bU X 34 w 0 0 v 31 w 0 0), .int (bU X 34 w 0 0 v 32 w 0 0), .int (bU X 34 w 0 0 v 33 w 0 0), .int (bU X 34 w 0 0 v 34 w 0 0), .ref (ad 22 (4 + w) 0)])
    rw [bU_s, bU_f (by decide), bU_f (by decide), bU_f (by decide), bU_f (by decide)]
  · have e : ∀ g, g ≠ 34 → bU X 34 w 0 0 v g = X g := fun g hg => bU_ff hg
    show xEl ad (bU X 34 w 0 0 v) i' j' = xEl ad X i' j'
    by_cases z : i' = 3
    · subst z
      have hj : j' ≠ w := fun y => hn ⟨rfl, y⟩
      show (Sum.inr (14, [.int (bU X 34 w 0 0 v 30 j' 0 0), .int (bU X 34 w 0 0 v 31 j' 0 0), .int (bU X 34 w 0 0 v 32 j' 0 0), .int (bU X 34 w 0 0 v 33 j' 0 0), .int (bU X 34 w 0 0 v 34 j' 0 0), .ref (ad 22 (4 + j') 0)]) : mE) = Sum.inr (14, [.int (X 30 j' 0 0), .int (X 31 j' 0 0), .int (X 32 j' 0 0), .int (X 33 j' 0 0), .int (X 34 j' 0 0), .ref (ad 22 (4 + j') 0)])
      rw [e 30 (by decide), e 31 (by decide), e 32 (by decide), e 33 (by decide), bU_i hj]
    · unfold xEl
      rw [if_neg z, if_neg z, e 14 (by decide), e 15 (by decide), e 16 (by decide), e 17 (by decide), e 64 (by decide), e 65 (by decide), e 66 (by decide), e 67 (by decide)]
theorem x_ny19 {P : Int32 → mM → Prop} {Xx : String → Nat → mM → Prop} {N : Nat} (hN40 : N ≤ 40) : ∀ (n c q : Nat) (M : mM) (X : bS), c + n = N → n < q → rX κ M ad X → xI X → xN X 3 = N → (∀ M', rX κ M' ad (bU (itF fDrop c n X) 2 0 0 0 (itF fDrop c n X 2 0 0 0 + 1)) → P (itF fDrop c n X 2 0 0 0 + 1) M') → wl_X1_nextYear_19 G P Xx q b M κ.2.2.1 (Int32.ofNat c)
  | _, _, 0, _, _, _, hq, _, _, _, _ => absurd hq (Nat.not_lt_zero _)
  | 0, c, q + 1, M, X, hc, _, h, hI, hN, kk => by
    have : c = N := by omega
    subst this
    have hL : 3 < 4 + xN X 3 := by omega
    obtain ⟨e, -⟩ := hI.z hL
    unfold wl_X1_nextYear_19
    refine gfa_ h.main rfl ⟨isc_ (h.list hL), x_size h hL ⟨fun _ => gfi_ h.main rfl (x_pmain h (Or.inr (Or.inr (Or.inr (Or.inr ⟨rfl, rfl⟩)))) fun M1 h1 _ => gfi_ h1.main rfl ?_), fun z => absurd (by rw [e, hN]; exact Int32.le_refl _) z⟩⟩
    show P (bU X 2 0 0 0 (X 2 0 0 0 + 1) 2 0 0 0) M1
    rw [bU_s]
    exact kk M1 h1
  | n + 1, c, q + 1, M, X, hc, hq, h, hI, hN, kk => by
    have hL : 3 < 4 + xN X 3 := by omega
    obtain ⟨e, -⟩ := hI.z hL
    have hc3 : c < xN X 3 := by omega
    have hlt : ¬ Int32.ofNat N ≤ Int32.ofNat c := fun z => absurd ((i_le (by omega) (by omega)).mp z) (by omega)
    have hv : vp_in (Int32.ofNat c) (xN X 3) := i_vp (by omega) hc3
    have ih : ∀ M', rX κ M' ad (fDrop c X) → wl_X1_nextYear_19 G P Xx q b M' κ.2.2.1 (Int32.ofNat c + 1) := fun M' hM' => by
      rw [i_s]
      have ho : ∀ f, f ≠ 34 → fDrop c X f = X f := fun f hf => fDrop_o c X hf
      refine x_ny19 hN40 n (c + 1) q M' (fDrop c X) (by omega) (by omega) hM' (xI_of hI fun f hf => ho f ?_) ?_ kk
      · simp only [List.mem_cons, List.not_mem_nil, or_false] at hf; omega
      · show nn (fDrop c X 28 0 0 0) = N
        rw [ho 28 (by decide)]
        exact hN
    unfold wl_X1_nextYear_19 wb_X1_nextYear_68
    refine gfa_ h.main rfl ⟨isc_ (h.list hL), x_size h hL ?_⟩
    rw [e, hN]
    refine ⟨fun z => absurd z hlt, fun _ => gfa_ h.main rfl ⟨isc_ (h.list hL), x_get h hI hL hv ?_⟩⟩
    rw [i_nn (by omega)]
    refine ⟨isc_ (h.at (xl24 hL hc3)), gfi_ (h.at (xl24 hL hc3)) rfl ⟨fun z => ih M ?_, fun z => gfa_ h.main rfl ⟨isc_ (h.list hL), x_get h hI hL hv ?_⟩⟩⟩
    · unfold fDrop; rw [if_neg z]; exact h
    · rw [i_nn (by omega)]
      refine ⟨isc_ (h.at (xl24 hL hc3)), x_pwst h hc3 fun M' hM' _ => ih M' ?_⟩
      unfold fDrop; rw [if_pos z]; exact hM'
theorem x0_nextYear (h : rX κ M ad X) (hI : xI X) (hY : bIn (X 2 0 0 0) 0 9 = true) {K : Int32 → mM → Prop} (hb : 30 ≤ b) (kk : ∀ M', rX κ M' ad (xs (bE (decide (X 2 0 0 0 = 9)) false false) X (bU (itN fDrop (xN X 3) X) 2 0 0 0 (itN fDrop (xN X 3) X 2 0 0 0 + 1))) → (bE (decide (X 2 0 0 0 = 9)) false false = 0 → xOut κ M' (itN fDrop (xN X 3) X 2 0 0 0 + 1).toInt64) → K (bE (decide (X 2 0 0 0 = 9)) false false) M') : wp_X0_nextYear G b K M κ.2.2.1 κ.2.2.2 := by
  have h40 : xN X 3 ≤ 40 := i_nle (bIn_t hI.1).1 (bIn_t hI.1).2
  have h9 : X 2 0 0 0 = 9 ↔ 9 ≤ X 2 0 0 0 := by
    obtain ⟨y0, y1⟩ := bIn_t hY
    constructor
    · intro z; rw [z]; exact Int32.le_refl _
    · intro z; exact Int32.le_antisymm y1 z
  unfold wp_X0_nextYear wp_X1_nextYear wb_X1_nextYear_14 wb_X0_nextYear_11
  refine ⟨h.isc, b, 0, rfl, gfi_ h.main rfl ⟨fun z => ⟨b, 0, rfl, x_cst (by omega) (fun w => absurd rfl w) fun _ q => ⟨rfl, ?_⟩⟩, fun z => ⟨b, 0, rfl, x_cst (by omega) (fun _ => ⟨_, x_ny19 h40 _ 0 _ M X (Nat.zero_add _) (Nat.lt_succ_self _) h hI rfl fun M1 h1 => ?_⟩) fun w => absurd w (by decide)⟩⟩⟩
  · rw [decide_eq_true (h9.mpr z)] at kk
    exact kk M h (fun w9 => by first | exact absurd (show (1 : Int32) = 0 from w9) (by decide) | exact absurd (show (2 : Int32) = 0 from w9) (by decide) | exact absurd (show (3 : Int32) = 0 from w9) (by decide))
  · have z : ¬ 9 ≤ X 2 0 0 0 := z
    rw [decide_eq_false (fun w => z (h9.mp w))] at kk
    rw [itF_it] at h1 ⊢
    exact x_out h1 fun M' h' ho => kk M' h' fun _ => ho
end B81
