/-! THE CLASS's note -/
def xNt (X : bS) (w : Nat) (p c k m : Int32) : bS :=
  bU (bU (bU (bU (bU X 64 w (nn (X 35 w 0 0)) 0 p) 65 w (nn (X 35 w 0 0)) 0 c) 66 w (nn (X 35 w 0 0)) 0 k) 67 w (nn (X 35 w 0 0)) 0 m) 35 w 0 0 (X 35 w 0 0 + 1)
def xNote (X : bS) (w : Nat) (p c k m : Int32) : bS := bU (xNt X w p c k m) 29 0 0 0 (X 29 0 0 0 + 1)
theorem xNt_f {X : bS} {w : Nat} {p c k m : Int32} {f : Nat} (hf : f ∉ [35, 64, 65, 66, 67]) : xNt X w p c k m f = X f := by
  simp only [List.mem_cons, List.not_mem_nil, or_false] at hf
  unfold xNt
  rw [bU_ff (by omega), bU_ff (by omega), bU_ff (by omega), bU_ff (by omega), bU_ff (by omega)]
theorem xNt_i {X : bS} {w : Nat} {p c k m : Int32} {f i j : Nat} (hf : f ∈ [64, 65, 66, 67]) (hj : ¬ (i = w ∧ j = nn (X 35 w 0 0))) : xNt X w p c k m f i j 0 = X f i j 0 := by
  simp only [List.mem_cons, List.not_mem_nil, or_false] at hf
  have e : ∀ (Y : bS) (g : Nat) (v : Int32), bU Y g w (nn (X 35 w 0 0)) 0 v f i j 0 = Y f i j 0 := fun Y g v => if_neg fun z => hj ⟨z.2.1, z.2.2.1⟩
  unfold xNt
  rw [bU_f (by omega), e, e, e, e]
section B93
variable {G : mG} {b : Nat} {κ : xK} {M : mM} {ad : xA} {X : bS}
theorem x_pushN (h : rX κ M ad X) (hI : xI X) (hG : κ.2.1 = G.2.2 0) (hC : κ.1 (G.2.2 0) = some (false, .inl (5, 0, mRs fun _ => none))) {w : Nat} (hw : w < xN X 3) (h200 : xN X (4 + w) < 200) {p c k m : Int32} {u : Nat} (hu : M u = some (true, .inr (15, [.int p, .int c, .int k, .int m]))) (ou : xO κ ad X u) (hb : 310 ≤ b) {K : Int32 → mM → Prop} (kk : ∀ M' ad' X', rX κ M' ad' X' → xI X' → xE (xNt X w p c k m) X' → (∀ t i j, xL X t i j → t ≠ 23 → ad' t i j = ad t i j) → K 1 M') : wp_J2_add G b K M (ad 22 (4 + w) 0) u := by
  have hL : 4 + w < 4 + xN X 3 := by omega
  obtain ⟨e0, e2⟩ := hI.z hL
  have zw : ∀ Y : bS, xZ Y (4 + w) = Y 35 w 0 0 := fun Y => by
    unfold xZ
    rw [if_neg (by omega), if_neg (by omega), if_neg (by omega), if_neg (by omega), Nat.add_sub_cancel_left]
  have hnw : xN X (4 + w) = nn (X 35 w 0 0) := by unfold xN; rw [zw]
  have hz : xZ (xNt X w p c k m) (4 + w) = Int32.ofNat (xN X (4 + w) + 1) := by
    rw [← i_s, ← e0, zw, zw]
    unfold xNt
    rw [bU_s]
  have hZi : ∀ i, i ≠ 4 + w → xZ (xNt X w p c k m) i = xZ X i := fun i hi => by
    unfold xZ
    rw [xNt_f (f := 13) (by decide), xNt_f (f := 24) (by decide), xNt_f (f := 27) (by decide), xNt_f (f := 28) (by decide)]
    by_cases z0 : i = 0
    · rw [if_pos z0, if_pos z0]
    rw [if_neg z0, if_neg z0]
    by_cases z1 : i = 1
    · rw [if_pos z1, if_pos z1]
    rw [if_neg z1, if_neg z1]
    by_cases z2 : i = 2
    · rw [if_pos z2, if_pos z2]
    rw [if_neg z2, if_neg z2]
    by_cases z3 : i = 3
    · rw [if_pos z3, if_pos z3]
    rw [if_neg z3, if_neg z3]
    unfold xNt
    rw [bU_i (by omega), bU_f (by decide), bU_f (by decide), bU_f (by decide), bU_f (by decide)]
  have hNw : xN (xNt X w p c k m) (4 + w) = xN X (4 + w) + 1 := by
    show nn (xZ (xNt X w p c k m) (4 + w)) = _
    rw [hz]; exact i_nn (by omega)
  have hNi : ∀ i, i ≠ 4 + w → xN (xNt X w p c k m) i = xN X i := fun i hi => by
    show nn (xZ (xNt X w p c k m) i) = nn (xZ X i)
    rw [hZi i hi]
  have e69 : xNt X w p c k m 69 = X 69 := xNt_f (by decide)
  have e68 : xNt X w p c k m 68 = X 68 := xNt_f (by decide)
  let ad1 : xA := fun t i j => if t = 24 ∧ i = 4 + w ∧ j = xN X (4 + w) then u else ad t i j
  have ar : ∀ t', t' ≠ 24 → ad1 t' = ad t' := fun t' h2 => by
    funext i j
    exact if_neg fun z => h2 z.1
  have ao : ∀ t i j, xL X t i j → ad1 t i j = ad t i j := fun t i j hl => by
    refine if_neg ?_
    rintro ⟨rfl, rfl, rfl⟩
    rcases hl with z | z | z | z | z | z | z | z | z | z <;> first | omega | (have z := z.1; simp at z)
  have au : ad1 24 (4 + w) (xN X (4 + w)) = u := if_pos ⟨rfl, rfl, rfl⟩
  refine x_push h hI hG hC hL h200 (X1 := xNt X w p c k m) (ad1 := ad1) (fun t i j => t = 24 ∧ i = 4 + w ∧ j = xN X (4 + w)) hb (fun t i j hl => ?_) (fun t i j hl => ⟨ao t i j hl, fun h22 h23 => ?_⟩) (fun t i j hN => ?_) (fun t i j t' i' j' hN hN' he => ?_) hz ⟨?_, fun i hi hi2 => ?_⟩ au ⟨true, 15, _, hu⟩ kk
  · unfold xL at hl ⊢
    rw [hNi 3 (by omega), hNi 1 (by omega), hNi 2 (by omega), e69] at hl
    rcases hl with z | z | z | z | z | z | z | z | z | z
    · exact Or.inl (Or.inl z)
    · exact Or.inl (Or.inr (Or.inl z))
    · exact Or.inl (Or.inr (Or.inr (Or.inl z)))
    · exact Or.inl (Or.inr (Or.inr (Or.inr (Or.inl z))))
    · exact Or.inl (Or.inr (Or.inr (Or.inr (Or.inr (Or.inl z)))))
    · by_cases y : i = 4 + w
      · subst y
        rw [hNw] at z
        by_cases v : j = xN X (4 + w)
        · exact Or.inr ⟨z.1, rfl, v⟩
        · exact Or.inl (Or.inr (Or.inr (Or.inr (Or.inr (Or.inr (Or.inl ⟨z.1, z.2.1, by omega⟩))))))
      · rw [hNi i y] at z
        exact Or.inl (Or.inr (Or.inr (Or.inr (Or.inr (Or.inr (Or.inl z))))))
    · exact Or.inl (Or.inr (Or.inr (Or.inr (Or.inr (Or.inr (Or.inr (Or.inl z)))))))
    · exact Or.inl (Or.inr (Or.inr (Or.inr (Or.inr (Or.inr (Or.inr (Or.inr (Or.inl z))))))))
    · exact Or.inl (Or.inr (Or.inr (Or.inr (Or.inr (Or.inr (Or.inr (Or.inr (Or.inr (Or.inl z)))))))))
    · exact Or.inl (Or.inr (Or.inr (Or.inr (Or.inr (Or.inr (Or.inr (Or.inr (Or.inr (Or.inr z)))))))))
  · have j24 : t = 24 → j < xN X i := fun y => by
      rcases hl with w | w | w | w | w | w | w | w | w | w <;> first | exact w.2.2 | omega | (have w := w.1; simp at w; omega)
    refine xC_g hl ao (fun t' ht => ar t' (by simp only [List.mem_cons, List.not_mem_nil, or_false] at ht; omega)) (fun _ p => by rw [ar 27 (by decide)]) (fun f hf => xNt_f (by simp only [List.mem_cons, List.not_mem_nil, or_false] at hf ⊢; omega)) (fun z => ?_) (fun z => ?_) (fun z => ⟨fun _ f hf => ?_, fun y f hf => ?_, fun y f hf => ?_⟩) (fun z => ?_) fun z c => ?_
    · exact ⟨by rw [e68], by rw [e69], hZi i fun y => h22 ⟨z, y⟩⟩
    · exact ⟨by rw [e69], hZi i fun y => h23 ⟨z, y⟩⟩
    · rw [xNt_f (by simp only [List.mem_cons, List.not_mem_nil, or_false] at hf ⊢; omega)]
    · rw [xNt_f (by simp only [List.mem_cons, List.not_mem_nil, or_false] at hf ⊢; omega)]
    · have hj := j24 z
      refine xNt_i hf fun v => ?_
      have hi : i = 4 + w := by omega
      rw [hi, hnw, ← v.2] at hj
      exact absurd hj (Nat.lt_irrefl _)
    · rw [xNt_f (by decide), xNt_f (f := 26) (by decide)]
      exact ⟨rfl, fun _ => rfl⟩
    · rw [xNt_f (by decide)]
  · obtain ⟨rfl, rfl, rfl⟩ := hN
    rw [au]
    refine ⟨ou, ?_, by decide, fun z => absurd z.1 (by decide)⟩
    rw [hu]
    have e : xC κ.2.1 ad1 (xNt X w p c k m) 24 (4 + w) (xN X (4 + w)) = .inr (15, [.int (xNt X w p c k m 64 w (xN X (4 + w)) 0), .int (xNt X w p c k m 65 w (xN X (4 + w)) 0), .int (xNt X w p c k m 66 w (xN X (4 + w)) 0), .int (xNt X w p c k m 67 w (xN X (4 + w)) 0)]) := by
      show xEl ad1 (xNt X w p c k m) (4 + w) (xN X (4 + w)) = _
      unfold xEl
      rw [if_neg (by omega), if_neg (by omega), if_neg (by omega), if_neg (by omega), Nat.add_sub_cancel_left]
    rw [e, hnw]
    unfold xNt
    rw [bU_f (f' := 64) (by decide), bU_f (f' := 64) (by decide), bU_f (f' := 64) (by decide), bU_f (f' := 64) (by decide), bU_s, bU_f (f' := 65) (by decide), bU_f (f' := 65) (by decide), bU_f (f' := 65) (by decide), bU_s, bU_f (f' := 66) (by decide), bU_f (f' := 66) (by decide), bU_s, bU_f (f' := 67) (by decide), bU_s]
  · obtain ⟨rfl, rfl, rfl⟩ := hN
    obtain ⟨rfl, rfl, rfl⟩ := hN'
    exact ⟨rfl, rfl, rfl⟩
  · rw [xNt_f (by decide)]; exact hI.1
  · rw [hNi 3 (by omega)] at hi
    rw [hZi i hi2, hNi i hi2, e69]
    exact hI.2 i hi
theorem x0_note (h : rX κ M ad X) (hI : xI X) (hG : κ.2.1 = G.2.2 0) (hC : κ.1 (G.2.2 0) = some (false, .inl (5, 0, mRs fun _ => none))) (h29 : bIn (X 29 0 0 0) 0 200 = true) (hJ : ∀ w, w < xN X 3 → vp_in (X 31 w 0 0) (xN X 1) ∧ bIn (X 23 (nn (X 31 w 0 0)) 0 0) 0 31 = true ∧ xN X (4 + w) ≤ nn (X 29 0 0 0)) {w p c k m : Int32} {K : Int32 → mM → Prop} (hb : 400 ≤ b) (kk : ∀ M' ad' X', rX κ M' ad' X' → xI X' → xE (xs (eNote X w p c k m) X (xNote X (nn w) p c k m)) X' → (eNote X w p c k m = 0 → xOut κ M' (X 35 (nn w) 0 0 + 1).toInt64) → K (eNote X w p c k m) M') : wp_X0_note G b K M κ.2.2.1 w p c k m κ.2.2.2 := by
  have hL3 : 3 < 4 + xN X 3 := by omega
  have hL1 : 1 < 4 + xN X 3 := by omega
  have nok : ∀ e, eNote X w p c k m = e → ¬ e = 0 → K e M := fun e he hne => by
    subst he
    exact kk M ad X h hI (fun g _ _ => by rw [xs1 hne]) fun z => absurd z hne
  have n1 : eNote1 X w p c k = true → eNote X w p c k m = 1 := fun z => by unfold eNote; rw [z]; rfl
  unfold wp_X0_note wp_X1_note wb_X1_note_79 wb_X1_note_104 wb_X1_note_105 wb_X0_note_19 wb_X0_note_23 wb_X0_note_27
  refine ⟨h.isc, b, 0, rfl, gfa_ h.main rfl ⟨7, b - 7, by omega, x_at h hI hL3 (by omega) (fun z1 => ?_) fun z1 q => Or.inr (Or.inr ⟨rfl, nok 1 (n1 ?_) (by decide)⟩)⟩⟩
  · change bIn w 0 (X 28 0 0 0 - 1) = true at z1
    have hr := (b_inN (n := 200) z1 (hI.2 3 hL3).1 (by decide)).2
    change nn w < xN X 3 at hr
    obtain ⟨v31, h23, hS⟩ := hJ (nn w) hr
    have ha := h.at (xl24 hL3 hr)
    have r1 := bLn v31
    have er := h.at (xl24 hL1 r1)
    have e23 : Int32.ofNat (nn (X 23 (nn (X 31 (nn w) 0 0)) 0 0)) = X 23 (nn (X 31 (nn w) 0 0)) 0 0 := (i_of (bIn_t h23).1).symm
    refine ⟨isc_ ha, gfa_ h.main rfl (gfi_ ha rfl ⟨isc_ (h.list hL1), x_get h hI hL1 v31 ⟨isc_ er, gfa_ er rfl (aln_ (h.at (xl25 r1)) (by decide) ?_)⟩⟩)⟩
    rw [e23]
    refine ⟨7, b - 7 - 7, by omega, x_cix (bIn_t h23).1 rfl (by omega) (fun z2 => ⟨7, b - 7 - 7 - 7, by omega, x_cix (m := 35) (by decide) (by decide) (by omega) (fun z3 => ⟨7, b - 7 - 7 - 7 - 7, by omega, x_cix (m := 3) (by decide) (by decide) (by omega) (fun z4 => ⟨7, b - 7 - 7 - 7 - 7 - 7, by omega, x_crg (by omega) (fun z5 => ?_) fun z5 q => Or.inl ⟨rfl, nok 2 ?_ (by decide)⟩⟩) fun z4 q => Or.inr (Or.inr ⟨rfl, nok 1 (n1 ?_) (by decide)⟩)⟩) fun z3 q => Or.inr (Or.inr ⟨rfl, nok 1 (n1 ?_) (by decide)⟩)⟩) fun z2 q => Or.inr (Or.inr ⟨rfl, nok 1 (n1 ?_) (by decide)⟩)⟩
    · have n0 : eNote1 X w p c k = false := by
        unfold eNote1 eWalk rw_
        rw [z1, z2, z3, z4]
        rfl
      have hp : vp_in p (nn (X 23 (nn (X 31 (nn w) 0 0)) 0 0)) := by
        obtain ⟨-, y⟩ := b_inN (n := 31) z2 h23 (by decide)
        rintro (v | v)
        · exact absurd v (Int32.not_lt.mpr (bIn_t z2).1)
        · exact absurd y (Nat.not_lt.mpr v)
      have eN : eNote X w p c k m = bE false (!bIn m 1 50 || !decide (dist (X 26 (rw_ X w) (nn p) 0) c ≤ 3)) (!decide (X 34 (nn w) 0 0 = 0) || decide (X 29 0 0 0 = 200)) := by
        unfold eNote
        rw [n0]
      refine ldi_ (h.at (xl25 r1)) hp (x_dist ?_)
      have eD : dist (X 26 (nn (X 31 (nn w) 0 0)) p.toNatClampNeg 0) c = dist (X 26 (rw_ X w) (nn p) 0) c := rfl
      rw [eD]
      refine ⟨fun z6 => ⟨b - 7 - 7 - 7 - 7 - 7, 0, rfl, x_carg (by omega) (fun v => absurd rfl v) fun _ q => Or.inl ⟨rfl, nok 2 ?_ (by decide)⟩⟩, fun z6 => ⟨7, b - 7 - 7 - 7 - 7 - 7 - 7, by omega, x_carg (by omega) (fun _ => ?_) fun v => absurd v (by decide)⟩⟩
      · rw [eN, z5, decide_eq_false (Int32.not_le.mpr z6)]; rfl
      · have eN2 : eNote X w p c k m = bE false false (!decide (X 34 (nn w) 0 0 = 0) || decide (X 29 0 0 0 = 200)) := by
          rw [eN, z5, decide_eq_true (Int32.not_lt.mp z6)]; rfl
        refine gfi_ ha rfl ⟨fun z7 => ⟨b - 7 - 7 - 7 - 7 - 7 - 7, 0, rfl, x_cst (by omega) (fun v => absurd rfl v) fun _ q => Or.inr (Or.inl ⟨rfl, nok 3 ?_ (by decide)⟩)⟩, fun z7 => gfi_ h.main rfl ⟨fun z8 => ⟨b - 7 - 7 - 7 - 7 - 7 - 7, 0, rfl, x_cst (by omega) (fun v => absurd rfl v) fun _ q => Or.inr (Or.inl ⟨rfl, nok 3 ?_ (by decide)⟩)⟩, fun z8 => ⟨7, b - 7 - 7 - 7 - 7 - 7 - 7 - 7, by omega, x_cst (by omega) (fun _ => ?_) fun v => absurd v (by decide)⟩⟩⟩
        · rw [eN2, decide_eq_false z7]; rfl
        · have z9 : X 29 0 0 0 = 200 := Int32.le_antisymm (bIn_t h29).2 z8
          rw [eN2, decide_eq_true z9, Bool.or_true]; rfl
        · have z9 : ¬ X 29 0 0 0 = 200 := fun y => z8 (by rw [y]; decide)
          have eZ : eNote X w p c k m = 0 := by
            rw [eN2, decide_eq_true z7, decide_eq_false z9]; rfl
          rw [eZ] at kk
          have hlt : nn (X 29 0 0 0) < 200 := by
            have h9 : nn (X 29 0 0 0) ≤ 200 := i_nle (bIn_t h29).1 (bIn_t h29).2
            have h8 : ¬ nn (X 29 0 0 0) = 200 := fun y => z9 (by rw [i_of (bIn_t h29).1, y]; rfl)
            omega
          have hL4 : 4 + nn w < 4 + xN X 3 := by omega
          refine gfa_ ha rfl ⟨by omega, fun u hu => ?_⟩
          have fu := hu u (Nat.le_refl _)
          have hxu := h.fresh fu
          unfold wp_X18_init wp_J25_init_X18
          refine ⟨_, mset_s _ _ _, Nat.le_of_ble_eq_true rfl, ?_⟩
          rw [mset_mset]
          refine ⟨_, mset_s _ _ _, Nat.le_of_ble_eq_true rfl, ?_⟩
          rw [mset_mset]
          refine ⟨_, mset_s _ _ _, Nat.le_of_ble_eq_true rfl, ?_⟩
          rw [mset_mset]
          refine ⟨_, mset_s _ _ _, Nat.le_of_ble_eq_true rfl, ?_⟩
          rw [mset_mset]
          have h1 := h.oth hxu (.inr (15, [.int p, .int c, .int k, .int m]))
          refine ⟨isc_ (h1.list hL4), 310, b - 7 - 7 - 7 - 7 - 7 - 7 - 7 - 5 - 310, by omega, x_pushN h1 hI hG hC hr (by omega) (mset_s _ _ _) hxu (Nat.le_refl _) fun M3 ad3 X3 h3 hI3 hE3 hA3 => ?_⟩
          have e29 : X3 29 0 0 0 = X 29 0 0 0 := by
            rw [hE3 29 (by decide) (by decide), xNt_f (by decide)]
          refine gfi_ h3.main rfl (x_pmain h3 (Or.inr (Or.inr (Or.inl ⟨rfl, rfl⟩))) fun M4 h4 _ => ?_)
          rw [e29] at h4
          have hN3 : xN X3 3 = xN X 3 := by
            show nn (X3 28 0 0 0) = nn (X 28 0 0 0)
            rw [hE3 28 (by decide) (by decide), xNt_f (by decide)]
          have hN4 : xN (bU X3 29 0 0 0 (X 29 0 0 0 + 1)) 3 = xN X 3 := by
            show nn (bU X3 29 0 0 0 (X 29 0 0 0 + 1) 28 0 0 0) = _
            rw [bU_f (by decide)]
            exact hN3
          have ha4 := h4.at (xl24 (c := 3) (j := nn w) (by omega) (by rw [hN4]; exact hr))
          rw [hA3 24 3 (nn w) (xl24 hL3 hr) (by decide)] at ha4
          have hL5 : 4 + nn w < 4 + xN (bU X3 29 0 0 0 (X 29 0 0 0 + 1)) 3 := by omega
          refine gfa_ ha4 rfl ⟨isc_ (h4.list hL5), x_size h4 hL5 ?_⟩
          have e35 : xZ (bU X3 29 0 0 0 (X 29 0 0 0 + 1)) (4 + nn w) = X 35 (nn w) 0 0 + 1 := by
            unfold xZ
            rw [if_neg (by omega), if_neg (by omega), if_neg (by omega), if_neg (by omega), Nat.add_sub_cancel_left, bU_f (by decide), hE3 35 (by decide) (by decide)]
            unfold xNt
            rw [bU_s]
          rw [e35]
          refine x_out h4 fun M' h' ho => kk M' ad3 _ h' (xI_U hI3 (by decide)) (fun g g1 g2 => ?_) fun _ => ho
          show bU X3 29 0 0 0 (X 29 0 0 0 + 1) g = bU (xNt X (nn w) p c k m) 29 0 0 0 (X 29 0 0 0 + 1) g
          by_cases y : g = 29
          · subst y
            funext i j l
            unfold bU
            rw [hE3 29 (by decide) (by decide)]
          · rw [bU_ff y, bU_ff y]
            exact hE3 g g1 g2
    · unfold eNote eNote1 eWalk rw_
      rw [z1, z2, z3, z4, z5]
      rfl
    · unfold eNote1 eWalk
      rw [z1, z3, z4]
      rfl
    · unfold eNote1 eWalk
      rw [z1, z3]
      rfl
    · unfold eNote1 eWalk rw_
      rw [z2]
      simp
  · change bIn w 0 (X 28 0 0 0 - 1) = false at z1
    unfold eNote1 eWalk
    rw [z1]
    rfl
end B93
