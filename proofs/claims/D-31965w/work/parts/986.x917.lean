/-! THE CLASS's route: the text as a string, the goer's start, the route's end -/
section B986
variable {G : mG} {ic : Nat → Nat} {b : Nat} {M : mM}
theorem r_setLen {u q n cap : Nat} {ml : Int32} {f : Nat → Int32} {P : mM → Prop} (h : sB M u q n cap ml f) (kk : ∀ M', sB M' u q 0 cap (if n = 0 then ml else 1) f → (∀ a, a ≠ u → M' a = M a) → P M') : wp_J4_setLength G b P M u 0 := by
  obtain ⟨h1, h2, h3, h4, h5⟩ := id h
  have c70 : cap ≤ 70 := by unfold bCap at h4; omega
  have hne := h.ne
  unfold wp_J4_setLength wp_J3_setLength_J4 wp_J3_ensureCapacityInternal_J4 wb_J3_ensureCapacityInternal_J4_38 wb_J3_setLength_J4_76
  refine ⟨isc_ h1, b, 0, rfl, fun _ => ⟨isc_ h1, b, 0, rfl, gfa_ h1 rfl (aln_ h2 (by decide) (gfi_ h1 rfl ?_))⟩, fun z => absurd (Int32.le_refl _) z⟩
  intro g hg
  rw [sh0_r cap (by omega)] at hg
  have g0 : g ≤ 0 := by
    rw [hg]
    refine Int32.le_iff_toInt_le.mpr ?_
    rw [Int32.toInt_sub, Int32.toInt_ofNat_of_lt (by omega)]
    show ((0 : Int) - (cap : Int)).bmod (2 ^ 32) ≤ 0
    rw [Int.bmod_eq_of_le (by omega) (by omega)]
    omega
  have le0 : (0 : Int32) ≤ Int32.ofNat n := (i_le (a := 0) (by decide) (by omega)).mpr (Nat.zero_le _)
  refine ⟨fun _ => gfi_ h1 rfl ⟨fun _ => gfi_ h1 rfl ⟨fun z => ?_, fun z => ?_⟩, fun z => absurd le0 z⟩, fun z => absurd g0 z⟩
  · have n0 : n = 0 := by
      have := (i_le (c := 0) (by omega) (by decide)).mp z
      omega
    refine ⟨_, h1, Nat.le_of_ble_eq_true rfl, kk _ ⟨?_, by rw [mset_n (Ne.symm hne)]; exact h2, Nat.zero_le _, h4, h5⟩ fun a ha => mset_n ha⟩
    rw [mset_s, if_pos n0]
    rfl
  · have n0 : ¬ n = 0 := fun y => z (by rw [y]; decide)
    refine ⟨_, h1, Nat.le_of_ble_eq_true rfl, ⟨rfl, rfl⟩, ⟨_, mset_s _ _ _, Nat.le_of_ble_eq_true rfl, ?_⟩⟩
    rw [mset_mset]
    refine kk _ ⟨?_, by rw [mset_n (Ne.symm hne)]; exact h2, Nat.zero_le _, h4, h5⟩ fun a ha => mset_n ha
    rw [mset_s, if_neg n0]
    rfl
theorem r_toStr {u q n cap : Nat} {ml : Int32} {f : Nat → Int32} {P : Nat → mM → Prop} (h : sB M u q n cap ml f) (hb : 76 ≤ b) (kk : ∀ s sv M' g, kT s sv n g M' → (∀ i, i < n → g i = f i) → M s = none → (∀ a, M a ≠ none → M' a = M a) → P s M') : wp_J4_toString G b P M u := by
  obtain ⟨h1, h2, h3, h4, h5⟩ := id h
  have c70 : cap ≤ 70 := by unfold bCap at h4; omega
  unfold wp_J4_toString wp_J5_init wp_J5_init_2 wp_J3_getValue_J4 wp_J4_length wp_J3_length_J4 wp_J3_isLatin1_J4 wb_J3_isLatin1_J4_17 wb_J3_isLatin1_J4_18 wb_J5_init_2_97
  refine ⟨by omega, fun s hs => ?_⟩
  have fs := hs s (Nat.le_refl _)
  have us : u ≠ s := fun z => by rw [z, fs] at h1; cases h1
  have qs : q ≠ s := fun z => by rw [z, fs] at h2; cases h2
  have o1 : ∀ v a, a ≠ s → mset M s v a = M a := fun v a ha => mset_n ha
  have u1 : ∀ v, mset M s v u = _ := fun v => (o1 v u us).trans h1
  refine ⟨b - (4 + 1), 0, rfl, b - (4 + 1), 0, rfl, isc_ (u1 _), gfa_ (u1 _) rfl ⟨isc_ (u1 _), isc_ (u1 _), gfi_ (u1 _) rfl ⟨isc_ (u1 _), gfi_ (u1 _) rfl ⟨fun z => absurd rfl z, fun _ => ⟨rfl, fun z => absurd z (by decide), fun _ => ?_⟩⟩⟩⟩⟩
  refine ⟨_, mset_s _ _ _, Nat.le_of_ble_eq_true rfl, ⟨rfl, rfl⟩, b - (4 + 1), 0, rfl, ?_⟩
  rw [mset_mset]
  have q1 : ∀ v, mset M s v q = _ := fun v => (o1 v q qs).trans h2
  have fin : ∀ (sv : Nat) (g : Nat → Int32) (M2 : mM), M2 sv = some (true, .inl (3, n, mIs g)) → sv ≠ s → M2 s = some (true, .inr (18, List.set dfsJ5 1 (.int 0))) → (∀ i, i < n → g i = f i) → (∀ a, M a ≠ none → M2 a = M a) → pfq M2 s 18 0 (some sv) fun M13 => P s M13 := fun sv g M2 e1 e2 e3 e4 e5 => by
    refine ⟨_, e3, Nat.le_of_ble_eq_true rfl, kk s sv _ g ⟨?_, ?_⟩ e4 fs fun a ha => ?_⟩
    · rw [mset_s]; rfl
    · rw [mset_n e2]; exact e1
    · exact (mset_n fun z => ha (by rw [z]; exact fs)).trans (e5 a ha)
  unfold wp_J16_copyOfRange
  refine ⟨fun z => absurd rfl z, fun _ => aln_ (q1 _) (by decide) ⟨fun z => ?_, fun z => ?_⟩⟩
  · have nc : n = cap := i_eq (by omega) (by omega) z
    refine ⟨cap, f, q1 _, by omega, fun i _ => h5 i, fun sv hsv => ?_⟩
    have fsv := hsv sv (Nat.le_refl _)
    have ne : sv ≠ s := fun y => by rw [y, mset_s] at fsv; cases fsv
    refine ⟨⟨_, _, _, mset_s _ _ _⟩, fin sv f _ (by rw [mset_s, nc]) ne ?_ (fun _ _ => rfl) fun a ha => ?_⟩
    · rw [mset_n (Ne.symm ne), mset_s]
    · rw [mset_n ne] at fsv
      exact (mset_n fun y => ha (by rw [y]; exact fsv)).trans (mset_n fun y => ha (by rw [y]; exact fs))
  · have nc : n < cap := by
      rcases Nat.lt_or_ge n cap with y | y
      · exact y
      · exact absurd (by rw [show n = cap by omega]) z
    unfold wb_J16_copyOfRange_10 wp_J16_copyOfRangeByte wp_J16_checkLength
    refine ⟨b - (4 + 1), 0, rfl, fun _ => ?_, fun y => absurd ((i_le (a := 0) (by decide) (by omega)).mpr (Nat.zero_le _)) y⟩
    rw [show Int32.ofNat n - 0 = Int32.ofNat n from Int32.sub_zero _]
    have hn31 : (Int32.ofNat n).toNatClampNeg = n := i_nn (by omega)
    refine ⟨Int32.not_lt.mpr ((i_le (a := 0) (by decide) (by omega)).mpr (Nat.zero_le _)), by rw [hn31]; omega, by rw [hn31]; omega, fun sv hsv => ?_⟩
    rw [hn31]
    have fsv := hsv sv (Nat.le_refl _)
    have ne : sv ≠ s := fun y => by rw [y, mset_s] at fsv; cases fsv
    have fsv0 : M sv = none := by rw [← fsv, mset_n ne]
    have qsv : q ≠ sv := fun y => by rw [← y, h2] at fsv0; cases fsv0
    refine aln_ (by rw [mset_n qsv]; exact q1 _) (by decide) ?_
    intro g6 hg6
    have e6 : g6 = Int32.ofNat n := by
      rw [hg6, show Int32.ofNat cap - 0 = Int32.ofNat cap from Int32.sub_zero _, if_pos ((i_lt (by omega) (by omega)).mpr nc)]
    have n6 : g6.toNatClampNeg = n := by rw [e6]; exact i_nn (by omega)
    refine ⟨true, cap, n, f, fun _ => 0, by rw [mset_n qsv]; exact q1 _, mset_s _ _ _, by decide, by decide, by rw [e6]; exact Int32.not_lt.mpr ((i_le (a := 0) (by decide) (by omega)).mpr (Nat.zero_le _)), ?_, ?_, fun i _ => h5 _, ?_⟩
    · rw [n6]; show 0 + n ≤ cap; omega
    · rw [n6]; show 0 + n ≤ n; omega
    · rw [n6, mset_mset]
      refine fin sv (va_cpy f (fun _ => 0) (0 : Int32).toNatClampNeg (0 : Int32).toNatClampNeg n) _ (mset_s _ _ _) ne ?_ (fun i hi => ?_) fun a ha => ?_
      · rw [mset_n (Ne.symm ne), mset_s]
      · show va_cpy f (fun _ => 0) 0 0 n i = f i
        unfold va_cpy
        rw [if_pos ⟨Nat.zero_le _, by omega⟩, Nat.zero_add, Nat.sub_zero]
      · exact (mset_n fun y => ha (by rw [y]; exact fsv0)).trans (o1 _ a fun y => ha (by rw [y]; exact fs))
end B986
