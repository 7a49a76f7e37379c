/-! A StringBuilder, over plain memory -/
theorem sh0_l : ∀ c : Nat, c < 200 → Int32.ofNat c <<< ((0 : Int32) &&& 31) = Int32.ofNat c := by decide +kernel
theorem sh0_r : ∀ c : Nat, c < 200 → Int32.ofNat c >>> ((0 : Int32) &&& 31) = Int32.ofNat c := by decide +kernel
/-- the byte of a sign -/
def bt8 (x : Int32) : Int32 := vp_nar .byte x.toInt8.toInt32
theorem bt8_f : ∀ m : Nat, m < 256 → fits .byte (.int (bt8 (Int32.ofNat m))) = true := by decide +kernel
theorem bt8_r : ∀ m : Nat, m < 256 → ((bt8 (Int32.ofNat m) &&& 255).toUInt32 % 65536).toInt32 = Int32.ofNat m := by decide +kernel
theorem fit0 : fits .byte (.int 0) = true := by decide
def bCap (cap : Nat) : Prop := cap = 16 ∨ cap = 34 ∨ cap = 70
def sB (M : mM) (u q n cap : Nat) (ml : Int32) (f : Nat → Int32) : Prop :=
  M u = some (true, .inr (17, [.ref q, .int 0, .int ml, .int (Int32.ofNat n)])) ∧ M q = some (true, .inl (3, cap, mIs f)) ∧ n ≤ cap ∧ bCap cap ∧ ∀ i, fits .byte (.int (f i)) = true
section B94
variable {G : mG} {b : Nat} {M : mM}
theorem sB.ne {u q n cap : Nat} {ml : Int32} {f : Nat → Int32} (h : sB M u q n cap ml f) : u ≠ q := fun z => by
  have := h.1
  rw [z, h.2.1] at this
  cases this
theorem r_len {u q n cap : Nat} {ml : Int32} {f : Nat → Int32} {K : Int32 → mM → Prop} (h : sB M u q n cap ml f) (kk : K (Int32.ofNat n) M) : wp_J4_length G b K M u := by
  unfold wp_J4_length wp_J3_length_J4
  exact ⟨isc_ h.1, gfi_ h.1 rfl kk⟩
theorem r_ens {u q n cap k : Nat} {ml x : Int32} {f : Nat → Int32} {K : mM → Prop} (h : sB M u q n cap ml f) (hx : x = Int32.ofNat (n + k)) (hk : k ≤ 8) (h70 : n + k ≤ 70) (hb : 71 ≤ b) (kk : ∀ M' q' cap' f', sB M' u q' n cap' ml f' → n + k ≤ cap' → (∀ i, i < n → f' i = f i) → (q' = q ∨ M q' = none) → (∀ a, a ≠ u → a ≠ q' → M' a = M a) → K M') : wp_J3_ensureCapacityInternal_J4 G b K M u x := by
  subst hx
  obtain ⟨h1, h2, h3, h4, h5⟩ := id h
  have c70 : cap ≤ 70 := by unfold bCap at h4; omega
  have hqu := h.ne
  have fin : ∀ q' cap', M q' = none → bCap cap' → cap < cap' → n + k ≤ cap' → pfq (mset (mset M q' (.inl (3, cap', mIs fun _ => 0))) q' (.inl (3, cap', mIs (va_cpy f (fun _ => 0) 0 0 cap)))) u 17 0 (some q') fun M13 => wb_J3_ensureCapacityInternal_J4_38 G K 0 M13 := fun q' cap' hq' hc' hlt hn' => by
    have hu : u ≠ q' := fun z => by rw [← z, h1] at hq'; cases hq'
    unfold wb_J3_ensureCapacityInternal_J4_38
    rw [mset_mset]
    refine ⟨_, by rw [mset_n hu]; exact h1, Nat.le_of_ble_eq_true rfl, ?_⟩
    refine kk _ q' cap' (va_cpy f (fun _ => 0) 0 0 cap) ⟨mset_s _ _ _, by rw [mset_n (Ne.symm hu), mset_s], by omega, hc', fun i => ?_⟩ hn' (fun i hi => ?_) (Or.inr hq') fun a ha1 ha2 => by rw [mset_n ha1, mset_n ha2]
    · unfold va_cpy
      split
      · exact h5 _
      · exact fit0
    · unfold va_cpy
      rw [if_pos ⟨Nat.zero_le _, by omega⟩, Nat.zero_add, Nat.sub_zero]
  unfold wp_J3_ensureCapacityInternal_J4 wp_J3_newCapacity_J4
  refine gfa_ h1 rfl (aln_ h2 (by decide) (gfi_ h1 rfl ?_))
  intro g hg
  rw [sh0_r cap (by omega)] at hg
  refine ⟨fun z => ?_, fun z => ?_⟩
  · unfold wb_J3_ensureCapacityInternal_J4_38
    refine kk M q cap f h ?_ (fun _ _ => rfl) (Or.inl rfl) fun _ _ _ => rfl
    rcases Nat.lt_or_ge cap (n + k) with y | y
    · rw [hg, ← Int32.ofNat_sub (n + k) cap (by omega)] at z
      have := (i_le (c := 0) (by omega) (by decide)).mp z
      omega
    · exact y
  · have hlt : cap < n + k := by
      rcases Nat.lt_or_ge cap (n + k) with y | y
      · exact y
      · refine absurd ?_ z
        rw [hg]
        refine Int32.le_iff_toInt_le.mpr ?_
        rw [Int32.toInt_sub, Int32.toInt_ofNat_of_lt (by omega), Int32.toInt_ofNat_of_lt (by omega), Int.bmod_eq_of_le (by omega) (by omega)]
        show ((n + k : Nat) : Int) - (cap : Int) ≤ (0 : Int32).toInt
        have : (0 : Int32).toInt = 0 := rfl
        omega
    refine gfa_ h1 rfl ⟨isc_ h1, gfa_ h1 rfl (aln_ h2 (by decide) (gfi_ h1 rfl ?_))⟩
    intro g4 hg4
    refine gfi_ h1 rfl ?_
    intro g6 hg6
    rw [sh0_l (n + k) (by omega), ← Int32.ofNat_sub (n + k) cap (by omega)] at hg4
    have e6 : g6 = Int32.ofNat (cap + 2) := by
      rw [hg6]
      have : (2 : Int32) <<< ((0 : Int32) &&& 31) = Int32.ofNat 2 := rfl
      rw [this]
      exact (Int32.ofNat_add cap 2).symm
    unfold wp_J14_newLength
    intro g1 hg1
    have e1 : g1 = Int32.ofNat (cap + 2) := by
      rw [hg1, hg4, e6]
      have : ¬ Int32.ofNat (cap + 2) < Int32.ofNat (n + k - cap) := fun y => by
        have := (i_lt (by omega) (by omega)).mp y
        unfold bCap at h4
        omega
      by_cases y : Int32.ofNat (n + k - cap) < Int32.ofNat (cap + 2)
      · rw [if_pos y]
      · rw [if_neg y]
        exact Int32.le_antisymm (Int32.not_lt.mp this) (Int32.not_lt.mp y)
    have e2 : Int32.ofNat cap + g1 = Int32.ofNat (2 * cap + 2) := by
      rw [e1, ← Int32.ofNat_add]
      exact congrArg Int32.ofNat (by omega)
    rw [e2]
    have p0 : ¬ Int32.ofNat (2 * cap + 2) ≤ 0 := fun y => by
      have := (i_le (c := 0) (by omega) (by decide)).mp y
      omega
    have p1 : ¬ (2147483639 : Int32) < Int32.ofNat (2 * cap + 2) := fun y => by
      have := (i_lt (a := 2147483639) (by decide) (by omega)).mp y
      omega
    have p2 : ¬ Int32.ofNat (2 * cap + 2) = (2147483647 : Int32) := fun y => by
      have := i_eq (c := 2147483647) (by omega) (by decide) y
      omega
    refine ⟨fun y => absurd y p0, fun _ => ⟨fun y => absurd y p1, fun _ => ⟨fun _ => gfi_ h1 rfl ?_, fun y => absurd y p2⟩⟩⟩
    have hc48 : cap = 16 ∨ cap = 34 := by unfold bCap at h4; omega
    rw [sh0_r _ (by omega)]
    refine gfi_ h1 rfl ⟨b, 0, rfl, ?_⟩
    rw [sh0_l _ (by omega)]
    unfold wp_J16_copyOf_3
    refine aln_ h2 (by decide) ⟨fun _ => ?_, fun y => ?_⟩
    · have hn31 : (Int32.ofNat (2 * cap + 2)).toNatClampNeg = 2 * cap + 2 := i_nn (by omega)
      refine ⟨Int32.not_lt.mpr ((i_le (a := 0) (by decide) (by omega)).mpr (Nat.zero_le _)), by rw [hn31]; omega, by rw [hn31]; omega, fun q' hq' => ?_⟩
      rw [hn31]
      have fq := hq' q' (Nat.le_refl _)
      have hqq : q ≠ q' := fun z => by rw [← z, h2] at fq; cases fq
      have h2' : mset M q' (.inl (3, 2 * cap + 2, mIs fun _ => 0)) q = some (true, .inl (3, cap, mIs f)) := by rw [mset_n hqq]; exact h2
      refine aln_ h2' (by decide) ?_
      intro g7 hg7
      have e7 : g7 = Int32.ofNat cap := by
        rw [hg7]
        by_cases y : Int32.ofNat (2 * cap + 2) < Int32.ofNat cap
        · have := (i_lt (by omega) (by omega)).mp y
          omega
        · rw [if_neg y]
      have n7 : g7.toNatClampNeg = cap := by rw [e7]; exact i_nn (by omega)
      refine ⟨true, cap, 2 * cap + 2, f, fun _ => 0, h2', mset_s _ _ _, by decide, by decide, by rw [e7]; exact Int32.not_lt.mpr ((i_le (a := 0) (by decide) (by omega)).mpr (Nat.zero_le _)), ?_, ?_, fun i hi => h5 _, ?_⟩
      · rw [n7]; show 0 + cap ≤ cap; omega
      · rw [n7]; show 0 + cap ≤ 2 * cap + 2; omega
      · rw [n7]
        exact fin q' (2 * cap + 2) fq (by unfold bCap; omega) (by omega) (by omega)
    · have := i_eq (by omega) (by omega) y
      omega
theorem r_app1 {u q n cap m : Nat} {ml x : Int32} {f : Nat → Int32} {K : Nat → mM → Prop} (h : sB M u q n cap ml f) (hx : x = Int32.ofNat m) (hm : m < 256) (h70 : n + 1 ≤ 70) (hb : 71 ≤ b) (kk : ∀ M' q' cap' f', sB M' u q' (n + 1) cap' ml f' → (∀ i, i < n → f' i = f i) → f' n = bt8 x → (q' = q ∨ M q' = none) → (∀ a, a ≠ u → a ≠ q' → M' a = M a) → K u M') : wp_J4_append G b K M u x := by
  subst hx
  unfold wp_J4_append wp_J3_append_J4
  refine ⟨isc_ h.1, b, 0, rfl, gfi_ h.1 rfl ⟨isc_ h.1, b, 0, rfl, r_ens (k := 1) h (i_s n) (by omega) h70 hb fun M1 q1 cap1 f1 h1 hn1 hf1 hq1 hM1 => ?_⟩⟩
  obtain ⟨a1, a2, a3, a4, a5⟩ := id h1
  have c70 : cap1 ≤ 70 := by unfold bCap at a4; omega
  have hne := h1.ne
  unfold wp_J3_isLatin1_J4 wb_J3_isLatin1_J4_18 wb_J3_isLatin1_J4_17 wb_J3_isLatin1_J4_18 wp_J19_canEncode wb_J19_canEncode_12
  have c255 : ¬ (255 : Int32) < Int32.ofNat m := fun y => by
    have := (i_lt (a := 255) (by decide) (by omega)).mp y
    omega
  refine ⟨isc_ a1, gfi_ a1 rfl ⟨fun z => absurd rfl z, fun _ => ⟨rfl, fun z => absurd z (by decide), fun _ => ⟨fun z => absurd z c255, fun _ => ⟨rfl, fun z => absurd z (by decide), fun _ => gfa_ a1 rfl (gfi_ a1 rfl ⟨_, a1, Nat.le_of_ble_eq_true rfl, ?_⟩)⟩⟩⟩⟩⟩
  refine ⟨cap1, f1, by rw [mset_n (Ne.symm hne)]; exact a2, i_vp (by omega) (by omega), ?_⟩
  have en : (Int32.ofNat n).toNatClampNeg = n := i_nn (by omega)
  rw [en]
  refine kk _ q1 cap1 _ ⟨?_, mset_s _ _ _, by omega, a4, fun i => ?_⟩ (fun i hi => ?_) ?_ hq1 fun a ha1 ha2 => by rw [mset_n ha2, mset_n ha1, hM1 a ha1 ha2]
  · rw [mset_n hne, mset_s, ← i_s]
    rfl
  · unfold upd
    by_cases y : i = n
    · rw [if_pos y]; exact bt8_f m hm
    · rw [if_neg y]; exact a5 i
  · unfold upd
    rw [if_neg (by omega)]
    exact hf1 i hi
  · unfold upd
    rw [if_pos rfl]
    rfl
theorem r_app2 {u q n cap v q0 k cap0 : Nat} {ml : Int32} {f f0 : Nat → Int32} {K : Nat → mM → Prop} (h : sB M u q n cap ml f) (h0 : sB M v q0 k cap0 0 f0) (huv : u ≠ v) (hqq : q ≠ q0) (hml : ml = 0 ∨ ml = 1) (hk : k ≤ 8) (h70 : n + k ≤ 70) (hb : 71 ≤ b) (kk : ∀ M' q' cap' f', sB M' u q' (n + k) cap' ml f' → (∀ i, i < n → f' i = f i) → (∀ i, i < k → f' (n + i) = f0 i) → (q' = q ∨ M q' = none) → (∀ a, a ≠ u → a ≠ q' → M' a = M a) → K u M') : wp_J4_append_2 G b K M u v := by
  obtain ⟨d1, d2, d3, d4, d5⟩ := id h0
  unfold wp_J4_append_2 wp_J3_append_2_J4 wp_J3_append_4_J4
  refine ⟨isc_ h.1, b, 0, rfl, isc_ d1, isc_ d1, isc_ d1, isc_ h.1, b, 0, rfl, isc_ d1, r_len h0 (gfi_ h.1 rfl ⟨isc_ h.1, b, 0, rfl, r_ens (k := k) h (Int32.ofNat_add n k).symm hk h70 hb fun M1 q1 cap1 f1 h1 hn1 hf1 hq1 hM1 => ?_⟩)⟩
  obtain ⟨a1, a2, a3, a4, a5⟩ := id h1
  have c70 : cap1 ≤ 70 := by unfold bCap at a4; omega
  have hne := h1.ne
  have hvu : v ≠ u := Ne.symm huv
  have hvq : v ≠ q1 := fun z => by
    rcases hq1 with y | y
    · rw [z, y, h.2.1] at d1; cases d1
    · rw [← z, d1] at y; cases y
  have hqu : q0 ≠ u := fun z => by rw [z, h.1] at d2; cases d2
  have hq01 : q0 ≠ q1 := fun z => by
    rcases hq1 with y | y
    · exact hqq (y.symm.trans z.symm)
    · rw [← z, d2] at y; cases y
  have b1 : M1 v = some (true, .inr (17, [.ref q0, .int 0, .int 0, .int (Int32.ofNat k)])) := by rw [hM1 v hvu hvq]; exact d1
  have b2 : M1 q0 = some (true, .inl (3, cap0, mIs f0)) := by rw [hM1 q0 hqu hq01]; exact d2
  unfold wp_J3_inflateIfNeededFor_2_J4 wb_J3_inflateIfNeededFor_2_J4_21 wp_J3_getCoder_J4 wb_J3_getCoder_J4_14 wp_J3_getBytes_J4 wb_J3_getBytes_J4_43
  refine ⟨isc_ a1, gfi_ a1 rfl ⟨isc_ b1, gfi_ b1 rfl ⟨rfl, fun _ => gfa_ a1 rfl (gfi_ a1 rfl (gfi_ a1 rfl ⟨isc_ b1, gfi_ b1 rfl ⟨fun z => absurd rfl z, fun _ => gfa_ b1 rfl (gfi_ b1 rfl ?_)⟩⟩)), fun z => absurd rfl z⟩⟩⟩
  have ek : (Int32.ofNat k).toNatClampNeg = k := i_nn (by omega)
  have en : (Int32.ofNat n).toNatClampNeg = n := i_nn (by omega)
  rw [sh0_l n (by omega), sh0_l k (by omega)]
  refine ⟨true, cap0, cap1, f0, f1, b2, a2, by decide, Int32.not_lt.mpr ((i_le (a := 0) (by decide) (by omega)).mpr (Nat.zero_le _)), Int32.not_lt.mpr ((i_le (a := 0) (by decide) (by omega)).mpr (Nat.zero_le _)), ?_, ?_, fun i _ => d5 _, ?_⟩
  · rw [ek]; show 0 + k ≤ cap0; omega
  · rw [ek, en]; exact hn1
  rw [ek, en]
  have u2 : mset M1 q1 (.inl (3, cap1, mIs (va_cpy f0 f1 (0 : Int32).toNatClampNeg n k))) u = some (true, .inr (17, [.ref q1, .int 0, .int ml, .int (Int32.ofNat n)])) := by rw [mset_n hne]; exact a1
  have eo : ml ||| 0 = ml := Int32.or_zero
  refine gfi_ u2 rfl ⟨_, u2, Nat.le_of_ble_eq_true rfl, gfi_ (mset_s _ _ _) rfl (gfi_ (by rw [mset_n hvu, mset_n hvq]; exact b1) rfl ⟨_, mset_s _ _ _, Nat.le_of_ble_eq_true rfl, ?_, ?_⟩)⟩
  · rw [eo]
    rcases hml with rfl | rfl <;> exact ⟨rfl, rfl⟩
  · rw [mset_mset, eo]
    refine kk _ q1 cap1 (va_cpy f0 f1 0 n k) ⟨?_, ?_, by omega, a4, fun i => ?_⟩ (fun i hi => ?_) (fun i hi => ?_) hq1 fun a ha1 ha2 => by rw [mset_n ha1, mset_n ha2, hM1 a ha1 ha2]
    · rw [mset_s, Int32.ofNat_add]
      rfl
    · rw [mset_n (Ne.symm hne), mset_s]
      rfl
    · unfold va_cpy
      split
      · exact d5 _
      · exact a5 _
    · unfold va_cpy
      rw [if_neg (by omega)]
      exact hf1 i hi
    · unfold va_cpy
      rw [if_pos (by omega), Nat.zero_add]
      exact congrArg f0 (by omega)
theorem r_new {K : mM → Prop} {u : Nat} (hu : M u = some (true, .inr (17, dfsJ4))) (hb : 17 ≤ b) (kk : ∀ q M', M q = none → sB M' u q 0 16 0 (fun _ => 0) → (∀ a, a ≠ u → a ≠ q → M' a = M a) → K M') : wp_J4_init G b K M u := by
  unfold wp_J4_init wp_J3_init_J4
  refine ⟨b, 0, rfl, by decide, by decide, by show 16 + 1 ≤ b; omega, fun q hq => ?_⟩
  have fq := hq q (Nat.le_refl _)
  have hqu : u ≠ q := fun z => by rw [← z, hu] at fq; cases fq
  refine ⟨_, by rw [mset_n hqu]; exact hu, Nat.le_of_ble_eq_true rfl, ⟨_, mset_s _ _ _, Nat.le_of_ble_eq_true rfl, ⟨rfl, rfl⟩, ?_⟩⟩
  rw [mset_mset]
  refine kk q _ fq ⟨?_, ?_, Nat.zero_le _, Or.inl rfl, fun _ => fit0⟩ fun a ha1 ha2 => by rw [mset_n ha1, mset_n ha2]
  · rw [mset_s]; rfl
  · rw [mset_n (Ne.symm hqu), mset_s]; rfl
end B94
