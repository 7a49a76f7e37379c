/-! AN ArrayList's add, over plain memory -/
def grw (c : Nat) : Nat := c + (if c / 2 < 1 then 1 else c / 2)
theorem grw_ok : ∀ c : Nat, c < 201 → 0 < c → (Int32.ofNat c + (if (Int32.ofNat c + 1 - Int32.ofNat c) < (Int32.ofNat c >>> ((1 : Int32) &&& 31)) then (Int32.ofNat c >>> ((1 : Int32) &&& 31)) else (Int32.ofNat c + 1 - Int32.ofNat c) : Int32) = Int32.ofNat (grw c)) ∧ (0 : Int32) < Int32.ofNat c := by decide +kernel
theorem grw_b {c : Nat} (h : c < 201) (h0 : 0 < c) : c < grw c ∧ grw c ≤ 300 := by
  unfold grw
  split <;> omega
section B72
variable {G : mG} {b : Nat} {M : mM}
theorem r_copyOf {a n k : Nat} {w : Bool} {f : Nat → Option Nat} {x : Int32} {K : Nat → mM → Prop} (ha : M a = some (w, .inl (5, n, mRs f))) (hx : x = Int32.ofNat k) (hk : n ≤ k ∧ k ≤ 400) (hi : ∀ i, i < n → ∀ y, f i = some y → iso M y) (hb : k + 1 ≤ b) (kk : ∀ q M', M q = none → M' q = some (true, .inl (5, k, mRs fun j => if j < n then f j else none)) → (∀ c, c ≠ q → M' c = M c) → K q M') : wp_J16_copyOf G b K M a x := by
  subst hx
  have hn31 : nn (Int32.ofNat k) = k := i_nn (by omega)
  have h0 : ¬ Int32.ofNat k < 0 := Int32.not_lt.mpr ((i_le (a := 0) (by decide) (by omega)).mpr (Nat.zero_le _))
  unfold wp_J16_copyOf wp_J16_copyOf_2
  refine ⟨⟨w, n, _, ha⟩, b, 0, rfl, fun z => absurd rfl z, fun _ => ⟨h0, by rw [show (Int32.ofNat k).toNatClampNeg = k from hn31]; omega, by rw [show (Int32.ofNat k).toNatClampNeg = k from hn31]; exact hb, fun q hq => ?_⟩⟩
  rw [show (Int32.ofNat k).toNatClampNeg = k from hn31]
  have hfr := hq q (Nat.le_refl _)
  have hne : a ≠ q := fun z => by rw [z, hfr] at ha; cases ha
  refine aln_ (by rw [mset_n hne]; exact ha) (by decide) fun g hg => ?_
  have hg2 : g = Int32.ofNat n := by
    rw [hg]
    by_cases z : Int32.ofNat k < Int32.ofNat n
    · have := (i_lt (by omega) (by omega)).mp z
      omega
    · rw [if_neg z]
  have hgn : g.toNatClampNeg = n := by rw [hg2]; exact i_nn (by omega)
  refine ⟨w, n, k, f, fun _ => none, by rw [mset_n hne]; exact ha, mset_s _ _ _, by decide, by decide, by rw [hg2]; exact Int32.not_lt.mpr ((i_le (a := 0) (by decide) (by omega)).mpr (Nat.zero_le _)), ?_, ?_, fun i hin y hy => ?_, ?_⟩
  · rw [hgn]; show 0 + n ≤ n; omega
  · rw [hgn]; show 0 + n ≤ k; omega
  · rw [hgn] at hin
    rw [show (0 : Int32).toNatClampNeg + i = i from Nat.zero_add i] at hy
    obtain ⟨w', ci, fs, hM⟩ := hi i hin y hy
    refine ⟨w', ci, fs, ?_⟩
    rw [mset_n (fun z => by rw [z, hfr] at hM; cases hM)]
    exact hM
  · rw [hgn, mset_mset]
    refine kk q _ hfr ?_ fun c hc => mset_n hc
    rw [mset_s]
    have this : va_cpy f (fun _ => none) (0 : Int32).toNatClampNeg (0 : Int32).toNatClampNeg n = fun j => if j < n then f j else none := by
      funext j
      unfold va_cpy
      show (if 0 ≤ j ∧ j < 0 + n then f (0 + (j - 0)) else none) = _
      by_cases z : j < n
      · rw [if_pos ⟨Nat.zero_le _, by omega⟩, if_pos z, Nat.zero_add, Nat.sub_zero]
      · rw [if_neg (by omega), if_neg z]
    rw [this]
/-- the list at u has n elements in an array of cap places -/
def aL (G : mG) (M : mM) (u ed cap n : Nat) (mc : Int32) (f : Nat → Option Nat) : Prop :=
  M u = some (true, .inr (16, [.int mc, .ref ed, .int (Int32.ofNat n)])) ∧ ((¬ cap = 0 ∧ ed ≠ u ∧ M ed = some (true, .inl (5, cap, mRs f))) ∨ (cap = 0 ∧ ed = G.2.2 0 ∧ M ed = some (false, .inl (5, 0, mRs f)))) ∧ (n ≤ cap ∧ n ≤ 200 ∧ cap ≤ 400) ∧ ∀ j, n ≤ j → f j = none
theorem aL.ed {u ed cap n : Nat} {mc : Int32} {f : Nat → Option Nat} (h : aL G M u ed cap n mc f) : ∃ w, M ed = some (w, .inl (5, cap, mRs f)) ∧ ed ≠ u := by
  obtain ⟨h1, h2 | h2, -⟩ := h
  · exact ⟨true, h2.2.2, h2.2.1⟩
  · refine ⟨false, by rw [h2.1]; exact h2.2.2, fun z => ?_⟩
    rw [z, h1] at h2
    cases h2.2.2
theorem va_up_no {f : Nat → Option Nat} {n x : Nat} (h : ∀ j, n ≤ j → f j = none) (j : Nat) (hj : n + 1 ≤ j) : va_up f n (some x) j = none := by
  rw [va_up_ne _ _ (by omega)]
  exact h j (by omega)
/-- the last two writes -/
theorem r_add11 {u ed cap n x : Nat} {mc : Int32} {f : Nat → Option Nat} {K : mM → Prop} (hu : M u = some (true, .inr (16, [.int mc, .ref ed, .int (Int32.ofNat n)]))) (hed : M ed = some (true, .inl (5, cap, mRs f))) (hne : ed ≠ u) (hn : n < cap) (hc4 : cap ≤ 400) (hn2 : n < 200) (hf : ∀ j, n ≤ j → f j = none) (hx : iso M x) (kk : ∀ M', aL G M' u ed cap (n + 1) mc (va_up f n (some x)) → (∀ a, a ≠ u → a ≠ ed → M' a = M a) → K M') : wb_J2_add_2_11 G K b M u x ed (Int32.ofNat n) := by
  unfold wb_J2_add_2_11
  refine ⟨hx, cap, f, hed, i_vp (by omega) hn, ?_⟩
  rw [show (Int32.ofNat n).toNatClampNeg = n from i_nn (by omega)]
  refine ⟨_, by rw [mset_n (Ne.symm hne)]; exact hu, Nat.le_of_ble_eq_true rfl, ?_⟩
  show K (mset (mset M ed (.inl (5, cap, mRs (va_up f n (some x))))) u (.inr (16, [.int mc, .ref ed, .int (Int32.ofNat n + 1)])))
  rw [i_s]
  refine kk _ ⟨mset_s _ _ _, Or.inl ⟨by omega, hne, by rw [mset_n hne, mset_s]⟩, ⟨by omega, by omega, hc4⟩, va_up_no hf⟩ fun a h1 h2 => by rw [mset_n h1, mset_n h2]
theorem r_addB {u ed cap n x : Nat} {mc : Int32} {f : Nat → Option Nat} {K : Int32 → mM → Prop} (h : aL G M u ed cap n mc f) (hn2 : n < 200) (hi : ∀ i, i < cap → ∀ y, f i = some y → iso M y) (hx : iso M x) (hb : n = cap → 11 ≤ b ∧ grw n + 1 ≤ b) (kk : ∀ M' ed' cap', cap' = (if n = cap then (if n = 0 then 10 else grw n) else cap) → aL G M' u ed' cap' (n + 1) (mc + 1) (va_up f n (some x)) → ¬ cap' = 0 → (¬ cap = 0 ∧ ed' = ed ∧ cap' = cap ∨ M ed' = none) → (∀ a, a ≠ u → a ≠ ed' → M' a = M a) → K 1 M') : wp_J2_add G b K M u x := by
  obtain ⟨w, hed, hne⟩ := h.ed
  obtain ⟨hu, hd, ⟨hn, -, hc4⟩, hf⟩ := id h
  unfold wp_J2_add
  refine gfi_ hu rfl ⟨_, hu, Nat.le_of_ble_eq_true rfl, ?_⟩
  generalize hM2 : mset M u (.inr (16, List.set [.int mc, .ref ed, .int (Int32.ofNat n)] 0 (.int (mc + 1)))) = M2
  have u2 : M2 u = some (true, .inr (16, [.int (mc + 1), .ref ed, .int (Int32.ofNat n)])) := by rw [← hM2, mset_s]; rfl
  have o2 : ∀ a, a ≠ u → M2 a = M a := fun a ha => by rw [← hM2, mset_n ha]
  have iso2 : ∀ y, iso M y → iso M2 y := fun y ⟨w', ci, fs, hy⟩ => by
    by_cases z : y = u
    · exact ⟨true, 16, _, by rw [z]; exact u2⟩
    · exact ⟨w', ci, fs, by rw [o2 y z]; exact hy⟩
  refine gfa_ u2 rfl (gfi_ u2 rfl ⟨isc_ u2, b, 0, rfl, ?_⟩)
  unfold wp_J2_add_2
  have hed2 : M2 ed = some (w, .inl (5, cap, mRs f)) := by rw [o2 ed hne]; exact hed
  refine aln_ hed2 (by decide) ⟨fun z => ?_, fun z => ⟨isc_ u2, b, 0, rfl, ?_⟩⟩
  · have hlt : n < cap := by
      rcases Nat.lt_or_ge n cap with y | y
      · exact y
      · exact absurd (by rw [show n = cap by omega]) z
    rcases hd with ⟨c0, -, hed1⟩ | hd
    · refine r_add11 u2 (by rw [o2 ed hne]; exact hed1) hne hlt hc4 hn2 hf (iso2 x hx) fun M' h' ho => ⟨rfl, kk M' ed cap (if_neg (by omega)).symm h' c0 (Or.inl ⟨c0, rfl, rfl⟩) fun a h1 h2 => by rw [ho a h1 h2, o2 a h1]⟩
    · omega
  · have hnc : n = cap := i_eq (by omega) (by omega) z
    subst hnc
    have fin : ∀ q cap' M3, cap' = (if n = n then (if n = 0 then 10 else grw n) else n) → M2 q = none → n < cap' → cap' ≤ 400 → M3 q = some (true, .inl (5, cap', mRs f)) → (∀ c, c ≠ q → M3 c = M2 c) → pfq M3 u 16 1 (some q) fun M4 => wb_J2_add_2_11 G (fun M5 => narrow .boolean (.int 1) = .int 1 ∧ K 1 M5) 0 M4 u x q (Int32.ofNat n) := by
      intro q cap' M3 hv hq hlt hc' h3 o3
      have hqu : q ≠ u := fun y => by rw [y, u2] at hq; cases hq
      refine ⟨_, by rw [o3 u (Ne.symm hqu)]; exact u2, Nat.le_of_ble_eq_true rfl, ?_⟩
      show wb_J2_add_2_11 G _ 0 (mset M3 u (.inr (16, [.int (mc + 1), .ref q, .int (Int32.ofNat n)]))) u x q (Int32.ofNat n)
      refine r_add11 (mset_s _ _ _) (by rw [mset_n hqu]; exact h3) hqu hlt hc' hn2 hf ?_ fun M' h' ho => ⟨rfl, kk M' q cap' hv h' (by omega) (Or.inr (by rw [← o2 q hqu]; exact hq)) fun a h1 h2 => by rw [ho a h1 h2, mset_n h1, o3 a h2, o2 a h1]⟩
      obtain ⟨w', ci, fs, hy⟩ := iso2 x hx
      by_cases y : x = u
      · exact ⟨true, 16, _, by rw [y, mset_s]⟩
      · exact ⟨w', ci, fs, by rw [mset_n y, o3 x (fun v => by rw [v, hq] at hy; cases hy)]; exact hy⟩
    unfold wp_J2_grow wp_J2_grow_2
    refine gfi_ u2 rfl ⟨isc_ u2, b, 0, rfl, gfa_ u2 rfl (aln_ hed2 (by decide) ⟨fun y => ?_, fun y => ?_⟩)⟩
    · have c0 : 0 < n := (i_lt (a := 0) (by decide) (by omega)).mp y
      obtain ⟨g1, g2⟩ := grw_ok n (by omega) c0
      obtain ⟨g3, g4⟩ := grw_b (c := n) (by omega) c0
      unfold wb_J2_grow_2_20 wp_J14_newLength
      intro g hg
      subst hg
      rw [g1]
      refine ⟨fun v => absurd v (Int32.not_le.mpr ((i_lt (a := 0) (by decide) (by omega)).mpr (by omega))), fun _ => ⟨fun v => absurd v (Int32.not_lt.mpr ((i_le (c := 2147483639) (by omega) (by decide)).mpr (by omega))), fun _ => gfa_ u2 rfl ⟨b, 0, rfl, r_copyOf hed2 rfl ⟨by omega, by omega⟩ (fun i hic v hv => iso2 v (hi i hic v hv)) (by omega) fun q M3 hq h3 o3 => ?_⟩⟩⟩
      refine fin q (grw n) M3 (by rw [if_pos rfl, if_neg (by omega)]) hq (by omega) (by omega) ?_ o3
      rw [h3]
      refine congrArg (fun g : Nat → Option Nat => some (true, (Sum.inl (5, grw n, mRs g) : mE))) (funext fun j => ?_)
      split
      · rfl
      · exact (hf j (by omega)).symm
    · have c0 : n = 0 := by
        rcases Nat.eq_zero_or_pos n with v | v
        · exact v
        · exact absurd ((i_lt (a := 0) (by decide) (by omega)).mpr v) y
      rcases hd with hd | ⟨-, hdce, -⟩
      · exact absurd c0 hd.1
      refine gfa_ u2 rfl ⟨fun _ => ?_, fun v => absurd hdce v⟩
      intro g hg
      have hg10 : g = 10 := by rw [hg, c0]; rfl
      subst hg10
      refine ⟨by decide, by decide, by show 10 + 1 ≤ b; omega, fun q hq => ?_⟩
      refine fin q 10 _ (by rw [if_pos rfl, if_pos c0]) (hq q (Nat.le_refl _)) (by omega) (by omega) ?_ fun c hc => mset_n hc
      rw [mset_s]
      exact congrArg (fun g : Nat → Option Nat => some (true, (Sum.inl (5, 10, mRs g) : mE))) (funext fun j => (hf j (by omega)).symm)
theorem r_add {u ed cap n x : Nat} {mc : Int32} {f : Nat → Option Nat} {K : Int32 → mM → Prop} (h : aL G M u ed cap n mc f) (hn2 : n < 200) (hi : ∀ i, i < cap → ∀ y, f i = some y → iso M y) (hx : iso M x) (hb : 310 ≤ b) (kk : ∀ M' ed' cap', aL G M' u ed' cap' (n + 1) (mc + 1) (va_up f n (some x)) → ¬ cap' = 0 → (¬ cap = 0 ∧ ed' = ed ∧ cap' = cap ∨ M ed' = none) → (∀ a, a ≠ u → a ≠ ed' → M' a = M a) → K 1 M') : wp_J2_add G b K M u x := by
  refine r_addB h hn2 hi hx (fun _ => ⟨by omega, ?_⟩) fun M' ed' cap' _ => kk M' ed' cap'
  rcases Nat.eq_zero_or_pos n with z | z
  · subst z
    show 1 + 1 ≤ b
    omega
  · have := (grw_b (c := n) (by omega) z).2
    omega
end B72
