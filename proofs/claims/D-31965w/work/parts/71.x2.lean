/-! THE CLASS's LISTS: size, get, iterators; checks -/
def xI (X : bS) : Prop := bIn (X 28 0 0 0) 0 40 = true ∧ ∀ L, L < 4 + xN X 3 → bIn (xZ X L) 0 200 = true ∧ xN X L ≤ nn (X 69 L 0 0) ∧ bIn (X 69 L 0 0) 0 400 = true
theorem bLn {i : Int32} {n : Nat} (h : vp_in i n) : nn i < n := bLt h
theorem vp_le {i : Int32} {n m : Nat} (h : vp_in i n) (hn : n ≤ m) : vp_in i m := fun z => h (z.imp id fun q => Nat.le_trans hn q)
theorem i_lt {a c : Nat} (ha : a < 2 ^ 31) (hc : c < 2 ^ 31) : Int32.ofNat a < Int32.ofNat c ↔ a < c := by
  constructor
  · intro h
    refine Nat.not_le.mp fun z => ?_
    exact absurd h (Int32.not_lt.mpr ((i_le hc ha).mpr z))
  · intro h
    refine Int32.not_le.mp fun z => ?_
    have := (i_le hc ha).mp z
    omega
theorem i_eq {a c : Nat} (ha : a < 2 ^ 31) (hc : c < 2 ^ 31) (h : Int32.ofNat a = Int32.ofNat c) : a = c := by
  have := congrArg nn h
  rw [i_nn ha, i_nn hc] at this
  exact this
theorem i_ix {x n : Int32} (hn : 0 ≤ n) : bIn x 0 (n - 1) = true ↔ (¬ x < 0 ∧ x < n) := by
  have f0 : (0 : Int) ≤ n.toInt := Int32.le_iff_toInt_le.mp hn
  have f1 : n.toInt < 2 ^ 31 := Int32.toInt_lt n
  have s : (n - 1).toInt = n.toInt - 1 := by
    rw [Int32.toInt_sub]
    show (n.toInt - 1).bmod (2 ^ 32) = n.toInt - 1
    rw [Int.bmod_eq_of_le] <;> omega
  unfold bIn
  rw [Bool.and_eq_true, decide_eq_true_iff, decide_eq_true_iff, Int32.not_lt, Int32.le_iff_toInt_le (x := x), Int32.lt_iff_toInt_lt, s]
  constructor
  · rintro ⟨a, b⟩
    exact ⟨a, by omega⟩
  · rintro ⟨a, b⟩
    exact ⟨a, by omega⟩
theorem mset_mset {M : mM} {a : Nat} {x y : mE} : mset (mset M a x) a y = mset M a y := by
  funext q
  unfold mset
  split <;> rfl
section B71
variable {G : mG} {b : Nat} {κ : xK} {M : mM} {ad : xA} {X : bS}
theorem x_cix {x n m : Int32} {P : mM → Prop} {Xx : String → Nat → mM → Prop} (hn : 0 ≤ n) (hm : n - 1 = m) (hb : 7 ≤ b) (ok : bIn x 0 m = true → P M) (bad : bIn x 0 m = false → ∀ q, Xx "java/lang/IndexOutOfBoundsException" q M) : wp_X1_checkIndex G b P Xx M x n := by
  subst hm
  have hi := i_ix (x := x) hn
  have nope : ¬ (¬ x < 0 ∧ x < n) → bIn x 0 (n - 1) = false := fun z => by
    cases hh : bIn x 0 (n - 1) with
    | false => rfl
    | true => exact absurd (hi.mp hh) z
  unfold wp_X1_checkIndex wb_X1_checkIndex_9
  exact ⟨fun z => ⟨hb, bad (nope fun y => y.1 z)⟩, fun z => ⟨fun y => ok (hi.mpr ⟨z, y⟩), fun y => ⟨hb, bad (nope fun w => y w.2)⟩⟩⟩
theorem x_carg {x : Int32} {P : mM → Prop} {Xx : String → Nat → mM → Prop} (hb : 7 ≤ b) (ok : ¬ x = 0 → P M) (bad : x = 0 → ∀ q, Xx "java/lang/IllegalArgumentException" q M) : wp_X1_checkArgument G b P Xx M x := by
  unfold wp_X1_checkArgument
  exact ⟨ok, fun z => ⟨hb, bad z⟩⟩
theorem x_cst {x : Int32} {P : mM → Prop} {Xx : String → Nat → mM → Prop} (hb : 7 ≤ b) (ok : ¬ x = 0 → P M) (bad : x = 0 → ∀ q, Xx "java/lang/IllegalStateException" q M) : wp_X1_checkState G b P Xx M x := by
  unfold wp_X1_checkState
  exact ⟨ok, fun z => ⟨hb, bad z⟩⟩
theorem x_crg {x lo hi : Int32} {P : mM → Prop} {Xx : String → Nat → mM → Prop} (hb : 7 ≤ b) (ok : bIn x lo hi = true → P M) (bad : bIn x lo hi = false → ∀ q, Xx "java/lang/IllegalArgumentException" q M) : wp_X1_checkRange G b P Xx M x lo hi := by
  unfold wp_X1_checkRange wb_X1_checkRange_14 wb_X1_checkRange_15
  refine ⟨fun z => ⟨b, 0, rfl, x_carg hb (fun y => absurd rfl y) fun _ => bad ?_⟩, fun z => ⟨fun y => ⟨b, 0, rfl, x_carg hb (fun w => absurd rfl w) fun _ => bad ?_⟩, fun y => ⟨b, 0, rfl, x_carg hb (fun _ => ok ?_) fun w => absurd w (by decide)⟩⟩⟩
  · unfold bIn
    rw [decide_eq_false (Int32.not_le.mpr z)]; rfl
  · unfold bIn
    rw [decide_eq_false (Int32.not_le.mpr y), Bool.and_false]
  · unfold bIn
    rw [decide_eq_true (Int32.not_lt.mp z), decide_eq_true (Int32.not_lt.mp y)]; rfl
theorem rX.list (h : rX κ M ad X) {L : Nat} (hL : L < 4 + xN X 3) : M (ad 22 L 0) = some (true, .inr (16, [.int (X 68 L 0 0), .ref (if X 69 L 0 0 = 0 then κ.2.1 else ad 23 L 0), .int (xZ X L)])) := h.at (xl22 hL)
theorem rX.elems (h : rX κ M ad X) {L : Nat} (hL : L < 4 + xN X 3) (hc : ¬ X 69 L 0 0 = 0) : M (ad 23 L 0) = some (true, .inl (5, nn (X 69 L 0 0), mRs fun j => if j < xN X L then some (ad 24 L j) else none)) := h.at (xl23 hL hc)
theorem xI.z (hI : xI X) {L : Nat} (hL : L < 4 + xN X 3) : xZ X L = Int32.ofNat (xN X L) ∧ xN X L ≤ 200 := by
  obtain ⟨z0, z1⟩ := bIn_t (hI.2 L hL).1
  exact ⟨i_of z0, i_nle z0 z1⟩
theorem xI.cap (hI : xI X) {L j : Nat} (hL : L < 4 + xN X 3) (hj : j < xN X L) : ¬ X 69 L 0 0 = 0 := fun z => by
  have := (hI.2 L hL).2.1
  rw [z] at this
  have e : nn (0 : Int32) = 0 := rfl
  omega
theorem x_size (h : rX κ M ad X) {L : Nat} (hL : L < 4 + xN X 3) {K : Int32 → mM → Prop} (kk : K (xZ X L) M) : wp_J2_size G b K M (ad 22 L 0) := by
  unfold wp_J2_size
  exact gfi_ (h.list hL) rfl kk
theorem x_get (h : rX κ M ad X) (hI : xI X) {L : Nat} (hL : L < 4 + xN X 3) {i : Int32} (hi : vp_in i (xN X L)) {K : Nat → mM → Prop} (kk : K (ad 24 L (nn i)) M) : wp_J2_get G b K M (ad 22 L 0) i := by
  have hlt : nn i < xN X L := bLt hi
  have hcap := hI.cap hL hlt
  have iN : i < xZ X L := by
    obtain ⟨e, e2⟩ := hI.z hL
    rw [vp_of hi, e]
    exact (i_lt (nn_lt _) (by omega)).mpr hlt
  unfold wp_J2_get wp_J17_checkIndex wp_J18_checkIndex wp_J2_elementData
  refine gfi_ (h.list hL) rfl ⟨fun z => absurd (Or.inl z) hi, fun _ => ⟨fun _ => ⟨isc_ (h.list hL), gfa_ (v := ad 23 L 0) (h.list hL) ?_ (lda_ (h.elems hL hcap) (vp_le hi (hI.2 L hL).2.1) ?_ kk)⟩, fun z => absurd iN z⟩⟩
  · show some (Value.ref (if X 69 L 0 0 = 0 then κ.2.1 else ad 23 L 0)) = _
    rw [if_neg hcap]
  · exact if_pos hlt
theorem x_at (h : rX κ M ad X) (hI : xI X) {L : Nat} (hL : L < 4 + xN X 3) {i : Int32} {P : Nat → mM → Prop} {Xx : String → Nat → mM → Prop} (hb : 7 ≤ b) (ok : bIn i 0 (xZ X L - 1) = true → P (ad 24 L (nn i)) M) (bad : bIn i 0 (xZ X L - 1) = false → ∀ q, Xx "java/lang/IndexOutOfBoundsException" q M) : wp_X1_at G b P Xx M (ad 22 L 0) i := by
  have z0 := (bIn_t (hI.2 L hL).1).1
  unfold wp_X1_at
  refine ⟨isc_ (h.list hL), x_size h hL ⟨b, 0, rfl, x_cix z0 rfl hb (fun z => ⟨isc_ (h.list hL), x_get h hI hL ?_ (ok z)⟩) bad⟩⟩
  obtain ⟨y0, y1⟩ := (i_ix z0).mp z
  have e : i = Int32.ofNat (nn i) := i_of (Int32.not_lt.mp y0)
  obtain ⟨e1, e2⟩ := hI.z hL
  rw [e, e1] at y1
  have := (i_lt (nn_lt _) (by omega)).mp y1
  rintro (w | w)
  · exact y0 w
  · exact absurd this (Nat.not_lt.mpr w)
/-- an iterator over a list, at a place -/
def xIt (κ : xK) (M : mM) (ad : xA) (X : bS) (u L c : Nat) : Prop := xO κ ad X u ∧ ∃ lr, M u = some (true, .inr (20, [.int (Int32.ofNat c), .int lr, .int (X 68 L 0 0), .ref (ad 22 L 0)]))
theorem x_iter (h : rX κ M ad X) {L : Nat} (hL : L < 4 + xN X 3) (hb : 5 ≤ b) {K : Nat → mM → Prop} (kk : ∀ u M', M u = none → rX κ M' ad X → xIt κ M' ad X u L 0 → (∀ a, a ≠ u → M' a = M a) → K u M') : wp_J2_iterator G b K M (ad 22 L 0) := by
  unfold wp_J2_iterator wp_J23_init
  refine ⟨hb, fun q hq => ?_⟩
  have hx := h.fresh (hq q (Nat.le_refl _))
  have hne : ad 22 L 0 ≠ q := hx.1 22 L 0 (xl22 hL)
  refine ⟨_, mset_s _ _ _, Nat.le_of_ble_eq_true rfl, ?_⟩
  rw [mset_mset]
  refine ⟨_, mset_s _ _ _, Nat.le_of_ble_eq_true rfl, ?_⟩
  rw [mset_mset]
  refine gfa_ (mset_s _ _ _) rfl (gfi_ (by rw [mset_n hne]; exact h.list hL) rfl ⟨_, mset_s _ _ _, Nat.le_of_ble_eq_true rfl, ?_⟩)
  rw [mset_mset]
  refine kk q _ (hq q (Nat.le_refl _)) (h.oth hx _) ⟨hx, -1, mset_s _ _ _⟩ fun a ha => mset_n ha
theorem x_hasNext (h : rX κ M ad X) (hI : xI X) {u L c : Nat} (hL : L < 4 + xN X 3) (hi : xIt κ M ad X u L c) (hc : c ≤ xN X L) {K : Int32 → mM → Prop} (yes : c < xN X L → K 1 M) (no : c = xN X L → K 0 M) : wp_J23_hasNext G b K M u := by
  obtain ⟨hx, lr, hu⟩ := hi
  obtain ⟨e, e2⟩ := hI.z hL
  unfold wp_J23_hasNext wb_J23_hasNext_19
  refine gfi_ hu rfl (gfa_ hu rfl (gfi_ (h.list hL) rfl ⟨fun z => ⟨rfl, no ?_⟩, fun z => ⟨rfl, yes ?_⟩⟩))
  · rw [e] at z
    exact i_eq (by omega) (by omega) z
  · rw [e] at z
    rcases Nat.lt_or_ge c (xN X L) with y | y
    · exact y
    · exact absurd (by rw [show c = xN X L by omega]) z
theorem x_next (h : rX κ M ad X) (hI : xI X) {u L c : Nat} (hL : L < 4 + xN X 3) (hi : xIt κ M ad X u L c) (hc : c < xN X L) {K : Nat → mM → Prop} (kk : ∀ M', rX κ M' ad X → xIt κ M' ad X u L (c + 1) → (∀ a, a ≠ u → M' a = M a) → K (ad 24 L c) M') : wp_J23_next G b K M u := by
  obtain ⟨hx, lr, hu⟩ := hi
  obtain ⟨e, e2⟩ := hI.z hL
  have hcap := hI.cap hL hc
  have hle := (hI.2 L hL).2.1
  have hne : ad 23 L 0 ≠ u := hx.1 23 L 0 (xl23 hL hcap)
  have hn4 := i_nle (bIn_t (hI.2 L hL).2.2).1 (bIn_t (hI.2 L hL).2.2).2
  have h4 : nn (400 : Int32) = 400 := rfl
  have l1 : Int32.ofNat c < xZ X L := by rw [e]; exact (i_lt (by omega) (by omega)).mpr hc
  have l2 : Int32.ofNat c < Int32.ofNat (nn (X 69 L 0 0)) := (i_lt (by omega) (nn_lt _)).mpr (by omega)
  unfold wp_J23_next wp_J23_checkForComodification
  refine ⟨isc_ hu, gfa_ hu rfl (gfi_ (h.list hL) rfl (gfi_ hu rfl ⟨fun _ => gfi_ hu rfl (gfa_ hu rfl (gfi_ (h.list hL) rfl ⟨fun _ => gfa_ hu rfl (gfa_ (v := ad 23 L 0) (h.list hL) ?_ (aln_ (h.elems hL hcap) (by decide) ⟨fun _ => ⟨_, hu, Nat.le_of_ble_eq_true rfl, ⟨_, mset_s _ _ _, Nat.le_of_ble_eq_true rfl, ?_⟩⟩, fun z => absurd l2 z⟩)), fun z => absurd l1 z⟩)), fun z => absurd rfl z⟩))⟩
  · show some (Value.ref (if X 69 L 0 0 = 0 then κ.2.1 else ad 23 L 0)) = _
    rw [if_neg hcap]
  · rw [mset_mset]
    have hv : vp_in (Int32.ofNat c) (nn (X 69 L 0 0)) := i_vp (by omega) (by omega)
    refine lda_ (v := ad 24 L c) (by rw [mset_n hne]; exact h.elems hL hcap) hv ?_ ?_
    · show (if (Int32.ofNat c).toNatClampNeg < xN X L then some (ad 24 L (Int32.ofNat c).toNatClampNeg) else none) = _
      rw [show (Int32.ofNat c).toNatClampNeg = c from i_nn (by omega), if_pos hc]
    · refine kk _ (h.oth hx _) ⟨hx, Int32.ofNat c, ?_⟩ fun a ha => mset_n ha
      rw [mset_s]
      show some (true, Sum.inr (20, [Value.int (Int32.ofNat c + 1), .int (Int32.ofNat c), .int (X 68 L 0 0), .ref (ad 22 L 0)])) = _
      rw [i_s]
end B71
