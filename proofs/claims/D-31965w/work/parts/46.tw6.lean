/-! THE TWIN's ROUTES AND WALKS, what is only read -/
/-- routes, walks and notes are in order -/
def bX (S : bS) : Prop :=
  bIn (S 24 0 0 0) 0 8 = true ∧ bIn (S 27 0 0 0) 0 6 = true ∧ bIn (S 28 0 0 0) 0 40 = true ∧ bIn (S 29 0 0 0) 0 200 = true ∧ bIn (S 2 0 0 0) 0 9 = true ∧
  (∀ r, r < 8 → bIn (S 23 r 0 0) 0 31 = true) ∧ (∀ r j, r < 8 → j < 31 → vp_in (S 26 r j 0) 36) ∧
  (∀ w, w < 40 → vp_in (S 30 w 0 0) 6 ∧ vp_in (S 31 w 0 0) 8 ∧ vp_in (S 32 w 0 0) 4 ∧ vp_in (S 33 w 0 0) 10) ∧
  (∀ n, n < 200 → vp_in (S 36 n 0 0) 40 ∧ vp_in (S 37 n 0 0) 31 ∧ vp_in (S 38 n 0 0) 36 ∧ vp_in (S 39 n 0 0) 4) ∧
  (∀ c, c < 36 → vp_in (S 4 c 0 0) 3)
theorem b_inN {x y : Int32} {n : Nat} (hx : bIn x 0 (y - 1) = true) (hy : bIn y 0 (Int32.ofNat n) = true) (hn : n < 2 ^ 31) : vp_in x n ∧ nn x < nn y := by
  obtain ⟨x0, x1⟩ := bIn_t hx
  obtain ⟨y0, y1⟩ := bIn_t hy
  have e0 := Int32.le_iff_toInt_le.mp x0
  have e1 := Int32.le_iff_toInt_le.mp x1
  have f0 := Int32.le_iff_toInt_le.mp y0
  have f1 := Int32.le_iff_toInt_le.mp y1
  have g : (Int32.ofNat n).toInt = (n : Int) := Int32.toInt_ofNat_of_lt hn
  have f0' : (0 : Int) ≤ y.toInt := f0
  have e0' : (0 : Int) ≤ x.toInt := e0
  have s : (y - 1).toInt = y.toInt - 1 := by
    rw [Int32.toInt_sub]
    show (y.toInt - 1).bmod (2 ^ 32) = y.toInt - 1
    rw [Int.bmod_eq_of_le] <;> omega
  rw [s] at e1
  rw [g] at f1
  have k : nn x < nn y := by
    show x.toInt.toNat < y.toInt.toNat
    omega
  refine ⟨?_, k⟩
  rintro (z | z)
  · exact absurd z (Int32.not_lt.mpr x0)
  · have : nn y ≤ n := by show y.toInt.toNat ≤ n; omega
    have h9 : n ≤ nn x := z
    omega
def eRoute (S : bS) (r : Int32) : Bool := !bIn r 0 (S 24 0 0 0 - 1)
def eWalk (S : bS) (w : Int32) : Bool := !bIn w 0 (S 28 0 0 0 - 1)
def eWalker (S : bS) (w : Int32) : Bool := !bIn w 0 (S 27 0 0 0 - 1)
theorem not_f {p : Bool} (h : (!p) = false) : p = true := by cases p <;> simp_all
def eRouteAt (S : bS) (r p : Int32) : Int32 := bE (eRoute S r || !bIn p 0 (S 23 (nn r) 0 0 - 1)) false false
def eLooks (c d : Int32) : Int32 := bE (!bIn c 0 2 || !bIn d 0 3) false false
def eWalkAt (S : bS) (w q : Int32) : Int32 := bE (eWalk S w) (!bIn q 0 5) false
def aWalkAt (S : bS) (w : Nat) (q : Int32) : Int32 := if q = 0 then S 34 w 0 0 else if q = 1 then S 30 w 0 0 else if q = 2 then S 31 w 0 0 else if q = 3 then S 32 w 0 0 else if q = 4 then S 33 w 0 0 else S 35 w 0 0
section B46
variable {G : mG} {b : Nat} {M : mM} {am : Nat} {ad : bA} {S : bS}
theorem b_noRoute (h : bM M am ad S) {K : Int32 → mM → Prop} {x : Int32} (kk : K (bI (eRoute S x)) M) : wp_X4_noRoute G b K M am x := by
  unfold wp_X4_noRoute wb_X4_noRoute_19
  unfold eRoute at kk
  refine b_gfi h (by decide) (b_isIn ⟨fun h => ?_, fun h => ?_⟩)
  · rw [bI1.mp h] at kk; exact ⟨rfl, kk⟩
  · rw [bI0.mp h] at kk; exact ⟨rfl, kk⟩
theorem b_noWalker (h : bM M am ad S) {K : Int32 → mM → Prop} {x : Int32} (kk : K (bI (eWalker S x)) M) : wp_X4_noWalker G b K M am x := by
  unfold wp_X4_noWalker wb_X4_noWalker_19
  unfold eWalker at kk
  refine b_gfi h (by decide) (b_isIn ⟨fun h => ?_, fun h => ?_⟩)
  · rw [bI1.mp h] at kk; exact ⟨rfl, kk⟩
  · rw [bI0.mp h] at kk; exact ⟨rfl, kk⟩
theorem b_noWalk (h : bM M am ad S) {K : Int32 → mM → Prop} {x : Int32} (kk : K (bI (eWalk S x)) M) : wp_X4_noWalk G b K M am x := by
  unfold wp_X4_noWalk wb_X4_noWalk_19
  unfold eWalk at kk
  refine b_gfi h (by decide) (b_isIn ⟨fun h => ?_, fun h => ?_⟩)
  · rw [bI1.mp h] at kk; exact ⟨rfl, kk⟩
  · rw [bI0.mp h] at kk; exact ⟨rfl, kk⟩
theorem t_errorCode (h : bM M am ad S) {K : Int32 → mM → Prop} (kk : ∀ M', bM M' am ad (z0 S) → K (S 20 0 0 0) M') : wp_X4_errorCode G b K M am := by
  unfold wp_X4_errorCode
  exact b_gfi h (by decide) ⟨h.isc, b_answered h kk⟩
theorem t_errorOffset (h : bM M am ad S) {K : Int32 → mM → Prop} (kk : ∀ M', bM M' am ad (z0 S) → K (S 21 0 0 0) M') : wp_X4_errorOffset G b K M am := by
  unfold wp_X4_errorOffset
  exact b_gfi h (by decide) ⟨h.isc, b_answered h kk⟩
theorem t_routeLength (h : bM M am ad S) (hX : bX S) {r : Int32} {K : Int32 → mM → Prop} (kk : ∀ M', bM M' am ad (oS (bE (eRoute S r) false false) S (z0 S)) → K (oA (bE (eRoute S r) false false) (S 23 (nn r) 0 0)) M') : wp_X4_routeLength G b K M am r := by
  unfold wp_X4_routeLength wb_X4_routeLength_24
  refine ⟨h.isc, b_noRoute h ⟨h.isc, b_chk (q := false) (r := false) h (fun _ _ => rfl) (fun h1 _ _ M' hM' => ?_) (fun h1 M' hM' => ?_)⟩⟩
  · have hr := (b_inN (n := 8) (not_f h1) hX.1 (by decide)).1
    rw [h1] at kk
    exact b_gfa hM' (by decide) (b_ld1 hM' (by decide) hr (kk _ hM'))
  · rw [oS1 h1, oA1 h1] at kk
    exact kk M' hM'
theorem t_routeAt (h : bM M am ad S) (hX : bX S) {r p : Int32} {K : Int32 → mM → Prop} (kk : ∀ M', bM M' am ad (oS (eRouteAt S r p) S (z0 S)) → K (oA (eRouteAt S r p) (S 26 (nn r) (nn p) 0)) M') : wp_X4_routeAt G b K M am r p := by
  have fin : ∀ u : Bool, u = (eRoute S r || !bIn p 0 (S 23 (nn r) 0 0 - 1)) → wb_X4_routeAt_30 G K b M am r p am (bI u) := by
    intro u hu
    have he : eRouteAt S r p = bE u false false := by rw [hu]; rfl
    rw [he] at kk
    unfold wb_X4_routeAt_30 wb_X4_routeAt_50
    refine ⟨h.isc, b_chk (q := false) (r := false) h (fun _ _ => rfl) (fun h1 _ _ M' hM' => ?_) (fun h1 M' hM' => ?_)⟩
    · rw [h1] at hu
      have h2 := Bool.or_eq_false_iff.mp hu.symm
      have hr := (b_inN (n := 8) (not_f h2.1) hX.1 (by decide)).1
      have hp := (b_inN (n := 31) (not_f h2.2) (hX.2.2.2.2.2.1 _ (bLt hr)) (by decide)).1
      rw [h1] at kk
      exact b_gfa hM' (by decide) (b_lda hM' (by decide) hr (b_ld2 hM' (by decide) (bLt hr) hp (kk _ hM')))
    · rw [oS1 h1, oA1 h1] at kk
      exact kk M' hM'
  unfold wp_X4_routeAt wb_X4_routeAt_25
  refine ⟨h.isc, b_noRoute h ⟨fun h1 => fin true (by rw [bI1.mp h1]; rfl), fun h1 => ?_⟩⟩
  have hr := (b_inN (n := 8) (not_f (bI0.mp h1)) hX.1 (by decide)).1
  exact b_gfa h (by decide) (b_ld1 h (by decide) hr (b_isIn ⟨fun h2 => fin false (by rw [bI0.mp h1]; have h3 := bI1.mp h2; rw [show bIn p 0 (S 23 (nn r) 0 0 - 1) = true from h3]; rfl), fun h2 => fin true (by have h3 := bI0.mp h2; rw [show bIn p 0 (S 23 (nn r) 0 0 - 1) = false from h3]; simp)⟩))
theorem t_looks (h : bM M am ad S) {c d : Int32} {K : Int32 → mM → Prop} (kk : ∀ M', bM M' am ad (oS (eLooks c d) S (z0 S)) → K (oA (eLooks c d) (S 43 (nn c) (nn d) 0)) M') : wp_X4_looks G b K M am c d := by
  have fin : ∀ u : Bool, u = (!bIn c 0 2 || !bIn d 0 3) → wb_X4_looks_24 G K b M am c d am (bI u) := by
    intro u hu
    have he : eLooks c d = bE u false false := by rw [hu]; rfl
    rw [he] at kk
    unfold wb_X4_looks_24 wb_X4_looks_44
    refine ⟨h.isc, b_chk (q := false) (r := false) h (fun _ _ => rfl) (fun h1 _ _ M' hM' => ?_) (fun h1 M' hM' => ?_)⟩
    · rw [h1] at hu
      have h2 := Bool.or_eq_false_iff.mp hu.symm
      have hc : vp_in c 3 := bIn_v (not_f h2.1) (by decide)
      have hd : vp_in d 4 := bIn_v (not_f h2.2) (by decide)
      rw [h1] at kk
      exact b_gfa hM' (by decide) (b_lda hM' (by decide) hc (b_ld2 hM' (by decide) (bLt hc) hd (kk _ hM')))
    · rw [oS1 h1, oA1 h1] at kk
      exact kk M' hM'
  unfold wp_X4_looks wb_X4_looks_19
  refine b_isIn ⟨fun h1 => fin true (by rw [bI0.mp h1]; rfl), fun h1 => b_isIn ⟨fun h2 => fin false (by rw [bI1.mp h1, bI1.mp h2]; rfl), fun h2 => fin true (by rw [bI0.mp h2]; simp)⟩⟩
theorem t_addWalker (h : bM M am ad S) {K : Int32 → mM → Prop} (kk : ∀ M', bM M' am ad (oS (bE (decide (S 27 0 0 0 = 6)) false false) S (bU (z0 S) 27 0 0 0 (S 27 0 0 0 + 1))) → K (oA (bE (decide (S 27 0 0 0 = 6)) false false) (S 27 0 0 0)) M') : wp_X4_addWalker G b K M am := by
  have fin : ∀ u : Bool, u = decide (S 27 0 0 0 = 6) → wb_X4_addWalker_15 G K b M am am (bI u) := by
    intro u hu
    rw [← hu] at kk
    unfold wb_X4_addWalker_15 wb_X4_addWalker_38
    refine ⟨h.isc, b_chk (q := false) (r := false) h (fun _ _ => rfl) (fun h1 _ _ M' hM' => ?_) (fun h1 M' hM' => ?_)⟩
    · rw [h1] at kk
      exact b_gfi hM' (by decide) (b_pfi hM' (by decide) fun M'' hM'' => kk _ hM'')
    · rw [oS1 h1, oA1 h1] at kk
      exact kk M' hM'
  unfold wp_X4_addWalker
  exact b_gfi h (by decide) ⟨fun h1 => fin false (decide_eq_false h1).symm, fun h1 => fin true (decide_eq_true h1).symm⟩
theorem t_walkAt (h : bM M am ad S) (hX : bX S) {w q : Int32} {K : Int32 → mM → Prop} (kk : ∀ M', bM M' am ad (oS (eWalkAt S w q) S (z0 S)) → K (oA (eWalkAt S w q) (aWalkAt S (nn w) q)) M') : wp_X4_walkAt G b K M am w q := by
  have fin : ∀ u v : Bool, u = eWalk S w → v = (!bIn q 0 5) → wb_X4_walkAt_20 G K b M am w q am (bI u) (bI v) := by
    intro u v hu hv
    have he : eWalkAt S w q = bE u v false := by rw [hu, hv]; rfl
    rw [he] at kk
    unfold wb_X4_walkAt_20 wb_X4_walkAt_104
    refine ⟨h.isc, b_chk (r := false) h (fun _ _ => rfl) (fun h1 h2 _ M' hM' => ?_) (fun h1 M' hM' => ?_)⟩
    · rw [h1] at hu
      have hw := (b_inN (n := 40) (not_f hu.symm) hX.2.2.1 (by decide)).1
      rw [h1, h2] at kk
      have k2 := kk M' hM'
      change K (aWalkAt S (nn w) q) M' at k2
      unfold aWalkAt at k2
      refine ⟨fun q0 => ⟨fun q1 => ⟨fun q2 => ⟨fun q3 => ⟨fun q4 => ?_, fun q4 => ?_⟩, fun q3 => ?_⟩, fun q2 => ?_⟩, fun q1 => ?_⟩, fun q0 => ?_⟩
      · rw [if_neg q0, if_neg q1, if_neg q2, if_neg q3, if_neg q4] at k2
        exact b_gfa hM' (by decide) (b_ld1 hM' (by decide) hw k2)
      · rw [if_neg q0, if_neg q1, if_neg q2, if_neg q3, if_pos q4] at k2
        exact b_gfa hM' (by decide) (b_ld1 hM' (by decide) hw k2)
      · rw [if_neg q0, if_neg q1, if_neg q2, if_pos q3] at k2
        exact b_gfa hM' (by decide) (b_ld1 hM' (by decide) hw k2)
      · rw [if_neg q0, if_neg q1, if_pos q2] at k2
        exact b_gfa hM' (by decide) (b_ld1 hM' (by decide) hw k2)
      · rw [if_neg q0, if_pos q1] at k2
        exact b_gfa hM' (by decide) (b_ld1 hM' (by decide) hw k2)
      · rw [if_pos q0] at k2
        exact b_gfa hM' (by decide) (b_ld1 hM' (by decide) hw k2)
    · rw [oS1 h1, oA1 h1] at kk
      exact kk M' hM'
  unfold wp_X4_walkAt
  exact ⟨h.isc, b_noWalk h (b_isIn ⟨fun h1 => fin _ false rfl (by rw [bI1.mp h1]; rfl), fun h1 => fin _ true rfl (by rw [bI0.mp h1]; rfl)⟩)⟩
end B46
