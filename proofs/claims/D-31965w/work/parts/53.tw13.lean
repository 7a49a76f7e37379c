/-! THE TWIN's walk, note, cellAt -/
theorem isGo_z {S : bS} {v : Int32} (x : Int32) : ∀ n, isGo (bU S 0 0 0 0 v) x n = isGo S x n
  | 0 => rfl
  | n + 1 => by
    show (isGo (bU S 0 0 0 0 v) x n || (decide (S 30 n 0 0 = x) && decide (S 34 n 0 0 = 0))) = _
    rw [isGo_z x n]; rfl
theorem z0_z (S : bS) (v : Int32) : z0 (bU S 0 0 0 0 v) = z0 S := bU_bU
def rw_ (S : bS) (w : Int32) : Nat := nn (S 31 (nn w) 0 0)
def eNote1 (S : bS) (w p c k : Int32) : Bool := eWalk S w || (!bIn c 0 35 || (!bIn k 0 3 || !bIn p 0 (S 23 (rw_ S w) 0 0 - 1)))
def eNote (S : bS) (w p c k m : Int32) : Int32 := bE (eNote1 S w p c k) (!bIn m 1 50 || !decide (dist (S 26 (rw_ S w) (nn p) 0) c ≤ 3)) (!decide (S 34 (nn w) 0 0 = 0) || decide (S 29 0 0 0 = 200))
def sNoteN (S : bS) (N : Nat) (w p c k m : Int32) : bS := bU (bU (bU (bU (bU (bU (z0 S) 36 N 0 0 w) 37 N 0 0 p) 38 N 0 0 c) 39 N 0 0 k) 29 0 0 0 (S 29 0 0 0 + 1)) 40 N 0 0 m
def sNote (S : bS) (w p c k m : Int32) : bS := bU (bU (sNoteN S (nn (S 29 0 0 0)) w p c k m) 41 (nn w) (nn c) (nn k) (S 41 (nn w) (nn c) (nn k) + m)) 35 (nn w) 0 0 (S 35 (nn w) 0 0 + 1)
def suits (S : bS) (c k : Nat) : Bool := decide (S 5 c 0 0 ≠ -1) && bIn (S 8 (nn (S 5 c 0 0)) 0 0 - S 3 c 0 0) (S 10 k 0 0) (S 11 k 0 0)
def bitsN (S : bS) (c : Nat) : Nat → Int32
  | 0 => 0
  | k + 1 => if suits S c k = true then bitsN S c k ||| (1 <<< (Int32.ofNat k &&& 31)) else bitsN S c k
def eCellAt (c q : Int32) : Int32 := bE (!bIn c 0 35) (!bIn q 0 4) false
def aCellAt (S : bS) (c : Nat) (q : Int32) : Int32 := if q = 0 then S 3 c 0 0 else if q = 1 then S 4 c 0 0 else if q = 2 then S 5 c 0 0 else if q = 3 then (if S 5 c 0 0 = -1 then -100 else S 8 (nn (S 5 c 0 0)) 0 0 - S 3 c 0 0) else bitsN S c 4
section B53
variable {G : mG} {b : Nat} {am : Nat} {ad : bA}
theorem t_walk {M : mM} {S : bS} (h : bM M am ad S) (hX : bX S) {w r t : Int32} {K : Int32 → mM → Prop} (kk : ∀ M', bM M' am ad (oS (eWalkO S w r t) S (sWalk S w r t)) → K (oA (eWalkO S w r t) (S 28 0 0 0)) M') : wp_X4_walk G b K M am w r t := by
  have fin : ∀ u v : Bool, u = (eWalker S w || eRoute S r) → v = (!bIn t 0 3) → wb_X4_walk_36 G K b M am w r t am (bI u) (bI v) := by
    intro u v hu hv
    unfold wb_X4_walk_36 wb_X4_walk_59
    refine ⟨h.isc, b_chk (r := false) h (fun _ _ => rfl) (fun h1 h2 _ M' hM' => ?_) (fun h1 M' hM' => ?_)⟩
    · have he : eWalkO S w r t = bE false false (decide (S 28 0 0 0 = 40) || isGo S w (nn (S 28 0 0 0))) := by
        unfold eWalkO; rw [← hu, ← hv, h1, h2]; rfl
      rw [he] at kk
      obtain ⟨a0, a1⟩ := bIn_t hX.2.2.1
      have hN : nn (S 28 0 0 0) ≤ 40 := i_nle a0 a1
      have e28 : S 28 0 0 0 = Int32.ofNat (nn (S 28 0 0 0)) := i_of a0
      have hd : decide (S 28 0 0 0 = 40) = decide (nn (S 28 0 0 0) = 40) := by
        by_cases z : S 28 0 0 0 = 40
        · rw [decide_eq_true z, z]; rfl
        · rw [decide_eq_false z]
          have : ¬ nn (S 28 0 0 0) = 40 := fun y => z (by rw [e28, y]; rfl)
          rw [decide_eq_false this]
      have lp : ∀ u0 : Bool, u0 = decide (nn (S 28 0 0 0) = 40) → ∃ n64, wl_X4_walk_64 G K n64 b M' am w r t (bI u0) 0 := by
        intro u0 hu0
        have hg : ∀ n, isGo (bU S 0 0 0 0 0) w n = isGo S w n := isGo_z w
        have := b_walk64 (G := G) (b := b) (P := K) hM' (show bX (bU S 0 0 0 0 0) from hX) (x1 := w) (x2 := r) (x3 := t) hN (show (bU S 0 0 0 0 0) 28 0 0 0 = _ from e28) hu0 (fun hk M2 h2 => ?_) (fun hk M2 h2 => ?_) (nn (S 28 0 0 0)) 0 (nn (S 28 0 0 0) + 1) (by omega) (by omega)
        · rw [show isGo (bU S 0 0 0 0 0) w 0 = false from rfl, Bool.or_false] at this
          exact ⟨_, this⟩
        · rw [hg, hu0, ← hd] at hk
          rw [hk] at kk
          have e : sWalk (bU S 0 0 0 0 0) w r t = sWalk S w r t := by
            show sWalk (z0 S) w r t = _
            unfold sWalk
            rw [show z0 (z0 S) = z0 S from z0_z S 0]; rfl
          rw [e] at h2
          exact kk M2 h2
        · rw [hg, hu0, ← hd] at hk
          rw [hk] at kk
          rw [show bU (bU S 0 0 0 0 0) 0 0 0 0 3 = bU S 0 0 0 0 3 from bU_bU] at h2
          exact kk M2 h2
      refine b_gfi hM' (by decide) ⟨fun z => lp false ?_, fun z => lp true ?_⟩
      · rw [← hd]; exact (decide_eq_false (p := S 28 0 0 0 = 40) z).symm
      · rw [← hd]; exact (decide_eq_true (p := S 28 0 0 0 = 40) z).symm
    · have he : eWalkO S w r t = bE u v false := by
        unfold eWalkO; rw [← hu, ← hv, if_neg h1]
      rw [he, oS1 h1, oA1 h1] at kk
      exact kk M' hM'
  have mid : ∀ u : Bool, u = (eWalker S w || eRoute S r) → wb_X4_walk_22 G K b M am w r t am (bI u) := by
    intro u hu
    unfold wb_X4_walk_22
    exact b_isIn ⟨fun h1 => fin u false hu (by rw [bI1.mp h1]; rfl), fun h1 => fin u true hu (by rw [bI0.mp h1]; rfl)⟩
  unfold wp_X4_walk wb_X4_walk_17
  exact ⟨h.isc, b_noWalker h ⟨fun h1 => mid true (by rw [bI1.mp h1]; rfl), fun h1 => ⟨h.isc, b_noRoute h ⟨fun h2 => mid false (by rw [bI0.mp h1, bI0.mp h2]; rfl), fun h2 => mid true (by rw [bI1.mp h2]; simp)⟩⟩⟩⟩
theorem b_suits {M : mM} {S : bS} (h : bM M am ad S) (hW : bW S) {x k : Int32} (hx : vp_in x 36) (hk : vp_in k 4) {K : Int32 → mM → Prop} (kk : K (bI (suits S (nn x) (nn k))) M) : wp_X4_suits G b K M am x k := by
  unfold wp_X4_suits wb_X4_suits_37 wb_X4_suits_38
  refine b_gfa h (by decide) (b_ld1 h (by decide) hx ⟨fun z => ?_, fun z => ?_⟩)
  · have e : suits S (nn x) (nn k) = false := by
      unfold suits
      rw [show S 5 (nn x) 0 0 = -1 from z]; rfl
    rw [e] at kk
    exact ⟨rfl, kk⟩
  · have hp : vp_in (S 5 (nn x) 0 0) 4 := (hW.1 _ (bLt hx)).resolve_left z
    have e : suits S (nn x) (nn k) = bIn (S 8 (nn (S 5 (nn x) 0 0)) 0 0 - S 3 (nn x) 0 0) (S 10 (nn k) 0 0) (S 11 (nn k) 0 0) := by
      unfold suits
      rw [decide_eq_true z, Bool.true_and]
    rw [e] at kk
    refine ⟨h.isc, b_depth h hx hp (b_gfa h (by decide) (b_ld1 h (by decide) hk (b_gfa h (by decide) (b_ld1 h (by decide) hk (b_isIn ⟨fun h1 => ?_, fun h1 => ?_⟩)))))⟩
    · rw [bI0.mp h1] at kk
      exact ⟨rfl, kk⟩
    · rw [bI1.mp h1] at kk
      exact ⟨rfl, kk⟩
theorem b_cellAt33 {P : Int32 → mM → Prop} {M : mM} {S : bS} (h : bM M am ad S) (hW : bW S) {x q : Int32} (hx : vp_in x 36) (kk : P (aCellAt S (nn x) q) M) : ∀ (n c f : Nat), c + n = 4 → n < f → wl_X4_cellAt_33 G P f b M am x q (bitsN S (nn x) c) (Int32.ofNat c)
  | _, _, 0, _, hq => absurd hq (Nat.not_lt_zero _)
  | 0, c, f + 1, hc, _ => by
    have : c = 4 := by omega
    subst this
    unfold wl_X4_cellAt_33 wb_X4_cellAt_132
    unfold aCellAt at kk
    refine ⟨fun _ => ⟨fun q0 => ⟨fun q1 => ⟨fun q2 => ⟨fun q3 => ?_, fun q3 => ?_⟩, fun q2 => ?_⟩, fun q1 => ?_⟩, fun q0 => ?_⟩, fun z => absurd (by decide) z⟩
    · rw [if_neg q0, if_neg q1, if_neg q2, if_neg q3] at kk
      exact kk
    · rw [if_neg q0, if_neg q1, if_neg q2, if_pos q3] at kk
      refine b_gfa h (by decide) (b_ld1 h (by decide) hx ⟨fun z => ?_, fun z => ?_⟩)
      · rw [if_neg z] at kk
        exact ⟨h.isc, b_depth h hx ((hW.1 _ (bLt hx)).resolve_left z) kk⟩
      · rw [if_pos z] at kk
        exact kk
    · rw [if_neg q0, if_neg q1, if_pos q2] at kk
      exact b_gfa h (by decide) (b_ld1 h (by decide) hx kk)
    · rw [if_neg q0, if_pos q1] at kk
      exact b_gfa h (by decide) (b_ld1 h (by decide) hx kk)
    · rw [if_pos q0] at kk
      exact b_gfa h (by decide) (b_ld1 h (by decide) hx kk)
  | n + 1, c, f + 1, hc, hq => by
    have hk : vp_in (Int32.ofNat c) 4 := i_vp (by omega) (by omega)
    have e : (Int32.ofNat c).toNatClampNeg = c := i_nn (by omega)
    have ih := b_cellAt33 h hW hx kk n (c + 1) f (by omega) (by omega)
    unfold wl_X4_cellAt_33 wb_X4_cellAt_56
    refine ⟨fun z => absurd ((i_le (a := 4) (by decide) (by omega)).mp z) (by omega), fun _ => ⟨h.isc, b_suits h hW hx hk ⟨fun h1 => ?_, fun h1 => ?_⟩⟩⟩
    · rw [i_s]
      have h2 := bI0.mp h1
      rw [show nn (Int32.ofNat c) = c from e] at h2
      rw [show bitsN S (nn x) (c + 1) = bitsN S (nn x) c by show (if suits S (nn x) c = true then _ else _) = _; rw [h2]; rfl] at ih
      exact ih
    · intro g hg
      subst hg
      rw [i_s]
      have h2 := bI1.mp h1
      rw [show nn (Int32.ofNat c) = c from e] at h2
      rw [show bitsN S (nn x) (c + 1) = (bitsN S (nn x) c ||| (1 <<< (Int32.ofNat c &&& 31))) by show (if suits S (nn x) c = true then _ else _) = _; rw [h2]; rfl] at ih
      exact ih
theorem t_cellAt {M : mM} {S : bS} (h : bM M am ad S) (hW : bW S) {c q : Int32} {K : Int32 → mM → Prop} (kk : ∀ M', bM M' am ad (oS (eCellAt c q) S (z0 S)) → K (oA (eCellAt c q) (aCellAt (z0 S) (nn c) q)) M') : wp_X4_cellAt G b K M am c q := by
  have fin : ∀ u v : Bool, u = (!bIn c 0 35) → v = (!bIn q 0 4) → wb_X4_cellAt_19 G K b M am c q am (bI u) (bI v) := by
    intro u v hu hv
    have he : eCellAt c q = bE u v false := by rw [hu, hv]; rfl
    rw [he] at kk
    unfold wb_X4_cellAt_19
    refine ⟨h.isc, b_chk (r := false) h (fun _ _ => rfl) (fun h1 h2 _ M' hM' => ?_) (fun h1 M' hM' => ?_)⟩
    · rw [h1] at hu
      have hc : vp_in c 36 := bIn_v (not_f hu.symm) (by decide)
      rw [h1, h2] at kk
      exact ⟨_, b_cellAt33 hM' (show bW (z0 S) from hW) hc (kk M' hM') 4 0 5 (by omega) (by omega)⟩
    · rw [oS1 h1, oA1 h1] at kk
      exact kk M' hM'
  unfold wp_X4_cellAt
  exact b_noCell (b_isIn ⟨fun h1 => fin _ false rfl (by rw [bI1.mp h1]; rfl), fun h1 => fin _ true rfl (by rw [bI0.mp h1]; rfl)⟩)
theorem t_note {M : mM} {S : bS} (h : bM M am ad S) (hX : bX S) {w p c k m : Int32} {K : Int32 → mM → Prop} (kk : ∀ M', bM M' am ad (oS (eNote S w p c k m) S (sNote S w p c k m)) → K (oA (eNote S w p c k m) (S 35 (nn w) 0 0 + 1)) M') : wp_X4_note G b K M am w p c k m := by
  have f3 : ∀ (hw : vp_in w 40) (hc : vp_in c 36) (hk : vp_in k 4) (u v : Bool) (M : mM), eNote1 S w p c k = false → u = (!bIn m 1 50 || !decide (dist (S 26 (rw_ S w) (nn p) 0) c ≤ 3)) → v = (!decide (S 34 (nn w) 0 0 = 0) || decide (S 29 0 0 0 = 200)) → bM M am ad (z0 S) → wb_X4_note_139 G K b M am w p c k m am 0 (bI u) (bI v) := by
    intro hw hc hk u v M h0 hu hv h
    have he : eNote S w p c k m = bE false u v := by unfold eNote; rw [h0, hu, hv]
    rw [he] at kk
    unfold wb_X4_note_139
    refine ⟨h.isc, b_chk (p := false) h (fun _ _ => rfl) (fun _ h2 h3 M' hM' => ?_) (fun h1 M' hM' => ?_)⟩
    · rw [h2, h3] at kk
      rw [show bU (z0 S) 0 0 0 0 0 = z0 S from bU_bU] at hM'
      obtain ⟨a0, a1⟩ := bIn_t hX.2.2.2.1
      have h200 : ¬ S 29 0 0 0 = 200 := by
        rw [h3] at hv
        have := (Bool.or_eq_false_iff.mp hv.symm).2
        simpa using this
      have hlt : nn (S 29 0 0 0) < 200 := by
        have h9 : nn (S 29 0 0 0) ≤ 200 := i_nle a0 a1
        have h8 : ¬ nn (S 29 0 0 0) = 200 := fun y => h200 (by rw [i_of a0, y]; rfl)
        omega
      have hx : vp_in (S 29 0 0 0) 200 := by rw [i_of a0]; exact i_vp (by omega) hlt
      have k9 := kk
      refine b_gfa hM' (by decide) (b_gfi hM' (by decide) (b_st1 hM' (by decide) hx fun M1 h1 => ?_))
      refine b_gfa h1 (by decide) (b_gfi h1 (by decide) (b_st1 h1 (by decide) hx fun M2 h2 => ?_))
      refine b_gfa h2 (by decide) (b_gfi h2 (by decide) (b_st1 h2 (by decide) hx fun M3 h3' => ?_))
      refine b_gfa h3' (by decide) (b_gfi h3' (by decide) (b_st1 h3' (by decide) hx fun M4 h4 => ?_))
      refine b_gfa h4 (by decide) (b_gfi h4 (by decide) (b_pfi h4 (by decide) fun M5 h5 => (b_st1 h5 (by decide) hx fun M6 h6 => ?_)))
      refine b_gfa h6 (by decide) (b_lda h6 (by decide) hw (b_lda2 h6 (by decide) (bLt hw) hc (b_ld3 h6 (by decide) (bLt hw) (bLt hc) hk (b_st3 h6 (by decide) (bLt hw) (bLt hc) hk fun M7 h7 => ?_))))
      exact b_gfa h7 (by decide) (b_ld1 h7 (by decide) hw (b_st1 h7 (by decide) hw fun M8 h8 => k9 M8 h8))
    · rw [oS1 h1, oA1 h1] at kk
      rw [show bU (z0 S) 0 0 0 0 (bE false u v) = bU S 0 0 0 0 (bE false u v) from bU_bU] at hM'
      exact kk M' hM'
  have f2 : ∀ (hw : vp_in w 40) (hc : vp_in c 36) (hk : vp_in k 4) (u : Bool) (M : mM), eNote1 S w p c k = false → u = (!bIn m 1 50 || !decide (dist (S 26 (rw_ S w) (nn p) 0) c ≤ 3)) → bM M am ad (z0 S) → wb_X4_note_115 G K b M am w p c k m am 0 (bI u) := by
    intro hw hc hk u M h0 hu h
    unfold wb_X4_note_115 wb_X4_note_134
    refine b_gfa h (by decide) (b_ld1 h (by decide) hw ⟨fun z => f3 hw hc hk u true M h0 hu ?_ h, fun z => b_gfi h (by decide) ⟨fun z2 => f3 hw hc hk u false M h0 hu ?_ h, fun z2 => f3 hw hc hk u true M h0 hu ?_ h⟩⟩)
    · rw [decide_eq_false (p := S 34 (nn w) 0 0 = 0) z]; rfl
    · rw [decide_eq_true (p := S 34 (nn w) 0 0 = 0) z, decide_eq_false (p := S 29 0 0 0 = 200) z2]; rfl
    · rw [decide_eq_true (p := S 29 0 0 0 = 200) z2]; simp
  have f1 : ∀ (hw : vp_in w 40) (hc : vp_in c 36) (hk : vp_in k 4) (u : Bool) (M : mM), bM M am ad (z0 S) → eNote1 S w p c k = u → u = (!bIn p 0 (S 23 (rw_ S w) 0 0 - 1)) → wb_X4_note_70 G K b M am w p c k m (S 31 (nn w) 0 0) am (bI u) := by
    intro hw hc hk u M h hu hu2
    unfold wb_X4_note_70 wb_X4_note_110
    refine ⟨h.isc, b_chk (q := false) (r := false) h (fun _ _ => rfl) (fun h1 _ _ M' hM' => ?_) (fun h1 M' hM' => ?_)⟩
    · rw [h1] at hu hu2
      rw [show bU (z0 S) 0 0 0 0 0 = z0 S from bU_bU] at hM'
      have hr : vp_in (S 31 (nn w) 0 0) 8 := (hX.2.2.2.2.2.2.2.1 _ (bLt hw)).2.1
      have hp := (b_inN (n := 31) (not_f hu2.symm) (hX.2.2.2.2.2.1 _ (bLt hr)) (by decide)).1
      refine b_isIn ⟨fun z => f2 hw hc hk true M' hu ?_ hM', fun z => ?_⟩
      · rw [bI0.mp z]; rfl
      · refine b_gfa hM' (by decide) (b_lda hM' (by decide) hr (b_ld2 hM' (by decide) (bLt hr) hp (b_dist ⟨fun y => f2 hw hc hk false M' hu ?_ hM', fun y => f2 hw hc hk true M' hu ?_ hM'⟩)))
        · rw [bI1.mp z, decide_eq_true (p := dist (S 26 (rw_ S w) (nn p) 0) c ≤ 3) y]; rfl
        · rw [bI1.mp z, decide_eq_false (p := dist (S 26 (rw_ S w) (nn p) 0) c ≤ 3) y]; rfl
    · have ht := bE_1 h1
      subst ht
      have he : eNote S w p c k m = 1 := by unfold eNote; rw [hu]; rfl
      rw [he, oS1 (by decide), oA1 (by decide)] at kk
      rw [show bU (z0 S) 0 0 0 0 (bE true false false) = bU S 0 0 0 0 1 from bU_bU] at hM'
      exact kk M' hM'
  have f0 : ∀ u : Bool, u = (eWalk S w || (!bIn c 0 35 || !bIn k 0 3)) → wb_X4_note_29 G K b M am w p c k m am (bI u) := by
    intro u hu
    unfold wb_X4_note_29
    refine ⟨h.isc, b_chk (q := false) (r := false) h (fun _ _ => rfl) (fun h1 _ _ M' hM' => ?_) (fun h1 M' hM' => ?_)⟩
    · rw [h1] at hu
      obtain ⟨g1, g2⟩ := Bool.or_eq_false_iff.mp hu.symm
      obtain ⟨g2, g3⟩ := Bool.or_eq_false_iff.mp g2
      have hw := (b_inN (n := 40) (not_f g1) hX.2.2.1 (by decide)).1
      have hc : vp_in c 36 := bIn_v (not_f g2) (by decide)
      have hk : vp_in k 4 := bIn_v (not_f g3) (by decide)
      have hr : vp_in (S 31 (nn w) 0 0) 8 := (hX.2.2.2.2.2.2.2.1 _ (bLt hw)).2.1
      have e1 : eNote1 S w p c k = (!bIn p 0 (S 23 (rw_ S w) 0 0 - 1)) := by unfold eNote1; rw [g1, g2, g3]; rfl
      refine b_gfa hM' (by decide) (b_ld1 hM' (by decide) hw (b_gfa hM' (by decide) (b_ld1 hM' (by decide) hr (b_isIn ⟨fun z => ?_, fun z => ?_⟩))))
      · have z2 : bIn p 0 (S 23 (rw_ S w) 0 0 - 1) = true := bI1.mp z
        exact f1 hw hc hk false M' hM' (by rw [e1, z2]; rfl) (by rw [z2]; rfl)
      · have z2 : bIn p 0 (S 23 (rw_ S w) 0 0 - 1) = false := bI0.mp z
        exact f1 hw hc hk true M' hM' (by rw [e1, z2]; rfl) (by rw [z2]; rfl)
    · have ht := bE_1 h1
      subst ht
      have he1 : eNote1 S w p c k = true := by
        unfold eNote1
        revert hu
        cases eWalk S w <;> cases bIn c 0 35 <;> cases bIn k 0 3 <;> simp
      have he : eNote S w p c k m = 1 := by unfold eNote; rw [he1]; rfl
      rw [he, oS1 (by decide), oA1 (by decide)] at kk
      exact kk M' hM'
  unfold wp_X4_note wb_X4_note_24
  refine ⟨h.isc, b_noWalk h ⟨fun h1 => f0 true (by rw [bI1.mp h1]; rfl), fun h1 => b_noCell ⟨fun h2 => f0 true (by rw [bI1.mp h2]; simp), fun h2 => b_noKind ⟨fun h3 => f0 false (by rw [bI0.mp h1, bI0.mp h2, bI0.mp h3]; rfl), fun h3 => f0 true (by rw [bI1.mp h3]; simp)⟩⟩⟩⟩
end B53
