/-! THE TWIN's saw, shareOf, share -/
def sawB (S : bS) (w y : Int32) (c n : Nat) : Bool := decide (S 30 n 0 0 = w) && (decide (S 33 n 0 0 = y) && (decide (S 34 n 0 0 = 1) && !decide (S 42 n c 0 = 0)))
def sawN (S : bS) (w y : Int32) (c k : Nat) : Nat → Int32
  | 0 => -1
  | n + 1 => if sawB S w y c n = true then iMax (sawN S w y c k n) (S 41 n c k) else sawN S w y c k n
def saw (S : bS) (w y : Int32) (c k : Nat) : Int32 := sawN S w y c k (nn (S 28 0 0 0))
def mostN (S : bS) (w y : Int32) (c k : Nat) : Nat → Int32
  | 0 => -1
  | n + 1 => if Int32.ofNat n = w then mostN S w y c k n else iMax (mostN S w y c k n) (saw S (Int32.ofNat n) y c k)
def most (S : bS) (w y : Int32) (c k : Nat) : Int32 := mostN S w y c k (nn (S 27 0 0 0))
def shA (S : bS) (w y : Int32) (c k : Nat) : Int64 := if saw S w y c k = -1 then 0 else if most S w y c k = -1 then 0 else (saw S w y c k).toInt64
def shB (S : bS) (w y : Int32) (c k : Nat) : Int64 := if saw S w y c k = -1 then 0 else if most S w y c k = -1 then 0 else (iMax (saw S w y c k) (most S w y c k)).toInt64
def sumL (f : Nat → Int64) : Nat → Int64
  | 0 => 0
  | n + 1 => sumL f n + f n
def shAY (S : bS) (w : Int32) (y : Nat) : Int64 := sumL (fun c => sumL (fun k => shA S w (Int32.ofNat y) c k) 4) 36
def shBY (S : bS) (w : Int32) (y : Nat) : Int64 := sumL (fun c => sumL (fun k => shB S w (Int32.ofNat y) c k) 4) 36
def shAA (S : bS) (w : Int32) : Int64 := sumL (shAY S w) (nn (S 2 0 0 0) + 1)
def shBB (S : bS) (w : Int32) : Int64 := sumL (shBY S w) (nn (S 2 0 0 0) + 1)
def share (S : bS) (w : Int32) : Int32 := if shBB S w = 0 then 1000 else (if (1000 * shAA S w) / shBB S w < (300 : Int64) then (300 : Int64) else (1000 * shAA S w) / shBB S w).toInt32
section B54
variable {G : mG} {b : Nat} {am : Nat} {ad : bA}
theorem b_saw6 {P : Int32 → mM → Prop} {M : mM} {S : bS} (h : bM M am ad S) {x1 x2 x3 x4 : Int32} (h3 : vp_in x3 36) (h4 : vp_in x4 4) {N : Nat} (hN : N ≤ 40) (hs : S 28 0 0 0 = Int32.ofNat N) (kk : P (sawN S x1 x2 (nn x3) (nn x4) N) M) : ∀ (n c q : Nat), c + n = N → n < q → wl_X4_saw_6 G P q b M am x1 x2 x3 x4 (sawN S x1 x2 (nn x3) (nn x4) c) (Int32.ofNat c)
  | _, _, 0, _, hq => absurd hq (Nat.not_lt_zero _)
  | 0, c, q + 1, hc, _ => by
    have : c = N := by omega
    subst this
    unfold wl_X4_saw_6
    refine b_gfi h (by decide) ?_
    rw [hs]
    exact ⟨fun _ => kk, fun z => absurd (Int32.le_refl _) z⟩
  | n + 1, c, q + 1, hc, hq => by
    have hx : vp_in (Int32.ofNat c) 40 := i_vp (by omega) (by omega)
    have e : nn (Int32.ofNat c) = c := i_nn (by omega)
    have hlt : ¬ Int32.ofNat N ≤ Int32.ofNat c := fun z => absurd ((i_le (by omega) (by omega)).mp z) (by omega)
    have ih := b_saw6 h h3 h4 hN hs kk n (c + 1) q (by omega) (by omega)
    have ex : sawN S x1 x2 (nn x3) (nn x4) (c + 1) = (if sawB S x1 x2 (nn x3) c = true then iMax (sawN S x1 x2 (nn x3) (nn x4) c) (S 41 c (nn x3) (nn x4)) else sawN S x1 x2 (nn x3) (nn x4) c) := rfl
    rw [ex] at ih
    unfold wl_X4_saw_6 wb_X4_saw_79
    refine b_gfi h (by decide) ?_
    rw [hs, i_s]
    refine ⟨fun z => absurd z hlt, fun _ => b_gfa h (by decide) (b_ld1 h (by decide) hx ?_)⟩
    rw [show (Int32.ofNat c).toNatClampNeg = c from e]
    refine ⟨fun z1 => ?_, fun z1 => b_gfa h (by decide) (b_ld1 h (by decide) hx ?_)⟩
    · rw [if_neg (by unfold sawB; rw [decide_eq_false z1]; simp)] at ih
      exact ih
    rw [show (Int32.ofNat c).toNatClampNeg = c from e]
    refine ⟨fun z2 => ?_, fun z2 => b_gfa h (by decide) (b_ld1 h (by decide) hx ?_)⟩
    · rw [if_neg (by unfold sawB; rw [decide_eq_false z2]; simp)] at ih
      exact ih
    rw [show (Int32.ofNat c).toNatClampNeg = c from e]
    refine ⟨fun z3 => ?_, fun z3 => b_gfa h (by decide) (b_lda h (by decide) hx (b_ld2 h (by decide) (bLt hx) h3 ?_))⟩
    · rw [if_neg (by unfold sawB; rw [decide_eq_false z3]; simp)] at ih
      exact ih
    rw [show (Int32.ofNat c).toNatClampNeg = c from e]
    refine ⟨fun z4 => ?_, fun z4 => b_gfa h (by decide) (b_lda h (by decide) hx (b_lda2 h (by decide) (bLt hx) h3 (b_ld3 h (by decide) (bLt hx) (bLt h3) h4 ?_)))⟩
    · rw [if_neg (by unfold sawB; rw [decide_eq_true (p := S 42 c (nn x3) 0 = 0) z4]; simp)] at ih
      exact ih
    rw [show (Int32.ofNat c).toNatClampNeg = c from e]
    rw [if_pos (by unfold sawB; rw [decide_eq_true z1, decide_eq_true z2, decide_eq_true z3, decide_eq_false (p := S 42 c (nn x3) 0 = 0) z4]; rfl)] at ih
    intro g hg
    subst hg
    exact ih
theorem b_saw {P : Int32 → mM → Prop} {M : mM} {S : bS} (h : bM M am ad S) (hX : bX S) {x1 x2 x3 x4 : Int32} (h3 : vp_in x3 36) (h4 : vp_in x4 4) (kk : P (saw S x1 x2 (nn x3) (nn x4)) M) : wp_X4_saw G b P M am x1 x2 x3 x4 := by
  obtain ⟨a0, a1⟩ := bIn_t hX.2.2.1
  unfold wp_X4_saw
  exact ⟨_, b_saw6 h h3 h4 (N := nn (S 28 0 0 0)) (i_nle a0 a1) (i_of a0) kk (nn (S 28 0 0 0)) 0 _ (by omega) (Nat.lt_succ_self _)⟩
theorem b_sh55 {P : Int32 → mM → Prop} {K8 : Nat → mM → Nat → Int32 → Int64 → Int64 → Int32 → Prop} {K20 : Nat → mM → Nat → Int32 → Int64 → Int64 → Int32 → Int32 → Prop} {K30 : Nat → mM → Nat → Int32 → Int64 → Int64 → Int32 → Int32 → Int32 → Prop} {M : mM} {S : bS} (h : bM M am ad S) (hX : bX S) {x1 x6 x7 x8 : Int32} {a0 a1 : Int64} (h7 : vp_in x7 36) (h8 : vp_in x8 4) {N : Nat} (hN : N ≤ 6) (hs : S 27 0 0 0 = Int32.ofNat N) (kk : K30 b M am x1 (a0 + shA S x1 x6 (nn x7) (nn x8)) (a1 + shB S x1 x6 (nn x7) (nn x8)) x6 x7 (x8 + 1)) : ∀ (n c q : Nat), c + n = N → n < q → wl_X4_shareOf_55 G P K8 K20 K30 q b M am x1 a0 a1 x6 x7 x8 (saw S x1 x6 (nn x7) (nn x8)) (mostN S x1 x6 (nn x7) (nn x8) c) (Int32.ofNat c)
  | _, _, 0, _, hq => absurd hq (Nat.not_lt_zero _)
  | 0, c, q + 1, hc, _ => by
    have : c = N := by omega
    subst this
    have hm : most S x1 x6 (nn x7) (nn x8) = mostN S x1 x6 (nn x7) (nn x8) c := by
      unfold most; rw [hs, i_nn (by omega)]
    unfold shA shB at kk
    rw [hm] at kk
    unfold wl_X4_shareOf_55 wb_X4_shareOf_101 wb_X4_shareOf_135
    refine b_gfi h (by decide) ?_
    rw [hs]
    refine ⟨fun _ => ⟨fun z => ?_, fun z => ⟨fun z2 => ?_, fun z2 => ?_⟩⟩, fun z => absurd (Int32.le_refl _) z⟩
    · rw [if_pos z, if_pos z, Int64.add_zero, Int64.add_zero] at kk
      exact kk
    · rw [if_neg z, if_neg z, if_neg z2, if_neg z2] at kk
      intro g hg
      subst hg
      exact kk
    · rw [if_neg z, if_neg z, if_pos z2, if_pos z2, Int64.add_zero, Int64.add_zero] at kk
      exact kk
  | n + 1, c, q + 1, hc, hq => by
    have hlt : ¬ Int32.ofNat N ≤ Int32.ofNat c := fun z => absurd ((i_le (by omega) (by omega)).mp z) (by omega)
    have ih := b_sh55 (P := P) (K8 := K8) (K20 := K20) h hX h7 h8 hN hs kk n (c + 1) q (by omega) (by omega)
    have ex : mostN S x1 x6 (nn x7) (nn x8) (c + 1) = (if Int32.ofNat c = x1 then mostN S x1 x6 (nn x7) (nn x8) c else iMax (mostN S x1 x6 (nn x7) (nn x8) c) (saw S (Int32.ofNat c) x6 (nn x7) (nn x8))) := rfl
    rw [ex] at ih
    unfold wl_X4_shareOf_55 wb_X4_shareOf_95
    refine b_gfi h (by decide) ?_
    rw [hs, i_s]
    refine ⟨fun z => absurd z hlt, fun _ => ⟨fun z => ?_, fun z => ⟨fun z2 => ?_, fun z2 => ⟨h.isc, b_saw h hX h7 h8 ?_⟩⟩⟩⟩
    · unfold shA shB at kk
      rw [if_pos z, if_pos z, Int64.add_zero, Int64.add_zero] at kk
      unfold wb_X4_shareOf_101 wb_X4_shareOf_135
      exact ⟨fun _ => kk, fun y => absurd z y⟩
    · rw [if_pos z2] at ih
      exact ih
    · rw [if_neg z2] at ih
      intro g hg
      subst hg
      exact ih
theorem b_sh30 {P : Int32 → mM → Prop} {K8 : Nat → mM → Nat → Int32 → Int64 → Int64 → Int32 → Prop} {K20 : Nat → mM → Nat → Int32 → Int64 → Int64 → Int32 → Int32 → Prop} {M : mM} {S : bS} (h : bM M am ad S) (hX : bX S) {x1 x6 x7 : Int32} {a0 a1 : Int64} (h7 : vp_in x7 36) (kk : K20 b M am x1 (a0 + sumL (fun k => shA S x1 x6 (nn x7) k) 4) (a1 + sumL (fun k => shB S x1 x6 (nn x7) k) 4) x6 (x7 + 1)) : ∀ (n k q : Nat), k + n = 4 → n < q → wl_X4_shareOf_30 G P K8 K20 q b M am x1 (a0 + sumL (fun k => shA S x1 x6 (nn x7) k) k) (a1 + sumL (fun k => shB S x1 x6 (nn x7) k) k) x6 x7 (Int32.ofNat k)
  | _, _, 0, _, hq => absurd hq (Nat.not_lt_zero _)
  | 0, k, q + 1, hc, _ => by
    have : k = 4 := by omega
    subst this
    unfold wl_X4_shareOf_30
    exact ⟨fun _ => kk, fun z => absurd (by decide) z⟩
  | n + 1, k, q + 1, hc, hq => by
    have hx : vp_in (Int32.ofNat k) 4 := i_vp (by omega) (by omega)
    have e : nn (Int32.ofNat k) = k := i_nn (by omega)
    have hlt : ¬ (4 : Int32) ≤ Int32.ofNat k := fun z => absurd ((i_le (a := 4) (by decide) (by omega)).mp z) (by omega)
    have ih := b_sh30 (P := P) (K8 := K8) (K20 := K20) h hX h7 kk n (k + 1) q (by omega) (by omega)
    obtain ⟨c0, c1⟩ := bIn_t hX.2.1
    unfold wl_X4_shareOf_30
    refine ⟨fun z => absurd z hlt, fun _ => ⟨h.isc, b_saw h hX h7 hx ⟨_, b_sh55 h hX h7 hx (N := nn (S 27 0 0 0)) (i_nle c0 c1) (i_of c0) ?_ (nn (S 27 0 0 0)) 0 _ (by omega) (Nat.lt_succ_self _)⟩⟩⟩
    rw [e, i_s, Int64.add_assoc, Int64.add_assoc]
    exact ih
theorem b_sh20 {P : Int32 → mM → Prop} {K8 : Nat → mM → Nat → Int32 → Int64 → Int64 → Int32 → Prop} {M : mM} {S : bS} (h : bM M am ad S) (hX : bX S) {x1 : Int32} {y : Nat} {a0 a1 : Int64} (kk : K8 b M am x1 (a0 + shAY S x1 y) (a1 + shBY S x1 y) (Int32.ofNat y + 1)) : ∀ (n c q : Nat), c + n = 36 → n < q → wl_X4_shareOf_20 G P K8 q b M am x1 (a0 + sumL (fun c => sumL (fun k => shA S x1 (Int32.ofNat y) c k) 4) c) (a1 + sumL (fun c => sumL (fun k => shB S x1 (Int32.ofNat y) c k) 4) c) (Int32.ofNat y) (Int32.ofNat c)
  | _, _, 0, _, hq => absurd hq (Nat.not_lt_zero _)
  | 0, c, q + 1, hc, _ => by
    have : c = 36 := by omega
    subst this
    unfold wl_X4_shareOf_20
    exact ⟨fun _ => kk, fun z => absurd (by decide) z⟩
  | n + 1, c, q + 1, hc, hq => by
    have hx : vp_in (Int32.ofNat c) 36 := i_vp (by omega) (by omega)
    have e : nn (Int32.ofNat c) = c := i_nn (by omega)
    have hlt : ¬ (36 : Int32) ≤ Int32.ofNat c := fun z => absurd ((i_le (a := 36) (by decide) (by omega)).mp z) (by omega)
    have ih := b_sh20 (P := P) h hX kk n (c + 1) q (by omega) (by omega)
    unfold wl_X4_shareOf_20
    refine ⟨fun z => absurd z hlt, fun _ => ⟨5, ?_⟩⟩
    have := b_sh30 (G := G) (b := b) (P := P) (K8 := K8) (K20 := wl_X4_shareOf_20 G P K8 q) h hX (x1 := x1) (x6 := Int32.ofNat y) (a0 := a0 + sumL (fun c => sumL (fun k => shA S x1 (Int32.ofNat y) c k) 4) c) (a1 := a1 + sumL (fun c => sumL (fun k => shB S x1 (Int32.ofNat y) c k) 4) c) hx (by
      rw [e, i_s, Int64.add_assoc, Int64.add_assoc]
      exact ih) 4 0 5 (by omega) (by omega)
    rw [show sumL (fun k => shA S x1 (Int32.ofNat y) (nn (Int32.ofNat c)) k) 0 = 0 from rfl, show sumL (fun k => shB S x1 (Int32.ofNat y) (nn (Int32.ofNat c)) k) 0 = 0 from rfl, Int64.add_zero, Int64.add_zero] at this
    exact this
theorem b_sh8 {P : Int32 → mM → Prop} {M : mM} {S : bS} (h : bM M am ad S) (hX : bX S) {x1 : Int32} {N : Nat} (hN : N ≤ 9) (hs : S 2 0 0 0 = Int32.ofNat N) (kk : P (share S x1) M) : ∀ (n y q : Nat), y + n = N + 1 → n < q → wl_X4_shareOf_8 G P q b M am x1 (sumL (shAY S x1) y) (sumL (shBY S x1) y) (Int32.ofNat y)
  | _, _, 0, _, hq => absurd hq (Nat.not_lt_zero _)
  | 0, y, q + 1, hc, _ => by
    have : y = N + 1 := by omega
    subst this
    have eA : sumL (shAY S x1) (N + 1) = shAA S x1 := by unfold shAA; rw [hs, i_nn (by omega)]
    have eB : sumL (shBY S x1) (N + 1) = shBB S x1 := by unfold shBB; rw [hs, i_nn (by omega)]
    unfold wl_X4_shareOf_8 wb_X4_shareOf_181
    rw [eA, eB]
    unfold share at kk
    refine b_gfi h (by decide) ?_
    rw [hs]
    have hlt : Int32.ofNat N < Int32.ofNat (N + 1) := by
      refine Int32.not_le.mp fun z => ?_
      have := (i_le (by omega) (by omega)).mp z
      omega
    refine ⟨fun _ => ⟨fun z => ?_, fun z => ?_⟩, fun z => absurd hlt z⟩
    · have z2 : ¬ shBB S x1 = 0 := fun y => z ((lg_cmp_eq _ _).mpr y)
      rw [if_neg z2] at kk
      refine ⟨z2, fun g hg => ?_⟩
      subst hg
      exact kk
    · rw [if_pos ((lg_cmp_eq _ _).mp z)] at kk
      exact kk
  | n + 1, y, q + 1, hc, hq => by
    have hlt : ¬ Int32.ofNat N < Int32.ofNat y := by
      refine Int32.not_lt.mpr ?_
      exact (i_le (by omega) (by omega)).mpr (by omega)
    have ih := b_sh8 (P := P) h hX hN hs kk n (y + 1) q (by omega) (by omega)
    unfold wl_X4_shareOf_8
    refine b_gfi h (by decide) ?_
    rw [hs]
    refine ⟨fun z => absurd z hlt, fun _ => ⟨37, ?_⟩⟩
    have := b_sh20 (G := G) (b := b) (P := P) (K8 := wl_X4_shareOf_8 G P q) h hX (x1 := x1) (y := y) (a0 := sumL (shAY S x1) y) (a1 := sumL (shBY S x1) y) (by
      rw [i_s]
      exact ih) 36 0 37 (by omega) (by omega)
    rw [show sumL (fun c => sumL (fun k => shA S x1 (Int32.ofNat y) c k) 4) 0 = 0 from rfl, show sumL (fun c => sumL (fun k => shB S x1 (Int32.ofNat y) c k) 4) 0 = 0 from rfl, Int64.add_zero, Int64.add_zero] at this
    exact this
theorem b_share {P : Int32 → mM → Prop} {M : mM} {S : bS} (h : bM M am ad S) (hX : bX S) {x1 : Int32} (kk : P (share S x1) M) : wp_X4_shareOf G b P M am x1 := by
  obtain ⟨c0, c1⟩ := bIn_t hX.2.2.2.2.1
  unfold wp_X4_shareOf
  exact ⟨_, b_sh8 h hX (N := nn (S 2 0 0 0)) (i_nle c0 c1) (i_of c0) kk (nn (S 2 0 0 0) + 1) 0 _ (by omega) (Nat.lt_succ_self _)⟩
theorem t_share {M : mM} {S : bS} (h : bM M am ad S) (hX : bX S) {w : Int32} {K : Int32 → mM → Prop} (kk : ∀ M', bM M' am ad (oS (bE (eWalker S w) false false) S (z0 S)) → K (oA (bE (eWalker S w) false false) (share (z0 S) w)) M') : wp_X4_share G b K M am w := by
  unfold wp_X4_share wb_X4_share_23
  refine ⟨h.isc, b_noWalker h ⟨h.isc, b_chk (q := false) (r := false) h (fun _ _ => rfl) (fun h1 _ _ M' hM' => ?_) (fun h1 M' hM' => ?_)⟩⟩
  · rw [h1] at kk
    exact ⟨hM'.isc, b_share hM' (show bX (z0 S) from hX) (kk _ hM')⟩
  · rw [oS1 h1, oA1 h1] at kk
    exact kk M' hM'
end B54
