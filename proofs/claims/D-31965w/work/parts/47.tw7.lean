/-! THE TWIN's DISTANCES AND CURVES; cellAt -/
def iAbs (x : Int32) : Int32 := if 0 ≤ x then x else 0 - x
def iMax (x y : Int32) : Int32 := if x < y then y else x
def iMin (x y : Int32) : Int32 := if y < x then y else x
def dist (x y : Int32) : Int32 := iMax (iAbs (x / 6 - y / 6)) (iAbs ((x - x / 6 * 6) - (y - y / 6 * 6)))
/-- the least distance over the first n places of a route -/
def farN (S : bS) (r : Nat) (c : Int32) : Nat → Int32
  | 0 => 36
  | n + 1 => iMin (farN S r c n) (dist (S 26 r n 0) c)
def far (S : bS) (r : Nat) (c : Int32) : Int32 := farN S r c (nn (S 23 r 0 0))
def told (d : Nat) : Int32 := if d = 0 then 1000 else if d = 1 then 800 else if d = 2 then 500 else 200
def cvBy (S : bS) (k c d : Nat) : Int32 :=
  if S 43 c d 0 ≤ 0 then told d else if S 44 k c 0 ≤ 0 then told d else
    (if (1000 * (S 44 k c d).toInt64 * (S 43 c 0 0).toInt64) / ((S 43 c d 0).toInt64 * (S 44 k c 0).toInt64) < (1000 : Int64) then (1000 * (S 44 k c d).toInt64 * (S 43 c 0 0).toInt64) / ((S 43 c d 0).toInt64 * (S 44 k c 0).toInt64) else (1000 : Int64)).toInt32
def cv (S : bS) (k c : Nat) : Nat → Int32
  | 0 => 1000
  | d + 1 => iMin (cvBy S k c (d + 1)) (cv S k c d)
/-- the curve's denominators are no 0 -/
def bQ (S : bS) : Prop := ∀ k c d, k < 4 → c < 3 → d < 4 → ¬ S 43 c d 0 ≤ 0 → ¬ S 44 k c 0 ≤ 0 → ¬ (S 43 c d 0).toInt64 * (S 44 k c 0).toInt64 = 0
def eCurve (k c d : Int32) : Int32 := bE (!bIn k 0 3) (!bIn c 0 2 || !bIn d 0 3) false
section B47
variable {G : mG} {b : Nat} {am : Nat} {ad : bA}
theorem b_dist {M : mM} {K : Int32 → mM → Prop} {x y : Int32} (kk : K (dist x y) M) : wp_X4_distance G b K M x y := by
  unfold wp_X4_distance
  intro g1 e1 g2 e2 g3 e3 g4 e4
  subst e4
  subst e3
  subst e2
  subst e1
  exact kk
theorem b_far6 {P : Int32 → mM → Prop} {M : mM} {S : bS} (h : bM M am ad S) (hX : bX S) {x1 x2 : Int32} (h1 : vp_in x1 8) (kk : P (far S (nn x1) x2) M) : ∀ (n c q : Nat), c + n = nn (S 23 (nn x1) 0 0) → n < q → wl_X4_far_6 G P q b M am x1 x2 (farN S (nn x1) x2 c) (Int32.ofNat c)
  | _, _, 0, _, hq => absurd hq (Nat.not_lt_zero _)
  | 0, c, q + 1, hc, _ => by
    have e23 := i_of (bIn_t (hX.2.2.2.2.2.1 _ (bLt h1))).1
    unfold wl_X4_far_6
    refine b_gfa h (by decide) (b_ld1 h (by decide) h1 ⟨fun _ => ?_, fun z => absurd ?_ z⟩)
    · have : c = nn (S 23 (nn x1) 0 0) := by omega
      rw [this]
      exact kk
    · show S 23 (nn x1) 0 0 ≤ Int32.ofNat c
      rw [show c = nn (S 23 (nn x1) 0 0) by omega, ← e23]
      exact Int32.le_refl _
  | n + 1, c, q + 1, hc, hq => by
    have hb := bIn_t (hX.2.2.2.2.2.1 _ (bLt h1))
    have e23 := i_of hb.1
    have hle : nn (S 23 (nn x1) 0 0) ≤ 31 := i_nle hb.1 hb.2
    have hx : vp_in (Int32.ofNat c) 31 := i_vp (by omega) (by omega)
    have e : (Int32.ofNat c).toNatClampNeg = c := i_nn (by omega)
    unfold wl_X4_far_6
    refine b_gfa h (by decide) (b_ld1 h (by decide) h1 ⟨fun z => ?_, fun _ => ?_⟩)
    · have z2 : Int32.ofNat (nn (S 23 (nn x1) 0 0)) ≤ Int32.ofNat c := by rw [← e23]; exact z
      have := (i_le (a := nn (S 23 (nn x1) 0 0)) (c := c) (nn_lt _) (by omega)).mp z2
      omega
    · refine b_gfa h (by decide) (b_lda h (by decide) h1 (b_ld2 h (by decide) (bLt h1) hx (b_dist ?_)))
      intro g8 e8
      rw [i_s]
      subst e8
      have := b_far6 h hX h1 kk n (c + 1) q (by omega) (by omega)
      rw [show farN S (nn x1) x2 (c + 1) = iMin (farN S (nn x1) x2 c) (dist (S 26 (nn x1) c 0) x2) from rfl] at this
      rw [e]
      exact this
theorem b_far {P : Int32 → mM → Prop} {M : mM} {S : bS} (h : bM M am ad S) (hX : bX S) {x1 x2 : Int32} (h1 : vp_in x1 8) (kk : P (far S (nn x1) x2) M) : wp_X4_far G b P M am x1 x2 := by
  unfold wp_X4_far
  exact ⟨_, b_far6 h hX h1 kk (nn (S 23 (nn x1) 0 0)) 0 _ (by omega) (Nat.lt_succ_self _)⟩
theorem b_cv {M : mM} {S : bS} (h : bM M am ad S) (hQ : bQ S) {x1 x2 : Int32} (h1 : vp_in x1 4) (h2 : vp_in x2 3) : ∀ (d : Nat) (b q : Nat) (P : Int32 → mM → Prop), d < 4 → d < q → P (cv S (nn x1) (nn x2) d) M → wr_X4_curveOf q G b P M am x1 x2 (Int32.ofNat d)
  | _, _, 0, _, _, hq, _ => absurd hq (Nat.not_lt_zero _)
  | 0, b, q + 1, P, _, _, kk => by
    show wp_X4_curveOf (wR_X4_curveOf q) G b P M am x1 x2 0
    unfold wp_X4_curveOf
    exact ⟨fun z => absurd rfl z, fun _ => kk⟩
  | d + 1, b, q + 1, P, hd, hq, kk => by
    show wp_X4_curveOf (wR_X4_curveOf q) G b P M am x1 x2 (Int32.ofNat (d + 1))
    have hx : vp_in (Int32.ofNat (d + 1)) 4 := i_vp (by omega) (by omega)
    have e : (Int32.ofNat (d + 1)).toNatClampNeg = d + 1 := i_nn (by omega)
    have em : Int32.ofNat (d + 1) - 1 = Int32.ofNat d := by
      rcases (by omega : d = 0 ∨ d = 1 ∨ d = 2) with rfl | rfl | rfl <;> decide
    have z0 : vp_in (0 : Int32) 4 := i_vp (c := 0) (by decide) (by decide)
    have last : ∀ t : Int32, t = cvBy S (nn x1) (nn x2) (d + 1) → wb_X4_curveOf_119 (wR_X4_curveOf q) G P b M am x1 x2 (Int32.ofNat (d + 1)) t := by
      intro t ht
      unfold wb_X4_curveOf_119
      refine ⟨h.isc, ?_⟩
      rw [em]
      refine b_cv h hQ h1 h2 d 0 q _ (by omega) (by omega) ?_
      intro g27 e27
      subst e27
      subst ht
      exact kk
    have mid : ∀ t : Int32, t = told (d + 1) → wb_X4_curveOf_33 (wR_X4_curveOf q) G P b M am x1 x2 (Int32.ofNat (d + 1)) t := by
      intro t ht
      unfold wb_X4_curveOf_33
      refine b_gfa h (by decide) (b_lda h (by decide) h2 (b_ld2 h (by decide) (bLt h2) hx ?_))
      rw [e]
      refine ⟨fun c1 => last t ?_, fun c1 => b_gfa h (by decide) (b_lda h (by decide) h1 (b_lda2 h (by decide) (bLt h1) h2 (b_ld3 h (by decide) (bLt h1) (bLt h2) z0 ⟨fun c2 => last t ?_, fun c2 => ?_⟩)))⟩
      · unfold cvBy; rw [if_pos c1]; exact ht
      · have c2' : S 44 (nn x1) (nn x2) 0 ≤ 0 := c2
        unfold cvBy; rw [if_neg c1, if_pos c2']; exact ht
      · refine b_gfa h (by decide) (b_lda h (by decide) h1 (b_lda2 h (by decide) (bLt h1) h2 (b_ld3 h (by decide) (bLt h1) (bLt h2) hx ?_)))
        refine b_gfa h (by decide) (b_lda h (by decide) h2 (b_ld2 h (by decide) (bLt h2) z0 ?_))
        intro g15 e15
        refine b_gfa h (by decide) (b_lda h (by decide) h2 (b_ld2 h (by decide) (bLt h2) hx ?_))
        refine b_gfa h (by decide) (b_lda h (by decide) h1 (b_lda2 h (by decide) (bLt h1) h2 (b_ld3 h (by decide) (bLt h1) (bLt h2) z0 ?_)))
        intro g23 e23
        rw [e] at e15 e23
        subst e23
        subst e15
        refine ⟨hQ _ _ _ (bLt h1) (bLt h2) hd c1 c2, ?_⟩
        intro g24 e24
        subst e24
        refine last _ ?_
        have c2' : ¬ S 44 (nn x1) (nn x2) 0 ≤ 0 := c2
        unfold cvBy
        rw [if_neg c1, if_neg c2']
        rfl
    unfold wp_X4_curveOf
    rcases (by omega : d = 0 ∨ d = 1 ∨ d = 2) with rfl | rfl | rfl
    · exact ⟨fun _ => ⟨fun z => absurd rfl z, fun _ => mid 800 rfl⟩, fun z => absurd z (by decide)⟩
    · exact ⟨fun _ => ⟨fun _ => ⟨fun z => absurd rfl z, fun _ => mid 500 rfl⟩, fun z => absurd z (by decide)⟩, fun z => absurd z (by decide)⟩
    · exact ⟨fun _ => ⟨fun _ => ⟨fun _ => mid 200 rfl, fun z => absurd z (by decide)⟩, fun z => absurd z (by decide)⟩, fun z => absurd z (by decide)⟩
theorem t_curve {M : mM} {S : bS} (h : bM M am ad S) (hQ : bQ (z0 S)) {k c d : Int32} {K : Int32 → mM → Prop} (kk : ∀ M', bM M' am ad (oS (eCurve k c d) S (z0 S)) → K (oA (eCurve k c d) (cv S (nn k) (nn c) (nn d))) M') : wp_X4_curve G b K M am k c d := by
  have hcv : ∀ n, cv (z0 S) (nn k) (nn c) n = cv S (nn k) (nn c) n := by
    intro n
    induction n with
    | zero => rfl
    | succ n ih => unfold cv; rw [ih]; rfl
  have fin : ∀ u w : Bool, u = (!bIn k 0 3) → w = (!bIn c 0 2 || !bIn d 0 3) → wb_X4_curve_28 G K b M am k c d am (bI u) (bI w) := by
    intro u w hu hw
    have he : eCurve k c d = bE u w false := by rw [hu, hw]; rfl
    rw [he] at kk
    unfold wb_X4_curve_28 wb_X4_curve_46
    refine ⟨h.isc, b_chk (r := false) h (fun _ _ => rfl) (fun h1 h2 _ M' hM' => ⟨hM'.isc, ?_⟩) (fun h1 M' hM' => ?_)⟩
    · rw [h1] at hu
      rw [h2] at hw
      have h3 := Bool.or_eq_false_iff.mp hw.symm
      have hk : vp_in k 4 := bIn_v (not_f hu.symm) (by decide)
      have hc : vp_in c 3 := bIn_v (not_f h3.1) (by decide)
      have hd := bIn_t (not_f h3.2)
      have hd4 : nn d < 4 := Nat.lt_of_le_of_lt (i_nle hd.1 hd.2) (by decide)
      rw [h1, h2] at kk
      have := b_cv (G := G) hM' hQ hk hc (nn d) 0 5 K hd4 (by omega) (by rw [show cv (bU S 0 0 0 0 0) (nn k) (nn c) (nn d) = cv S (nn k) (nn c) (nn d) from hcv _]; exact kk _ hM')
      rw [← i_of hd.1] at this
      exact this
    · rw [oS1 h1, oA1 h1] at kk
      exact kk M' hM'
  unfold wp_X4_curve wb_X4_curve_23
  exact b_noKind (b_isIn ⟨fun h1 => fin _ true rfl (by rw [bI0.mp h1]; rfl), fun h1 => b_isIn ⟨fun h2 => fin _ false rfl (by rw [bI1.mp h1, bI1.mp h2]; rfl), fun h2 => fin _ true rfl (by rw [bI0.mp h2]; simp)⟩⟩)
end B47
