/-! THE CLASS's distances and curves -/
def xfarN (X : bS) (r : Nat) (c : Int32) : Nat → Int32
  | 0 => 6
  | n + 1 => iMin (xfarN X r c n) (dist (X 26 r n 0) c)
def xfar (X : bS) (r : Nat) (c : Int32) : Int32 := xfarN X r c (nn (X 23 r 0 0))
theorem xfar_eq {X : bS} {r : Nat} {c : Int32} (h26 : ∀ j, j < 31 → vp_in (X 26 r j 0) 36) (hc : vp_in c 36) : ∀ n, n + 1 ≤ 31 → xfarN X r c (n + 1) = farN X r c (n + 1)
  | 0, _ => by
    obtain ⟨d0, d5⟩ := dist_b (h26 0 (by omega)) hc
    show iMin 6 (dist (X 26 r 0 0) c) = iMin 36 (dist (X 26 r 0 0) c)
    unfold iMin
    have h1 : dist (X 26 r 0 0) c < 6 := Int32.lt_iff_toInt_lt.mpr (by have := Int32.le_iff_toInt_le.mp d5; show _ < (6 : Int); have e : (5 : Int32).toInt = 5 := rfl; omega)
    have h2 : dist (X 26 r 0 0) c < 36 := Int32.lt_iff_toInt_lt.mpr (by have := Int32.le_iff_toInt_le.mp d5; show _ < (36 : Int); have e : (5 : Int32).toInt = 5 := rfl; omega)
    rw [if_pos h1, if_pos h2]
  | n + 1, h => by
    show iMin (xfarN X r c (n + 1)) (dist (X 26 r (n + 1) 0) c) = iMin (farN X r c (n + 1)) (dist (X 26 r (n + 1) 0) c)
    rw [xfar_eq h26 hc n (by omega)]
theorem xfar_far {X : bS} {r : Nat} {c : Int32} (h26 : ∀ j, j < 31 → vp_in (X 26 r j 0) 36) (hc : vp_in c 36) (h1 : 1 ≤ nn (X 23 r 0 0)) (h31 : nn (X 23 r 0 0) ≤ 31) : xfar X r c = far X r c := by
  unfold xfar far
  obtain ⟨n, hn⟩ : ∃ n, nn (X 23 r 0 0) = n + 1 := ⟨nn (X 23 r 0 0) - 1, by omega⟩
  rw [hn]
  exact xfar_eq h26 hc n (by omega)
/-- bounds of the counts behind the curves -/
def bB (S : bS) : Prop := (∀ c d, c < 3 → d < 4 → 0 ≤ (S 43 c d 0).toInt ∧ (S 43 c d 0).toInt ≤ 100000) ∧ ∀ k c d, k < 4 → c < 3 → d < 4 → 0 ≤ (S 44 k c d).toInt ∧ (S 44 k c d).toInt ≤ 20000
theorem i64_m {x y : Int64} (h : -(2 ^ 63) ≤ x.toInt * y.toInt ∧ x.toInt * y.toInt < 2 ^ 63) : (x * y).toInt = x.toInt * y.toInt := by
  rw [Int64.toInt_mul]
  exact Int.bmod_eq_of_le (by omega) (by omega)
theorem cv_rat {x y u v : Int32} (hx : 0 ≤ x.toInt ∧ x.toInt ≤ 20000) (hy : 0 ≤ y.toInt ∧ y.toInt ≤ 100000) (hu : 0 < u.toInt ∧ u.toInt ≤ 100000) (hv : 0 < v.toInt ∧ v.toInt ≤ 20000) : ¬ u.toInt64 * v.toInt64 = 0 ∧ 0 ≤ ((1000 * x.toInt64 * y.toInt64) / (u.toInt64 * v.toInt64)).toInt := by
  have ex : x.toInt64.toInt = x.toInt := Int32.toInt_toInt64 x
  have ey : y.toInt64.toInt = y.toInt := Int32.toInt_toInt64 y
  have eu : u.toInt64.toInt = u.toInt := Int32.toInt_toInt64 u
  have ev : v.toInt64.toInt = v.toInt := Int32.toInt_toInt64 v
  have e1 : (1000 : Int64).toInt = 1000 := rfl
  have b1 : x.toInt * y.toInt ≤ 20000 * 100000 := Int.mul_le_mul hx.2 hy.2 hy.1 (by omega)
  have b0 : 0 ≤ x.toInt * y.toInt := Int.mul_nonneg hx.1 hy.1
  have c1 : u.toInt * v.toInt ≤ 100000 * 20000 := Int.mul_le_mul hu.2 hv.2 (by omega) (by omega)
  have c0 : 0 < u.toInt * v.toInt := Int.mul_pos hu.1 hv.1
  have m1 : (1000 * x.toInt64).toInt = 1000 * x.toInt := by
    rw [i64_m (by rw [e1, ex]; omega), e1, ex]
  have m2 : (1000 * x.toInt64 * y.toInt64).toInt = 1000 * (x.toInt * y.toInt) := by
    rw [i64_m (by rw [m1, ey, Int.mul_assoc]; omega), m1, ey, Int.mul_assoc]
  have m3 : (u.toInt64 * v.toInt64).toInt = u.toInt * v.toInt := by
    rw [i64_m (by rw [eu, ev]; omega), eu, ev]
  refine ⟨fun z => ?_, ?_⟩
  · rw [z] at m3
    have : (0 : Int64).toInt = 0 := rfl
    omega
  · rw [Int64.toInt_div, m2, m3]
    have d0 : 0 ≤ (1000 * (x.toInt * y.toInt)).tdiv (u.toInt * v.toInt) := Int.tdiv_nonneg (by omega) (by omega)
    have d1 : (1000 * (x.toInt * y.toInt)).tdiv (u.toInt * v.toInt) ≤ 1000 * (x.toInt * y.toInt) := Int.tdiv_le_self _ (by omega)
    rw [Int.bmod_eq_of_le (by omega) (by omega)]
    exact d0
theorem bB.q {S : bS} (h : bB S) : bQ S := by
  intro k c d hk hc hd h1 h2
  have a1 := h.1 c d hc hd
  have a2 := h.2 k c 0 hk hc (by omega)
  have n1 : ¬ (S 43 c d 0).toInt ≤ 0 := fun z => h1 (Int32.le_iff_toInt_le.mpr z)
  have n2 : ¬ (S 44 k c 0).toInt ≤ 0 := fun z => h2 (Int32.le_iff_toInt_le.mpr z)
  exact (cv_rat (x := 0) (y := 0) ⟨by decide, by decide⟩ ⟨by decide, by decide⟩ ⟨by omega, a1.2⟩ ⟨by omega, a2.2⟩).1
theorem l_min32 {a p : Int32} : (if a.toInt64 < p.toInt64 then a.toInt64 else p.toInt64).toInt32 = iMin a p := by
  have e : ∀ x : Int32, x.toInt64.toInt32 = x := fun x => Int32.toInt32_toInt64 x
  unfold iMin
  by_cases z : p < a
  · have : ¬ a.toInt64 < p.toInt64 := fun y => by
      have y1 := Int64.lt_iff_toInt_lt.mp y
      rw [Int32.toInt_toInt64, Int32.toInt_toInt64] at y1
      have z1 := Int32.lt_iff_toInt_lt.mp z
      omega
    rw [if_pos z, if_neg this, e]
  · rw [if_neg z]
    by_cases y : a.toInt64 < p.toInt64
    · rw [if_pos y, e]
    · rw [if_neg y, e]
      have z1 : ¬ p.toInt < a.toInt := fun w => z (Int32.lt_iff_toInt_lt.mpr w)
      have y1 : ¬ a.toInt < p.toInt := fun w => y (Int64.lt_iff_toInt_lt.mpr (by rw [Int32.toInt_toInt64, Int32.toInt_toInt64]; exact w))
      exact Int32.toInt_inj.mp (by omega)
theorem l_minR {r : Int64} {p : Int32} (hr : 0 ≤ r.toInt) (hp : 0 ≤ p.toInt ∧ p.toInt ≤ 1000) : (if r < p.toInt64 then r else p.toInt64).toInt32 = iMin (if r < (1000 : Int64) then r else (1000 : Int64)).toInt32 p := by
  have e : p.toInt64.toInt32 = p := Int32.toInt32_toInt64 p
  have ep : p.toInt64.toInt = p.toInt := Int32.toInt_toInt64 p
  have e1 : (1000 : Int64).toInt = 1000 := rfl
  have small : ∀ x : Int64, 0 ≤ x.toInt → x.toInt ≤ 1000 → x.toInt32.toInt = x.toInt := fun x h0 h1 => by
    rw [Int64.toInt_toInt32]
    exact Int.bmod_eq_of_le (by omega) (by omega)
  unfold iMin
  by_cases z : r < (1000 : Int64)
  · rw [if_pos z]
    have z1 := Int64.lt_iff_toInt_lt.mp z
    rw [e1] at z1
    have s := small r hr (by omega)
    by_cases y : r < p.toInt64
    · have y1 := Int64.lt_iff_toInt_lt.mp y
      rw [if_pos y, if_neg fun w => ?_]
      have := Int32.lt_iff_toInt_lt.mp w
      omega
    · rw [if_neg y, e]
      have y1 : ¬ r.toInt < p.toInt := fun w => y (Int64.lt_iff_toInt_lt.mpr (by rw [ep]; exact w))
      by_cases w : p < r.toInt32
      · rw [if_pos w]
      · rw [if_neg w]
        have w1 : ¬ p.toInt < r.toInt32.toInt := fun q => w (Int32.lt_iff_toInt_lt.mpr q)
        exact Int32.toInt_inj.mp (by omega)
  · rw [if_neg z]
    have z1 : ¬ r.toInt < 1000 := fun w => z (Int64.lt_iff_toInt_lt.mpr w)
    have e2 : ((1000 : Int64).toInt32).toInt = 1000 := rfl
    rw [if_neg fun y => ?_, e]
    · by_cases w : p < (1000 : Int64).toInt32
      · rw [if_pos w]
      · rw [if_neg w]
        have w1 : ¬ p.toInt < ((1000 : Int64).toInt32).toInt := fun q => w (Int32.lt_iff_toInt_lt.mpr q)
        exact Int32.toInt_inj.mp (by omega)
    · have y1 := Int64.lt_iff_toInt_lt.mp y
      rw [ep] at y1
      omega
theorem cv_b {S : bS} {k c : Nat} (hB : bB S) (hk : k < 4) (hc : c < 3) : ∀ d, d < 4 → 0 ≤ (cv S k c d).toInt ∧ (cv S k c d).toInt ≤ 1000
  | 0, _ => by
    show 0 ≤ (1000 : Int32).toInt ∧ (1000 : Int32).toInt ≤ 1000
    exact ⟨by decide, by decide⟩
  | d + 1, hd => by
    obtain ⟨p0, p1⟩ := cv_b hB hk hc d (by omega)
    have hb : 0 ≤ (cvBy S k c (d + 1)).toInt := by
      unfold cvBy
      have ht : 0 ≤ (told (d + 1)).toInt := by
        rcases (by omega : d = 0 ∨ d = 1 ∨ d = 2) with rfl | rfl | rfl <;> decide
      by_cases z : S 43 c (d + 1) 0 ≤ 0
      · rw [if_pos z]; exact ht
      · rw [if_neg z]
        by_cases y : S 44 k c 0 ≤ 0
        · rw [if_pos y]; exact ht
        · rw [if_neg y]
          have a1 := hB.1 c (d + 1) hc hd
          have a2 := hB.2 k c 0 hk hc (by omega)
          have n1 : ¬ (S 43 c (d + 1) 0).toInt ≤ 0 := fun w => z (Int32.le_iff_toInt_le.mpr w)
          have n2 : ¬ (S 44 k c 0).toInt ≤ 0 := fun w => y (Int32.le_iff_toInt_le.mpr w)
          have r0 := (cv_rat (hB.2 k c (d + 1) hk hc hd) (hB.1 c 0 hc (by omega)) ⟨by omega, a1.2⟩ ⟨by omega, a2.2⟩).2
          generalize (1000 * (S 44 k c (d + 1)).toInt64 * (S 43 c 0 0).toInt64) / ((S 43 c (d + 1) 0).toInt64 * (S 44 k c 0).toInt64) = r at r0
          by_cases w : r < (1000 : Int64)
          · rw [if_pos w, Int64.toInt_toInt32]
            have w1 := Int64.lt_iff_toInt_lt.mp w
            have e1 : (1000 : Int64).toInt = 1000 := rfl
            rw [Int.bmod_eq_of_le (by omega) (by omega)]
            exact r0
          · rw [if_neg w]; decide
    show 0 ≤ (iMin (cvBy S k c (d + 1)) (cv S k c d)).toInt ∧ (iMin (cvBy S k c (d + 1)) (cv S k c d)).toInt ≤ 1000
    unfold iMin
    by_cases z : cv S k c d < cvBy S k c (d + 1)
    · rw [if_pos z]; exact ⟨p0, p1⟩
    · rw [if_neg z]
      have z1 : ¬ (cv S k c d).toInt < (cvBy S k c (d + 1)).toInt := fun q => z (Int32.lt_iff_toInt_lt.mpr q)
      exact ⟨hb, by omega⟩
theorem row3 : ∀ k, k < 4 → ∀ c, c < 3 → nn (3 * Int32.ofNat k + Int32.ofNat c) = 3 * k + c ∧ vp_in (3 * Int32.ofNat k + Int32.ofNat c) 12 := by
  intro k hk c hc
  have e : 3 * Int32.ofNat k + Int32.ofNat c = Int32.ofNat (3 * k + c) := by
    rw [Int32.ofNat_add, Int32.ofNat_mul]; rfl
  rw [e]
  exact ⟨i_nn (by omega), i_vp (by omega) (by omega)⟩
section B78
variable {G : mG} {b : Nat} {κ : xK} {M : mM} {ad : xA} {X : bS}
theorem x_dist {K : Int32 → mM → Prop} {x y : Int32} (kk : K (dist x y) M) : wp_X1_distance G b K M x y := by
  unfold wp_X1_distance
  intro g1 e1 g2 e2 g3 e3 g4 e4
  subst e4
  subst e3
  subst e2
  subst e1
  exact kk
theorem x_far15 {P : Int32 → mM → Prop} (h : rX κ M ad X) {r N : Nat} (hr : r < xN X 1) (hN : nn (X 23 r 0 0) = N) (hN31 : N ≤ 31) {x1 : Int32} (kk : P (xfarN X r x1 N) M) : ∀ (n c q : Nat), c + n = N → n < q → wl_X14_distanceOf_15 G P q b M x1 (xfarN X r x1 c) (ad 25 r 0) (Int32.ofNat N) (Int32.ofNat c)
  | _, _, 0, _, hq => absurd hq (Nat.not_lt_zero _)
  | 0, c, q + 1, hc, _ => by
    have : c = N := by omega
    subst this
    unfold wl_X14_distanceOf_15
    exact ⟨fun _ => kk, fun z => absurd (Int32.le_refl _) z⟩
  | n + 1, c, q + 1, hc, hq => by
    have hlt : ¬ Int32.ofNat N ≤ Int32.ofNat c := fun z => absurd ((i_le (by omega) (by omega)).mp z) (by omega)
    unfold wl_X14_distanceOf_15
    refine ⟨fun z => absurd z hlt, fun _ => ldi_ (h.at (xl25 hr)) (by rw [hN]; exact i_vp (by omega) (by omega)) (x_dist ?_)⟩
    intro g hg
    rw [show (Int32.ofNat c).toNatClampNeg = c from i_nn (by omega)] at hg
    rw [i_s]
    subst hg
    exact x_far15 h hr hN hN31 kk n (c + 1) q (by omega) (by omega)
theorem x_far {P : Int32 → mM → Prop} (h : rX κ M ad X) {r : Nat} (hr : r < xN X 1) (h23 : bIn (X 23 r 0 0) 0 31 = true) {x1 : Int32} (kk : P (xfar X r x1) M) : wp_X14_distanceOf G b P M (ad 24 1 r) x1 := by
  have hL : 1 < 4 + xN X 3 := by omega
  unfold wp_X14_distanceOf
  exact gfa_ (h.at (xl24 hL hr)) rfl (aln_ (h.at (xl25 hr)) (by decide) ⟨_, x_far15 h hr rfl (i_nle (bIn_t h23).1 (bIn_t h23).2) kk _ 0 _ (Nat.zero_add _) (Nat.lt_succ_self _)⟩)
theorem x_cv57 {P : Int32 → mM → Prop} (h : rX κ M ad X) (hB : bB X) {k c D q0 : Nat} (hk : k < 4) (hc : c < 3) (hD : D < 4) {f : Nat → Int32} (hq0 : M q0 = some (true, .inl (0, 4, mIs f))) (hf : ∀ d, d < 4 → f d = told d) (kk : P (cv X k c D) M) : ∀ (n d q : Nat), d + n = D → n < q → wl_X1_curveOf_57 G P q b M (Int32.ofNat D) (ad 28 1 (3 * k + c)) (ad 28 0 c) q0 (cv X k c d) (Int32.ofNat (d + 1))
  | _, _, 0, _, hq => absurd hq (Nat.not_lt_zero _)
  | 0, d, q + 1, hd, _ => by
    have : d = D := by omega
    subst this
    unfold wl_X1_curveOf_57
    exact ⟨fun _ => kk, fun z => absurd ((i_lt (by omega) (by omega)).mpr (by omega)) z⟩
  | n + 1, d, q + 1, hd, hq => by
    have hlt : ¬ Int32.ofNat D < Int32.ofNat (d + 1) := fun z => absurd ((i_lt (by omega) (by omega)).mp z) (by omega)
    have ih := x_cv57 h hB hk hc hD hq0 hf kk n (d + 1) q (by omega) (by omega)
    have v1 : vp_in (Int32.ofNat (d + 1)) 4 := i_vp (by omega) (by omega)
    have e1 : (Int32.ofNat (d + 1)).toNatClampNeg = d + 1 := i_nn (by omega)
    have v0 : vp_in (0 : Int32) 4 := i_vp (c := 0) (by decide) (by decide)
    have lk := h.at (xl28 (X := X) (c := 0) (j := c) (by decide) hc)
    have bd := h.at (xl28 (X := X) (c := 1) (j := 3 * k + c) (by decide) (by show 3 * k + c < 12; omega))
    have bt : ∀ z, xTab X 1 (3 * k + c) z = X 44 k c z := fun z => by
      show X 44 ((3 * k + c) / 3) ((3 * k + c) % 3) z = _
      rw [show (3 * k + c) / 3 = k by omega, show (3 * k + c) % 3 = c by omega]
    obtain ⟨p0, p1⟩ := cv_b hB hk hc d (by omega)
    have a1 := hB.1 c (d + 1) hc (by omega)
    have a2 := hB.2 k c 0 hk hc (by omega)
    have go : ∀ g : Int32, g = cv X k c (d + 1) → wl_X1_curveOf_57 G P q b M (Int32.ofNat D) (ad 28 1 (3 * k + c)) (ad 28 0 c) q0 g (Int32.ofNat (d + 1) + 1) := fun g hg => by
      rw [i_s, hg]
      exact ih
    have unk : cvBy X k c (d + 1) = told (d + 1) → wb_X1_curveOf_83 G P (wl_X1_curveOf_57 G P q) b M (Int32.ofNat D) (ad 28 1 (3 * k + c)) (ad 28 0 c) q0 (cv X k c d) (Int32.ofNat (d + 1)) 0 := fun hby => by
      unfold wb_X1_curveOf_83 wb_X1_curveOf_128
      refine ⟨fun _ => ldi_ hq0 v1 ?_, fun z => absurd rfl z⟩
      intro g hg
      subst hg
      refine go _ ?_
      rw [e1, hf _ (by omega), l_min32]
      show _ = iMin (cvBy X k c (d + 1)) (cv X k c d)
      rw [hby]
    unfold wl_X1_curveOf_57 wb_X1_curveOf_82
    refine ⟨fun z => absurd z hlt, fun _ => ldi_ lk v1 ⟨fun z => unk ?_, fun z => ldi_ bd v0 ⟨fun y => unk ?_, fun y => ?_⟩⟩⟩
    · rw [e1] at z
      change X 43 c (d + 1) 0 = 0 at z
      unfold cvBy
      rw [z, if_pos (Int32.le_refl _)]
    · change xTab X 1 (3 * k + c) 0 = 0 at y
      rw [bt] at y
      unfold cvBy
      rw [y, if_pos (Int32.le_refl _)]
      split <;> rfl
    · rw [e1] at z
      change ¬ X 43 c (d + 1) 0 = 0 at z
      change ¬ xTab X 1 (3 * k + c) 0 = 0 at y
      rw [bt] at y
      have z1 : ¬ (X 43 c (d + 1) 0).toInt = 0 := fun w => z (Int32.toInt_inj.mp w)
      have y1 : ¬ (X 44 k c 0).toInt = 0 := fun w => y (Int32.toInt_inj.mp w)
      have z2 : ¬ X 43 c (d + 1) 0 ≤ 0 := fun w => by
        have : (X 43 c (d + 1) 0).toInt ≤ 0 := Int32.le_iff_toInt_le.mp w
        omega
      have y2 : ¬ X 44 k c 0 ≤ 0 := fun w => by
        have : (X 44 k c 0).toInt ≤ 0 := Int32.le_iff_toInt_le.mp w
        omega
      obtain ⟨r1, r2⟩ := cv_rat (hB.2 k c (d + 1) hk hc (by omega)) (hB.1 c 0 hc (by omega)) ⟨by omega, a1.2⟩ ⟨by omega, a2.2⟩
      unfold wb_X1_curveOf_83 wb_X1_curveOf_128
      refine ⟨fun w => absurd w (by decide), fun _ => ldi_ bd v1 (ldi_ lk v0 ?_)⟩
      intro g1 h1
      refine ldi_ lk v1 (ldi_ bd v0 ?_)
      intro g2 h2
      rw [e1] at h1 h2
      change g1 = 1000 * (xTab X 1 (3 * k + c) (d + 1)).toInt64 * (X 43 c 0 0).toInt64 at h1
      change g2 = (X 43 c (d + 1) 0).toInt64 * (xTab X 1 (3 * k + c) 0).toInt64 at h2
      rw [bt] at h1 h2
      subst h1
      subst h2
      refine ⟨r1, ?_⟩
      intro g hg
      subst hg
      refine go _ ?_
      rw [l_minR r2 ⟨p0, p1⟩]
      show _ = iMin (cvBy X k c (d + 1)) (cv X k c d)
      unfold cvBy
      rw [if_neg z2, if_neg y2]
theorem x_curveOf (h : rX κ M ad X) (hB : bB X) {k c d : Int32} (hk : vp_in k 4) (hc : vp_in c 3) (hd : vp_in d 4) (hb : 5 ≤ b) {K : Int32 → mM → Prop} (kk : ∀ M', rX κ M' ad X → (∀ a, M a ≠ none → M' a = M a) → K (cv X (nn k) (nn c) (nn d)) M') : wp_X1_curveOf G b K M κ.2.2.1 k c d := by
  have hk4 := bLt hk
  have hc3 := bLt hc
  obtain ⟨e1, e2⟩ := row3 (nn k) hk4 (nn c) hc3
  rw [← vp_of hk, ← vp_of hc] at e1 e2
  unfold wp_X1_curveOf
  refine gfa_ h.main rfl (lda_ (v := ad 28 1 (3 * nn k + nn c)) (h.at (xl0 (t := 9) (by decide))) e2 ?_ (gfa_ h.main rfl (lda_ (v := ad 28 0 (nn c)) (h.at (xl0 (t := 8) (by decide))) hc rfl ⟨by decide, by decide, by show 4 + 1 ≤ b; omega, fun q hq => ?_⟩)))
  · show some (ad 28 1 (3 * k + c).toNatClampNeg) = _
    rw [show (3 * k + c).toNatClampNeg = 3 * nn k + nn c from e1]
  · have hfr := hq q (Nat.le_refl _)
    have hx := h.fresh hfr
    refine ⟨4, _, mset_s _ _ _, i_vp (c := 0) (by decide) (by decide), ?_⟩
    rw [mset_mset]
    refine ⟨4, _, mset_s _ _ _, i_vp (c := 1) (by decide) (by decide), ?_⟩
    rw [mset_mset]
    refine ⟨4, _, mset_s _ _ _, i_vp (c := 2) (by decide) (by decide), ?_⟩
    rw [mset_mset]
    refine ⟨4, _, mset_s _ _ _, i_vp (c := 3) (by decide) (by decide), ?_⟩
    rw [mset_mset]
    have h1 := h.oth hx (.inl (0, 4, mIs (upd (upd (upd (upd (fun _ => 0) (0 : Int32).toNatClampNeg 1000) (1 : Int32).toNatClampNeg 800) (2 : Int32).toNatClampNeg 500) (3 : Int32).toNatClampNeg 200)))
    have key := x_cv57 (G := G) (b := b - (4 + 1)) (P := K) (D := nn d) h1 hB hk4 hc3 (bLt hd) (mset_s _ _ _) (fun d hd => by
      rcases (by omega : d = 0 ∨ d = 1 ∨ d = 2 ∨ d = 3) with rfl | rfl | rfl | rfl <;> rfl) (kk _ h1 fun a ha => mset_n fun z => ha (z ▸ hfr)) (nn d) 0 (nn d + 1) (by omega) (by omega)
    rw [← vp_of hd] at key
    exact ⟨_, key⟩
theorem x0_curve (h : rX κ M ad X) (hB : bB X) {k c d : Int32} {K : Int32 → mM → Prop} (hb : 40 ≤ b) (kk : ∀ M', rX κ M' ad X → (eCurve k c d = 0 → xOut κ M' (cv X (nn k) (nn c) (nn d)).toInt64) → K (eCurve k c d) M') : wp_X0_curve G b K M κ.2.2.1 k c d κ.2.2.2 := by
  unfold eCurve at kk
  unfold wp_X0_curve wp_X1_curve wb_X0_curve_15 wb_X0_curve_19
  refine ⟨h.isc, b, 0, rfl, 7, b - 7, by omega, x_cix (m := 3) (by decide) (by decide) (by omega) (fun z => ⟨7, b - 7 - 7, by omega, x_crg (by omega) (fun y => ⟨7, b - 7 - 7 - 7, by omega, x_crg (by omega) (fun w => ⟨h.isc, b - 7 - 7 - 7, 0, rfl, ?_⟩) fun w q => Or.inl ⟨rfl, ?_⟩⟩) fun y q => Or.inl ⟨rfl, ?_⟩⟩) fun z q => Or.inr ⟨rfl, ?_⟩⟩
  · rw [z, y, w] at kk
    exact x_curveOf h hB (bIn_v z (by decide)) (bIn_v y (by decide)) (bIn_v w (by decide)) (by omega) fun M1 h1 _ => x_out h1 fun M' h' ho => kk M' h' fun _ => ho
  · rw [z, y, w] at kk
    exact kk M h (fun w9 => by first | exact absurd (show (1 : Int32) = 0 from w9) (by decide) | exact absurd (show (2 : Int32) = 0 from w9) (by decide) | exact absurd (show (3 : Int32) = 0 from w9) (by decide))
  · rw [z, y] at kk
    exact kk M h (fun w9 => by first | exact absurd (show (1 : Int32) = 0 from w9) (by decide) | exact absurd (show (2 : Int32) = 0 from w9) (by decide) | exact absurd (show (3 : Int32) = 0 from w9) (by decide))
  · rw [z] at kk
    exact kk M h (fun w9 => by first | exact absurd (show (1 : Int32) = 0 from w9) (by decide) | exact absurd (show (2 : Int32) = 0 from w9) (by decide) | exact absurd (show (3 : Int32) = 0 from w9) (by decide))
end B78
