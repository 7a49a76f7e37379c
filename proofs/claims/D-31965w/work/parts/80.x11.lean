/-! THE CLASS's joined, numbers, total, doubt, worth, nextRoute, meanDoubt: the walks -/
theorem row4 : ∀ y, y < 10 → ∀ k, k < 4 → nn (4 * Int32.ofNat y + Int32.ofNat k) = 4 * y + k ∧ vp_in (4 * Int32.ofNat y + Int32.ofNat k) 40 := by
  intro y hy k hk
  have e : 4 * Int32.ofNat y + Int32.ofNat k = Int32.ofNat (4 * y + k) := by
    rw [Int32.ofNat_add, Int32.ofNat_mul]; rfl
  rw [e]
  exact ⟨i_nn (by omega), i_vp (by omega) (by omega)⟩
theorem xTab2 {X : bS} {y k c : Nat} (hk : k < 4) : xTab X 2 (4 * y + k) c = X 45 y c k := by
  show X 45 ((4 * y + k) / 4) c ((4 * y + k) % 4) = _
  rw [show (4 * y + k) / 4 = y by omega, show (4 * y + k) % 4 = k by omega]
theorem xTab3 {X : bS} {y k c : Nat} (hk : k < 4) : xTab X 3 (4 * y + k) c = X 62 y c k := by
  show X 62 ((4 * y + k) / 4) c ((4 * y + k) % 4) = _
  rw [show (4 * y + k) / 4 = y by omega, show (4 * y + k) % 4 = k by omega]
section B80
variable {G : mG} {b : Nat} {κ : xK} {M : mM} {ad : xA} {X : bS}
theorem x_jn61 {P : Int32 → mM → Prop} {K9 : Nat → mM → Nat → Int32 → Int32 → Int32 → Int32 → Int32 → Int32 → Int32 → Prop} {a0 : Nat} {x1 x2 x3 x4 x7 : Int32} {c k y : Nat} {t : Int32 × Int32} (kk : K9 b M a0 x1 x2 x3 x4 (jFi (jSt X c k y t)).1 (jFi (jSt X c k y t)).2 (x7 + 1)) :
    (t.1 = -1 → wb_X1_joined_61 G P K9 b M a0 x1 x2 x3 x4 t.1 t.2 x7 (X 45 y c k) (if X 45 y c k < X 62 y c k then X 62 y c k else X 45 y c k) 0) ∧ (¬ t.1 = -1 → wb_X1_joined_61 G P K9 b M a0 x1 x2 x3 x4 t.1 t.2 x7 (X 45 y c k) (if X 45 y c k < X 62 y c k then X 62 y c k else X 45 y c k) 1) := by
  have fin : ∀ lo hi, lo = (jSt X c k y t).1 → hi = (jSt X c k y t).2 → wb_X1_joined_154 G P K9 b M a0 x1 x2 x3 x4 lo x7 hi := by
    intro lo hi h1 h2
    unfold wb_X1_joined_154
    intro g hg
    subst hg
    subst h1
    subst h2
    exact kk
  unfold wb_X1_joined_61 wb_X1_joined_74 wb_X1_joined_89 wb_X1_joined_106 wb_X1_joined_125
  refine ⟨fun z => ⟨fun w => ⟨fun _ => ⟨fun _ => ⟨fun _ => ⟨fun q => absurd rfl q, fun _ => fin _ _ ?_ ?_⟩, fun q => absurd rfl q⟩, fun q => absurd rfl q⟩, fun q => absurd rfl q⟩, fun w => ⟨fun _ => ⟨fun _ => ⟨fun q => absurd q (by decide), fun _ => ?_⟩, fun q => absurd rfl q⟩, fun q => absurd rfl q⟩⟩, fun z => ⟨fun w => ⟨fun q => absurd q (by decide), fun _ => ⟨fun q => absurd q (by decide), fun _ => ⟨fun _ => ⟨fun q => absurd rfl q, fun _ => fin _ _ ?_ ?_⟩, fun q => absurd rfl q⟩⟩⟩, fun w => ⟨fun q => absurd q (by decide), fun _ => ⟨fun q => absurd q (by decide), fun _ => ⟨fun q => absurd q (by decide), fun _ => ?_⟩⟩⟩⟩⟩
  · simp only [jSt, if_pos w, if_pos z]
  · simp only [jSt, if_pos w, if_pos z]
  · intro g hg
    subst hg
    refine ⟨fun _ => ⟨fun _ => fin _ _ ?_ ?_, fun q => absurd rfl q⟩, fun q => absurd q (by decide)⟩
    · simp only [jSt, if_neg w, if_pos z]
    · simp only [jSt, if_neg w, if_pos z]
  · simp only [jSt, if_pos w, if_neg z]
  · simp only [jSt, if_pos w, if_neg z]
  · intro g hg
    subst hg
    refine ⟨fun _ => ⟨fun q => absurd q (by decide), fun _ => ?_⟩, fun q => absurd q (by decide)⟩
    intro g2 hg2
    subst hg2
    refine fin _ _ ?_ ?_
    · simp only [jSt, if_neg w, if_neg z]
    · simp only [jSt, if_neg w, if_neg z]
theorem x_jn9 {P : Int32 → mM → Prop} (h : rX κ M ad X) {x1 x2 x4 : Int32} {Y : Nat} (hY : Y < 10) (h1 : vp_in x1 36) (h2 : vp_in x2 4) (kk : P (if x4 = 0 then (jn X (nn x1) (nn x2) (Y + 1)).1 else (jn X (nn x1) (nn x2) (Y + 1)).2) M) : ∀ (n y q : Nat), y + n = Y + 1 → n < q → wl_X1_joined_9 G P q b M κ.2.2.1 x1 x2 (Int32.ofNat Y) x4 (jn X (nn x1) (nn x2) y).1 (jn X (nn x1) (nn x2) y).2 (Int32.ofNat y)
  | _, _, 0, _, hq => absurd hq (Nat.not_lt_zero _)
  | 0, y, q + 1, hy, _ => by
    have : y = Y + 1 := by omega
    subst this
    unfold wl_X1_joined_9 wb_X1_joined_183
    refine ⟨fun _ => ⟨fun z => ?_, fun z => ?_⟩, fun z => absurd ((i_lt (by omega) (by omega)).mpr (Nat.lt_succ_self _)) z⟩
    · rw [if_pos z] at kk; exact kk
    · rw [if_neg z] at kk; exact kk
  | n + 1, y, q + 1, hy, hq => by
    have hlt : ¬ Int32.ofNat Y < Int32.ofNat y := fun z => absurd ((i_lt (by omega) (by omega)).mp z) (by omega)
    have ih := x_jn9 h hY h1 h2 kk n (y + 1) q (by omega) (by omega)
    have hk4 := bLn h2
    obtain ⟨e1, e2⟩ := row4 y (by omega) (nn x2) hk4
    rw [← vp_of h2] at e1 e2
    have rl := h.at (xl28 (X := X) (c := 2) (j := 4 * y + nn x2) (by decide) (by show _ < 40; omega))
    have rh := h.at (xl28 (X := X) (c := 3) (j := 4 * y + nn x2) (by decide) (by show _ < 40; omega))
    have g1 : ∀ m, some (ad 28 m (4 * Int32.ofNat y + x2).toNatClampNeg) = some (ad 28 m (4 * y + nn x2)) := fun m => by rw [show (4 * Int32.ofNat y + x2).toNatClampNeg = 4 * y + nn x2 from e1]
    unfold wl_X1_joined_9
    refine ⟨fun z => absurd z hlt, fun _ => gfa_ h.main rfl (lda_ (h.at (xl0 (t := 10) (by decide))) e2 (g1 2) (ldi_ rl h1 (gfa_ h.main rfl (lda_ (h.at (xl0 (t := 11) (by decide))) e2 (g1 3) (ldi_ rh h1 ?_)))))⟩
    show ∀ g7 : Int32, g7 = (if xTab X 2 (4 * y + nn x2) (nn x1) < xTab X 3 (4 * y + nn x2) (nn x1) then xTab X 3 (4 * y + nn x2) (nn x1) else xTab X 2 (4 * y + nn x2) (nn x1)) → _
    intro g hg
    subst hg
    show (_ → wb_X1_joined_61 G P (wl_X1_joined_9 G P q) b M κ.2.2.1 x1 x2 (Int32.ofNat Y) x4 _ _ (Int32.ofNat y) (xTab X 2 (4 * y + nn x2) (nn x1)) _ 0) ∧ (_ → wb_X1_joined_61 G P (wl_X1_joined_9 G P q) b M κ.2.2.1 x1 x2 (Int32.ofNat Y) x4 _ _ (Int32.ofNat y) (xTab X 2 (4 * y + nn x2) (nn x1)) _ 1)
    rw [xTab2 hk4, xTab3 hk4]
    refine x_jn61 ?_
    rw [i_s]
    exact ih
theorem x_joined {P : Int32 → mM → Prop} (h : rX κ M ad X) {x1 x2 x3 x4 : Int32} (h1 : vp_in x1 36) (h2 : vp_in x2 4) (h3 : vp_in x3 10) (kk : P (if x4 = 0 then (jn X (nn x1) (nn x2) (nn x3 + 1)).1 else (jn X (nn x1) (nn x2) (nn x3 + 1)).2) M) : wp_X1_joined G b P M κ.2.2.1 x1 x2 x3 x4 := by
  have key := x_jn9 (G := G) (b := b) h (Y := nn x3) (bLn h3) h1 h2 kk (nn x3 + 1) 0 (nn x3 + 2) (by omega) (by omega)
  rw [← vp_of h3] at key
  unfold wp_X1_joined
  exact ⟨_, key⟩
theorem x0_numbers (h : rX κ M ad X) (hJ : bJ X) (hY : bIn (X 2 0 0 0) 0 9 = true) {c k y o : Int32} {K : Int32 → mM → Prop} (hb : 40 ≤ b) (kk : ∀ M', rX κ M' ad X → (eNum X c k y = 0 → xOut κ M' (aNum X (nn c) (nn k) (nn y) o).toInt64) → K (eNum X c k y) M') : wp_X0_numbers G b K M κ.2.2.1 c k y o κ.2.2.2 := by
  unfold eNum at kk
  unfold wp_X0_numbers wp_X1_numbers wb_X0_numbers_17 wb_X0_numbers_21
  refine ⟨h.isc, b, 0, rfl, 7, b - 7, by omega, x_cix (m := 35) (by decide) (by decide) (by omega) (fun z => ⟨7, b - 7 - 7, by omega, x_cix (m := 3) (by decide) (by decide) (by omega) (fun w => gfi_ h.main rfl ⟨b - 7 - 7, 0, rfl, x_crg (by omega) (fun v => ⟨h.isc, ?_⟩) fun v q => Or.inl ⟨rfl, ?_⟩⟩) fun w q => Or.inr ⟨rfl, ?_⟩⟩) fun z q => Or.inr ⟨rfl, ?_⟩⟩
  · rw [z, w, v] at kk
    have hc : vp_in c 36 := bIn_v z (by decide)
    have hk : vp_in k 4 := bIn_v w (by decide)
    obtain ⟨v1, v2⟩ := bIn_t v
    have hy : vp_in y 10 := b_in (a := 9) v1 (Int32.le_trans v2 (bIn_t hY).2) (by decide)
    refine x_joined h hc hk hy (x_out h fun M' h' ho => kk M' h' fun _ => ?_)
    rw [jn_num hJ (bLn hc) (bLn hk) (by have := bLn hy; change nn y < 10 at this; omega)] at ho
    exact ho
  · rw [z, w, v] at kk
    exact kk M h (fun w9 => by first | exact absurd (show (1 : Int32) = 0 from w9) (by decide) | exact absurd (show (2 : Int32) = 0 from w9) (by decide) | exact absurd (show (3 : Int32) = 0 from w9) (by decide))
  · rw [z, w] at kk
    exact kk M h (fun w9 => by first | exact absurd (show (1 : Int32) = 0 from w9) (by decide) | exact absurd (show (2 : Int32) = 0 from w9) (by decide) | exact absurd (show (3 : Int32) = 0 from w9) (by decide))
  · rw [z] at kk
    exact kk M h (fun w9 => by first | exact absurd (show (1 : Int32) = 0 from w9) (by decide) | exact absurd (show (2 : Int32) = 0 from w9) (by decide) | exact absurd (show (3 : Int32) = 0 from w9) (by decide))
theorem x_tot10 {P : Int64 → mM → Prop} {Xx : String → Nat → mM → Prop} (h : rX κ M ad X) (hJ : bJ X) (hY : bIn (X 2 0 0 0) 0 9 = true) {k o : Int32} (hk : vp_in k 4) (kk : P (totN X (nn k) o 36) M) : ∀ (n c q : Nat), c + n = 36 → n < q → wl_X1_total_10 G P Xx q b M κ.2.2.1 k o (totN X (nn k) o c) (Int32.ofNat c)
  | _, _, 0, _, hq => absurd hq (Nat.not_lt_zero _)
  | 0, c, q + 1, hc, _ => by
    have : c = 36 := by omega
    subst this
    unfold wl_X1_total_10
    exact ⟨fun _ => kk, fun z => absurd (by decide) z⟩
  | n + 1, c, q + 1, hc, hq => by
    have hx : vp_in (Int32.ofNat c) 36 := i_vp (by omega) (by omega)
    have e : nn (Int32.ofNat c) = c := i_nn (by omega)
    have hy : vp_in (X 2 0 0 0) 10 := bIn_v (c := 9) hY (by decide)
    have hy2 := bLn hy
    change nn (X 2 0 0 0) < 10 at hy2
    have ih := x_tot10 (P := P) (Xx := Xx) h hJ hY hk kk n (c + 1) q (by omega) (by omega)
    unfold wl_X1_total_10
    refine ⟨fun z => absurd z (nlt36 (by omega)), fun _ => gfi_ h.main rfl ⟨h.isc, x_joined h hx hk hy ?_⟩⟩
    rw [e, jn_num hJ (by omega) (bLn hk) (by omega)]
    intro g hg
    rw [i_s]
    have ex : totN X (nn k) o (c + 1) = (if (fnd X c (nn k) (nn (X 2 0 0 0) + 1)).1 = 0 then totN X (nn k) o c else totN X (nn k) o c + (vNum (fnd X c (nn k) (nn (X 2 0 0 0) + 1)) o).toInt64) := rfl
    obtain ⟨j0, j1⟩ := j_ok hJ (by omega : c < 36) (bLn hk) (nn (X 2 0 0 0) + 1) (by omega)
    by_cases z : (fnd X c (nn k) (nn (X 2 0 0 0) + 1)).1 = 0
    · rw [if_pos z] at hg
      have hg0 : g = 0 := by rw [hg]; rfl
      rw [ex, if_pos z] at ih
      rw [hg0]
      have : totN X (nn k) o c + (0 : Int32).toInt64 = totN X (nn k) o c := Int64.add_zero _
      rw [this]
      exact ih
    · obtain ⟨-, -, l0, l1, -⟩ := j1 z
      rw [if_neg z] at hg
      have hg0 : g = vNum (fnd X c (nn k) (nn (X 2 0 0 0) + 1)) o := by
        rw [hg]
        have nn0 : 0 ≤ (vNum (fnd X c (nn k) (nn (X 2 0 0 0) + 1)) o).toInt := by
          unfold vNum
          split <;> omega
        refine i_ext ?_
        rw [i_max]
        have : (0 : Int32).toInt = 0 := rfl
        omega
      rw [ex, if_neg z] at ih
      rw [hg0]
      exact ih
theorem x0_total (h : rX κ M ad X) (hJ : bJ X) (hY : bIn (X 2 0 0 0) 0 9 = true) {k o : Int32} {K : Int32 → mM → Prop} (hb : 40 ≤ b) (kk : ∀ M', rX κ M' ad X → (bE (!bIn k 0 3) false false = 0 → xOut κ M' (totN X (nn k) o 36)) → K (bE (!bIn k 0 3) false false) M') : wp_X0_total G b K M κ.2.2.1 k o κ.2.2.2 := by
  unfold wp_X0_total wp_X1_total wb_X0_total_12
  refine ⟨h.isc, b, 0, rfl, b, 0, rfl, x_cix (m := 3) (by decide) (by decide) (by omega) (fun z => ⟨37, ?_⟩) fun z q => ⟨rfl, ?_⟩⟩
  · rw [z] at kk
    exact x_tot10 h hJ hY (bIn_v z (by decide)) (x_out h fun M' h' ho => kk M' h' fun _ => ho) 36 0 37 (by omega) (by omega)
  · rw [z] at kk
    exact kk M h (fun w9 => by first | exact absurd (show (1 : Int32) = 0 from w9) (by decide) | exact absurd (show (2 : Int32) = 0 from w9) (by decide) | exact absurd (show (3 : Int32) = 0 from w9) (by decide))
theorem x_doubt {P : Int32 → mM → Prop} (h : rX κ M ad X) (hJ : bJ X) (hY : bIn (X 2 0 0 0) 0 9 = true) {x1 x2 : Int32} (h1 : vp_in x1 36) (h2 : vp_in x2 4) (kk : P (dbt X (nn x1) (nn x2)) M) : wp_X1_doubt G b P M κ.2.2.1 x1 x2 := by
  have hy : vp_in (X 2 0 0 0) 10 := bIn_v (c := 9) hY (by decide)
  have hy2 := bLn hy
  change nn (X 2 0 0 0) < 10 at hy2
  have e0 := jn_num (o := 0) hJ (bLn h1) (bLn h2) (n := nn (X 2 0 0 0) + 1) (by omega)
  have e1 := jn_num (o := 1) hJ (bLn h1) (bLn h2) (n := nn (X 2 0 0 0) + 1) (by omega)
  obtain ⟨j0, j1⟩ := j_ok hJ (bLn h1) (bLn h2) (nn (X 2 0 0 0) + 1) (by omega)
  unfold dbt at kk
  unfold wp_X1_doubt wb_X1_doubt_35
  refine gfi_ h.main rfl ⟨h.isc, x_joined h h1 h2 hy ?_⟩
  rw [e0]
  by_cases z : (fnd X (nn x1) (nn x2) (nn (X 2 0 0 0) + 1)).1 = 0
  · rw [if_pos z] at kk ⊢
    exact ⟨fun w => absurd rfl w, fun _ => kk⟩
  · obtain ⟨-, -, l0, -⟩ := j1 z
    rw [if_neg z] at kk ⊢
    refine ⟨fun _ => gfi_ h.main rfl ⟨h.isc, x_joined h h1 h2 hy ?_⟩, fun w => ?_⟩
    · rw [e1, if_neg z]
      exact kk
    · change (fnd X (nn x1) (nn x2) (nn (X 2 0 0 0) + 1)).2.1 = -1 at w
      rw [w] at l0
      exact absurd l0 (by decide)
theorem x_wth25 {P : Int64 → mM → Prop} {K5 : Nat → mM → Nat → Nat → Int64 → Int32 → Prop} {a1 : Nat} (h : rX κ M ad X) (hJ : bJ X) (hY : bIn (X 2 0 0 0) 0 9 = true) {c : Nat} (hc : c < 36) {a : Int64} (kk : K5 b M κ.2.2.1 a1 (wthK X c a 4) (Int32.ofNat c + 1)) : ∀ (n k q : Nat), k + n = 4 → n < q → wl_X1_worthOf_25 G P K5 q b M κ.2.2.1 a1 (wthK X c a k) (Int32.ofNat c) (Int32.ofNat k)
  | _, _, 0, _, hq => absurd hq (Nat.not_lt_zero _)
  | 0, k, q + 1, hk, _ => by
    have : k = 4 := by omega
    subst this
    unfold wl_X1_worthOf_25 wb_X1_worthOf_61
    exact ⟨fun _ => kk, fun z => absurd (by decide) z⟩
  | n + 1, k, q + 1, hk, hq => by
    have hlt : ¬ (4 : Int32) ≤ Int32.ofNat k := fun z => absurd ((i_le (a := 4) (by decide) (by omega)).mp z) (by omega)
    have vk : vp_in (Int32.ofNat k) 4 := i_vp (by omega) (by omega)
    have ek : (Int32.ofNat k).toNatClampNeg = k := i_nn (by omega)
    have ih := x_wth25 (P := P) h hJ hY hc kk n (k + 1) q (by omega) (by omega)
    unfold wl_X1_worthOf_25
    refine ⟨fun z => absurd z hlt, fun _ => gfa_ h.main rfl (lda_ (v := ad 21 k 0) (h.at (xl0 (t := 1) (by decide))) vk (by rw [ek]; exact if_pos (by omega)) (gfi_ (h.at (xl21 (by omega))) rfl ⟨h.isc, x_doubt h hJ hY (i_vp (by omega) hc) vk ?_⟩))⟩
    rw [i_nn (c := c) (by omega), i_nn (c := k) (by omega)]
    intro g hg
    subst hg
    rw [i_s]
    exact ih
theorem x_wth5 {P : Int64 → mM → Prop} (h : rX κ M ad X) (hJ : bJ X) (hY : bIn (X 2 0 0 0) 0 9 = true) {r : Nat} (hr : r < xN X 1) (h23 : bIn (X 23 r 0 0) 0 31 = true) (hfar : ∀ c, c < 36 → xfar X r (Int32.ofNat c) = far X r (Int32.ofNat c)) (kk : P (wth X r) M) : ∀ (n c q : Nat), c + n = 36 → n < q → wl_X1_worthOf_5 G P q b M κ.2.2.1 (ad 24 1 r) (wthN X r c) (Int32.ofNat c)
  | _, _, 0, _, hq => absurd hq (Nat.not_lt_zero _)
  | 0, c, q + 1, hc, _ => by
    have : c = 36 := by omega
    subst this
    unfold wl_X1_worthOf_5
    exact ⟨fun _ => kk, fun z => absurd (by decide) z⟩
  | n + 1, c, q + 1, hc, hq => by
    have hL : 1 < 4 + xN X 3 := by omega
    have ih := x_wth5 (P := P) h hJ hY hr h23 hfar kk n (c + 1) q (by omega) (by omega)
    have ex : wthN X r (c + 1) = (if 1 < far X r (Int32.ofNat c) then wthN X r c else wthK X c (wthN X r c) 4) := rfl
    unfold wl_X1_worthOf_5 wb_X1_worthOf_61
    refine ⟨fun z => absurd z (nlt36 (by omega)), fun _ => ⟨isc_ (h.at (xl24 hL hr)), x_far h hr h23 ?_⟩⟩
    rw [hfar c (by omega)]
    refine ⟨fun z => ?_, fun z => ⟨5, x_wth25 h hJ hY (by omega) ?_ 4 0 5 (by omega) (by omega)⟩⟩
    · rw [ex, if_pos z] at ih
      rw [i_s]
      exact ih
    · rw [ex, if_neg z] at ih
      rw [i_s]
      exact ih
theorem x_wth {P : Int64 → mM → Prop} (h : rX κ M ad X) (hJ : bJ X) (hY : bIn (X 2 0 0 0) 0 9 = true) {r : Nat} (hr : r < xN X 1) (h23 : bIn (X 23 r 0 0) 0 31 = true) (hfar : ∀ c, c < 36 → xfar X r (Int32.ofNat c) = far X r (Int32.ofNat c)) (kk : P (wth X r) M) : wp_X1_worthOf G b P M κ.2.2.1 (ad 24 1 r) := by
  unfold wp_X1_worthOf
  exact ⟨37, x_wth5 h hJ hY hr h23 hfar kk 36 0 37 (by omega) (by omega)⟩
/-- the routes are in order -/
def bRo (X : bS) : Prop := xN X 1 ≤ 8 ∧ ∀ r, r < xN X 1 → bIn (X 23 r 0 0) 0 31 = true ∧ 1 ≤ nn (X 23 r 0 0) ∧ ∀ j, j < 31 → vp_in (X 26 r j 0) 36
theorem bRo.far (h : bRo X) {r : Nat} (hr : r < xN X 1) (c : Nat) (hc : c < 36) : xfar X r (Int32.ofNat c) = far X r (Int32.ofNat c) := by
  obtain ⟨h1, h2, h3⟩ := h.2 r hr
  exact xfar_far h3 (i_vp (by omega) hc) h2 (i_nle (bIn_t h1).1 (bIn_t h1).2)
theorem x0_worth (h : rX κ M ad X) (hI : xI X) (hJ : bJ X) (hY : bIn (X 2 0 0 0) 0 9 = true) (hR : bRo X) {r : Int32} {K : Int32 → mM → Prop} (hb : 40 ≤ b) (kk : ∀ M', rX κ M' ad X → (bE (eRoute X r) false false = 0 → xOut κ M' (wth X (nn r))) → K (bE (eRoute X r) false false) M') : wp_X0_worth G b K M κ.2.2.1 r κ.2.2.2 := by
  unfold eRoute at kk
  unfold wp_X0_worth wp_X1_worth wb_X0_worth_11
  have hL : 1 < 4 + xN X 3 := by omega
  refine ⟨h.isc, b, 0, rfl, gfa_ h.main rfl ⟨b, 0, rfl, x_at h hI hL (by omega) (fun z => ?_) fun z q => ⟨rfl, ?_⟩⟩⟩
  · change bIn r 0 (X 24 0 0 0 - 1) = true at z
    rw [z] at kk
    have hr := (b_inN (n := 200) z (hI.2 1 hL).1 (by decide)).2
    change nn r < xN X 1 at hr
    exact ⟨isc_ (h.at (xl24 hL hr)), h.isc, x_wth h hJ hY hr (hR.2 _ hr).1 (hR.far hr) (x_out h fun M' h' ho => kk M' h' fun _ => ho)⟩
  · change bIn r 0 (X 24 0 0 0 - 1) = false at z
    rw [z] at kk
    exact kk M h (fun w9 => by first | exact absurd (show (1 : Int32) = 0 from w9) (by decide) | exact absurd (show (2 : Int32) = 0 from w9) (by decide) | exact absurd (show (3 : Int32) = 0 from w9) (by decide))
theorem x_md13 {P : UInt64 → mM → Prop} {K4 : Nat → mM → Nat → Int64 → Int32 → Prop} (h : rX κ M ad X) (hJ : bJ X) (hY : bIn (X 2 0 0 0) 0 9 = true) {c : Nat} (hc : c < 36) {a : Int64} (kk : K4 b M κ.2.2.1 (mdK X c a 4) (Int32.ofNat c + 1)) : ∀ (n k q : Nat), k + n = 4 → n < q → wl_X1_meanDoubt_13 G P K4 q b M κ.2.2.1 (mdK X c a k) (Int32.ofNat c) (Int32.ofNat k)
  | _, _, 0, _, hq => absurd hq (Nat.not_lt_zero _)
  | 0, k, q + 1, hk, _ => by
    have : k = 4 := by omega
    subst this
    unfold wl_X1_meanDoubt_13
    exact ⟨fun _ => kk, fun z => absurd (by decide) z⟩
  | n + 1, k, q + 1, hk, hq => by
    have hlt : ¬ (4 : Int32) ≤ Int32.ofNat k := fun z => absurd ((i_le (a := 4) (by decide) (by omega)).mp z) (by omega)
    have ih := x_md13 (P := P) h hJ hY hc kk n (k + 1) q (by omega) (by omega)
    unfold wl_X1_meanDoubt_13
    refine ⟨fun z => absurd z hlt, fun _ => ⟨h.isc, x_doubt h hJ hY (i_vp (by omega) hc) (i_vp (by omega) (by omega)) ?_⟩⟩
    rw [i_nn (c := c) (by omega), i_nn (c := k) (by omega), i_s]
    exact ih
theorem x_md4 {P : UInt64 → mM → Prop} (h : rX κ M ad X) (hJ : bJ X) (hY : bIn (X 2 0 0 0) 0 9 = true) (kk : P (FP.ddiv (FP.l2d (mdN X 36)) (4639270566145032192 : UInt64)) M) : ∀ (n c q : Nat), c + n = 36 → n < q → wl_X1_meanDoubt_4 G P q b M κ.2.2.1 (mdN X c) (Int32.ofNat c)
  | _, _, 0, _, hq => absurd hq (Nat.not_lt_zero _)
  | 0, c, q + 1, hc, _ => by
    have : c = 36 := by omega
    subst this
    unfold wl_X1_meanDoubt_4
    exact ⟨fun _ => ⟨md_num _, kk⟩, fun z => absurd (by decide) z⟩
  | n + 1, c, q + 1, hc, hq => by
    have ih := x_md4 (P := P) h hJ hY kk n (c + 1) q (by omega) (by omega)
    unfold wl_X1_meanDoubt_4
    refine ⟨fun z => absurd z (nlt36 (by omega)), fun _ => ⟨5, x_md13 h hJ hY (by omega) ?_ 4 0 5 (by omega) (by omega)⟩⟩
    rw [i_s]
    exact ih
theorem x_meanDoubt {P : UInt64 → mM → Prop} (h : rX κ M ad X) (hJ : bJ X) (hY : bIn (X 2 0 0 0) 0 9 = true) (kk : P (FP.ddiv (FP.l2d (mdN X 36)) (4639270566145032192 : UInt64)) M) : wp_X1_meanDoubt G b P M κ.2.2.1 := by
  unfold wp_X1_meanDoubt
  exact ⟨37, x_md4 h hJ hY kk 36 0 37 (by omega) (by omega)⟩
end B80
