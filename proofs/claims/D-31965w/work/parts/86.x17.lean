/-! THE CLASS's tellAll -/
theorem iMin_n {x y : Int32} (hx : 0 ≤ x) (hy : 0 ≤ y) : 0 ≤ iMin x y := by unfold iMin; split <;> assumption
theorem xfar_0 {X : bS} {r : Nat} {c : Int32} (h26 : ∀ j, j < 31 → vp_in (X 26 r j 0) 36) (hc : vp_in c 36) : ∀ n, n ≤ 31 → 0 ≤ xfarN X r c n
  | 0, _ => by show (0 : Int32) ≤ 6; decide
  | n + 1, h => iMin_n (xfar_0 h26 hc n (by omega)) (dist_b (h26 n (by omega)) hc).1
/-- what a walk's route must be, to be told of -/
def tJ (X : bS) (w r : Nat) : Prop := xI X ∧ bB X ∧ (w < xN X 3 ∧ r < xN X 1 ∧ X 31 w 0 0 = Int32.ofNat r) ∧ bIn (X 23 r 0 0) 0 31 = true ∧ vp_in (X 33 w 0 0) 10 ∧ (∀ c, c < 36 → vp_in (X 4 c 0 0) 3) ∧ ∀ j, j < 31 → vp_in (X 26 r j 0) 36
def xtP (X : bS) (w r c k : Nat) (sh : Int32) : Int32 := cv X k (nn (X 4 c 0 0)) (nn (xfar X r (Int32.ofNat c))) * pct (X 32 w 0 0) / 100 * sh / 1000
def xTellK (w r : Nat) (sh : Int32) (c k : Nat) (X : bS) : bS := if 3 < xfar X r (Int32.ofNat c) then X else if xtP X w r c k sh < 50 then X else xTell X w c k (xNo X w c k) (xtP X w r c k sh)
def xTellC (w r : Nat) (sh : Int32) (c : Nat) (X : bS) : bS := itN (xTellK w r sh c) 4 X
def xTellA (w r : Nat) (sh : Int32) (X : bS) : bS := itN (xTellC w r sh) 36 X
theorem xTellK_of (w r : Nat) (sh : Int32) (c k : Nat) (X : bS) : bOf [45, 62] X (xTellK w r sh c k X) := by
  unfold xTellK xTell
  split
  · exact bOf.refl _ _
  · split
    · exact bOf.refl _ _
    · exact (bOf.U (by decide)).trans (bOf.U (by decide))
theorem xTellC_of (w r : Nat) (sh : Int32) (c : Nat) (X : bS) : bOf [45, 62] X (xTellC w r sh c X) := bOf.it (xTellK_of w r sh c) 4 X
theorem xTellA_of (w r : Nat) (sh : Int32) (X : bS) : bOf [45, 62] X (xTellA w r sh X) := bOf.it (xTellC_of w r sh) 36 X
theorem bOf.xN {L : List Nat} {X X' : bS} (h : bOf L X X') (hL : ∀ f, f ∈ [13, 24, 27, 28, 35] → f ∉ L) (i : Nat) : xN X' i = xN X i := xN_of (fun f hf => h f (hL f hf)) i
theorem bOf.xI {L : List Nat} {X X' : bS} (h : bOf L X X') (hL : ∀ f, f ∈ [13, 24, 27, 28, 35, 69] → f ∉ L) (hI : xI X) : xI X' := xI_of hI fun f hf => h f (hL f hf)
theorem tJ.of {L : List Nat} {X X' : bS} {w r : Nat} (h : tJ X w r) (hs : bOf L X X') (hL : ∀ f, f ∈ [13, 24, 27, 28, 35, 69, 43, 44, 31, 23, 33, 4, 26] → f ∉ L) : tJ X' w r := by
  obtain ⟨h1, h2, ⟨h3, h4, h5⟩, h6, h7, h8, h9⟩ := h
  have hn := hs.xN fun f hf => hL f (by simp only [List.mem_cons, List.not_mem_nil, or_false] at hf ⊢; omega)
  refine ⟨hs.xI (fun f hf => hL f (by simp only [List.mem_cons, List.not_mem_nil, or_false] at hf ⊢; omega)) h1, ?_, ⟨by rw [hn]; exact h3, by rw [hn]; exact h4, ?_⟩, ?_, ?_, ?_, ?_⟩
  · unfold bB
    rw [hs 43 (hL 43 (by decide)), hs 44 (hL 44 (by decide))]
    exact h2
  · rw [hs 31 (hL 31 (by decide))]; exact h5
  · rw [hs 23 (hL 23 (by decide))]; exact h6
  · rw [hs 33 (hL 33 (by decide))]; exact h7
  · rw [hs 4 (hL 4 (by decide))]; exact h8
  · rw [hs 26 (hL 26 (by decide))]; exact h9
theorem xfar_of {L : List Nat} {X X' : bS} (h : bOf L X X') (hL : 26 ∉ L ∧ 23 ∉ L) (r : Nat) (c : Int32) : xfar X' r c = xfar X r c := by
  have : ∀ n, xfarN X' r c n = xfarN X r c n := fun n => by
    induction n with
    | zero => rfl
    | succ n ih =>
      show iMin (xfarN X' r c n) (dist (X' 26 r n 0) c) = iMin (xfarN X r c n) (dist (X 26 r n 0) c)
      rw [ih, h 26 hL.1]
  unfold xfar
  rw [h 23 hL.2, this]
section B86
variable {G : mG} {κ : xK} {ad : xA}
theorem tJ.far {X : bS} {w r : Nat} (h : tJ X w r) {c : Nat} (hc : c < 36) (z : ¬ 3 < xfar X r (Int32.ofNat c)) : vp_in (xfar X r (Int32.ofNat c)) 4 := by
  obtain ⟨-, -, -, h6, -, -, h9⟩ := h
  have a0 := xfar_0 h9 (i_vp (c := c) (n := 36) (by omega) hc) (nn (X 23 r 0 0)) (i_nle (bIn_t h6).1 (bIn_t h6).2)
  exact b_in (a := 3) a0 (Int32.not_lt.mp z) (by decide)
theorem x_pct {b : Nat} {M : mM} {P : Int32 → mM → Prop} {x : Int32} (kk : P (pct x) M) : wp_X1_percentOf G b P M x := by
  unfold pct at kk
  unfold wp_X1_percentOf wb_X1_percentOf_31
  refine ⟨fun z0 => ⟨fun z1 => ⟨fun z2 => ?_, fun z2 => ?_⟩, fun z1 => ?_⟩, fun z0 => ?_⟩
  · rw [if_neg z0, if_neg z1, if_neg z2] at kk; exact kk
  · rw [if_neg z0, if_neg z1, if_pos z2] at kk; exact kk
  · rw [if_neg z0, if_pos z1] at kk; exact kk
  · rw [if_pos z0] at kk; exact kk
theorem x_ta47 {P : mM → Prop} {K29 : Nat → mM → Nat → Nat → Nat → Int32 → Int32 → Prop} {w r c B : Nat} {sh : Int32} (hc : c < 36) : ∀ (n k q b : Nat) (M : mM) (X : bS), k + n = 4 → n < q → 10 * n + B ≤ b → rX κ M ad X → tJ X w r → (∀ M' b', B ≤ b' → rX κ M' ad (itF (xTellK w r sh c) k n X) → K29 b' M' κ.2.2.1 (ad 24 3 w) (ad 24 1 r) sh (Int32.ofNat c + 1)) → wl_X1_tellAll_47 G P K29 q b M κ.2.2.1 (ad 24 3 w) (ad 24 1 r) sh (Int32.ofNat c) (xfar X r (Int32.ofNat c)) (Int32.ofNat k)
  | _, _, 0, _, _, _, _, hq, _, _, _, _ => absurd hq (Nat.not_lt_zero _)
  | 0, k, q + 1, b, M, X, hk, _, hb, h, hJ, kk => by
    have : k = 4 := by omega
    subst this
    unfold wl_X1_tellAll_47 wb_X1_tellAll_120
    exact ⟨fun _ => kk M b (by omega) h, fun z => absurd (by decide) z⟩
  | n + 1, k, q + 1, b, M, X, hk, hq, hb, h, hJ, kk => by
    have vk : vp_in (Int32.ofNat k) 4 := i_vp (by omega) (by omega)
    have vc : vp_in (Int32.ofNat c) 36 := i_vp (by omega) hc
    have ek : nn (Int32.ofNat k) = k := i_nn (by omega)
    have ec : nn (Int32.ofNat c) = c := i_nn (by omega)
    have ef : xfar (xTellK w r sh c k X) r (Int32.ofNat c) = xfar X r (Int32.ofNat c) := xfar_of (xTellK_of w r sh c k X) (by decide) r _
    have step : ∀ M1 b1, 10 * n + B ≤ b1 → rX κ M1 ad (xTellK w r sh c k X) → wl_X1_tellAll_47 G P K29 q b1 M1 κ.2.2.1 (ad 24 3 w) (ad 24 1 r) sh (Int32.ofNat c) (xfar X r (Int32.ofNat c)) (Int32.ofNat k + 1) := fun M1 b1 hb1 h1 => by
      have := x_ta47 (P := P) hc n (k + 1) q b1 M1 (xTellK w r sh c k X) (by omega) (by omega) hb1 h1 (hJ.of (xTellK_of w r sh c k X) (by decide)) kk
      rw [ef, ← i_s] at this
      exact this
    unfold wl_X1_tellAll_47 wb_X1_tellAll_120 wb_X1_tellAll_114
    refine ⟨fun z => absurd ((i_le (a := 4) (by decide) (by omega)).mp z) (by omega), fun _ => ⟨fun z => ?_, fun z => ?_⟩⟩
    · have nop : ∀ m j, itF (xTellK w r sh c) j m X = X := fun m => by
        induction m with
        | zero => exact fun _ => rfl
        | succ m ih =>
          intro j
          show itF (xTellK w r sh c) (j + 1) m (xTellK w r sh c j X) = X
          rw [show xTellK w r sh c j X = X from if_pos z]
          exact ih (j + 1)
      exact kk M b (by omega) (by rw [nop]; exact h)
    · obtain ⟨hI, hB, ⟨hw, hr, e31⟩, h23, h33, h4, h26⟩ := id hJ
      have vd := hJ.far hc z
      have ew := h.at (xl24 (X := X) (c := 3) (j := w) (by omega) hw)
      refine gfa_ h.main rfl (lda_ (v := ad 20 c 0) (h.at (xl0 (t := 0) (by decide))) vc (by rw [show (Int32.ofNat c).toNatClampNeg = c from ec]; exact if_pos hc) (gfi_ (h.at (xl20 hc)) rfl ⟨h.isc, 5, b - 5, by omega, x_curveOf h hB vk (h4 c hc) vd (by omega) fun M1 h1 _ => ?_⟩))
      have ew1 := h1.at (xl24 (X := X) (c := 3) (j := w) (by omega) hw)
      refine gfi_ ew1 rfl (x_pct ?_)
      rw [ek]
      intro g hg
      have hg : g / 1000 = xtP X w r c k sh := by rw [hg]; rfl
      rw [hg]
      refine ⟨fun y => ?_, fun y => ⟨h1.isc, 5, b - 5 - 5, by omega, x_tell h1 hI hw h33 vc vk (fun q => ?_) (by omega) fun M2 h2 => ?_⟩⟩
      · have e : xTellK w r sh c k X = X := by
          unfold xTellK
          rw [if_neg z, if_pos y]
        have := step M1 (b - 5) (by omega) (by rw [e]; exact h1)
        exact this
      · rw [q] at y
        exact absurd (by decide) y
      · rw [ec, ek] at h2
        have e : xTellK w r sh c k X = xTell X w c k (xNo X w c k) (xtP X w r c k sh) := by
          unfold xTellK
          rw [if_neg z, if_neg y]
        exact step M2 (b - 5 - 5) (by omega) (by rw [e]; exact h2)
theorem x_ta29 {P : mM → Prop} {w r B : Nat} {sh : Int32} : ∀ (n c q b : Nat) (M : mM) (X : bS), c + n = 36 → n < q → 40 * n + B ≤ b → rX κ M ad X → tJ X w r → (∀ M', rX κ M' ad (itF (xTellC w r sh) c n X) → P M') → wl_X1_tellAll_29 G P q b M κ.2.2.1 (ad 24 3 w) (ad 24 1 r) sh (Int32.ofNat c)
  | _, _, 0, _, _, _, _, hq, _, _, _, _ => absurd hq (Nat.not_lt_zero _)
  | 0, c, q + 1, b, M, X, hc, _, hb, h, hJ, kk => by
    have : c = 36 := by omega
    subst this
    unfold wl_X1_tellAll_29
    exact ⟨fun _ => kk M h, fun z => absurd (by decide) z⟩
  | n + 1, c, q + 1, b, M, X, hc, hq, hb, h, hJ, kk => by
    obtain ⟨hI, hB, ⟨hw, hr, e31⟩, h23, h33, h4, h26⟩ := id hJ
    unfold wl_X1_tellAll_29
    refine ⟨fun z => absurd ((i_le (a := 36) (by decide) (by omega)).mp z) (by omega), fun _ => ⟨isc_ (h.at (xl24 (by omega) hr)), x_far h hr h23 ⟨5, ?_⟩⟩⟩
    refine x_ta47 (P := P) (K29 := wl_X1_tellAll_29 G P q) (B := 40 * n + B) (by omega) 4 0 5 b M X (by omega) (by omega) (by omega) h hJ fun M' b' hb' h' => ?_
    rw [i_s]
    rw [itF_it] at h'
    exact x_ta29 n (c + 1) q b' M' _ (by omega) (by omega) hb' h' (hJ.of (xTellC_of w r sh c X) (by decide)) kk
theorem x_tellAll {P : mM → Prop} {b w r : Nat} {M : mM} {X : bS} (h : rX κ M ad X) (hJ : tJ X w r) (h30 : vp_in (X 30 w 0 0) (xN X 2)) (hb : 1443 ≤ b) (kk : ∀ M', rX κ M' ad (xTellA w r (xshare X (X 30 w 0 0)) X) → P M') : wp_X1_tellAll G b P M κ.2.2.1 (ad 24 3 w) := by
  obtain ⟨hI, hB, ⟨hw, hr, e31⟩, h23, h33, h4, h26⟩ := id hJ
  have hL : 1 < 4 + xN X 3 := by omega
  obtain ⟨ez, e2⟩ := hI.z hL
  have ew := h.at (xl24 (X := X) (c := 3) (j := w) (by omega) hw)
  have vr : vp_in (X 31 w 0 0) (xN X 1) := by rw [e31]; exact i_vp (by omega) hr
  have er : nn (X 31 w 0 0) = r := by rw [e31]; exact i_nn (by omega)
  unfold wp_X1_tellAll
  refine gfa_ h.main rfl (gfi_ ew rfl ⟨isc_ (h.list hL), x_get h hI hL vr ?_⟩)
  rw [er]
  refine ⟨isc_ (h.at (xl24 hL hr)), gfi_ ew rfl ⟨h.isc, 3, b - 3, by omega, x_shareOf h hI h30 (by omega) fun M1 h1 _ => ⟨37, x_ta29 (B := 0) 36 0 37 (b - 3) M1 X (by omega) (by omega) (by omega) h1 hJ fun M' h' => kk M' ?_⟩⟩⟩
  rw [itF_it] at h'
  exact h'
end B86
