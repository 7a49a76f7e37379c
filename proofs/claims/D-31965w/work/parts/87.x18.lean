/-! THE CLASS's addUp -/
def xnD (X : bS) (w r j : Nat) : Int32 := dist (X 26 r (nn (X 64 w j 0)) 0) (X 65 w j 0)
def xBird (w r j : Nat) (X : bS) : bS :=
  bU X 44 (nn (X 66 w j 0)) (nn (X 4 (nn (X 65 w j 0)) 0 0)) (nn (xnD X w r j)) (X 44 (nn (X 66 w j 0)) (nn (X 4 (nn (X 65 w j 0)) 0 0)) (nn (xnD X w r j)) + X 67 w j 0)
def xSeen (w r c k : Nat) (X : bS) : bS := if 1 < xfar X r (Int32.ofNat c) then X else
  bU X 63 (nn (X 30 w 0 0)) (4 * nn (X 33 w 0 0) + k) c (vp_nar .short (iMax (X 63 (nn (X 30 w 0 0)) (4 * nn (X 33 w 0 0) + k) c) (xNo X w c k)).toInt16.toInt32)
def xSeenC (w r c : Nat) (X : bS) : bS := itN (xSeen w r c) 4 X
theorem xBird_of (w r j : Nat) (X : bS) : bOf [44] X (xBird w r j X) := bOf.U (by decide)
theorem xSeen_of (w r c k : Nat) (X : bS) : bOf [63] X (xSeen w r c k X) := by
  unfold xSeen
  split
  · exact bOf.refl _ _
  · exact bOf.U (by decide)
theorem xSeenC_of (w r c : Nat) (X : bS) : bOf [63] X (xSeenC w r c X) := bOf.it (xSeen_of w r c) 4 X
/-- what a walk must be, to be added -/
def uJ (X : bS) (w r : Nat) : Prop := xI X ∧ (w < xN X 3 ∧ r < xN X 1 ∧ X 31 w 0 0 = Int32.ofNat r) ∧ bIn (X 23 r 0 0) 0 31 = true ∧ vp_in (X 33 w 0 0) 10 ∧ (∀ c, c < 36 → vp_in (X 4 c 0 0) 3) ∧ (∀ j, j < 31 → vp_in (X 26 r j 0) 36) ∧ vp_in (X 30 w 0 0) (xN X 2) ∧
  ∀ j, j < xN X (4 + w) → vp_in (X 64 w j 0) (nn (X 23 r 0 0)) ∧ vp_in (X 65 w j 0) 36 ∧ vp_in (X 66 w j 0) 4 ∧ vp_in (xnD X w r j) 4
theorem uJ.of {L : List Nat} {X X' : bS} {w r : Nat} (h : uJ X w r) (hs : bOf L X X') (hL : ∀ f, f ∈ [13, 24, 27, 28, 35, 69, 31, 23, 33, 4, 26, 30, 64, 65, 66] → f ∉ L) : uJ X' w r := by
  obtain ⟨h1, ⟨h3, h4, h5⟩, h6, h7, h8, h9, h10, h11⟩ := h
  have hn := hs.xN fun f hf => hL f (by simp only [List.mem_cons, List.not_mem_nil, or_false] at hf ⊢; omega)
  refine ⟨hs.xI (fun f hf => hL f (by simp only [List.mem_cons, List.not_mem_nil, or_false] at hf ⊢; omega)) h1, ⟨by rw [hn]; exact h3, by rw [hn]; exact h4, ?_⟩, ?_, ?_, ?_, ?_, ?_, ?_⟩
  · rw [hs 31 (hL 31 (by decide))]; exact h5
  · rw [hs 23 (hL 23 (by decide))]; exact h6
  · rw [hs 33 (hL 33 (by decide))]; exact h7
  · rw [hs 4 (hL 4 (by decide))]; exact h8
  · rw [hs 26 (hL 26 (by decide))]; exact h9
  · rw [hs 30 (hL 30 (by decide)), hn]; exact h10
  · unfold xnD
    rw [hs 64 (hL 64 (by decide)), hs 65 (hL 65 (by decide)), hs 66 (hL 66 (by decide)), hs 23 (hL 23 (by decide)), hs 26 (hL 26 (by decide)), hn]; exact h11
section B87
variable {G : mG} {b : Nat} {κ : xK} {M : mM} {ad : xA} {X : bS}
theorem x_st63 (h : rX κ M ad X) {w R : Nat} (hw : w < xN X 2) (hR : R < 40) {x v : Int32} (hx : vp_in x 36) {K : mM → Prop} (kk : ∀ M', rX κ M' ad (bU X 63 w R (nn x) (vp_nar .short v)) → (∀ a, xO κ ad X a → M' a = M a) → K M') : stn M 2 (ad 27 w R) .short x v K := by
  have hl : xL X 27 w R := xl27 hw hR
  refine ⟨36, fun c => X 63 w R c, h.at hl, hx, kk _ (h.putU hl (by decide) (by decide) ?_ fun i' j' hl' hn => ?_) fun a ha => mset_n (Ne.symm (ha.1 _ _ _ hl))⟩
  · show (Sum.inl (2, 36, mIs (upd (fun c => X 63 w R c) (nn x) (vp_nar .short v))) : mE) = Sum.inl (2, 36, mIs fun c => bU X 63 w R (nn x) (vp_nar .short v) 63 w R c)
    rw [bU_up3]
  · show (Sum.inl (2, 36, mIs fun c => bU X 63 w R (nn x) (vp_nar .short v) 63 i' j' c) : mE) = Sum.inl (2, 36, mIs fun c => X 63 i' j' c)
    refine congrArg (fun g : Nat → Int32 => (Sum.inl (2, 36, mIs g) : mE)) (funext fun c => if_neg fun z => hn ⟨z.2.1, z.2.2.1⟩)
theorem x_au198 {P : mM → Prop} {K189 : Nat → mM → Nat → Nat → Nat → Int32 → Prop} {w r c B : Nat} (hc : c < 36) : ∀ (n k q b : Nat) (M : mM) (X : bS), k + n = 4 → n < q → 5 * n + B ≤ b → rX κ M ad X → uJ X w r → (∀ M' b', B ≤ b' → rX κ M' ad (itF (xSeen w r c) k n X) → K189 b' M' κ.2.2.1 (ad 24 3 w) (ad 24 1 r) (Int32.ofNat c + 1)) → wl_X1_addUp_198 G P K189 q b M κ.2.2.1 (ad 24 3 w) (ad 24 1 r) (Int32.ofNat c) (Int32.ofNat k)
  | _, _, 0, _, _, _, _, hq, _, _, _, _ => absurd hq (Nat.not_lt_zero _)
  | 0, k, q + 1, b, M, X, hk, _, hb, h, hJ, kk => by
    have : k = 4 := by omega
    subst this
    unfold wl_X1_addUp_198 wb_X1_addUp_269
    exact ⟨fun _ => kk M b (by omega) h, fun z => absurd (by decide) z⟩
  | n + 1, k, q + 1, b, M, X, hk, hq, hb, h, hJ, kk => by
    have vk : vp_in (Int32.ofNat k) 4 := i_vp (by omega) (by omega)
    have vc : vp_in (Int32.ofNat c) 36 := i_vp (by omega) hc
    have ek : nn (Int32.ofNat k) = k := i_nn (by omega)
    have ec : nn (Int32.ofNat c) = c := i_nn (by omega)
    obtain ⟨hI, ⟨hw, hr, e31⟩, h23, h33, h4, h26, h30, hN⟩ := id hJ
    have hL2 : 2 < 4 + xN X 3 := by omega
    have ew := h.at (xl24 (X := X) (c := 3) (j := w) (by omega) hw)
    have hy := bLn h33
    have hu := bLn h30
    obtain ⟨e1, e2⟩ := row4 (nn (X 33 w 0 0)) hy k (by omega)
    rw [← vp_of h33] at e1 e2
    unfold wl_X1_addUp_198 wb_X1_addUp_269
    refine ⟨fun z => absurd ((i_le (a := 4) (by decide) (by omega)).mp z) (by omega), fun _ => ⟨isc_ (h.at (xl24 (by omega) hr)), x_far h hr h23 ⟨fun z => ?_, fun z => ?_⟩⟩⟩
    · have nop : ∀ m j, itF (xSeen w r c) j m X = X := fun m => by
        induction m with
        | zero => exact fun _ => rfl
        | succ m ih =>
          intro j
          show itF (xSeen w r c) (j + 1) m (xSeen w r c j X) = X
          rw [show xSeen w r c j X = X from if_pos z]
          exact ih (j + 1)
      exact kk M b (by omega) (by rw [nop]; exact h)
    · refine gfa_ h.main rfl (gfi_ ew rfl ⟨isc_ (h.list hL2), x_get h hI hL2 h30 ⟨isc_ (h.wlkr hu), gfa_ (h.wlkr hu) rfl (gfi_ ew rfl (lda_ (v := ad 27 (nn (X 30 w 0 0)) (4 * nn (X 33 w 0 0) + k)) (h.seenT hu) e2 ?_ (ldi_ (h.seen hu (by omega)) vc ⟨isc_ ew, 5, b - 5, by omega, x_noted h hI hw (by omega) fun M1 h1 _ => ?_⟩)))⟩⟩)
      · exact congrArg (fun j => some (ad 27 (nn (X 30 w 0 0)) j)) e1
      · rw [show (Int32.ofNat c).toNatClampNeg = c from ec]
        intro g hg
        refine x_st63 h1 hu (by omega) vc fun M2 h2 _ => ?_
        rw [ec] at h2
        have e : xSeen w r c k X = bU X 63 (nn (X 30 w 0 0)) (4 * nn (X 33 w 0 0) + k) c (vp_nar .short g.toInt16.toInt32) := by
          unfold xSeen
          rw [if_neg z, hg]
          rfl
        rw [← e] at h2
        have := x_au198 (P := P) (K189 := K189) hc n (k + 1) q (b - 5) M2 (xSeen w r c k X) (by omega) (by omega) (by omega) h2 (hJ.of (xSeen_of w r c k X) (by decide)) kk
        rw [← i_s] at this
        exact this
theorem x_au189 {P : mM → Prop} {w r B : Nat} : ∀ (n c q b : Nat) (M : mM) (X : bS), c + n = 36 → n < q → 20 * n + B ≤ b → rX κ M ad X → uJ X w r → (∀ M', rX κ M' ad (itF (xSeenC w r) c n X) → P M') → wl_X1_addUp_189 G P q b M κ.2.2.1 (ad 24 3 w) (ad 24 1 r) (Int32.ofNat c)
  | _, _, 0, _, _, _, _, hq, _, _, _, _ => absurd hq (Nat.not_lt_zero _)
  | 0, c, q + 1, b, M, X, hc, _, hb, h, hJ, kk => by
    have : c = 36 := by omega
    subst this
    unfold wl_X1_addUp_189
    exact ⟨fun _ => kk M h, fun z => absurd (by decide) z⟩
  | n + 1, c, q + 1, b, M, X, hc, hq, hb, h, hJ, kk => by
    unfold wl_X1_addUp_189
    refine ⟨fun z => absurd ((i_le (a := 36) (by decide) (by omega)).mp z) (by omega), fun _ => ⟨5, ?_⟩⟩
    refine x_au198 (P := P) (K189 := wl_X1_addUp_189 G P q) (B := 20 * n + B) (by omega) 4 0 5 b M X (by omega) (by omega) (by omega) h hJ fun M' b' hb' h' => ?_
    rw [i_s]
    rw [itF_it] at h'
    exact x_au189 n (c + 1) q b' M' _ (by omega) (by omega) hb' h' (hJ.of (xSeenC_of w r c X) (by decide)) kk
theorem x_au111 {P : mM → Prop} {w r u N : Nat} : ∀ (n j q : Nat) (M : mM) (X : bS), j + n = N → n < q → xN X (4 + w) = N → rX κ M ad X → uJ X w r → xIt κ M ad X u (4 + w) j → (∀ M', rX κ M' ad (itF (xBird w r) j n X) → ∃ n189, wl_X1_addUp_189 G P n189 b M' κ.2.2.1 (ad 24 3 w) (ad 24 1 r) 0) → wl_X1_addUp_111 G P q b M κ.2.2.1 (ad 24 3 w) (ad 24 1 r) u
  | _, _, 0, _, _, _, hq, _, _, _, _, _ => absurd hq (Nat.not_lt_zero _)
  | n, j, q + 1, M, X, hj, hq, hN, h, hJ, hi, kk => by
    obtain ⟨hI, ⟨hw, hr, e31⟩, h23, h33, h4, h26, h30, hNt⟩ := id hJ
    have hL : 4 + w < 4 + xN X 3 := by omega
    obtain ⟨hx, lr, hu⟩ := id hi
    unfold wl_X1_addUp_111
    refine ⟨isc_ hu, x_hasNext h hI hL hi (by omega) (fun z => ⟨fun y => absurd y (by decide), fun _ => ⟨isc_ hu, x_next h hI hL hi z fun M1 h1 hi1 _ => ?_⟩⟩) fun z => ⟨fun _ => ?_, fun y => absurd rfl y⟩⟩
    · obtain ⟨n, rfl⟩ : ∃ n', n = n' + 1 := ⟨n - 1, by omega⟩
      obtain ⟨v64, v65, v66, vD⟩ := hNt j z
      have nt := h1.note hw z
      have c65 := bLn v65
      have v4 := h4 _ c65
      have k4 := bLn v66
      have c4 := bLn v4
      obtain ⟨e1, e2⟩ := row3 (nn (X 66 w j 0)) k4 (nn (X 4 (nn (X 65 w j 0)) 0 0)) c4
      rw [← vp_of v66, ← vp_of v4] at e1 e2
      have er := h1.at (xl24 (X := X) (c := 1) (j := r) (by omega) hr)
      have ea := h1.at (xl25 hr)
      refine ⟨isc_ nt, gfa_ h1.main rfl ⟨isc_ nt, ?_⟩⟩
      unfold wp_X18_kind wp_X18_cell wp_X18_place wp_X18_many
      refine gfi_ nt rfl (gfa_ h1.main rfl ⟨isc_ nt, gfi_ nt rfl (lda_ (v := ad 20 (nn (X 65 w j 0)) 0) (h1.at (xl0 (t := 0) (by decide))) v65 (if_pos c65) (gfi_ (h1.at (xl20 c65)) rfl (lda_ (v := ad 28 1 (3 * nn (X 66 w j 0) + nn (X 4 (nn (X 65 w j 0)) 0 0))) (h1.at (xl0 (t := 9) (by decide))) e2 ?_ (gfa_ er rfl ⟨isc_ nt, gfi_ nt rfl (ldi_ ea v64 ⟨isc_ nt, gfi_ nt rfl (x_dist ?_)⟩)⟩))))⟩)
      · exact congrArg (fun j => some (ad 28 1 j)) e1
      · have eD : dist (X 26 r (X 64 w j 0).toNatClampNeg 0) (X 65 w j 0) = xnD X w r j := rfl
        rw [eD]
        have v12 : 3 * nn (X 66 w j 0) + nn (X 4 (nn (X 65 w j 0)) 0 0) < xRows 1 := by show _ < 12; omega
        refine ldi_ (h1.at (xl28 (c := 1) (by decide) v12)) vD ⟨isc_ nt, gfi_ nt rfl (x_st44 h1 k4 c4 vD fun M2 h2 hM2 => ?_)⟩
        have et : xTab X 1 (3 * nn (X 66 w j 0) + nn (X 4 (nn (X 65 w j 0)) 0 0)) (xnD X w r j).toNatClampNeg = X 44 (nn (X 66 w j 0)) (nn (X 4 (nn (X 65 w j 0)) 0 0)) (nn (xnD X w r j)) := by
          show X 44 ((3 * nn (X 66 w j 0) + nn (X 4 (nn (X 65 w j 0)) 0 0)) / 3) ((3 * nn (X 66 w j 0) + nn (X 4 (nn (X 65 w j 0)) 0 0)) % 3) _ = _
          rw [show (3 * nn (X 66 w j 0) + nn (X 4 (nn (X 65 w j 0)) 0 0)) / 3 = nn (X 66 w j 0) by omega, show (3 * nn (X 66 w j 0) + nn (X 4 (nn (X 65 w j 0)) 0 0)) % 3 = nn (X 4 (nn (X 65 w j 0)) 0 0) by omega]
        rw [et] at h2
        have e : xBird w r j X = bU X 44 (nn (X 66 w j 0)) (nn (X 4 (nn (X 65 w j 0)) 0 0)) (nn (xnD X w r j)) (X 44 (nn (X 66 w j 0)) (nn (X 4 (nn (X 65 w j 0)) 0 0)) (nn (xnD X w r j)) + X 67 w j 0) := rfl
        rw [← e] at h2
        have ho := xBird_of w r j X
        obtain ⟨hx1, lr1, hu1⟩ := hi1
        refine x_au111 (N := N) n (j + 1) q M2 (xBird w r j X) (by omega) (by omega) ?_ h2 (hJ.of ho (by decide)) ⟨xO_U (by decide) hx1, lr1, ?_⟩ kk
        · rw [ho.xN (by decide)]; exact hN
        · rw [hM2 u hx1, ho 68 (by decide)]; exact hu1
    · have hn : n = 0 := by omega
      subst hn
      exact kk M h
theorem x_au45 {P : mM → Prop} {K29 : Nat → mM → Nat → Nat → Nat → Nat → Int32 → Int32 → Prop} {w r s N : Nat} : ∀ (n c q : Nat) (M : mM) (X : bS), c + n = 36 → n < q → s < nn (X 23 r 0 0) → rX κ M ad X → uJ X w r → (∀ M', rX κ M' ad (itF (sLook r s) c n X) → K29 b M' κ.2.2.1 (ad 24 3 w) (ad 24 1 r) (ad 25 r 0) (Int32.ofNat N) (Int32.ofNat s + 1)) → wl_X1_addUp_45 G P K29 q b M κ.2.2.1 (ad 24 3 w) (ad 24 1 r) (ad 25 r 0) (Int32.ofNat N) (Int32.ofNat s) (X 26 r s 0) (Int32.ofNat c)
  | _, _, 0, _, _, _, hq, _, _, _, _ => absurd hq (Nat.not_lt_zero _)
  | 0, c, q + 1, M, X, hc, _, _, h, hJ, kk => by
    have : c = 36 := by omega
    subst this
    unfold wl_X1_addUp_45
    exact ⟨fun _ => kk M h, fun z => absurd (by decide) z⟩
  | n + 1, c, q + 1, M, X, hc, hq, hs, h, hJ, kk => by
    obtain ⟨hI, ⟨hw, hr, e31⟩, h23, h33, h4, h26, h30, hNt⟩ := id hJ
    have vc : vp_in (Int32.ofNat c) 36 := i_vp (by omega) (by omega)
    have ec : (Int32.ofNat c).toNatClampNeg = c := i_nn (by omega)
    have h31 : nn (X 23 r 0 0) ≤ 31 := i_nle (bIn_t h23).1 (bIn_t h23).2
    have ho := sLook_of r s c X
    have step : ∀ M1, rX κ M1 ad (sLook r s c X) → wl_X1_addUp_45 G P K29 q b M1 κ.2.2.1 (ad 24 3 w) (ad 24 1 r) (ad 25 r 0) (Int32.ofNat N) (Int32.ofNat s) (X 26 r s 0) (Int32.ofNat c + 1) := fun M1 h1 => by
      have := x_au45 (P := P) (K29 := K29) (N := N) (s := s) n (c + 1) q M1 (sLook r s c X) (by omega) (by omega) (by rw [ho 23 (by decide)]; exact hs) h1 (hJ.of ho (by decide)) kk
      rw [ho 26 (by decide), ← i_s] at this
      exact this
    obtain ⟨d0, d5⟩ := dist_b (h26 s (by omega)) vc
    unfold wl_X1_addUp_45 wb_X1_addUp_89
    refine ⟨fun z => absurd ((i_le (a := 36) (by decide) (by omega)).mp z) (by omega), fun _ => x_dist ⟨fun z => ?_, fun z => ?_⟩⟩
    · have e : sLook r s c X = X := if_pos z
      exact step M (by rw [e]; exact h)
    · have vd : vp_in (dist (X 26 r s 0) (Int32.ofNat c)) 4 := b_in (a := 3) d0 (Int32.not_lt.mp z) (by decide)
      have v4 := h4 c (by omega)
      have c4 := bLn v4
      refine gfa_ h.main rfl (gfa_ h.main rfl (lda_ (v := ad 20 c 0) (h.at (xl0 (t := 0) (by decide))) vc (by rw [ec]; exact if_pos (by omega)) (gfi_ (h.at (xl20 (by omega))) rfl (lda_ (v := ad 28 0 (nn (X 4 c 0 0))) (h.at (xl0 (t := 8) (by decide))) v4 rfl (ldi_ (h.at (xl28 (c := 0) (by decide) c4)) vd (x_st43 h c4 vd fun M1 h1 _ => ?_))))))
      have e : sLook r s c X = bU X 43 (nn (X 4 c 0 0)) (nn (dist (X 26 r s 0) (Int32.ofNat c))) 0 (X 43 (nn (X 4 c 0 0)) (nn (dist (X 26 r s 0) (Int32.ofNat c))) 0 + 1) := if_neg z
      exact step M1 (by rw [e]; exact h1)
def xBirds (w r : Nat) (X : bS) : bS := itN (xBird w r) (xN X (4 + w)) X
def xSees (w r : Nat) (X : bS) : bS := itN (xSeenC w r) 36 X
theorem x_auE {P : mM → Prop} {w r s N : Nat} (hb : 725 ≤ b) (h : rX κ M ad X) (hJ : uJ X w r) (kk : ∀ M', rX κ M' ad (xSees w r (xBirds w r X)) → P M') : gfa M (ad 24 3 w) 14 5 fun u7 => isc M u7 16 ∧ (∃ b9 r10 : Nat, b9 + r10 = b ∧ wp_J2_iterator G b9 (fun u11 M8 => ∃ n111, wl_X1_addUp_111 G P n111 r10 M8 κ.2.2.1 (ad 24 3 w) (ad 24 1 r) u11) M u7) := by
  obtain ⟨hI, ⟨hw, hr, e31⟩, h23, h33, h4, h26, h30, hNt⟩ := id hJ
  have hL : 4 + w < 4 + xN X 3 := by omega
  have ew := h.at (xl24 (X := X) (c := 3) (j := w) (by omega) hw)
  refine gfa_ ew rfl ⟨isc_ (h.list hL), 5, b - 5, by omega, x_iter h hL (by omega) fun u M1 hu h1 hi1 hM1 => ⟨xN X (4 + w) + 1, ?_⟩⟩
  refine x_au111 (xN X (4 + w)) 0 _ M1 X (Nat.zero_add _) (Nat.lt_succ_self _) rfl h1 hJ hi1 fun M2 h2 => ⟨37, ?_⟩
  rw [itF_it] at h2
  refine x_au189 (B := 0) 36 0 37 (b - 5) M2 _ (by omega) (by omega) (by omega) h2 (hJ.of (bOf.it (xBird_of w r) _ X) (by decide)) fun M3 h3 => ?_
  rw [itF_it] at h3
  exact kk M3 h3
theorem x_au29 {P : mM → Prop} {PP : bS → Prop} {w r N : Nat} (hP : ∀ M X, PP X → rX κ M ad X → uJ X w r → gfa M (ad 24 3 w) 14 5 fun u7 => isc M u7 16 ∧ (∃ b9 r10 : Nat, b9 + r10 = b ∧ wp_J2_iterator G b9 (fun u11 M8 => ∃ n111, wl_X1_addUp_111 G P n111 r10 M8 κ.2.2.1 (ad 24 3 w) (ad 24 1 r) u11) M u7)) : ∀ (n s q : Nat) (M : mM) (X : bS), s + n = N → n < q → nn (X 23 r 0 0) = N → rX κ M ad X → uJ X w r → PP (itF (sLooks r) s n X) → wl_X1_addUp_29 G P q b M κ.2.2.1 (ad 24 3 w) (ad 24 1 r) (ad 25 r 0) (Int32.ofNat N) (Int32.ofNat s)
  | _, _, 0, _, _, _, hq, _, _, _, _ => absurd hq (Nat.not_lt_zero _)
  | 0, s, q + 1, M, X, hs, _, hN, h, hJ, kk => by
    have : s = N := by omega
    subst this
    unfold wl_X1_addUp_29
    exact ⟨fun _ => hP M X kk h hJ, fun z => absurd (Int32.le_refl _) z⟩
  | n + 1, s, q + 1, M, X, hs, hq, hN, h, hJ, kk => by
    obtain ⟨hI, ⟨hw, hr, e31⟩, h23, h33, h4, h26, h30, hNt⟩ := id hJ
    have h31 : nn (X 23 r 0 0) ≤ 31 := i_nle (bIn_t h23).1 (bIn_t h23).2
    have vs : vp_in (Int32.ofNat s) (nn (X 23 r 0 0)) := i_vp (by omega) (by omega)
    have es : (Int32.ofNat s).toNatClampNeg = s := i_nn (by omega)
    have ho := sLooks_of r s X
    unfold wl_X1_addUp_29
    refine ⟨fun z => absurd ((i_le (by omega) (by omega)).mp z) (by omega), fun _ => ldi_ (h.at (xl25 hr)) vs ⟨37, ?_⟩⟩
    rw [es]
    refine x_au45 36 0 37 M X (by omega) (by omega) (by omega) h hJ fun M1 h1 => ?_
    rw [itF_it] at h1
    rw [i_s]
    exact x_au29 hP n (s + 1) q M1 (sLooks r s X) (by omega) (by omega) (by rw [ho 23 (by decide)]; exact hN) h1 (hJ.of ho (by decide)) kk
def xAdd (X : bS) (w r : Nat) : bS := xSees w r (xBirds w r (sAdd1 r X))
theorem x_addUp {P : mM → Prop} {w r : Nat} (h : rX κ M ad X) (hJ : uJ X w r) (hb : 725 ≤ b) (kk : ∀ M', rX κ M' ad (xAdd X w r) → P M') : wp_X1_addUp G b P M κ.2.2.1 (ad 24 3 w) := by
  obtain ⟨hI, ⟨hw, hr, e31⟩, h23, h33, h4, h26, h30, hNt⟩ := id hJ
  have hL : 1 < 4 + xN X 3 := by omega
  obtain ⟨ez, e2⟩ := hI.z hL
  have ew := h.at (xl24 (X := X) (c := 3) (j := w) (by omega) hw)
  have vr : vp_in (X 31 w 0 0) (xN X 1) := by rw [e31]; exact i_vp (by omega) hr
  have er : nn (X 31 w 0 0) = r := by rw [e31]; exact i_nn (by omega)
  unfold wp_X1_addUp
  refine gfa_ h.main rfl (gfi_ ew rfl ⟨isc_ (h.list hL), x_get h hI hL vr ?_⟩)
  rw [er]
  refine ⟨isc_ (h.at (xl24 hL hr)), gfa_ (h.at (xl24 hL hr)) rfl (aln_ (h.at (xl25 hr)) (by decide) ⟨nn (X 23 r 0 0) + 1, x_au29 (PP := fun X' => X' = sAdd1 r X) (fun M1 X1 e1 h1 hJ1 => x_auE (s := 0) (N := 0) hb h1 hJ1 fun M' h' => kk M' ?_) (nn (X 23 r 0 0)) 0 _ M X (Nat.zero_add _) (Nat.lt_succ_self _) rfl h hJ (itF_it _ _ _)⟩)⟩
  rw [e1] at h'
  exact h'
end B87
