/-! THE CLASS's PLAIN METHODS: level, setInflow, setKind, looks, errorCode, errorOffset, routeAt, routeLength, walkAt, setSluice -/
def xs (e : Int32) (X X' : bS) : bS := if e = 0 then X' else X
theorem xs0 {X X' : bS} : xs 0 X X' = X' := if_pos rfl
theorem xs1 {e : Int32} {X X' : bS} (h : ¬ e = 0) : xs e X X' = X := if_neg h
theorem bE_t1 {q r : Bool} : bE true q r = 1 := rfl
theorem bE_t2 {r : Bool} : bE false true r = 2 := rfl
theorem bE_t3 : bE false false true = 3 := rfl
theorem bE_t0 : bE false false false = 0 := rfl
section B75
variable {G : mG} {b : Nat} {κ : xK} {M : mM} {ad : xA} {X : bS}
theorem x0_level (h : rX κ M ad X) {p : Int32} {K : Int32 → mM → Prop} (hb : 30 ≤ b) (kk : ∀ M', rX κ M' ad X → (eLevel p = 0 → xOut κ M' (X 8 (nn p) 0 0).toInt64) → K (eLevel p) M') : wp_X0_level G b K M κ.2.2.1 p κ.2.2.2 := by
  unfold eLevel at kk
  unfold wp_X0_level wp_X1_level wb_X0_level_12
  refine ⟨h.isc, b, 0, rfl, b, 0, rfl, x_cix (m := 3) (by decide) (by decide) (by omega) (fun z => ?_) fun z q => ⟨rfl, ?_⟩⟩
  · rw [z] at kk
    exact gfa_ h.main rfl (ldi_ (h.at (xl0 (t := 2) (by decide))) (bIn_v z (by decide)) (x_out h fun M' h' ho => kk M' h' fun _ => ho))
  · rw [z] at kk
    exact kk M h (fun w9 => by first | exact absurd (show (1 : Int32) = 0 from w9) (by decide) | exact absurd (show (2 : Int32) = 0 from w9) (by decide) | exact absurd (show (3 : Int32) = 0 from w9) (by decide))
theorem x0_setInflow (h : rX κ M ad X) {p i : Int32} {K : Int32 → mM → Prop} (hb : 30 ≤ b) (kk : ∀ M', rX κ M' ad (xs (eSetInflow p i) X (bU X 9 (nn p) 0 0 i)) → (eSetInflow p i = 0 → xOut κ M' (X 9 (nn p) 0 0).toInt64) → K (eSetInflow p i) M') : wp_X0_setInflow G b K M κ.2.2.1 p i κ.2.2.2 := by
  unfold eSetInflow at kk
  unfold wp_X0_setInflow wp_X1_setInflow wb_X0_setInflow_13 wb_X0_setInflow_17
  refine ⟨h.isc, b, 0, rfl, 7, b - 7, by omega, x_cix (m := 3) (by decide) (by decide) (by omega) (fun z => ⟨b - 7, 0, rfl, x_crg (by omega) (fun y => ?_) fun y q => Or.inl ⟨rfl, ?_⟩⟩) fun z q => Or.inr ⟨rfl, ?_⟩⟩
  · rw [z, y] at kk
    have hi : vp_in p 4 := bIn_v z (by decide)
    exact gfa_ h.main rfl (ldi_ (h.at (xl0 (t := 3) (by decide))) hi (gfa_ h.main rfl (x_st9 h hi fun M1 h1 _ => x_out h1 fun M' h' ho => kk M' h' fun _ => ho)))
  · rw [z, y] at kk
    exact kk M h (fun w9 => by first | exact absurd (show (1 : Int32) = 0 from w9) (by decide) | exact absurd (show (2 : Int32) = 0 from w9) (by decide) | exact absurd (show (3 : Int32) = 0 from w9) (by decide))
  · rw [z] at kk
    exact kk M h (fun w9 => by first | exact absurd (show (1 : Int32) = 0 from w9) (by decide) | exact absurd (show (2 : Int32) = 0 from w9) (by decide) | exact absurd (show (3 : Int32) = 0 from w9) (by decide))
theorem x0_setKind (h : rX κ M ad X) {k l g p : Int32} {K : Int32 → mM → Prop} (hb : 40 ≤ b) (kk : ∀ M', rX κ M' ad (xs (eSetKind k l g p) X (bU (bU (bU X 10 (nn k) 0 0 l) 11 (nn k) 0 0 g) 12 (nn k) 0 0 p)) → (eSetKind k l g p = 0 → xOut κ M' (X 12 (nn k) 0 0).toInt64) → K (eSetKind k l g p) M') : wp_X0_setKind G b K M κ.2.2.1 k l g p κ.2.2.2 := by
  unfold eSetKind at kk
  unfold wp_X0_setKind wp_X1_setKind wb_X0_setKind_17 wb_X0_setKind_21
  refine ⟨h.isc, b, 0, rfl, 7, b - 7, by omega, x_cix (m := 3) (by decide) (by decide) (by omega) (fun z => ⟨7, b - 7 - 7, by omega, x_crg (by omega) (fun y => ⟨7, b - 7 - 7 - 7, by omega, x_crg (by omega) (fun w => ⟨b - 7 - 7 - 7, 0, rfl, x_crg (by omega) (fun v => ?_) fun v q => Or.inl ⟨rfl, ?_⟩⟩) fun w q => Or.inl ⟨rfl, ?_⟩⟩) fun y q => Or.inl ⟨rfl, ?_⟩⟩) fun z q => Or.inr ⟨rfl, ?_⟩⟩
  · rw [z, y, w, v] at kk
    have hi : vp_in k 4 := bIn_v z (by decide)
    have hl := bLt hi
    refine gfa_ h.main rfl (lda_ (h.at (xl0 (t := 1) (by decide))) hi (if_pos hl) (gfi_ (h.at (xl21 hl)) rfl (x_pkind h hl (Or.inl ⟨rfl, rfl⟩) fun M1 h1 _ => x_pkind h1 hl (Or.inr (Or.inl ⟨rfl, rfl⟩)) fun M2 h2 _ => x_pkind h2 hl (Or.inr (Or.inr ⟨rfl, rfl⟩)) fun M3 h3 _ => x_out h3 fun M' h' ho => kk M' h' fun _ => ho)))
  · rw [z, y, w, v] at kk
    exact kk M h (fun w9 => by first | exact absurd (show (1 : Int32) = 0 from w9) (by decide) | exact absurd (show (2 : Int32) = 0 from w9) (by decide) | exact absurd (show (3 : Int32) = 0 from w9) (by decide))
  · rw [z, y, w] at kk
    exact kk M h (fun w9 => by first | exact absurd (show (1 : Int32) = 0 from w9) (by decide) | exact absurd (show (2 : Int32) = 0 from w9) (by decide) | exact absurd (show (3 : Int32) = 0 from w9) (by decide))
  · rw [z, y] at kk
    exact kk M h (fun w9 => by first | exact absurd (show (1 : Int32) = 0 from w9) (by decide) | exact absurd (show (2 : Int32) = 0 from w9) (by decide) | exact absurd (show (3 : Int32) = 0 from w9) (by decide))
  · rw [z] at kk
    exact kk M h (fun w9 => by first | exact absurd (show (1 : Int32) = 0 from w9) (by decide) | exact absurd (show (2 : Int32) = 0 from w9) (by decide) | exact absurd (show (3 : Int32) = 0 from w9) (by decide))
theorem x0_looks (h : rX κ M ad X) {c d : Int32} {K : Int32 → mM → Prop} (hb : 30 ≤ b) (kk : ∀ M', rX κ M' ad X → (eLooks c d = 0 → xOut κ M' (X 43 (nn c) (nn d) 0).toInt64) → K (eLooks c d) M') : wp_X0_looks G b K M κ.2.2.1 c d κ.2.2.2 := by
  unfold eLooks at kk
  unfold wp_X0_looks wp_X1_looks wb_X0_looks_13
  refine ⟨h.isc, b, 0, rfl, 7, b - 7, by omega, x_crg (by omega) (fun z => ⟨b - 7, 0, rfl, x_crg (by omega) (fun y => ?_) fun y q => ⟨rfl, ?_⟩⟩) fun z q => ⟨rfl, ?_⟩⟩
  · rw [z, y] at kk
    have hc : vp_in c 3 := bIn_v z (by decide)
    have hd : vp_in d 4 := bIn_v y (by decide)
    refine gfa_ h.main rfl (lda_ (h.at (xl0 (t := 8) (by decide))) hc rfl (ldi_ (h.at (xl28 (c := 0) (j := nn c) (by decide) (bLt hc))) hd (x_out h fun M' h' ho => kk M' h' fun _ => ho)))
  · rw [z, y] at kk
    exact kk M h (fun w9 => by first | exact absurd (show (1 : Int32) = 0 from w9) (by decide) | exact absurd (show (2 : Int32) = 0 from w9) (by decide) | exact absurd (show (3 : Int32) = 0 from w9) (by decide))
  · rw [z] at kk
    exact kk M h (fun w9 => by first | exact absurd (show (1 : Int32) = 0 from w9) (by decide) | exact absurd (show (2 : Int32) = 0 from w9) (by decide) | exact absurd (show (3 : Int32) = 0 from w9) (by decide))
theorem x_errorCode (h : rX κ M ad X) {K : Int32 → mM → Prop} (kk : K (X 20 0 0 0) M) : wp_X1_errorCode G b K M κ.2.2.1 := by
  unfold wp_X1_errorCode
  exact gfi_ h.main rfl kk
theorem x_errorOffset (h : rX κ M ad X) {K : Int32 → mM → Prop} (kk : K (X 21 0 0 0) M) : wp_X1_errorOffset G b K M κ.2.2.1 := by
  unfold wp_X1_errorOffset
  exact gfi_ h.main rfl kk
theorem x0_routeLength (h : rX κ M ad X) (hI : xI X) (hR : ∀ r, r < 8 → bIn (X 23 r 0 0) 0 31 = true) (hr8 : xN X 1 ≤ 8) {r : Int32} {K : Int32 → mM → Prop} (hb : 30 ≤ b) (kk : ∀ M', rX κ M' ad X → (bE (eRoute X r) false false = 0 → xOut κ M' (X 23 (nn r) 0 0).toInt64) → K (bE (eRoute X r) false false) M') : wp_X0_routeLength G b K M κ.2.2.1 r κ.2.2.2 := by
  unfold eRoute at kk
  unfold wp_X0_routeLength wp_X1_routeLength wb_X0_routeLength_12
  have hL : 1 < 4 + xN X 3 := by omega
  refine ⟨h.isc, b, 0, rfl, gfa_ h.main rfl ⟨b, 0, rfl, x_at h hI hL (by omega) (fun z => ?_) fun z q => ⟨rfl, ?_⟩⟩⟩
  · change bIn r 0 (X 24 0 0 0 - 1) = true at z
    rw [z] at kk
    have hr := (b_inN (n := 200) z (hI.2 1 hL).1 (by decide)).2
    change nn r < xN X 1 at hr
    have e : Int32.ofNat (nn (X 23 (nn r) 0 0)) = X 23 (nn r) 0 0 := (i_of (bIn_t (hR (nn r) (by omega))).1).symm
    refine ⟨isc_ (h.at (xl24 hL hr)), gfa_ (h.at (xl24 hL hr)) rfl (aln_ (h.at (xl25 hr)) (by decide) ?_)⟩
    rw [e]
    exact x_out h fun M' h' ho => kk M' h' fun _ => ho
  · change bIn r 0 (X 24 0 0 0 - 1) = false at z
    rw [z] at kk
    exact kk M h (fun w9 => by first | exact absurd (show (1 : Int32) = 0 from w9) (by decide) | exact absurd (show (2 : Int32) = 0 from w9) (by decide) | exact absurd (show (3 : Int32) = 0 from w9) (by decide))
theorem x0_routeAt (h : rX κ M ad X) (hI : xI X) (hR : ∀ r, r < 8 → bIn (X 23 r 0 0) 0 31 = true) (hr8 : xN X 1 ≤ 8) {r p : Int32} {K : Int32 → mM → Prop} (hb : 30 ≤ b) (kk : ∀ M', rX κ M' ad X → (eRouteAt X r p = 0 → xOut κ M' (X 26 (nn r) (nn p) 0).toInt64) → K (eRouteAt X r p) M') : wp_X0_routeAt G b K M κ.2.2.1 r p κ.2.2.2 := by
  unfold eRouteAt eRoute at kk
  unfold wp_X0_routeAt wp_X1_routeAt wb_X0_routeAt_13
  have hL : 1 < 4 + xN X 3 := by omega
  refine ⟨h.isc, b, 0, rfl, gfa_ h.main rfl ⟨7, b - 7, by omega, x_at h hI hL (by omega) (fun z => ?_) fun z q => ⟨rfl, ?_⟩⟩⟩
  · change bIn r 0 (X 24 0 0 0 - 1) = true at z
    rw [z] at kk
    have hr := (b_inN (n := 200) z (hI.2 1 hL).1 (by decide)).2
    change nn r < xN X 1 at hr
    have h23 := hR (nn r) (by omega)
    have e : Int32.ofNat (nn (X 23 (nn r) 0 0)) = X 23 (nn r) 0 0 := (i_of (bIn_t h23).1).symm
    refine ⟨isc_ (h.at (xl24 hL hr)), gfa_ (h.at (xl24 hL hr)) rfl (aln_ (h.at (xl25 hr)) (by decide) ?_)⟩
    rw [e]
    refine ⟨b - 7, 0, rfl, x_cix (bIn_t h23).1 rfl (by omega) (fun y => ?_) fun y q => ⟨rfl, ?_⟩⟩
    · rw [y] at kk
      obtain ⟨-, hp⟩ := b_inN (n := 31) y h23 (by decide)
      have hv : vp_in p (nn (X 23 (nn r) 0 0)) := by
        rintro (w | w)
        · exact absurd w (Int32.not_lt.mpr (bIn_t y).1)
        · exact absurd hp (Nat.not_lt.mpr w)
      exact gfa_ (h.at (xl24 hL hr)) rfl (ldi_ (h.at (xl25 hr)) hv (x_out h fun M' h' ho => kk M' h' fun _ => ho))
    · rw [y] at kk
      exact kk M h (fun w9 => by first | exact absurd (show (1 : Int32) = 0 from w9) (by decide) | exact absurd (show (2 : Int32) = 0 from w9) (by decide) | exact absurd (show (3 : Int32) = 0 from w9) (by decide))
  · change bIn r 0 (X 24 0 0 0 - 1) = false at z
    rw [z] at kk
    exact kk M h (fun w9 => by first | exact absurd (show (1 : Int32) = 0 from w9) (by decide) | exact absurd (show (2 : Int32) = 0 from w9) (by decide) | exact absurd (show (3 : Int32) = 0 from w9) (by decide))
theorem x0_walkAt (h : rX κ M ad X) (hI : xI X) {w q : Int32} {K : Int32 → mM → Prop} (hb : 30 ≤ b) (kk : ∀ M', rX κ M' ad X → (eWalkAt X w q = 0 → xOut κ M' (aWalkAt X (nn w) q).toInt64) → K (eWalkAt X w q) M') : wp_X0_walkAt G b K M κ.2.2.1 w q κ.2.2.2 := by
  unfold eWalkAt eWalk at kk
  unfold wp_X0_walkAt wp_X1_walkAt wb_X0_walkAt_13 wb_X0_walkAt_17
  have hL : 3 < 4 + xN X 3 := by omega
  refine ⟨h.isc, b, 0, rfl, gfa_ h.main rfl ⟨7, b - 7, by omega, x_at h hI hL (by omega) (fun z => ?_) fun z q => Or.inr ⟨rfl, ?_⟩⟩⟩
  · change bIn w 0 (X 28 0 0 0 - 1) = true at z
    rw [z] at kk
    have hr := (b_inN (n := 200) z (hI.2 3 hL).1 (by decide)).2
    change nn w < xN X 3 at hr
    have ha := h.at (xl24 hL hr)
    refine ⟨isc_ ha, b - 7, 0, rfl, x_crg (by omega) (fun y => ?_) fun y q => Or.inl ⟨rfl, ?_⟩⟩
    · rw [y] at kk
      have fin : ∀ v, v = aWalkAt X (nn w) q → stl M 4 κ.2.2.2 0 v.toInt64 fun M5 => K 0 M5 := fun v hv => x_out h fun M' h' ho => kk M' h' fun _ => by rw [← hv]; exact ho
      refine ⟨fun z0 => gfi_ ha rfl (fin _ ?_), fun z1 => gfi_ ha rfl (fin _ ?_), fun z2 => gfi_ ha rfl (fin _ ?_), fun z3 => gfi_ ha rfl (fin _ ?_), fun z4 => gfi_ ha rfl (fin _ ?_), fun z0 z1 z2 z3 z4 => gfa_ ha rfl ⟨isc_ (h.list (L := 4 + nn w) (by omega)), x_size h (by omega) (fin _ ?_)⟩⟩
      · unfold aWalkAt; rw [z0]; rfl
      · unfold aWalkAt; rw [z1]; rfl
      · unfold aWalkAt; rw [z2]; rfl
      · unfold aWalkAt; rw [z3]; rfl
      · unfold aWalkAt; rw [z4]; rfl
      · unfold aWalkAt xZ
        rw [if_neg z0, if_neg z1, if_neg z2, if_neg z3, if_neg z4, if_neg (by omega), if_neg (by omega), if_neg (by omega), if_neg (by omega), Nat.add_sub_cancel_left]
    · rw [y] at kk
      exact kk M h (fun w9 => by first | exact absurd (show (1 : Int32) = 0 from w9) (by decide) | exact absurd (show (2 : Int32) = 0 from w9) (by decide) | exact absurd (show (3 : Int32) = 0 from w9) (by decide))
  · change bIn w 0 (X 28 0 0 0 - 1) = false at z
    rw [z] at kk
    exact kk M h (fun w9 => by first | exact absurd (show (1 : Int32) = 0 from w9) (by decide) | exact absurd (show (2 : Int32) = 0 from w9) (by decide) | exact absurd (show (3 : Int32) = 0 from w9) (by decide))
end B75
