/-! THE CLASS's shareOf, share -/
def sumI (f : Nat → Int32) : Nat → Int32
  | 0 => 0
  | n + 1 => sumI f n + f n
/-- the most that another walker saw -/
def xmN (X : bS) (w : Int32) (R c : Nat) : Nat → Int32
  | 0 => -1
  | n + 1 => if Int32.ofNat n = w then xmN X w R c n else iMax (xmN X w R c n) (X 63 n R c)
def xmost (X : bS) (w : Int32) (R c : Nat) : Int32 := xmN X w R c (xN X 2)
def xsA (X : bS) (w : Int32) (R c : Nat) : Int32 := if 0 ≤ X 63 (nn w) R c then (if xmost X w R c < 0 then 0 else X 63 (nn w) R c) else 0
def xsB (X : bS) (w : Int32) (R c : Nat) : Int32 := if 0 ≤ X 63 (nn w) R c then (if xmost X w R c < 0 then 0 else iMax (X 63 (nn w) R c) (xmost X w R c)) else 0
def xAA (X : bS) (w : Int32) : Int32 := sumI (fun R => sumI (fun c => xsA X w R c) 36) 40
def xBB (X : bS) (w : Int32) : Int32 := sumI (fun R => sumI (fun c => xsB X w R c) 36) 40
def xshare (X : bS) (w : Int32) : Int32 := if xBB X w = 0 then 1000 else iMax 300 ((1000 * xAA X w) / xBB X w)
section B85
variable {G : mG} {b : Nat} {κ : xK} {M : mM} {ad : xA} {X : bS}
theorem rX.seen (h : rX κ M ad X) {w R : Nat} (hw : w < xN X 2) (hR : R < 40) : M (ad 27 w R) = some (true, .inl (2, 36, mIs fun c => X 63 w R c)) := h.at (xl27 hw hR)
theorem rX.seenT (h : rX κ M ad X) {w : Nat} (hw : w < xN X 2) : M (ad 26 w 0) = some (true, .inl (11, 40, mRs fun p => some (ad 27 w p))) := h.at (xl26 hw)
theorem rX.wlkr (h : rX κ M ad X) {w : Nat} (hw : w < xN X 2) : M (ad 24 2 w) = some (true, .inr (13, [.ref (ad 26 w 0)])) := h.at (xl24 (by omega) hw)
theorem xgr {M : mM} {u : Nat} {x y : Int32} {P : Int32 → mM → Prop} (hM : M u = some (true, .inl (0, 2, mIs (upd (upd (fun _ => 0) (0 : Int32).toNatClampNeg x) (1 : Int32).toNatClampNeg y)))) (hx : ¬ x < (-2147483648 : Int32)) (kk : P (iMax x y) M) : wp_X1_greatest G b P M u := by
  unfold wp_X1_greatest
  refine aln_ hM (by decide) ⟨3, ?_⟩
  have e0 : (upd (upd (fun _ => 0) (0 : Int32).toNatClampNeg x) (1 : Int32).toNatClampNeg y) (0 : Int32).toNatClampNeg = x := rfl
  have e1 : (upd (upd (fun _ => 0) (0 : Int32).toNatClampNeg x) (1 : Int32).toNatClampNeg y) (0 + 1 : Int32).toNatClampNeg = y := rfl
  unfold wl_X1_greatest_12
  refine ⟨fun z => absurd z (by decide), fun _ => ldi_ hM (i_vp (c := 0) (by decide) (by decide)) ?_⟩
  intro g hg
  have hg : g = x := by
    rw [hg, e0]
    by_cases z : (-2147483648 : Int32) < x
    · rw [if_pos z]
    · rw [if_neg z]
      exact Int32.le_antisymm (Int32.not_lt.mp hx) (Int32.not_lt.mp z)
  subst hg
  unfold wl_X1_greatest_12
  refine ⟨fun z => absurd z (by decide), fun _ => ldi_ hM (i_vp (c := 1) (by decide) (by decide)) ?_⟩
  intro g2 hg2
  rw [e1] at hg2
  have hg2 : g2 = iMax g y := hg2
  subst hg2
  unfold wl_X1_greatest_12
  exact ⟨fun _ => kk, fun z => absurd (by decide) z⟩
theorem x_sh61 {P : Int32 → mM → Prop} {K25 : Nat → mM → Nat → Int32 → Nat → Int32 → Int32 → Int32 → Prop} {K35 : Nat → mM → Nat → Int32 → Nat → Int32 → Int32 → Int32 → Int32 → Prop} (h : rX κ M ad X) (hI : xI X) {x1 : Int32} (h1 : vp_in x1 (xN X 2)) {R c : Nat} (hR : R < 40) (hc : c < 36) {a0 a1 : Int32} (hp : 0 ≤ X 63 (nn x1) R c) (kk : K35 b M κ.2.2.1 x1 (ad 26 (nn x1) 0) (a0 + xsA X x1 R c) (a1 + xsB X x1 R c) (Int32.ofNat R) (Int32.ofNat c + 1)) : ∀ (n j q : Nat), j + n = xN X 2 → n < q → wl_X1_shareOf_61 G P K25 K35 q b M κ.2.2.1 x1 (ad 26 (nn x1) 0) a0 a1 (Int32.ofNat R) (Int32.ofNat c) (xmN X x1 R c j) (Int32.ofNat j)
  | _, _, 0, _, hq => absurd hq (Nat.not_lt_zero _)
  | 0, j, q + 1, hj, _ => by
    have hL : 2 < 4 + xN X 3 := by omega
    obtain ⟨ez, e2⟩ := hI.z hL
    have hj2 : j = xN X 2 := by omega
    have hw := bLn h1
    have vR : vp_in (Int32.ofNat R) 40 := i_vp (by omega) hR
    have vc : vp_in (Int32.ofNat c) 36 := i_vp (by omega) hc
    have eR : (Int32.ofNat R).toNatClampNeg = R := i_nn (by omega)
    have ec : (Int32.ofNat c).toNatClampNeg = c := i_nn (by omega)
    have hm : xmN X x1 R c j = xmost X x1 R c := by rw [hj2]; rfl
    unfold xsA xsB at kk
    rw [if_pos hp, if_pos hp] at kk
    unfold wl_X1_shareOf_61 wb_X1_shareOf_154
    rw [hm]
    refine gfa_ h.main rfl ⟨isc_ (h.list hL), x_size h hL ⟨fun _ => ⟨fun z => ?_, fun z => ?_⟩, fun z => absurd ?_ z⟩⟩
    · rw [if_pos z, if_pos z, Int32.add_zero, Int32.add_zero] at kk
      exact kk
    · rw [if_neg z, if_neg z] at kk
      refine lda_ (v := ad 27 (nn x1) R) (h.seenT hw) vR (by rw [eR]) (ldi_ (h.seen hw hR) vc (lda_ (v := ad 27 (nn x1) R) (h.seenT hw) vR (by rw [eR]) (ldi_ (h.seen hw hR) vc ?_)))
      rw [ec]
      intro g hg
      subst hg
      exact kk
    · rw [ez, hj2]
      exact Int32.le_refl _
  | n + 1, j, q + 1, hj, hq => by
    have hL : 2 < 4 + xN X 3 := by omega
    obtain ⟨ez, e2⟩ := hI.z hL
    have hj2 : j < xN X 2 := by omega
    have vR : vp_in (Int32.ofNat R) 40 := i_vp (by omega) hR
    have vc : vp_in (Int32.ofNat c) 36 := i_vp (by omega) hc
    have vj : vp_in (Int32.ofNat j) (xN X 2) := i_vp (by omega) hj2
    have eR : (Int32.ofNat R).toNatClampNeg = R := i_nn (by omega)
    have ec : (Int32.ofNat c).toNatClampNeg = c := i_nn (by omega)
    have ej : nn (Int32.ofNat j) = j := i_nn (by omega)
    have ih := x_sh61 (P := P) (K25 := K25) (K35 := K35) h hI h1 hR hc hp kk n (j + 1) q (by omega) (by omega)
    rw [show xmN X x1 R c (j + 1) = (if Int32.ofNat j = x1 then xmN X x1 R c j else iMax (xmN X x1 R c j) (X 63 j R c)) from rfl] at ih
    unfold wl_X1_shareOf_61 wb_X1_shareOf_114
    refine gfa_ h.main rfl ⟨isc_ (h.list hL), x_size h hL ⟨fun z => absurd ?_ (Nat.not_le.mpr hj2), fun _ => ⟨fun z => gfa_ h.main rfl ⟨isc_ (h.list hL), x_get h hI hL vj ?_⟩, fun z => ?_⟩⟩⟩
    · rw [ez] at z
      exact (i_le (by omega) (by omega)).mp z
    · rw [ej]
      refine ⟨isc_ (h.wlkr hj2), gfa_ (h.wlkr hj2) rfl (lda_ (v := ad 27 j R) (h.seenT hj2) vR (by rw [eR]) (ldi_ (h.seen hj2 hR) vc ?_))⟩
      rw [ec]
      intro g hg
      subst hg
      rw [if_neg z] at ih
      rw [i_s]
      exact ih
    · rw [if_pos z] at ih
      rw [i_s]
      exact ih
theorem x_sh35 {P : Int32 → mM → Prop} {K25 : Nat → mM → Nat → Int32 → Nat → Int32 → Int32 → Int32 → Prop} (h : rX κ M ad X) (hI : xI X) {x1 : Int32} (h1 : vp_in x1 (xN X 2)) {R : Nat} (hR : R < 40) {a0 a1 : Int32} (kk : K25 b M κ.2.2.1 x1 (ad 26 (nn x1) 0) (a0 + sumI (fun c => xsA X x1 R c) 36) (a1 + sumI (fun c => xsB X x1 R c) 36) (Int32.ofNat R + 1)) : ∀ (n c q : Nat), c + n = 36 → n < q → wl_X1_shareOf_35 G P K25 q b M κ.2.2.1 x1 (ad 26 (nn x1) 0) (a0 + sumI (fun c => xsA X x1 R c) c) (a1 + sumI (fun c => xsB X x1 R c) c) (Int32.ofNat R) (Int32.ofNat c)
  | _, _, 0, _, hq => absurd hq (Nat.not_lt_zero _)
  | 0, c, q + 1, hc, _ => by
    have : c = 36 := by omega
    subst this
    unfold wl_X1_shareOf_35
    exact ⟨fun _ => kk, fun z => absurd (by decide) z⟩
  | n + 1, c, q + 1, hc, hq => by
    have hw := bLn h1
    have vR : vp_in (Int32.ofNat R) 40 := i_vp (by omega) hR
    have vc : vp_in (Int32.ofNat c) 36 := i_vp (by omega) (by omega)
    have eR : (Int32.ofNat R).toNatClampNeg = R := i_nn (by omega)
    have ec : (Int32.ofNat c).toNatClampNeg = c := i_nn (by omega)
    have ih := x_sh35 (P := P) (K25 := K25) h hI h1 hR kk n (c + 1) q (by omega) (by omega)
    rw [show sumI (fun c => xsA X x1 R c) (c + 1) = sumI (fun c => xsA X x1 R c) c + xsA X x1 R c from rfl, show sumI (fun c => xsB X x1 R c) (c + 1) = sumI (fun c => xsB X x1 R c) c + xsB X x1 R c from rfl, ← i_s, ← Int32.add_assoc, ← Int32.add_assoc] at ih
    unfold wl_X1_shareOf_35
    refine ⟨fun z => absurd ((i_le (a := 36) (by decide) (by omega)).mp z) (by omega), fun _ => lda_ (v := ad 27 (nn x1) R) (h.seenT hw) vR (by rw [eR]) (ldi_ (h.seen hw hR) vc ?_)⟩
    rw [ec]
    refine ⟨fun z => ⟨xN X 2 + 1, x_sh61 h hI h1 hR (by omega) z ih (xN X 2) 0 _ (Nat.zero_add _) (Nat.lt_succ_self _)⟩, fun z => ?_⟩
    unfold xsA xsB at ih
    rw [if_neg z, if_neg z, Int32.add_zero, Int32.add_zero] at ih
    unfold wb_X1_shareOf_154
    exact ih
theorem x_sh25 {P : Int32 → mM → Prop} (h : rX κ M ad X) (hI : xI X) {x1 : Int32} (h1 : vp_in x1 (xN X 2)) (hb : 3 ≤ b) (kk : ∀ M', rX κ M' ad X → (∀ a, M a ≠ none → M' a = M a) → P (xshare X x1) M') : ∀ (n R q : Nat), R + n = 40 → n < q → wl_X1_shareOf_25 G P q b M κ.2.2.1 x1 (ad 26 (nn x1) 0) (sumI (fun R => sumI (fun c => xsA X x1 R c) 36) R) (sumI (fun R => sumI (fun c => xsB X x1 R c) 36) R) (Int32.ofNat R)
  | _, _, 0, _, hq => absurd hq (Nat.not_lt_zero _)
  | 0, R, q + 1, hR, _ => by
    have : R = 40 := by omega
    subst this
    have eA : sumI (fun R => sumI (fun c => xsA X x1 R c) 36) 40 = xAA X x1 := rfl
    have eB : sumI (fun R => sumI (fun c => xsB X x1 R c) 36) 40 = xBB X x1 := rfl
    unfold xshare at kk
    unfold wl_X1_shareOf_25 wb_X1_shareOf_200
    rw [eA, eB]
    refine ⟨fun _ => ⟨fun z => ⟨by decide, by decide, by show 2 + 1 ≤ b; omega, fun q hq => ?_⟩, fun z => ?_⟩, fun z => absurd (by decide) z⟩
    · have hfr := hq q (Nat.le_refl _)
      have hx := h.fresh hfr
      rw [if_neg z] at kk
      refine ⟨2, _, mset_s _ _ _, i_vp (c := 0) (by decide) (by decide), ?_⟩
      rw [mset_mset]
      refine ⟨z, 2, _, mset_s _ _ _, i_vp (c := 1) (by decide) (by decide), ?_⟩
      rw [mset_mset]
      exact xgr (mset_s _ _ _) (by decide) (kk _ (h.oth hx _) fun a ha => mset_n fun y => ha (y ▸ hfr))
    · rw [if_pos z] at kk
      exact kk M h fun _ _ => rfl
  | n + 1, R, q + 1, hR, hq => by
    have ih := x_sh25 (P := P) h hI h1 hb kk n (R + 1) q (by omega) (by omega)
    rw [show sumI (fun R => sumI (fun c => xsA X x1 R c) 36) (R + 1) = sumI (fun R => sumI (fun c => xsA X x1 R c) 36) R + sumI (fun c => xsA X x1 R c) 36 from rfl, show sumI (fun R => sumI (fun c => xsB X x1 R c) 36) (R + 1) = sumI (fun R => sumI (fun c => xsB X x1 R c) 36) R + sumI (fun c => xsB X x1 R c) 36 from rfl, ← i_s] at ih
    have := x_sh35 (G := G) (P := P) (K25 := wl_X1_shareOf_25 G P q) h hI h1 (R := R) (by omega) ih 36 0 37 (by omega) (by omega)
    rw [show sumI (fun c => xsA X x1 R c) 0 = 0 from rfl, show sumI (fun c => xsB X x1 R c) 0 = 0 from rfl, Int32.add_zero, Int32.add_zero] at this
    unfold wl_X1_shareOf_25
    exact ⟨fun z => absurd ((i_le (a := 40) (by decide) (by omega)).mp z) (by omega), fun _ => ⟨37, this⟩⟩
theorem x_shareOf {P : Int32 → mM → Prop} (h : rX κ M ad X) (hI : xI X) {x1 : Int32} (h1 : vp_in x1 (xN X 2)) (hb : 3 ≤ b) (kk : ∀ M', rX κ M' ad X → (∀ a, M a ≠ none → M' a = M a) → P (xshare X x1) M') : wp_X1_shareOf G b P M κ.2.2.1 x1 := by
  have hL : 2 < 4 + xN X 3 := by omega
  have hw := bLn h1
  unfold wp_X1_shareOf
  exact gfa_ h.main rfl ⟨isc_ (h.list hL), x_get h hI hL h1 ⟨isc_ (h.wlkr hw), gfa_ (h.wlkr hw) rfl ⟨41, x_sh25 h hI h1 hb kk 40 0 41 (by omega) (by omega)⟩⟩⟩
theorem x0_share (h : rX κ M ad X) (hI : xI X) {w : Int32} {K : Int32 → mM → Prop} (hb : 30 ≤ b) (kk : ∀ M', rX κ M' ad X → (bE (eWalker X w) false false = 0 → xOut κ M' (xshare X w).toInt64) → K (bE (eWalker X w) false false) M') : wp_X0_share G b K M κ.2.2.1 w κ.2.2.2 := by
  have hL : 2 < 4 + xN X 3 := by omega
  unfold eWalker at kk
  unfold wp_X0_share wp_X1_share wb_X0_share_12
  have z0 := (bIn_t (hI.2 2 hL).1).1
  refine ⟨h.isc, b, 0, rfl, gfa_ h.main rfl ⟨isc_ (h.list hL), x_size h hL ⟨7, b - 7, by omega, x_cix z0 rfl (by omega) (fun z => ⟨h.isc, b - 7, 0, rfl, x_shareOf h hI ?_ (by omega) fun M1 h1 _ => x_out h1 fun M' h' ho => ?_⟩) fun z q => ⟨rfl, ?_⟩⟩⟩⟩
  · change bIn w 0 (X 27 0 0 0 - 1) = true at z
    have hr := (b_inN (n := 200) z (hI.2 2 hL).1 (by decide)).2
    change nn w < xN X 2 at hr
    rintro (y | y)
    · exact absurd y (Int32.not_lt.mpr (bIn_t z).1)
    · exact absurd hr (Nat.not_lt.mpr y)
  · change bIn w 0 (X 27 0 0 0 - 1) = true at z
    rw [z] at kk
    exact kk M' h' fun _ => ho
  · change bIn w 0 (X 27 0 0 0 - 1) = false at z
    rw [z] at kk
    exact kk M h (fun w9 => by first | exact absurd (show (1 : Int32) = 0 from w9) (by decide) | exact absurd (show (2 : Int32) = 0 from w9) (by decide) | exact absurd (show (3 : Int32) = 0 from w9) (by decide))
end B85
