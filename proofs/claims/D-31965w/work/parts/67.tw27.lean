/-! THE TWIN's isRoute, route -/
def rdAll (S : bS) : bRr := rdI (lt S) 61 0 0
def sIs0 (S : bS) (x : Int32) : bS := bU (bU (bU S 25 0 0 0 x) 23 (nn (S 24 0 0 0)) 0 0 1) 26 (nn (S 24 0 0 0)) 0 0 x
def sIs1 (S : bS) (x : Int32) : bS := sIs0 (bU S 19 0 0 0 (Int32.ofNat (rdAll S).2.1)) x
def sIsR (S : bS) (x : Int32) : bS :=
  if (rdAll S).1 = 0 then (if nn (S 18 0 0 0) ≤ (rdAll S).2.1 then runL (rdAll S).2.2 (sIs1 S x) else bU (bU (bU S 19 0 0 0 (Int32.ofNat (rdAll S).2.1)) 20 0 0 0 1) 21 0 0 0 (Int32.ofNat (rdAll S).2.1)) else sRd S (rdAll S)
def eIsR (S : bS) (x : Int32) : Int32 := if (rdAll S).1 = 0 then (if nn (S 18 0 0 0) ≤ (rdAll S).2.1 then runE (rdAll S).2.2 (sIs1 S x) else 1) else (rdAll S).1
def eRt (S : bS) (x : Int32) : Int32 := bE (!bIn x 0 35) (decide (S 24 0 0 0 = 8)) false
def sRt1 (S : bS) : bS := bU (bU (z0 S) 20 0 0 0 0) 21 0 0 0 (-1)
def sRt2 (S : bS) (x : Int32) : bS := bU (sIsR (sRt1 S) x) 18 0 0 0 0
def sRt (S : bS) (x : Int32) : bS := if eIsR (sRt1 S) x = 0 then bU (sRt2 S x) 24 0 0 0 (S 24 0 0 0 + 1) else sRt2 S x
def aRt (S : bS) (x : Int32) : Int32 := if eIsR (sRt1 S) x = 0 then S 24 0 0 0 else -1
theorem sRd_of (S : bS) (r : bRr) : bOf [19, 20, 21] S (sRd S r) := by
  unfold sRd
  split
  · exact bOf.U (by decide)
  · exact ((bOf.U (by decide)).trans (bOf.U (by decide))).trans (bOf.U (by decide))
theorem sIs1_of (S : bS) (x : Int32) : bOf [19, 23, 25, 26] S (sIs1 S x) := (((bOf.U (by decide)).trans (bOf.U (by decide))).trans (bOf.U (by decide))).trans (bOf.U (by decide))
theorem sIsR_of (S : bS) (x : Int32) : bOf [19, 20, 21, 23, 25, 26] S (sIsR S x) := by
  unfold sIsR
  split
  · split
    · exact ((sIs1_of S x).mono (by decide)).trans (run_of _ _)
    · exact ((bOf.U (by decide)).trans (bOf.U (by decide))).trans (bOf.U (by decide))
  · exact (sRd_of S _).mono (by decide)
section B67
variable {G : mG} {am : Nat} {ad : bA}
theorem b_isRoute {b : Nat} {M : mM} {S : bS} (h : bM M am ad S) (hL : bIn (S 18 0 0 0) 0 60 = true) (hR : vp_in (S 24 0 0 0) 8) {x : Int32} {K : Int32 → mM → Prop} (kk : ∀ M', bM M' am ad (sIsR S x) → K (bI (decide (eIsR S x = 0))) M') : wp_X4_isRoute G b K M am x := by
  have hle : nn (S 18 0 0 0) ≤ 60 := i_nle (bIn_t hL).1 (bIn_t hL).2
  have e18 : S 18 0 0 0 = Int32.ofNat (nn (S 18 0 0 0)) := i_of (bIn_t hL).1
  obtain ⟨r1, r2⟩ := rdI_le (S := S) 61 0 0 (Nat.zero_le _)
  unfold wp_X4_isRoute
  refine b_pfi h (by decide) fun M1 h1 => ⟨h1.isc, ?_⟩
  show wp_X4_read (wR_X4_read 6) G 0 _ M1 am (Int32.ofNat 0)
  refine b_rdR (b_rd29 61) (p := 0) (S := bU S 19 0 0 0 0) (by omega) (by omega) (by show nn (S 18 0 0 0) < 0 + 61; omega) (Nat.zero_le _) h1 hL (bU_s _ _ _ _ _ _) fun M2 h2 => ?_
  rw [lt_19, sRd_eq (S := bU S 19 0 0 0 0) (S' := S) (r := rdI (lt S) 61 0 0) (r' := rdAll S) rfl rfl fun x => bU_bU] at h2
  rw [lt_19]
  refine ⟨fun z => ?_, fun z => ⟨rfl, ?_⟩⟩
  · have r0 : (rdAll S).1 = 0 := of_decide_eq_true (bI1.mp z)
    unfold sRd at h2
    rw [if_pos r0] at h2
    have hp31 : (rdAll S).2.1 < 2 ^ 31 := by show (rdI (lt S) 61 0 0).2.1 < 2 ^ 31; omega
    unfold sIsR eIsR at kk
    rw [if_pos r0, if_pos r0] at kk
    refine b_gfi h2 (by decide) (b_gfi h2 (by decide) ?_)
    rw [bU_s, bU_f (by decide), e18]
    refine ⟨fun y => ?_, fun y => ⟨h2.isc, b_wrong h2 fun M3 h3 => ⟨rfl, ?_⟩⟩⟩
    · have y2 := (i_le (nn_lt _) hp31).mp y
      rw [if_pos y2, if_pos y2] at kk
      refine b_pfi h2 (by decide) fun M3 h3 => b_gfa h3 (by decide) (b_gfi h3 (by decide) (b_st1 h3 (by decide) hR fun M4 h4 => b_gfa h4 (by decide) (b_gfi h4 (by decide) (b_lda h4 (by decide) hR (b_st2 h4 (by decide) (bLt hR) (i_vp (c := 0) (by decide) (by decide)) fun M5 h5 => b_gfi h5 (by decide) ⟨h5.isc, ?_⟩)))))
      have hS5 : bM M5 am ad (sIs1 S x) := h5
      have ho := sIs1_of S x
      have el : lt (sIs1 S x) = lt S := lt_of ho (by decide) (by decide)
      have e9 : nn (sIs1 S x 18 0 0 0) = nn (S 18 0 0 0) := by rw [ho 18 (by decide)]
      have hg : gI (sIs1 S x) := by
        refine ⟨by rw [ho 18 (by decide)]; exact hL, by rw [ho 24 (by decide)]; exact hR, ?_⟩
        rw [ho 24 (by decide)]
        show bIn (bU (bU (bU (bU S 19 0 0 0 _) 25 0 0 0 x) 23 (nn (S 24 0 0 0)) 0 0 1) 26 (nn (S 24 0 0 0)) 0 0 x 23 (nn (S 24 0 0 0)) 0 0) 0 31 = true
        rw [bU_f (by decide), bU_s]
        rfl
      have key := b_go (G := G) (b := 0) (n := 61) (p := 0) (P := fun v16 M15 => narrow .boolean (.int v16) = .int v16 ∧ K v16 M15) (by omega) (by rw [e9]; omega) (Nat.zero_le _) hS5 hg (by rw [el]; exact r0) (fun M' hM' => by
        rw [el] at hM' ⊢
        exact ⟨bI_n _, kk M' hM'⟩)
      rw [el] at key
      have hq : (rdI (lt S) 61 0 0).2.1 = nn (S 18 0 0 0) := Nat.le_antisymm r1 y2
      rw [hq, ← e18] at key
      exact key
    · have y2 : ¬ nn (S 18 0 0 0) ≤ (rdAll S).2.1 := fun q => y ((i_le (nn_lt _) hp31).mpr q)
      rw [if_neg y2, if_neg y2] at kk
      rw [bU_s] at h3
      exact kk M3 h3
  · have r0 : ¬ (rdAll S).1 = 0 := of_decide_eq_false (bI0.mp z)
    unfold sIsR eIsR at kk
    rw [if_neg r0, if_neg r0, decide_eq_false r0] at kk
    exact kk M2 h2
theorem t_route {b : Nat} {M : mM} {S : bS} (h : bM M am ad S) (hX : bX S) (hL : bIn (S 18 0 0 0) 0 60 = true) {x : Int32} {K : Int32 → mM → Prop} (kk : ∀ M', bM M' am ad (oS (eRt S x) S (sRt S x)) → K (oA (eRt S x) (aRt S x)) M') : wp_X4_route G b K M am x := by
  have fin : ∀ u v : Bool, u = (!bIn x 0 35) → v = decide (S 24 0 0 0 = 8) → wb_X4_route_19 G K b M am x am (bI u) (bI v) := by
    intro u v hu hv
    have he : eRt S x = bE u v false := by rw [hu, hv]; rfl
    rw [he] at kk
    unfold wb_X4_route_19 wb_X4_route_68
    refine ⟨h.isc, b_chk (r := false) h (fun _ _ => rfl) (fun h1 h2 _ M1 h1M => ?_) (fun h1 M' hM' => ?_)⟩
    · have hR : vp_in (S 24 0 0 0) 8 := by
        rw [h2] at hv
        have hne : ¬ S 24 0 0 0 = 8 := by simpa using hv
        obtain ⟨a0, a1⟩ := bIn_t hX.1
        have n1 : nn (S 24 0 0 0) ≤ 8 := i_nle a0 a1
        have n2 : ¬ nn (S 24 0 0 0) = 8 := fun z => hne (by rw [i_of a0, z]; rfl)
        rw [i_of a0]
        exact i_vp (by omega) (by omega)
      rw [h1, h2] at kk
      rw [show bE false false false = 0 from rfl, oS0, oA0] at kk
      refine b_pfi h1M (by decide) fun M2 h2M => b_pfi h2M (by decide) fun M3 h3M => ⟨h3M.isc, b_isRoute (S := sRt1 S) h3M (show bIn (S 18 0 0 0) 0 60 = true from hL) hR fun M4 h4M => b_pfi h4M (by decide) fun M5 h5M => ⟨fun z => ?_, fun z => ?_⟩⟩
      · have z2 : ¬ eIsR (sRt1 S) x = 0 := of_decide_eq_false (bI0.mp z)
        unfold sRt aRt at kk
        rw [if_neg z2, if_neg z2] at kk
        exact kk M5 h5M
      · have z2 : eIsR (sRt1 S) x = 0 := of_decide_eq_true (bI1.mp z)
        unfold sRt aRt at kk
        rw [if_pos z2, if_pos z2] at kk
        have e24 : bU (sIsR (sRt1 S) x) 18 0 0 0 0 24 0 0 0 = S 24 0 0 0 := by rw [bU_f (by decide), sIsR_of (sRt1 S) x 24 (by decide)]; rfl
        refine b_gfi h5M (by decide) (b_pfi h5M (by decide) fun M6 h6M => ?_)
        rw [e24] at h6M ⊢
        exact kk M6 h6M
    · rw [oS1 h1, oA1 h1] at kk
      exact kk M' hM'
  unfold wp_X4_route
  exact b_noCell (b_gfi h (by decide) ⟨fun z => fin _ false rfl (decide_eq_false z).symm, fun z => fin _ true rfl (decide_eq_true z).symm⟩)
end B67
