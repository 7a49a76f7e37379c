/-! THE CLASS's end -/
def xmany (X : bS) (w : Nat) : Nat → Int32
  | 0 => 0
  | j + 1 => xmany X w j + X 67 w j 0
def xDone (X : bS) (w : Nat) : bS := xAdd (xTellA w (nn (X 31 w 0 0)) (xshare X (X 30 w 0 0)) X) w (nn (X 31 w 0 0))
def xEnd (X : bS) (w : Nat) (d : Int32) : bS := if d = 0 then xDone (bU X 34 w 0 0 1) w else bU X 34 w 0 0 2
theorem sAdd1_of (r : Nat) (X : bS) : bOf [43] X (sAdd1 r X) := bOf.it (sLooks_of r) _ X
theorem xBirds_of (w r : Nat) (X : bS) : bOf [44] X (xBirds w r X) := bOf.it (xBird_of w r) _ X
theorem xSees_of (w r : Nat) (X : bS) : bOf [63] X (xSees w r X) := bOf.it (xSeenC_of w r) _ X
theorem xAdd_of (X : bS) (w r : Nat) : bOf [43, 44, 63] X (xAdd X w r) := ((sAdd1_of r X).mono (by decide)).trans (((xBirds_of w r _).mono (by decide)).trans ((xSees_of w r _).mono (by decide)))
theorem xDone_of (X : bS) (w : Nat) : bOf [43, 44, 45, 62, 63] X (xDone X w) := ((xTellA_of _ _ _ X).mono (by decide)).trans ((xAdd_of _ _ _).mono (by decide))
theorem xEnd_of (X : bS) (w : Nat) (d : Int32) : bOf [34, 43, 44, 45, 62, 63] X (xEnd X w d) := by
  unfold xEnd
  split
  · exact (bOf.U (by decide)).trans ((xDone_of _ w).mono (by decide))
  · exact bOf.U (by decide)
section B88
variable {G : mG} {b : Nat} {κ : xK} {M : mM} {ad : xA} {X : bS}
theorem x_end68 {P : Int32 → mM → Prop} {Xx : String → Nat → mM → Prop} {w u N : Nat} (hI : xI X) (hw : w < xN X 3) (hN : xN X (4 + w) = N) : ∀ (n j q : Nat) (M : mM), j + n = N → n < q → rX κ M ad X → xIt κ M ad X u (4 + w) j → (∀ M', rX κ M' ad X → P (xmany X w N) M') → wl_X1_end_68 G P Xx q b M (xmany X w j) u
  | _, _, 0, _, _, hq, _, _, _ => absurd hq (Nat.not_lt_zero _)
  | n, j, q + 1, M, hj, hq, h, hi, kk => by
    have hL : 4 + w < 4 + xN X 3 := by omega
    obtain ⟨hx, lr, hu⟩ := id hi
    unfold wl_X1_end_68
    refine ⟨isc_ hu, x_hasNext h hI hL hi (by omega) (fun z => ⟨fun y => absurd y (by decide), fun _ => ⟨isc_ hu, x_next h hI hL hi z fun M' h' hi' hM' => ?_⟩⟩) fun z => ⟨fun _ => ?_, fun y => absurd rfl y⟩⟩
    · obtain ⟨n, rfl⟩ : ∃ n', n = n' + 1 := ⟨n - 1, by omega⟩
      have nt := h'.note hw z
      refine ⟨isc_ nt, isc_ nt, ?_⟩
      unfold wp_X18_many
      exact gfi_ nt rfl (x_end68 hI hw hN n (j + 1) q M' (by omega) (by omega) h' hi' kk)
    · have : j = N := by omega
      subst this
      exact kk M h
theorem x_end54 {P : Int32 → mM → Prop} {Xx : String → Nat → mM → Prop} {w : Nat} (h : rX κ M ad X) (hI : xI X) (hw : w < xN X 3) (hb : 5 ≤ b) (kk : ∀ M', rX κ M' ad X → P (xmany X w (xN X (4 + w))) M') : wb_X1_end_54 G P Xx b M (ad 24 3 w) := by
  have hL : 4 + w < 4 + xN X 3 := by omega
  have ew := h.at (xl24 (X := X) (c := 3) (j := w) (by omega) hw)
  unfold wb_X1_end_54
  exact gfa_ ew rfl ⟨isc_ (h.list hL), 5, b - 5, by omega, x_iter h hL (by omega) fun u M' hu h' hi' hM' => ⟨_, x_end68 hI hw rfl (xN X (4 + w)) 0 _ M' (Nat.zero_add _) (Nat.lt_succ_self _) h' hi' kk⟩⟩
theorem xmany_of {X X' : bS} {w : Nat} (h : X' 67 = X 67) : ∀ n, xmany X' w n = xmany X w n
  | 0 => rfl
  | n + 1 => by
    show xmany X' w n + X' 67 w n 0 = xmany X w n + X 67 w n 0
    rw [xmany_of h n, h]
theorem x0_end (h : rX κ M ad X) (hI : xI X) (hJ : ∀ w, w < xN X 3 → tJ X w (nn (X 31 w 0 0)) ∧ uJ X w (nn (X 31 w 0 0))) {w d : Int32} {K : Int32 → mM → Prop} (hb : 2300 ≤ b) (kk : ∀ M', rX κ M' ad (xs (eEnd X w) X (xEnd X (nn w) d)) → (eEnd X w = 0 → xOut κ M' (xmany X (nn w) (xN X (4 + nn w))).toInt64) → K (eEnd X w) M') : wp_X0_end G b K M κ.2.2.1 w d κ.2.2.2 := by
  unfold eEnd eWalk at kk
  unfold wp_X0_end wp_X1_end wb_X1_end_24 wb_X1_end_37 wb_X0_end_13 wb_X0_end_17
  have hL : 3 < 4 + xN X 3 := by omega
  refine ⟨h.isc, b, 0, rfl, gfa_ h.main rfl ⟨7, b - 7, by omega, x_at h hI hL (by omega) (fun z => ?_) fun z q => Or.inr ⟨rfl, ?_⟩⟩⟩
  · change bIn w 0 (X 28 0 0 0 - 1) = true at z
    rw [z] at kk
    have hr := (b_inN (n := 200) z (hI.2 3 hL).1 (by decide)).2
    change nn w < xN X 3 at hr
    obtain ⟨hT, hU⟩ := hJ (nn w) hr
    have ha := h.at (xl24 hL hr)
    refine ⟨isc_ ha, gfi_ ha rfl ⟨fun y => ⟨b - 7, 0, rfl, x_cst (by omega) (fun q => absurd rfl q) fun _ q => Or.inl ⟨rfl, ?_⟩⟩, fun y => ⟨7, b - 7 - 7, by omega, x_cst (by omega) (fun _ => ⟨fun d0 => x_pwst h hr fun M1 h1 _ => ⟨fun q => absurd d0 q, fun _ => ?_⟩, fun d0 => x_pwst h hr fun M1 h1 _ => ⟨fun _ => ?_, fun q => absurd q d0⟩⟩) fun q => absurd q (by decide)⟩⟩⟩
    · rw [show (!decide (X 34 (nn w) 0 0 = 0)) = true by rw [decide_eq_false y]; rfl] at kk
      exact kk M h (fun w9 => by first | exact absurd (show (1 : Int32) = 0 from w9) (by decide) | exact absurd (show (2 : Int32) = 0 from w9) (by decide) | exact absurd (show (3 : Int32) = 0 from w9) (by decide))
    · rw [show (!decide (X 34 (nn w) 0 0 = 0)) = false by rw [decide_eq_true y]; rfl] at kk
      have o1 : bOf [34] X (bU X 34 (nn w) 0 0 1) := bOf.U (by decide)
      have hT1 := hT.of o1 (by decide)
      have hU1 := hU.of o1 (by decide)
      have e31 : bU X 34 (nn w) 0 0 1 31 = X 31 := o1 31 (by decide)
      rw [← e31] at hT1 hU1
      refine ⟨h1.isc, 1443, b - 7 - 7 - 1443, by omega, x_tellAll h1 hT1 hU1.2.2.2.2.2.2.1 (by omega) fun M2 h2 => ?_⟩
      have o2 := xTellA_of (nn w) (nn (bU X 34 (nn w) 0 0 1 31 (nn w) 0 0)) (xshare (bU X 34 (nn w) 0 0 1) (bU X 34 (nn w) 0 0 1 30 (nn w) 0 0)) (bU X 34 (nn w) 0 0 1)
      have hU2 := hU1.of o2 (by decide)
      refine ⟨h2.isc, 725, b - 7 - 7 - 1443 - 725, by omega, x_addUp h2 hU2 (by omega) fun M3 h3 => ?_⟩
      have o3 := xDone_of (bU X 34 (nn w) 0 0 1) (nn w)
      have e3 : xDone (bU X 34 (nn w) 0 0 1) (nn w) = xEnd X (nn w) d := (if_pos d0).symm
      have h3 : rX κ M3 ad (xDone (bU X 34 (nn w) 0 0 1) (nn w)) := h3
      rw [e3] at h3
      have oE := xEnd_of X (nn w) d
      refine x_end54 h3 (oE.xI (by decide) hI) (by rw [oE.xN (by decide)]; exact hr) (by omega) fun M4 h4 => x_out h4 fun M' h' ho => kk M' h' fun _ => ?_
      rw [oE.xN (by decide), xmany_of (oE 67 (by decide))] at ho
      exact ho
    · rw [show (!decide (X 34 (nn w) 0 0 = 0)) = false by rw [decide_eq_true y]; rfl] at kk
      have e3 : bU X 34 (nn w) 0 0 2 = xEnd X (nn w) d := (if_neg d0).symm
      rw [e3] at h1
      have oE := xEnd_of X (nn w) d
      refine x_end54 h1 (oE.xI (by decide) hI) (by rw [oE.xN (by decide)]; exact hr) (by omega) fun M4 h4 => x_out h4 fun M' h' ho => kk M' h' fun _ => ?_
      rw [oE.xN (by decide), xmany_of (oE 67 (by decide))] at ho
      exact ho
  · change bIn w 0 (X 28 0 0 0 - 1) = false at z
    rw [z] at kk
    exact kk M h (fun w9 => by first | exact absurd (show (1 : Int32) = 0 from w9) (by decide) | exact absurd (show (2 : Int32) = 0 from w9) (by decide) | exact absurd (show (3 : Int32) = 0 from w9) (by decide))
end B88
