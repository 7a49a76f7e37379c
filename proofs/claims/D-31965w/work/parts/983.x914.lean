/-! THE CLASS's Goer: a step -/
theorem st78 : ∀ a : Nat, a < 36 → (Int32.ofNat a / 6 + (-1) = Int32.ofNat a / 6 - 1) ∧ (Int32.ofNat a / 6 + 0 = Int32.ofNat a / 6) ∧ ((Int32.ofNat a - Int32.ofNat a / 6 * 6) + (-1) = (Int32.ofNat a - Int32.ofNat a / 6 * 6) - 1) ∧ ((Int32.ofNat a - Int32.ofNat a / 6 * 6) + 0 = Int32.ofNat a - Int32.ofNat a / 6 * 6) := by decide +kernel
theorem st6 : ∀ a : Nat, a < 6 → ∀ c : Nat, c < 6 → 6 * Int32.ofNat a + Int32.ofNat c = Int32.ofNat (6 * a + c) := by decide +kernel
/-- the constants of Integer's cache -/
def kI (G : mG) (ic : Nat → Nat) (M : mM) : Prop := M (G.2.2 1) = some (false, .inl (12, 256, mRs fun j => some (ic j))) ∧ ∀ j, j < 256 → M (ic j) = some (false, .inr (19, [.int (Int32.ofNat j - 128)]))
/-- a goer on the way, as a bank's route in the making has it -/
def gS (G : mG) (ic : Nat → Nat) (M : mM) (γ l ed cap : Nat) (S : bS) : Prop :=
  M γ = some (true, .inr (9, [.ref l])) ∧ lstB G M l ed cap (nn (S 23 (nn (S 24 0 0 0)) 0 0)) (fun i => ic (nn (S 26 (nn (S 24 0 0 0)) i 0) + 128)) ∧ cOk cap ∧ bIn (S 23 (nn (S 24 0 0 0)) 0 0) 0 31 = true ∧ 0 < nn (S 23 (nn (S 24 0 0 0)) 0 0) ∧ S 25 0 0 0 = S 26 (nn (S 24 0 0 0)) (nn (S 23 (nn (S 24 0 0 0)) 0 0) - 1) 0 ∧ ∀ i, i < nn (S 23 (nn (S 24 0 0 0)) 0 0) → vp_in (S 26 (nn (S 24 0 0 0)) i 0) 36
section B983
variable {G : mG} {ic : Nat → Nat} {γ : Nat}
theorem r_get {b l ed cap n : Nat} {M : mM} {w : Nat → Nat} {i : Nat} {x : Int32} {K : Nat → mM → Prop} (h : lstB G M l ed cap n w) (hx : x = Int32.ofNat i) (hi : i < n) (kk : K (w i) M) : wp_J2_get G b K M l x := by
  subst hx
  obtain ⟨mc, h1, h2, h3, h4⟩ := h
  have ei : (Int32.ofNat i).toNatClampNeg = i := i_nn (by omega)
  rcases h2 with h2 | h2
  · unfold wp_J2_get wp_J17_checkIndex wp_J18_checkIndex wp_J2_elementData
    refine gfi_ h1 rfl ⟨fun z => absurd z (Int32.not_lt.mpr ((i_le (a := 0) (by decide) (by omega)).mpr (Nat.zero_le _))), fun _ => ⟨fun _ => ⟨isc_ h1, gfa_ h1 rfl (lda_ (v := w i) h2.2.2 (i_vp (by omega) (by omega)) ?_ kk)⟩, fun z => absurd ((i_lt (by omega) (by omega)).mpr hi) z⟩⟩
    rw [ei]
    exact if_pos hi
  · omega
theorem r_size {b l ed cap n : Nat} {M : mM} {w : Nat → Nat} {K : Int32 → mM → Prop} (h : lstB G M l ed cap n w) (kk : K (Int32.ofNat n) M) : wp_J2_size G b K M l := by
  obtain ⟨mc, h1, -⟩ := h
  unfold wp_J2_size
  exact gfi_ h1 rfl kk
theorem r_val {b : Nat} {M : mM} (hI : kI G ic M) {a : Nat} (ha : a < 36) {x : Int32} (hx : x = Int32.ofNat a) {K : Nat → mM → Prop} (kk : K (ic (a + 128)) M) : wp_J21_valueOf G b K M x := by
  subst hx
  have n0 : ¬ Int32.ofNat a < (-128) := fun z => by
    have h1 := Int32.lt_iff_toInt_lt.mp z
    rw [Int32.toInt_ofNat_of_lt (by omega)] at h1
    have : ((-128 : Int32)).toInt = -128 := rfl
    omega
  have n1 : ¬ (127 : Int32) < Int32.ofNat a := fun z => by
    have := (i_lt (a := 127) (by decide) (by omega)).mp z
    omega
  unfold wp_J21_valueOf
  refine ⟨fun z => absurd z n0, fun _ => ⟨fun z => absurd z n1, fun _ => lda_ (v := ic (a + 128)) hI.1 ?_ ?_ kk⟩⟩
  · rw [show Int32.ofNat a + 128 = Int32.ofNat (a + 128) from (Int32.ofNat_add a 128).symm]
    exact i_vp (by omega) (by omega)
  · rw [show Int32.ofNat a + 128 = Int32.ofNat (a + 128) from (Int32.ofNat_add a 128).symm, show (Int32.ofNat (a + 128)).toNatClampNeg = a + 128 from i_nn (by omega)]
theorem r_int {b : Nat} {M : mM} (hI : kI G ic M) {x : Int32} (hx : vp_in x 36) {K : Int32 → mM → Prop} (kk : K x M) : wp_J21_intValue G b K M (ic (nn x + 128)) := by
  have := bLn hx
  unfold wp_J21_intValue
  refine gfi_ (hI.2 (nn x + 128) (by omega)) rfl ?_
  have e : Int32.ofNat (nn x + 128) - 128 = x := by
    rw [Int32.ofNat_add, ← vp_of hx]
    exact Int32.add_sub_cancel _ _
  rw [e]
  exact kk
theorem r_here {b l ed cap : Nat} {M : mM} {S : bS} (hI : kI G ic M) (hg : gS G ic M γ l ed cap S) {K : Int32 → mM → Prop} (kk : K (S 25 0 0 0) M) : wp_X12_here G b K M γ := by
  obtain ⟨h1, h2, h3, h4, h5, h6, h7⟩ := hg
  have h31 : nn (S 23 (nn (S 24 0 0 0)) 0 0) ≤ 31 := i_nle (bIn_t h4).1 (bIn_t h4).2
  have cl := h2.cls.1
  obtain ⟨fs, cl⟩ := cl
  have ev : Int32.ofNat (nn (S 23 (nn (S 24 0 0 0)) 0 0)) - 1 = Int32.ofNat (nn (S 23 (nn (S 24 0 0 0)) 0 0) - 1) := (Int32.ofNat_sub _ 1 (by omega)).symm
  have lp := h7 (nn (S 23 (nn (S 24 0 0 0)) 0 0) - 1) (by omega)
  have hi := bLn lp
  unfold wp_X12_here
  refine gfa_ h1 rfl (gfa_ h1 rfl ⟨isc_ cl, r_size h2 ⟨isc_ cl, r_get h2 ev (by omega) ⟨isc_ (hI.2 _ (by omega)), isc_ (hI.2 _ (by omega)), r_int hI lp ?_⟩⟩⟩)
  rw [← h6]
  exact kk
theorem kI.keep {M M' : mM} (h : kI G ic M) (hM : ∀ a x, M a = some (false, x) → M' a = M a) : kI G ic M' := by
  refine ⟨?_, fun j hj => ?_⟩
  · rw [hM _ _ h.1]; exact h.1
  · rw [hM _ _ (h.2 j hj)]; exact h.2 j hj
/-- a fault of a step -/
theorem x_flt {b : Nat} {M : mM} {code : Int32} {k : Nat} {x2 : Int32} (hx : x2 = Int32.ofNat k) {Xx : String → Nat → mM → Prop} (hb : 9 ≤ b) (bad : ∀ v M', fltR 10 M M' v code k → Xx "Hidecount$StepFault" v M') : nwo M b 10 8 dfsX13 fun u21 M22 r23 => wp_X13_init G 0 (fun M24 => ist M24 u21 10 ∧ Xx "Hidecount$StepFault" u21 M24) M22 u21 code x2 := by
  subst hx
  refine ⟨by omega, fun u hu => ?_⟩
  have fu := hu u (Nat.le_refl _)
  unfold wp_X13_init wp_X9_init_X13 wp_J8_init_3_X13 wp_J7_init_3_X13 wb_J7_init_3_X13_60
  refine ⟨_, mset_s _ _ _, Nat.le_of_ble_eq_true rfl, ?_⟩
  rw [mset_mset]
  intro o2
  refine ⟨_, mset_s _ _ _, Nat.le_of_ble_eq_true rfl, ?_⟩
  rw [mset_mset]
  intro o4
  refine ⟨_, mset_s _ _ _, Nat.le_of_ble_eq_true rfl, ?_⟩
  rw [mset_mset]
  refine ⟨fun _ => ?_, fun y => absurd rfl y⟩
  refine ⟨_, mset_s _ _ _, Nat.le_of_ble_eq_true rfl, ?_⟩
  rw [mset_mset]
  refine ⟨_, mset_s _ _ _, Nat.le_of_ble_eq_true rfl, ?_⟩
  rw [mset_mset]
  refine ⟨_, mset_s _ _ _, Nat.le_of_ble_eq_true rfl, ?_⟩
  rw [mset_mset]
  refine ⟨fun y => absurd rfl y, fun _ => ?_⟩
  refine ⟨_, mset_s _ _ _, Nat.le_of_ble_eq_true rfl, ?_⟩
  rw [mset_mset]
  refine ⟨_, mset_s _ _ _, Nat.le_of_ble_eq_true rfl, ?_⟩
  rw [mset_mset]
  refine ⟨_, mset_s _ _ _, Nat.le_of_ble_eq_true rfl, ?_⟩
  rw [mset_mset]
  exact ⟨⟨_, mset_s _ _ _⟩, bad u _ ⟨fu, ⟨_, mset_s _ _ _, rfl, rfl⟩, fun a ha => mset_n ha⟩⟩
theorem x_stp58 {b l ed cap k : Nat} {M : mM} {S : bS} {c x2 x3 s0 s1 : Int32} {P : mM → Prop} {Xx : String → Nat → mM → Prop} (hI : kI G ic M) (hg : gS G ic M γ l ed cap S) (hb : 75 ≤ b) (h2 : x2 = Int32.ofNat k) (h3 : x3 = nRow S c) (h4 : s0 + s1 = nCol S c)
    (ok : eSt S c = 0 → ∀ M' ed' cap', gS G ic M' γ l ed' cap' (sStp S c k) → ((¬ cap = 0 ∧ ed' = ed) ∨ M ed' = none) → ¬ cap' = 0 → (∀ a, M a ≠ none → a ≠ l → (a ≠ ed ∨ cap = 0) → M' a = M a) → P M')
    (bad : ¬ eSt S c = 0 → ∀ v M', fltR 10 M M' v (eSt S c) k → Xx "Hidecount$StepFault" v M') : wb_X12_step_58 G P Xx b M γ x2 x3 s0 s1 := by
  obtain ⟨g1, g2, g3, g4, g5, g6, g7⟩ := id hg
  have h31 : nn (S 23 (nn (S 24 0 0 0)) 0 0) ≤ 31 := i_nle (bIn_t g4).1 (bIn_t g4).2
  have e23 : S 23 (nn (S 24 0 0 0)) 0 0 = Int32.ofNat (nn (S 23 (nn (S 24 0 0 0)) 0 0)) := i_of (bIn_t g4).1
  obtain ⟨⟨fs, cl⟩, ce⟩ := g2.cls
  have e4 : eSt S c = 4 → ∀ v M', fltR 10 M M' v 4 k → Xx "Hidecount$StepFault" v M' := fun z v M' hf => bad (by rw [z]; decide) v M' (by rw [z]; exact hf)
  unfold wb_X12_step_58 wb_X12_step_107
  rw [h4, h3]
  refine gfa_ g1 rfl ⟨isc_ cl, r_size g2 ⟨fun z => ?_, fun z => ?_⟩⟩
  · have n30 : ¬ S 23 (nn (S 24 0 0 0)) 0 0 = 31 := fun y => by
      rw [y] at z
      exact absurd z (by decide)
    have lt31 : nn (S 23 (nn (S 24 0 0 0)) 0 0) < 31 := by
      have : ¬ nn (S 23 (nn (S 24 0 0 0)) 0 0) = 31 := fun y => n30 (by rw [e23, y]; rfl)
      omega
    have eS : eSt S c = if bIn (nRow S c) 0 5 = true then (if bIn (nCol S c) 0 5 = true then 0 else 4) else 4 := by
      unfold eSt
      rw [if_neg n30]
    have f4 : ∀ {p : Bool}, (bIn (nRow S c) 0 5 = false ∨ bIn (nCol S c) 0 5 = false) → eSt S c = 4 := fun {p} y => by
      rw [eS]
      rcases y with y | y
      · rw [y]; rfl
      · rw [y]; split <;> rfl
    have lo : ∀ {x : Int32}, x < 0 → bIn x 0 5 = false := fun {x} y => by
      unfold bIn
      rw [decide_eq_false (Int32.not_le.mpr y)]; rfl
    have hi6 : ∀ {x : Int32}, 6 ≤ x → bIn x 0 5 = false := fun {x} y => by
      unfold bIn
      rw [decide_eq_false (p := x ≤ 5), Bool.and_false]
      intro w
      exact absurd (Int32.le_trans y w) (by decide)
    have le5 : ∀ {x : Int32}, x < 6 → x ≤ 5 := fun {x} y => by
      have := Int32.lt_iff_toInt_lt.mp y
      refine Int32.le_iff_toInt_le.mpr ?_
      have e6 : (6 : Int32).toInt = 6 := rfl
      have e5 : (5 : Int32).toInt = 5 := rfl
      omega
    refine ⟨fun y => x_flt h2 (by omega) (e4 (f4 (p := true) (Or.inl (lo y)))), fun y1 => ⟨fun y => x_flt h2 (by omega) (e4 (f4 (p := true) (Or.inl (hi6 y)))), fun y2 => ⟨fun y => x_flt h2 (by omega) (e4 (f4 (p := true) (Or.inr (lo y)))), fun y3 => ⟨fun y4 => ?_, fun y => x_flt h2 (by omega) (e4 (f4 (p := true) (Or.inr (hi6 (Int32.not_lt.mp y)))))⟩⟩⟩⟩
    have br : bIn (nRow S c) 0 5 = true := by
      unfold bIn
      rw [decide_eq_true (Int32.not_lt.mp y1), decide_eq_true (le5 (Int32.not_le.mp y2))]; rfl
    have bc : bIn (nCol S c) 0 5 = true := by
      unfold bIn
      rw [decide_eq_true (Int32.not_lt.mp y3), decide_eq_true (le5 y4)]; rfl
    have e0 : eSt S c = 0 := by rw [eS, br, bc]; rfl
    have vr : vp_in (nRow S c) 6 := bIn_v br (by decide)
    have vc : vp_in (nCol S c) 6 := bIn_v bc (by decide)
    have r6 := bLn vr
    have c6 := bLn vc
    have ea : 6 * nRow S c + nCol S c = Int32.ofNat (6 * nn (nRow S c) + nn (nCol S c)) := by
      rw [← st6 _ r6 _ c6, ← vp_of vr, ← vp_of vc]
    have a36 : 6 * nn (nRow S c) + nn (nCol S c) < 36 := by omega
    refine gfa_ g1 rfl ⟨0, b, Nat.zero_add _, r_val hI a36 ea ⟨isc_ cl, b, 0, rfl, ?_⟩⟩
    obtain ⟨mc, hA⟩ := g2
    have cj : nn (S 23 (nn (S 24 0 0 0)) 0 0) = cap → 11 ≤ b ∧ grw (nn (S 23 (nn (S 24 0 0 0)) 0 0)) + 1 ≤ b := fun y => by
      refine ⟨by omega, ?_⟩
      have : grw (nn (S 23 (nn (S 24 0 0 0)) 0 0)) ≤ 73 := by
        rw [y]
        unfold cOk at g3
        rcases g3 with rfl | rfl | rfl | rfl | rfl | rfl | rfl <;> first | decide | omega
      omega
    refine r_addB hA (by omega) (fun i hi y hy => ?_) ⟨false, 19, _, hI.2 (6 * nn (nRow S c) + nn (nCol S c) + 128) (by omega)⟩ cj fun M' ed' cap' hcap hA' hc0 hed hM' => ?_
    · have hy : (if i < nn (S 23 (nn (S 24 0 0 0)) 0 0) then some (ic (nn (S 26 (nn (S 24 0 0 0)) i 0) + 128)) else none) = some y := hy
      by_cases w : i < nn (S 23 (nn (S 24 0 0 0)) 0 0)
      · rw [if_pos w] at hy
        cases hy
        have := bLn (g7 i w)
        exact ⟨false, 19, _, hI.2 _ (by omega)⟩
      · rw [if_neg w] at hy
        cases hy
    · have hedd : (¬ cap = 0 ∧ ed' = ed) ∨ M ed' = none := hed.imp (fun z => ⟨z.1, z.2.1⟩) id
      have ho : ∀ a, M a ≠ none → a ≠ l → (a ≠ ed ∨ cap = 0) → M' a = M a := fun a ha a1 a2 => hM' a a1 fun z => by
        rcases hedd with y | y
        · rcases a2 with w | w
          · exact w (z.trans y.2)
          · exact y.1 w
        · exact ha (z ▸ y)
      have hc' : cOk cap' := by
        rw [hcap]
        unfold cOk at g3 ⊢
        by_cases z : nn (S 23 (nn (S 24 0 0 0)) 0 0) = cap
        · rw [if_pos z, if_neg (by omega), z]
          rcases g3 with rfl | rfl | rfl | rfl | rfl | rfl | rfl <;> first | decide | omega
        · rw [if_neg z]; exact g3
      have gl : γ ≠ l := fun z => by rw [← z, g1] at cl; cases cl
      have ge : γ ≠ ed ∨ cap = 0 := by
        rcases ce with y | ⟨_, _, y⟩
        · exact Or.inr y
        · exact Or.inl fun z => by rw [← z, g1] at y; cases y
      -- the bank behind the step
      have eP : sStp S c k = bU (sStO S c) 19 0 0 0 (Int32.ofNat k) := by unfold sStp; rw [if_pos e0]
      have p24 : sStp S c k 24 0 0 0 = S 24 0 0 0 := by
        rw [eP]; unfold sStO
        rw [bU_f (by decide), bU_f (by decide), bU_f (by decide), bU_f (by decide)]
      have p23 : sStp S c k 23 (nn (S 24 0 0 0)) 0 0 = S 23 (nn (S 24 0 0 0)) 0 0 + 1 := by
        rw [eP]; unfold sStO
        rw [bU_f (by decide), bU_f (by decide), bU_s]
      have p25 : sStp S c k 25 0 0 0 = 6 * nRow S c + nCol S c := by
        rw [eP]; unfold sStO
        rw [bU_f (by decide), bU_f (by decide), bU_f (by decide), bU_s]
      have p26n : sStp S c k 26 (nn (S 24 0 0 0)) (nn (S 23 (nn (S 24 0 0 0)) 0 0)) 0 = 6 * nRow S c + nCol S c := by
        rw [eP]; unfold sStO
        rw [bU_f (by decide), bU_s]
      have p26o : ∀ i, i ≠ nn (S 23 (nn (S 24 0 0 0)) 0 0) → sStp S c k 26 (nn (S 24 0 0 0)) i 0 = S 26 (nn (S 24 0 0 0)) i 0 := fun i hi => by
        rw [eP]; unfold sStO
        rw [bU_f (by decide)]
        exact (if_neg fun z => hi z.2.2.1).trans (by rw [bU_f (by decide), bU_f (by decide)])
      have n23 : nn (sStp S c k 23 (nn (S 24 0 0 0)) 0 0) = nn (S 23 (nn (S 24 0 0 0)) 0 0) + 1 := by
        rw [p23, e23, i_s, i_nn (by omega), i_nn (by omega)]
      have nea : nn (6 * nRow S c + nCol S c) = 6 * nn (nRow S c) + nn (nCol S c) := by rw [ea]; exact i_nn (by omega)
      refine ok e0 M' ed' cap' ⟨?_, ⟨mc + 1, ?_⟩, hc', ?_, ?_, ?_, fun i hi => ?_⟩ hedd hc0 ho
      · rw [ho γ (by rw [g1]; exact fun z => by cases z) gl ge]
        exact g1
      · rw [p24, n23]
        have ef : va_up (fun i => if i < nn (S 23 (nn (S 24 0 0 0)) 0 0) then some (ic (nn (S 26 (nn (S 24 0 0 0)) i 0) + 128)) else none) (nn (S 23 (nn (S 24 0 0 0)) 0 0)) (some (ic (6 * nn (nRow S c) + nn (nCol S c) + 128))) = fun i => if i < nn (S 23 (nn (S 24 0 0 0)) 0 0) + 1 then some (ic (nn (sStp S c k 26 (nn (S 24 0 0 0)) i 0) + 128)) else none := by
          funext i
          unfold va_up
          by_cases z : i = nn (S 23 (nn (S 24 0 0 0)) 0 0)
          · rw [if_pos z, if_pos (by omega), z, p26n, nea]
          · rw [if_neg z, p26o i z]
            show (if i < nn (S 23 (nn (S 24 0 0 0)) 0 0) then some (ic (nn (S 26 (nn (S 24 0 0 0)) i 0) + 128)) else none) = _
            by_cases y : i < nn (S 23 (nn (S 24 0 0 0)) 0 0)
            · rw [if_pos y, if_pos (by omega)]
            · rw [if_neg y, if_neg (by omega)]
        rw [ef] at hA'
        exact hA'
      · rw [p24, p23, e23, i_s]
        unfold bIn
        rw [show (31 : Int32) = Int32.ofNat 31 from rfl, decide_eq_true (show (0 : Int32) ≤ Int32.ofNat (nn (S 23 (nn (S 24 0 0 0)) 0 0) + 1) from (i_le (a := 0) (by decide) (by omega)).mpr (by omega)), decide_eq_true ((i_le (by omega) (by omega)).mpr (by omega))]; rfl
      · rw [p24, n23]; omega
      · rw [p24, n23, p25, Nat.add_sub_cancel, p26n]
      · rw [p24, n23] at hi
        rw [p24]
        by_cases z : i = nn (S 23 (nn (S 24 0 0 0)) 0 0)
        · rw [z, p26n, ea]
          exact i_vp (by omega) a36
        · rw [p26o i z]
          exact g7 i (by omega)
  · have e31 : S 23 (nn (S 24 0 0 0)) 0 0 = 31 := by
      have : ¬ nn (S 23 (nn (S 24 0 0 0)) 0 0) ≤ 30 := fun y => z ((i_le (c := 30) (by omega) (by decide)).mpr y)
      rw [e23, show nn (S 23 (nn (S 24 0 0 0)) 0 0) = 31 by omega]
      rfl
    have e3 : eSt S c = 3 := by
      unfold eSt
      rw [if_pos e31]
    exact x_flt h2 (by omega) fun v M' hf => bad (by rw [e3]; decide) v M' (by rw [e3]; exact hf)
theorem x_step {b l ed cap k : Nat} {M : mM} {S : bS} {c x2 : Int32} {P : mM → Prop} {Xx : String → Nat → mM → Prop} (hI : kI G ic M) (hg : gS G ic M γ l ed cap S) (hb : 75 ≤ b) (h2 : x2 = Int32.ofNat k)
    (ok : eSt S c = 0 → ∀ M' ed' cap', gS G ic M' γ l ed' cap' (sStp S c k) → ((¬ cap = 0 ∧ ed' = ed) ∨ M ed' = none) → ¬ cap' = 0 → (∀ a, M a ≠ none → a ≠ l → (a ≠ ed ∨ cap = 0) → M' a = M a) → P M')
    (bad : ¬ eSt S c = 0 → ∀ v M', fltR 10 M M' v (eSt S c) k → Xx "Hidecount$StepFault" v M') : wp_X12_step G b P Xx M γ c x2 := by
  obtain ⟨g1, -, -, g4, g5, g6, g7⟩ := id hg
  have v25 : vp_in (S 25 0 0 0) 36 := by rw [g6]; exact g7 _ (by omega)
  obtain ⟨t1, t2, t3, t4⟩ := st78 (nn (S 25 0 0 0)) (bLn v25)
  rw [← vp_of v25] at t1 t2 t3 t4
  have col : ∀ x3 : Int32, x3 = nRow S c → ∀ s0 s1 : Int32, s0 + s1 = x3 → wb_X12_step_28 G P Xx b M γ c x2 s0 s1 := fun x3 hx s0 s1 hs => by
    unfold wb_X12_step_28
    rw [hs]
    refine ⟨isc_ g1, r_here hI hg ⟨fun z => ⟨fun y => x_stp58 hI hg hb h2 hx ?_ ok bad, fun y => x_stp58 hI hg hb h2 hx ?_ ok bad⟩, fun z => x_stp58 hI hg hb h2 hx ?_ ok bad⟩⟩
    · unfold nCol; rw [if_neg y, if_neg z]; exact t4
    · unfold nCol; rw [if_pos y]
    · unfold nCol; rw [if_neg (by rw [z]; decide), if_pos z]; exact t3
  unfold wp_X12_step
  refine ⟨isc_ g1, r_here hI hg ⟨fun z => ⟨fun y => col _ rfl _ _ ?_, fun y => col _ rfl _ _ ?_⟩, fun z => col _ rfl _ _ ?_⟩⟩
  · unfold nRow; rw [if_neg z, if_neg y]; exact t2
  · unfold nRow; rw [if_neg (by rw [y]; decide), if_pos y]
  · unfold nRow; rw [if_pos z]; exact t1
end B983
