/-! THE TWIN's nextYear, walk, note -/
theorem bE_1 {p : Bool} (h : ¬ bE p false false = 0) : p = true := by
  cases p with
  | true => rfl
  | false => exact absurd rfl h
def fDrop (w : Nat) (S : bS) : bS := if S 34 w 0 0 = 0 then bU S 34 w 0 0 2 else S
def sNextYear (S : bS) : bS := bU (itN fDrop (nn (S 28 0 0 0)) (z0 S)) 2 0 0 0 (itN fDrop (nn (S 28 0 0 0)) (z0 S) 2 0 0 0 + 1)
theorem fDrop_o (w : Nat) (S : bS) {f : Nat} (h : f ≠ 34) : fDrop w S f = S f := by
  unfold fDrop
  split
  · funext i j k; exact bU_f h
  · rfl
theorem itF_o {f : Nat → bS → bS} {g : Nat} (h : ∀ k S, f k S g = S g) : ∀ n k S, itF f k n S g = S g
  | 0, _, _ => rfl
  | n + 1, k, S => by show itF f (k + 1) n (f k S) g = S g; rw [itF_o h n, h]
/-- is a walker on the way? -/
def isGo (S : bS) (x : Int32) : Nat → Bool
  | 0 => false
  | n + 1 => isGo S x n || (decide (S 30 n 0 0 = x) && decide (S 34 n 0 0 = 0))
def eWalkO (S : bS) (w r h : Int32) : Int32 :=
  if bE (eWalker S w || eRoute S r) (!bIn h 0 3) false = 0 then bE false false (decide (S 28 0 0 0 = 40) || isGo S w (nn (S 28 0 0 0))) else bE (eWalker S w || eRoute S r) (!bIn h 0 3) false
def sWalk (S : bS) (w r h : Int32) : bS := bU (bU (bU (bU (bU (z0 S) 30 (nn (S 28 0 0 0)) 0 0 w) 31 (nn (S 28 0 0 0)) 0 0 r) 32 (nn (S 28 0 0 0)) 0 0 h) 33 (nn (S 28 0 0 0)) 0 0 (S 2 0 0 0)) 28 0 0 0 (S 28 0 0 0 + 1)
section B52
variable {G : mG} {b : Nat} {am : Nat} {ad : bA}
theorem b_ny27 {P : Int32 → mM → Prop} {N : Nat} (hN : N ≤ 40) : ∀ (n c q : Nat) (M : mM) (S : bS), c + n = N → n < q → S 28 0 0 0 = Int32.ofNat N → bM M am ad S → (∀ M', bM M' am ad (bU (itF fDrop c n S) 2 0 0 0 (itF fDrop c n S 2 0 0 0 + 1)) → P (itF fDrop c n S 2 0 0 0 + 1) M') → wl_X4_nextYear_27 G P q b M am (Int32.ofNat c)
  | _, _, 0, _, _, _, hq, _, _, _ => absurd hq (Nat.not_lt_zero _)
  | 0, c, q + 1, M, S, hc, _, hs, h, kk => by
    have : c = N := by omega
    subst this
    unfold wl_X4_nextYear_27
    refine b_gfi h (by decide) ?_
    rw [hs]
    exact ⟨fun _ => b_gfi h (by decide) (b_pfi h (by decide) fun M' hM' => kk M' hM'), fun z => absurd (Int32.le_refl _) z⟩
  | n + 1, c, q + 1, M, S, hc, hq, hs, h, kk => by
    have hx : vp_in (Int32.ofNat c) 40 := i_vp (by omega) (by omega)
    have e : (Int32.ofNat c).toNatClampNeg = c := i_nn (by omega)
    have hlt : ¬ Int32.ofNat N ≤ Int32.ofNat c := fun z => absurd ((i_le (by omega) (by omega)).mp z) (by omega)
    have ih : ∀ M', bM M' am ad (fDrop c S) → wl_X4_nextYear_27 G P q b M' am (Int32.ofNat c + 1) := fun M' hM' => by
      rw [i_s]
      exact b_ny27 hN n (c + 1) q M' (fDrop c S) (by omega) (by omega) (by rw [fDrop_o c S (by decide)]; exact hs) hM' kk
    unfold wl_X4_nextYear_27 wb_X4_nextYear_51
    refine b_gfi h (by decide) ?_
    rw [hs]
    refine ⟨fun z => absurd z hlt, fun _ => b_gfa h (by decide) (b_ld1 h (by decide) hx ⟨fun z => ih M ?_, fun z => b_gfa h (by decide) (b_st1 h (by decide) hx fun M' hM' => ih M' ?_)⟩)⟩
    · rw [e] at z
      unfold fDrop; rw [if_neg z]; exact h
    · rw [e] at z hM'
      unfold fDrop; rw [if_pos z]; exact hM'
theorem t_nextYear {M : mM} {S : bS} (h : bM M am ad S) (hX : bX S) {K : Int32 → mM → Prop} (k0 : ¬ S 2 0 0 0 = 9 → ∀ M', bM M' am ad (sNextYear S) → K (sNextYear S 2 0 0 0) M') (k1 : S 2 0 0 0 = 9 → ∀ M', bM M' am ad (bU S 0 0 0 0 1) → K 0 M') : wp_X4_nextYear G b K M am := by
  have fin : ∀ u : Bool, u = decide (S 2 0 0 0 = 9) → wb_X4_nextYear_15 G K b M am am (bI u) := by
    intro u hu
    unfold wb_X4_nextYear_15
    refine ⟨h.isc, b_chk (q := false) (r := false) h (fun _ _ => rfl) (fun h1 _ _ M' hM' => ?_) (fun h1 M' hM' => ?_)⟩
    · rw [h1] at hu
      have hne : ¬ S 2 0 0 0 = 9 := by simpa using hu
      obtain ⟨a0, a1⟩ := bIn_t hX.2.2.1
      refine ⟨_, b_ny27 (N := nn (S 28 0 0 0)) (i_nle a0 a1) (nn (S 28 0 0 0)) 0 _ M' (bU S 0 0 0 0 0) (by omega) (Nat.lt_succ_self _) (by rw [bU_f (by decide)]; exact i_of a0) hM' fun M2 h2 => ?_⟩
      rw [itF_it] at h2 ⊢
      have := k0 hne M2 h2
      rw [show sNextYear S 2 0 0 0 = itN fDrop (nn (S 28 0 0 0)) (z0 S) 2 0 0 0 + 1 from bU_s _ _ _ _ _ _] at this
      exact this
    · have e := bE_1 h1
      rw [e] at hu hM'
      exact k1 (by simpa using hu) M' hM'
  unfold wp_X4_nextYear
  exact b_gfi h (by decide) ⟨fun z => fin false (decide_eq_false z).symm, fun z => fin true (decide_eq_true z).symm⟩
theorem b_walk64 {P : Int32 → mM → Prop} {M : mM} {S : bS} (h : bM M am ad S) (hX : bX S) {x1 x2 x3 : Int32} {N : Nat} (hN : N ≤ 40) (hs : S 28 0 0 0 = Int32.ofNat N) {u0 : Bool} (hu0 : u0 = decide (N = 40)) (kok : (u0 || isGo S x1 N) = false → ∀ M', bM M' am ad (sWalk S x1 x2 x3) → P (S 28 0 0 0) M') (kbad : (u0 || isGo S x1 N) = true → ∀ M', bM M' am ad (bU S 0 0 0 0 3) → P 0 M') : ∀ (n c q : Nat), c + n = N → n < q → wl_X4_walk_64 G P q b M am x1 x2 x3 (bI (u0 || isGo S x1 c)) (Int32.ofNat c)
  | _, _, 0, _, hq => absurd hq (Nat.not_lt_zero _)
  | 0, c, q + 1, hc, _ => by
    have : c = N := by omega
    subst this
    unfold wl_X4_walk_64
    refine b_gfi h (by decide) ?_
    rw [hs]
    refine ⟨fun _ => ⟨h.isc, b_chk (p := false) (q := false) h (fun _ _ => rfl) (fun _ _ h3 M' hM' => ?_) (fun h1 M' hM' => ?_)⟩, fun z => absurd (Int32.le_refl _) z⟩
    · have hc40 : ¬ c = 40 := by
        have h4 := (Bool.or_eq_false_iff.mp h3).1
        rw [hu0] at h4
        simpa using h4
      have hx : vp_in (S 28 0 0 0) 40 := by rw [hs]; exact i_vp (by omega) (by omega)
      have k9 := kok h3
      refine b_gfa hM' (by decide) (b_gfi hM' (by decide) (b_st1 hM' (by decide) hx fun M1 h1 => ?_))
      refine b_gfa h1 (by decide) (b_gfi h1 (by decide) (b_st1 h1 (by decide) hx fun M2 h2 => ?_))
      refine b_gfa h2 (by decide) (b_gfi h2 (by decide) (b_st1 h2 (by decide) hx fun M3 h3' => ?_))
      refine b_gfa h3' (by decide) (b_gfi h3' (by decide) (b_gfi h3' (by decide) (b_st1 h3' (by decide) hx fun M4 h4 => ?_)))
      exact b_gfi h4 (by decide) (b_pfi h4 (by decide) fun M5 h5 => k9 M5 h5)
    · have hb : (u0 || isGo S x1 c) = true := by
        cases hh : (u0 || isGo S x1 c) with
        | true => rfl
        | false => rw [hh] at h1; exact absurd rfl h1
      rw [hb] at hM'
      exact kbad hb M' hM'
  | n + 1, c, q + 1, hc, hq => by
    have hx : vp_in (Int32.ofNat c) 40 := i_vp (by omega) (by omega)
    have e : (Int32.ofNat c).toNatClampNeg = c := i_nn (by omega)
    have hlt : ¬ Int32.ofNat N ≤ Int32.ofNat c := fun z => absurd ((i_le (by omega) (by omega)).mp z) (by omega)
    have ih := b_walk64 h hX hN hs hu0 kok kbad n (c + 1) q (by omega) (by omega)
    rw [show isGo S x1 (c + 1) = (isGo S x1 c || (decide (S 30 c 0 0 = x1) && decide (S 34 c 0 0 = 0))) from rfl] at ih
    unfold wl_X4_walk_64 wb_X4_walk_97
    refine b_gfi h (by decide) ?_
    rw [hs, i_s]
    refine ⟨fun z => absurd z hlt, fun _ => b_gfa h (by decide) (b_ld1 h (by decide) hx ⟨fun z => ?_, fun z => b_gfa h (by decide) (b_ld1 h (by decide) hx ⟨fun z2 => ?_, fun z2 => ?_⟩)⟩)⟩
    · rw [e] at z
      rw [decide_eq_false z, Bool.false_and, Bool.or_false] at ih
      exact ih
    · rw [e] at z2
      rw [decide_eq_false z2, Bool.and_false, Bool.or_false] at ih
      exact ih
    · rw [e] at z z2
      rw [decide_eq_true z, decide_eq_true z2, Bool.and_true, Bool.or_true, Bool.or_true] at ih
      exact ih
end B52
