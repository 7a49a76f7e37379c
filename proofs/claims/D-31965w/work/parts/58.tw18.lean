/-! THE TWIN's errors -/
def allN (S : bS) (k : Nat) : Nat → Int32
  | 0 => 0
  | n + 1 => if S 39 n 0 0 = Int32.ofNat k then (if S 34 (nn (S 36 n 0 0)) 0 0 = 1 then allN S k n + S 40 n 0 0 else allN S k n) else allN S k n
def subD (S : bS) (k c : Nat) (a : Int32) : Nat → Int32
  | 0 => a
  | d + 1 => subD S k c a d - S 44 k c d
def subC (S : bS) (k : Nat) (a : Int32) : Nat → Int32
  | 0 => a
  | c + 1 => subD S k c (subC S k a c) 4
def errY (S : bS) (c k : Nat) (a : Int32) : Nat → Int32
  | 0 => a
  | y + 1 => if (fnd S c k (y + 1)).1 = 0 then errY S c k a y else if (fnd S c k (y + 1)).2.1 ≤ (fnd S c k (y + 1)).2.2 then errY S c k a y else errY S c k a y + 1
def errC (S : bS) (k : Nat) (a : Int32) : Nat → Int32
  | 0 => a
  | c + 1 => errY S c k (errC S k a c) (nn (S 2 0 0 0) + 1)
def errA (S : bS) (k : Nat) (a : Int32) : Int32 := if subC S k (allN S k (nn (S 29 0 0 0))) 3 = 0 then a else a + 1
def errK (S : bS) : Nat → Int32
  | 0 => 0
  | k + 1 => errC S k (errA S k (errK S k)) 36
theorem bM'.isc {M : mM} {am : Nat} {ad : bA} {S : bS} (h : bM' M am ad S) : isc M am 3 := by
  obtain ⟨lo, hi, h0⟩ := h
  exact h0.isc
section B58
variable {G : mG} {b : Nat} {am : Nat} {ad : bA}
theorem b_err131 {P : Int32 → mM → Prop} {K4 : Nat → mM → Nat → Int32 → Int32 → Prop} {K121 : Nat → mM → Nat → Int32 → Int32 → Int32 → Prop} {S : bS} (hX : bX S) {k c : Nat} (hk : k < 4) (hc : c < 36) {a : Int32} {N : Nat} (hN : N ≤ 9) (hs : S 2 0 0 0 = Int32.ofNat N) (kk : ∀ M', bM' M' am ad S → K121 b M' am (errY S c k a (N + 1)) (Int32.ofNat k) (Int32.ofNat c + 1)) : ∀ (n y q : Nat) (M : mM), y + n = N + 1 → n < q → bM' M am ad S → wl_X4_errors_131 G P K4 K121 q b M am (errY S c k a y) (Int32.ofNat k) (Int32.ofNat c) (Int32.ofNat y)
  | _, _, 0, _, _, hq, _ => absurd hq (Nat.not_lt_zero _)
  | 0, y, q + 1, M, hy, _, h => by
    have : y = N + 1 := by omega
    subst this
    obtain ⟨lo, hi, h0⟩ := id h
    unfold wl_X4_errors_131
    refine b_gfi h0 (by decide) ?_
    rw [fB_o (f := 2) (by decide), hs]
    have hlt : Int32.ofNat N < Int32.ofNat (N + 1) := by
      refine Int32.not_le.mp fun z => ?_
      have := (i_le (by omega) (by omega)).mp z
      omega
    exact ⟨fun _ => kk M h, fun z => absurd hlt z⟩
  | n + 1, y, q + 1, M, hy, hq, h => by
    have hlt : ¬ Int32.ofNat N < Int32.ofNat y := Int32.not_lt.mpr ((i_le (by omega) (by omega)).mpr (by omega))
    obtain ⟨lo, hi, h0⟩ := id h
    have ih : ∀ M', bM' M' am ad S → wl_X4_errors_131 G P K4 K121 q b M' am (errY S c k a (y + 1)) (Int32.ofNat k) (Int32.ofNat c) (Int32.ofNat y + 1) := fun M' hM' => by
      rw [i_s]
      exact b_err131 hX hk hc hN hs kk n (y + 1) q M' (by omega) (by omega) hM'
    rw [show errY S c k a (y + 1) = (if (fnd S c k (y + 1)).1 = 0 then errY S c k a y else if (fnd S c k (y + 1)).2.1 ≤ (fnd S c k (y + 1)).2.2 then errY S c k a y else errY S c k a y + 1) from rfl] at ih
    unfold wl_X4_errors_131 wb_X4_errors_166
    refine b_gfi h0 (by decide) ?_
    rw [fB_o (f := 2) (by decide), hs]
    refine ⟨fun z => absurd z hlt, fun _ => ⟨h0.isc, b_find h0 (i_vp (by omega) hc) (i_vp (by omega) hk) (i_vp (by omega) (by omega)) fun M1 h1 => ?_⟩⟩
    rw [fnd_47, i_nn (c := c) (by omega), i_nn (c := k) (by omega), i_nn (c := y) (by omega)] at h1 ⊢
    have h1' : bM' M1 am ad S := by rw [fB_fB] at h1; exact ⟨_, _, h1⟩
    refine ⟨fun z => ?_, fun z => b_gfi h1 (by decide) (b_gfi h1 (by decide) ⟨fun z2 => ?_, fun z2 => ?_⟩)⟩
    · have := ih M1 h1'
      rw [if_pos z] at this
      exact this
    · have z3 : (fnd S c k (y + 1)).2.1 ≤ (fnd S c k (y + 1)).2.2 := z2
      have := ih M1 h1'
      rw [if_neg z, if_pos z3] at this
      exact this
    · have z3 : ¬ (fnd S c k (y + 1)).2.1 ≤ (fnd S c k (y + 1)).2.2 := z2
      have := ih M1 h1'
      rw [if_neg z, if_neg z3] at this
      exact this
theorem b_err121 {P : Int32 → mM → Prop} {K4 : Nat → mM → Nat → Int32 → Int32 → Prop} {S : bS} (hX : bX S) {k : Nat} (hk : k < 4) {a : Int32} (kk : ∀ M', bM' M' am ad S → K4 b M' am (errC S k a 36) (Int32.ofNat k + 1)) : ∀ (n c q : Nat) (M : mM), c + n = 36 → n < q → bM' M am ad S → wl_X4_errors_121 G P K4 q b M am (errC S k a c) (Int32.ofNat k) (Int32.ofNat c)
  | _, _, 0, _, _, hq, _ => absurd hq (Nat.not_lt_zero _)
  | 0, c, q + 1, M, hc, _, h => by
    have : c = 36 := by omega
    subst this
    unfold wl_X4_errors_121
    exact ⟨fun _ => kk M h, fun z => absurd (by decide) z⟩
  | n + 1, c, q + 1, M, hc, hq, h => by
    obtain ⟨d0, d1⟩ := bIn_t hX.2.2.2.2.1
    unfold wl_X4_errors_121
    refine ⟨fun z => absurd z (nlt36 (by omega)), fun _ => ⟨_, b_err131 hX hk (by omega) (N := nn (S 2 0 0 0)) (i_nle d0 d1) (i_of d0) (fun M' hM' => ?_) _ 0 _ M (Nat.zero_add _) (Nat.lt_succ_self _) h⟩⟩
    rw [i_s]
    exact b_err121 hX hk kk n (c + 1) q M' (by omega) (by omega) hM'
theorem b_err78 {P : Int32 → mM → Prop} {K4 : Nat → mM → Nat → Int32 → Int32 → Prop} {K69 : Nat → mM → Nat → Int32 → Int32 → Int32 → Int32 → Prop} {S : bS} {M : mM} (h : bM' M am ad S) {x1 : Int32} {k c : Nat} (hk : k < 4) (hc : c < 3) {a : Int32} (kk : K69 b M am x1 (Int32.ofNat k) (subD S k c a 4) (Int32.ofNat c + 1)) : ∀ (n d q : Nat), d + n = 4 → n < q → wl_X4_errors_78 G P K4 K69 q b M am x1 (Int32.ofNat k) (subD S k c a d) (Int32.ofNat c) (Int32.ofNat d)
  | _, _, 0, _, hq => absurd hq (Nat.not_lt_zero _)
  | 0, d, q + 1, hd, _ => by
    have : d = 4 := by omega
    subst this
    unfold wl_X4_errors_78
    exact ⟨fun _ => kk, fun z => absurd (by decide) z⟩
  | n + 1, d, q + 1, hd, hq => by
    have hlt : ¬ (4 : Int32) ≤ Int32.ofNat d := fun z => absurd ((i_le (a := 4) (by decide) (by omega)).mp z) (by omega)
    have ek : nn (Int32.ofNat k) = k := i_nn (by omega)
    have ec : nn (Int32.ofNat c) = c := i_nn (by omega)
    have ed : nn (Int32.ofNat d) = d := i_nn (by omega)
    have hxd : vp_in (Int32.ofNat d) 4 := i_vp (by omega) (by omega)
    have ih := b_err78 (P := P) (K4 := K4) h hk hc kk n (d + 1) q (by omega) (by omega)
    obtain ⟨lo, hi, h0⟩ := id h
    unfold wl_X4_errors_78
    refine ⟨fun z => absurd z hlt, fun _ => b_gfa h0 (by decide) (b_lda h0 (by decide) (i_vp (by omega) hk) (b_lda2 h0 (by decide) (by rw [show (Int32.ofNat k).toNatClampNeg = k from ek]; exact hk) (i_vp (by omega) hc) (b_ld3 h0 (by decide) (by rw [show (Int32.ofNat k).toNatClampNeg = k from ek]; exact hk) (by rw [show (Int32.ofNat c).toNatClampNeg = c from ec]; exact hc) hxd ?_)))⟩
    rw [fB_o (f := 44) (by decide), show (Int32.ofNat k).toNatClampNeg = k from ek, show (Int32.ofNat c).toNatClampNeg = c from ec, show (Int32.ofNat d).toNatClampNeg = d from ed, i_s]
    exact ih
theorem b_err69 {P : Int32 → mM → Prop} {K4 : Nat → mM → Nat → Int32 → Int32 → Prop} {S : bS} {M : mM} (h : bM' M am ad S) {x1 : Int32} {k : Nat} (hk : k < 4) {a : Int32} (kk : wb_X4_errors_118 G P K4 b M am (if subC S k a 3 = 0 then x1 else x1 + 1) (Int32.ofNat k)) : ∀ (n c q : Nat), c + n = 3 → n < q → wl_X4_errors_69 G P K4 q b M am x1 (Int32.ofNat k) (subC S k a c) (Int32.ofNat c)
  | _, _, 0, _, hq => absurd hq (Nat.not_lt_zero _)
  | 0, c, q + 1, hc, _ => by
    have : c = 3 := by omega
    subst this
    unfold wl_X4_errors_69
    refine ⟨fun _ => ⟨fun z => ?_, fun z => ?_⟩, fun z => absurd (by decide) z⟩
    · rw [if_pos z] at kk; exact kk
    · rw [if_neg z] at kk; exact kk
  | n + 1, c, q + 1, hc, hq => by
    have hlt : ¬ (3 : Int32) ≤ Int32.ofNat c := fun z => absurd ((i_le (a := 3) (by decide) (by omega)).mp z) (by omega)
    have ih := b_err69 (P := P) h hk kk n (c + 1) q (by omega) (by omega)
    unfold wl_X4_errors_69
    refine ⟨fun z => absurd z hlt, fun _ => ⟨5, b_err78 h hk (by omega) ?_ 4 0 5 (by omega) (by omega)⟩⟩
    rw [i_s]
    exact ih
theorem b_err14 {P : Int32 → mM → Prop} {K4 : Nat → mM → Nat → Int32 → Int32 → Prop} {S : bS} {M : mM} (h : bM' M am ad S) (hX : bX S) {x1 : Int32} {k : Nat} {N : Nat} (hN : N ≤ 200) (hs : S 29 0 0 0 = Int32.ofNat N) (kk : ∃ n69, wl_X4_errors_69 G P K4 n69 b M am x1 (Int32.ofNat k) (allN S k N) 0) : ∀ (n c q : Nat), c + n = N → n < q → wl_X4_errors_14 G P K4 q b M am x1 (Int32.ofNat k) (allN S k c) (Int32.ofNat c)
  | _, _, 0, _, hq => absurd hq (Nat.not_lt_zero _)
  | 0, c, q + 1, hc, _ => by
    have : c = N := by omega
    subst this
    obtain ⟨lo, hi, h0⟩ := id h
    unfold wl_X4_errors_14
    refine b_gfi h0 (by decide) ?_
    rw [fB_o (f := 29) (by decide), hs]
    exact ⟨fun _ => kk, fun z => absurd (Int32.le_refl _) z⟩
  | n + 1, c, q + 1, hc, hq => by
    have hx : vp_in (Int32.ofNat c) 200 := i_vp (by omega) (by omega)
    have e : nn (Int32.ofNat c) = c := i_nn (by omega)
    have hlt : ¬ Int32.ofNat N ≤ Int32.ofNat c := fun z => absurd ((i_le (by omega) (by omega)).mp z) (by omega)
    have ih := b_err14 (P := P) h hX hN hs kk n (c + 1) q (by omega) (by omega)
    rw [show allN S k (c + 1) = (if S 39 c 0 0 = Int32.ofNat k then (if S 34 (nn (S 36 c 0 0)) 0 0 = 1 then allN S k c + S 40 c 0 0 else allN S k c) else allN S k c) from rfl] at ih
    obtain ⟨n0, _⟩ := hX.2.2.2.2.2.2.2.2.1 c (by omega)
    obtain ⟨lo, hi, h0⟩ := id h
    unfold wl_X4_errors_14 wb_X4_errors_60
    refine b_gfi h0 (by decide) ?_
    rw [fB_o (f := 29) (by decide), hs, i_s]
    refine ⟨fun z => absurd z hlt, fun _ => b_gfa h0 (by decide) (b_ld1 h0 (by decide) hx ?_)⟩
    rw [fB_o (f := 39) (by decide), show (Int32.ofNat c).toNatClampNeg = c from e]
    refine ⟨fun z => ?_, fun z => b_gfa h0 (by decide) (b_gfa h0 (by decide) (b_ld1 h0 (by decide) hx ?_))⟩
    · rw [if_neg z] at ih; exact ih
    rw [fB_o (f := 36) (by decide), show (Int32.ofNat c).toNatClampNeg = c from e]
    refine b_ld1 h0 (by decide) n0 ?_
    rw [fB_o (f := 34) (by decide)]
    refine ⟨fun z2 => ?_, fun z2 => b_gfa h0 (by decide) (b_ld1 h0 (by decide) hx ?_)⟩
    · rw [if_pos z, if_neg z2] at ih; exact ih
    rw [fB_o (f := 40) (by decide), show (Int32.ofNat c).toNatClampNeg = c from e]
    rw [if_pos z, if_pos z2] at ih
    exact ih
theorem b_err4 {P : Int32 → mM → Prop} {S : bS} (hX : bX S) (kk : ∀ M', bM' M' am ad (z0 S) → P (errK S 4) M') : ∀ (n k q : Nat) (M : mM), k + n = 4 → n < q → bM' M am ad S → wl_X4_errors_4 G P q b M am (errK S k) (Int32.ofNat k)
  | _, _, 0, _, _, hq, _ => absurd hq (Nat.not_lt_zero _)
  | 0, k, q + 1, M, hc, _, h => by
    have : k = 4 := by omega
    subst this
    obtain ⟨lo, hi, h0⟩ := id h
    unfold wl_X4_errors_4
    refine ⟨fun _ => ⟨h0.isc, b_answered h0 fun M' hM' => kk M' ⟨lo, hi, ?_⟩⟩, fun z => absurd (by decide) z⟩
    rw [show fB (z0 S) lo hi = bU (fB S lo hi) 0 0 0 0 0 by
      funext f i j k
      unfold fB z0 bU
      by_cases h1 : f = 48 ∧ i = 0 ∧ j = 0 ∧ k = 0
      · rw [if_pos h1, if_neg (by omega), if_pos h1]
      · rw [if_neg h1]
        by_cases h2 : f = 47 ∧ i = 0 ∧ j = 0 ∧ k = 0
        · rw [if_pos h2, if_neg (by omega), if_neg h1, if_pos h2]
        · rw [if_neg h2]
          by_cases h3 : f = 0 ∧ i = 0 ∧ j = 0 ∧ k = 0
          · rw [if_pos h3, if_pos h3]
          · rw [if_neg h3, if_neg h3, if_neg h1, if_neg h2]]
    exact hM'
  | n + 1, k, q + 1, M, hc, hq, h => by
    have hlt : ¬ (4 : Int32) ≤ Int32.ofNat k := fun z => absurd ((i_le (a := 4) (by decide) (by omega)).mp z) (by omega)
    obtain ⟨d0, d1⟩ := bIn_t hX.2.2.2.1
    unfold wl_X4_errors_4
    have ih : ∀ M', bM' M' am ad S → wl_X4_errors_4 G P q b M' am (errC S k (errA S k (errK S k)) 36) (Int32.ofNat k + 1) := fun M' hM' => by
      have := b_err4 hX kk n (k + 1) q M' (by omega) (by omega) hM'
      rw [show errK S (k + 1) = errC S k (errA S k (errK S k)) 36 from rfl] at this
      rw [i_s]
      exact this
    have k1 : wb_X4_errors_118 G P (wl_X4_errors_4 G P q) b M am (errA S k (errK S k)) (Int32.ofNat k) := by
      unfold wb_X4_errors_118
      exact ⟨37, b_err121 hX (by omega) (a := errA S k (errK S k)) ih 36 0 37 M (by omega) (by omega) h⟩
    have k2 := b_err69 (G := G) (b := b) (P := P) h (x1 := errK S k) (k := k) (by omega) (a := allN S k (nn (S 29 0 0 0))) k1 3 0 4 (by omega) (by omega)
    exact ⟨fun z => absurd z hlt, fun _ => ⟨_, b_err14 h hX (N := nn (S 29 0 0 0)) (i_nle d0 d1) (i_of d0) ⟨4, k2⟩ _ 0 _ (Nat.zero_add _) (Nat.lt_succ_self _)⟩⟩
theorem t_errors {M : mM} {S : bS} (h : bM M am ad S) (hX : bX S) {K : Int32 → mM → Prop} (kk : ∀ M', bM' M' am ad (z0 S) → K (errK S 4) M') : wp_X4_errors G b K M am := by
  unfold wp_X4_errors
  exact ⟨5, b_err4 hX kk 4 0 5 M (by omega) (by omega) (bM'.of h)⟩
end B58
