/-! THE TWIN's numbers, total, worth, nextRoute -/
def vNum (t : f3) (h : Int32) : Int32 := if h = 0 then t.2.1 else t.2.2
def eNum (S : bS) (c k y : Int32) : Int32 := bE (!bIn c 0 35 || !bIn k 0 3) (!bIn y 0 (S 2 0 0 0)) false
def aNum (S : bS) (c k y : Nat) (h : Int32) : Int32 := if (fnd S c k (y + 1)).1 = 0 then -1 else vNum (fnd S c k (y + 1)) h
def totN (S : bS) (k : Nat) (h : Int32) : Nat → Int64
  | 0 => 0
  | n + 1 => if (fnd S n k (nn (S 2 0 0 0) + 1)).1 = 0 then totN S k h n else totN S k h n + (vNum (fnd S n k (nn (S 2 0 0 0) + 1)) h).toInt64
def wthK (S : bS) (c : Nat) (a : Int64) : Nat → Int64
  | 0 => a
  | n + 1 => wthK S c a n + (S 12 n 0 0).toInt64 * (dbt S c n).toInt64
def wthN (S : bS) (r : Nat) : Nat → Int64
  | 0 => 0
  | n + 1 => if 1 < far S r (Int32.ofNat n) then wthN S r n else wthK S n (wthN S r n) 4
def wth (S : bS) (r : Nat) : Int64 := wthN S r 36
def nxt (S : bS) : Nat → Int32
  | 0 => -1
  | n + 1 => if nxt S n = -1 then Int32.ofNat n else if lg_cmp (wth S n) (wth S (nn (nxt S n))) ≤ 0 then nxt S n else Int32.ofNat n
theorem far_47 (S : bS) (lo hi : Int32) (r : Nat) (c : Int32) : far (fB S lo hi) r c = far S r c := by
  unfold far
  rw [fB_o (f := 23) (by decide)]
  generalize nn (S 23 r 0 0) = n
  induction n with
  | zero => rfl
  | succ n ih => unfold farN; rw [ih, fB_o (f := 26) (by decide)]
theorem bX_47 {S : bS} {lo hi : Int32} (h : bX S) : bX (fB S lo hi) := by
  unfold bX
  rw [fB_o (f := 24) (by decide), fB_o (f := 27) (by decide), fB_o (f := 28) (by decide), fB_o (f := 29) (by decide), fB_o (f := 2) (by decide), fB_o (f := 23) (by decide), fB_o (f := 26) (by decide), fB_o (f := 30) (by decide), fB_o (f := 31) (by decide), fB_o (f := 32) (by decide), fB_o (f := 33) (by decide), fB_o (f := 36) (by decide), fB_o (f := 37) (by decide), fB_o (f := 38) (by decide), fB_o (f := 39) (by decide), fB_o (f := 4) (by decide)]
  exact h
section B49
variable {G : mG} {b : Nat} {am : Nat} {ad : bA}
/-- the bank but for the two numbers of find -/
def bM' (M : mM) (am : Nat) (ad : bA) (S : bS) : Prop := ∃ lo hi, bM M am ad (fB S lo hi)
theorem bM'.of {M : mM} {S : bS} (h : bM M am ad S) : bM' M am ad S := ⟨_, _, by rw [fB_self]; exact h⟩
theorem bM'.of2 {M : mM} {S : bS} {lo hi : Int32} (h : bM' M am ad (fB S lo hi)) : bM' M am ad S := by
  obtain ⟨a, c, h⟩ := h
  rw [fB_fB] at h
  exact ⟨a, c, h⟩
theorem b_doubt' {P : Int32 → mM → Prop} {M : mM} {S : bS} (h : bM' M am ad S) (hX : bX S) {x1 x2 : Int32} (h1 : vp_in x1 36) (h2 : vp_in x2 4) (kk : ∀ M', bM' M' am ad S → P (dbt S (nn x1) (nn x2)) M') : wp_X4_doubt G b P M am x1 x2 := by
  obtain ⟨lo, hi, h⟩ := h
  refine b_doubt h (bX_47 hX) h1 h2 fun lo' hi' M' hM' => ?_
  rw [dbt_47]
  rw [fB_fB] at hM'
  exact kk M' ⟨_, _, hM'⟩
theorem b_far' {P : Int32 → mM → Prop} {M : mM} {S : bS} (h : bM' M am ad S) (hX : bX S) {x1 x2 : Int32} (h1 : vp_in x1 8) (kk : P (far S (nn x1) x2) M) : wp_X4_far G b P M am x1 x2 := by
  obtain ⟨lo, hi, h⟩ := h
  refine b_far h (bX_47 hX) h1 ?_
  rw [far_47]
  exact kk
theorem b_wth26 {P : Int64 → mM → Prop} {K5 : Nat → mM → Nat → Int32 → Int64 → Int32 → Prop} {S : bS} (hX : bX S) {x1 x4 : Int32} {a : Int64} (h4 : vp_in x4 36) (kk : ∀ M', bM' M' am ad S → K5 b M' am x1 (wthK S (nn x4) a 4) (x4 + 1)) : ∀ (n k q : Nat) (M : mM), k + n = 4 → n < q → bM' M am ad S → wl_X4_worthOf_26 G P K5 q b M am x1 (wthK S (nn x4) a k) x4 (Int32.ofNat k)
  | _, _, 0, _, _, hq, _ => absurd hq (Nat.not_lt_zero _)
  | 0, k, q + 1, M, hc, _, h => by
    have : k = 4 := by omega
    subst this
    unfold wl_X4_worthOf_26 wb_X4_worthOf_59
    exact ⟨fun _ => kk M h, fun z => absurd (by decide) z⟩
  | n + 1, k, q + 1, M, hc, hq, h => by
    have hx : vp_in (Int32.ofNat k) 4 := i_vp (by omega) (by omega)
    have e : (Int32.ofNat k).toNatClampNeg = k := i_nn (by omega)
    have hlt : ¬ (4 : Int32) ≤ Int32.ofNat k := fun z => absurd ((i_le (a := 4) (by decide) (by omega)).mp z) (by omega)
    unfold wl_X4_worthOf_26
    refine ⟨fun z => absurd z hlt, fun _ => ?_⟩
    obtain ⟨lo, hi, h0⟩ := id h
    refine b_gfa h0 (by decide) (b_ld1 h0 (by decide) hx ⟨h0.isc, b_doubt' h hX h4 hx fun M' hM' => ?_⟩)
    intro g7 e7
    subst e7
    rw [i_s]
    have key := b_wth26 (P := P) hX h4 kk n (k + 1) q M' (by omega) (by omega) hM'
    rw [show wthK S (nn x4) a (k + 1) = wthK S (nn x4) a k + (S 12 k 0 0).toInt64 * (dbt S (nn x4) k).toInt64 from rfl] at key
    rw [e, fB_o (f := 12) (by decide), show nn (Int32.ofNat k) = k from e]
    exact key
theorem b_wth5 {P : Int64 → mM → Prop} {S : bS} (hX : bX S) {x1 : Int32} (h1 : vp_in x1 8) (kk : ∀ M', bM' M' am ad S → P (wth S (nn x1)) M') : ∀ (n c q : Nat) (M : mM), c + n = 36 → n < q → bM' M am ad S → wl_X4_worthOf_5 G P q b M am x1 (wthN S (nn x1) c) (Int32.ofNat c)
  | _, _, 0, _, _, hq, _ => absurd hq (Nat.not_lt_zero _)
  | 0, c, q + 1, M, hc, _, h => by
    have : c = 36 := by omega
    subst this
    unfold wl_X4_worthOf_5
    exact ⟨fun _ => kk M h, fun z => absurd (by decide) z⟩
  | n + 1, c, q + 1, M, hc, hq, h => by
    have hx : vp_in (Int32.ofNat c) 36 := i_vp (by omega) (by omega)
    have e : nn (Int32.ofNat c) = c := i_nn (by omega)
    have hlt : ¬ (36 : Int32) ≤ Int32.ofNat c := fun z => absurd ((i_le (a := 36) (by decide) (by omega)).mp z) (by omega)
    unfold wl_X4_worthOf_5 wb_X4_worthOf_59
    obtain ⟨lo, hi, h0⟩ := id h
    have ih : ∀ M', bM' M' am ad S → wl_X4_worthOf_5 G P q b M' am x1 (wthN S (nn x1) (c + 1)) (Int32.ofNat c + 1) := fun M' hM' => by
      rw [i_s]
      exact b_wth5 hX h1 kk n (c + 1) q M' (by omega) (by omega) hM'
    refine ⟨fun z => absurd z hlt, fun _ => ⟨h0.isc, b_far' h hX h1 ⟨fun z => ?_, fun z => ⟨5, ?_⟩⟩⟩⟩
    · have := ih M h
      rw [show wthN S (nn x1) (c + 1) = (if 1 < far S (nn x1) (Int32.ofNat c) then wthN S (nn x1) c else wthK S c (wthN S (nn x1) c) 4) from rfl, if_pos z] at this
      exact this
    · have key := b_wth26 (G := G) (b := b) (P := P) (K5 := wl_X4_worthOf_5 G P q) hX (x1 := x1) (a := wthN S (nn x1) c) hx (fun M' hM' => by
        have := ih M' hM'
        rw [show wthN S (nn x1) (c + 1) = (if 1 < far S (nn x1) (Int32.ofNat c) then wthN S (nn x1) c else wthK S c (wthN S (nn x1) c) 4) from rfl, if_neg z] at this
        rw [e]
        exact this) 4 0 5 M (by omega) (by omega) h
      exact key
theorem b_wth {P : Int64 → mM → Prop} {M : mM} {S : bS} (h : bM' M am ad S) (hX : bX S) {x1 : Int32} (h1 : vp_in x1 8) (kk : ∀ M', bM' M' am ad S → P (wth S (nn x1)) M') : wp_X4_worthOf G b P M am x1 := by
  unfold wp_X4_worthOf
  exact ⟨37, b_wth5 hX h1 kk 36 0 37 M (by omega) (by omega) h⟩
theorem t_worth {M : mM} {S : bS} (h : bM M am ad S) (hX : bX S) (hX0 : bX (z0 S)) {r : Int32} {K : Int64 → mM → Prop} (k0 : eRoute S r = false → ∀ M', bM' M' am ad (z0 S) → K (wth (z0 S) (nn r)) M') (k1 : eRoute S r = true → ∀ M', bM M' am ad (bU S 0 0 0 0 1) → K 0 M') : wp_X4_worth G b K M am r := by
  unfold wp_X4_worth wb_X4_worth_23
  refine ⟨h.isc, b_noRoute h ⟨h.isc, b_chk (q := false) (r := false) h (fun _ _ => rfl) (fun h1 _ _ M' hM' => ⟨hM'.isc, ?_⟩) (fun h1 M' hM' => ?_)⟩⟩
  · have hr := (b_inN (n := 8) (not_f h1) hX.1 (by decide)).1
    exact b_wth (bM'.of hM') hX0 hr (k0 h1)
  · have hu : eRoute S r = true := by
      cases hh : eRoute S r with
      | true => rfl
      | false => rw [hh] at h1; exact absurd rfl h1
    rw [hu] at hM'
    exact k1 hu M' hM'
end B49
