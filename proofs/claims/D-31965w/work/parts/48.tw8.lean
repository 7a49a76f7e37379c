/-! THE TWIN's NUMBERS OF YEARS: find, doubt, numbers, total, worth, nextRoute -/
def fB (S : bS) (lo hi : Int32) : bS := bU (bU S 47 0 0 0 lo) 48 0 0 0 hi
theorem fB_fB {S : bS} {a c lo hi : Int32} : fB (fB S a c) lo hi = fB S lo hi := by
  funext f i j k
  unfold fB bU
  by_cases h1 : f = 48 ∧ i = 0 ∧ j = 0 ∧ k = 0
  · rw [if_pos h1, if_pos h1]
  · rw [if_neg h1, if_neg h1]
    by_cases h2 : f = 47 ∧ i = 0 ∧ j = 0 ∧ k = 0
    · simp only [if_neg h1, if_pos h2]
    · simp only [if_neg h1, if_neg h2]
theorem fB_self {S : bS} : fB S (S 47 0 0 0) (S 48 0 0 0) = S := by
  funext f i j k
  unfold fB bU
  by_cases h1 : f = 48 ∧ i = 0 ∧ j = 0 ∧ k = 0
  · rw [if_pos h1]; obtain ⟨rfl, rfl, rfl, rfl⟩ := h1; rfl
  · rw [if_neg h1]
    by_cases h2 : f = 47 ∧ i = 0 ∧ j = 0 ∧ k = 0
    · rw [if_pos h2]; obtain ⟨rfl, rfl, rfl, rfl⟩ := h2; rfl
    · rw [if_neg h2]
theorem fB_o {S : bS} {lo hi : Int32} {f : Nat} (h : f ≠ 47 ∧ f ≠ 48) : fB S lo hi f = S f := by
  funext i j k
  unfold fB
  rw [bU_f h.2, bU_f h.1]
abbrev f3 : Type := Int32 × Int32 × Int32
def fHas (S : bS) (c k y : Nat) : Int32 := if S 45 y c k = -1 then 0 else 1
def fOh (S : bS) (c k y : Nat) : Int32 := if S 45 y c k < S 46 y c k then S 46 y c k else S 45 y c k
def fLo (S : bS) (c k y : Nat) (t : f3) : Int32 := if t.1 = 0 then S 45 y c k else if fHas S c k y = 0 then t.2.1 / 2 else (if S 45 y c k < t.2.1 / 2 then t.2.1 / 2 else S 45 y c k)
def fHi (S : bS) (c k y : Nat) (t : f3) : Int32 :=
  if t.1 = 0 then fOh S c k y else if fHas S c k y = 0 then 2 * t.2.2 + 1 else
    (if fLo S c k y t < (if 2 * t.2.2 + 1 < fOh S c k y then 2 * t.2.2 + 1 else fOh S c k y) then (if 2 * t.2.2 + 1 < fOh S c k y then 2 * t.2.2 + 1 else fOh S c k y) else fLo S c k y t)
def fSt (S : bS) (c k y : Nat) (t : f3) : f3 := (t.1 ||| fHas S c k y, fLo S c k y t, fHi S c k y t)
def fnd (S : bS) (c k : Nat) : Nat → f3
  | 0 => (0, S 47 0 0 0, S 48 0 0 0)
  | n + 1 => fSt S c k n (fnd S c k n)
theorem fnd_b (S : bS) (c k : Nat) : ∀ n, (fnd S c k n).1 = 0 ∨ (fnd S c k n).1 = 1
  | 0 => Or.inl rfl
  | n + 1 => by
    show (fnd S c k n).1 ||| fHas S c k n = 0 ∨ (fnd S c k n).1 ||| fHas S c k n = 1
    have h1 : fHas S c k n = 0 ∨ fHas S c k n = 1 := by unfold fHas; split <;> simp
    rcases fnd_b S c k n with h | h <;> rcases h1 with h2 | h2 <;> rw [h, h2] <;> decide
section B48
variable {G : mG} {b : Nat} {am : Nat} {ad : bA}
theorem b_find_102 {P : Int32 → mM → Prop} {K6 : Nat → mM → Nat → Int32 → Int32 → Int32 → Int32 → Int32 → Prop} {M : mM} {S : bS} {x1 x2 x3 x5 : Int32} {c k y : Nat} {t : f3} (h : bM M am ad (fB S t.2.1 t.2.2)) (kk : ∀ M', bM M' am ad (fB S (fLo S c k y t) (fHi S c k y t)) → K6 b M' am x1 x2 x3 (t.1 ||| fHas S c k y) (x5 + 1)) : wb_X4_find_102 G P K6 b M am x1 x2 x3 t.1 x5 (fOh S c k y) (fHas S c k y) (2 * t.2.2 + 1) am (fLo S c k y t) := by
  unfold wb_X4_find_102
  refine b_pfi h (by decide) fun M1 h1 => ?_
  have fin : ∀ hi, hi = fHi S c k y t → wb_X4_find_140 G P K6 b M1 am x1 x2 x3 t.1 x5 (fHas S c k y) am hi := by
    intro hi e
    subst e
    unfold wb_X4_find_140
    refine b_pfi h1 (by decide) fun M2 h2 => kk M2 ?_
    have : bU (bU (fB S t.2.1 t.2.2) 47 0 0 0 (fLo S c k y t)) 48 0 0 0 (fHi S c k y t) = fB S (fLo S c k y t) (fHi S c k y t) := fB_fB
    rw [this] at h2
    exact h2
  refine ⟨fun a => ⟨fun g => fin _ ?_, fun g => b_gfi h1 (by decide) ?_⟩, fun a => fin _ ?_⟩
  · unfold fHi; rw [if_neg a, if_pos g]
  · rw [bU_s]
    intro g15 e15 g16 e16
    subst e16
    subst e15
    refine fin _ ?_
    unfold fHi; rw [if_neg a, if_neg g]
  · unfold fHi; rw [if_pos a]
theorem b_find_54 {P : Int32 → mM → Prop} {K6 : Nat → mM → Nat → Int32 → Int32 → Int32 → Int32 → Int32 → Prop} {M : mM} {S : bS} {x1 x2 x3 x5 : Int32} {c k y : Nat} {t : f3} (h : bM M am ad (fB S t.2.1 t.2.2)) (kk : ∀ M', bM M' am ad (fB S (fLo S c k y t) (fHi S c k y t)) → K6 b M' am x1 x2 x3 (t.1 ||| fHas S c k y) (x5 + 1)) : wb_X4_find_54 G P K6 b M am x1 x2 x3 t.1 x5 (S 45 y c k) (fOh S c k y) (fHas S c k y) := by
  unfold wb_X4_find_54
  refine b_gfi h (by decide) (b_gfi h (by decide) ?_)
  have e47 : fB S t.2.1 t.2.2 47 0 0 0 = t.2.1 := by unfold fB; rw [bU_f (by decide), bU_s]
  have e48 : fB S t.2.1 t.2.2 48 0 0 0 = t.2.2 := bU_s _ _ _ _ _ _
  rw [e47, e48]
  have key := b_find_102 (G := G) (P := P) (x1 := x1) (x2 := x2) (x3 := x3) (x5 := x5) h kk
  refine ⟨fun a => ⟨fun g => ?_, fun g => ?_⟩, fun a => ?_⟩
  · have e : fLo S c k y t = t.2.1 / 2 := by unfold fLo; rw [if_neg a, if_pos g]
    rw [e] at key
    exact key
  · intro g12 e12
    have e : fLo S c k y t = g12 := by unfold fLo; rw [if_neg a, if_neg g, e12]
    rw [e] at key
    exact key
  · have e : fLo S c k y t = S 45 y c k := by unfold fLo; rw [if_pos a]
    rw [e] at key
    exact key
theorem b_find6 {P : Int32 → mM → Prop} {S : bS} {x1 x2 : Int32} {Y : Nat} (hY : Y < 10) (h1 : vp_in x1 36) (h2 : vp_in x2 4) (kk : ∀ M', bM M' am ad (fB S (fnd S (nn x1) (nn x2) (Y + 1)).2.1 (fnd S (nn x1) (nn x2) (Y + 1)).2.2) → P (fnd S (nn x1) (nn x2) (Y + 1)).1 M') : ∀ (n y q : Nat) (M : mM), y + n = Y + 1 → n < q → bM M am ad (fB S (fnd S (nn x1) (nn x2) y).2.1 (fnd S (nn x1) (nn x2) y).2.2) → wl_X4_find_6 G P q b M am x1 x2 (Int32.ofNat Y) (fnd S (nn x1) (nn x2) y).1 (Int32.ofNat y)
  | _, _, 0, _, _, hq, _ => absurd hq (Nat.not_lt_zero _)
  | 0, y, q + 1, M, hc, _, h => by
    have hy : y = Y + 1 := by omega
    subst hy
    unfold wl_X4_find_6
    refine ⟨fun _ => ⟨?_, kk M h⟩, fun z => absurd (Int32.not_le.mp fun w => ?_) z⟩
    · rcases fnd_b S (nn x1) (nn x2) (Y + 1) with e | e <;> rw [e] <;> rfl
    · have := (i_le (by omega) (by omega)).mp w
      omega
  | n + 1, y, q + 1, M, hc, hq, h => by
    have hx : vp_in (Int32.ofNat y) 10 := i_vp (by omega) (by omega)
    have e : (Int32.ofNat y).toNatClampNeg = y := i_nn (by omega)
    have hlt : ¬ Int32.ofNat Y < Int32.ofNat y := Int32.not_lt.mpr ((i_le (by omega) (by omega)).mpr (by omega))
    unfold wl_X4_find_6
    refine ⟨fun z => absurd z hlt, fun _ => ?_⟩
    refine b_gfa h (by decide) (b_lda h (by decide) hx (b_lda2 h (by decide) (bLt hx) h1 (b_ld3 h (by decide) (bLt hx) (bLt h1) h2 ?_)))
    refine b_gfa h (by decide) (b_lda h (by decide) hx (b_lda2 h (by decide) (bLt hx) h1 (b_ld3 h (by decide) (bLt hx) (bLt h1) h2 ?_)))
    rw [e, fB_o (by decide), fB_o (by decide)]
    intro g9 e9
    have eo : g9 = fOh S (nn x1) (nn x2) y := e9
    subst eo
    have ih : ∀ M', bM M' am ad (fB S (fLo S (nn x1) (nn x2) y (fnd S (nn x1) (nn x2) y)) (fHi S (nn x1) (nn x2) y (fnd S (nn x1) (nn x2) y))) → wl_X4_find_6 G P q b M' am x1 x2 (Int32.ofNat Y) ((fnd S (nn x1) (nn x2) y).1 ||| fHas S (nn x1) (nn x2) y) (Int32.ofNat y + 1) := by
      intro M' hM'
      rw [i_s]
      exact b_find6 hY h1 h2 kk n (y + 1) q M' (by omega) (by omega) hM'
    have key := b_find_54 (G := G) (P := P) (K6 := wl_X4_find_6 G P q) (x1 := x1) (x2 := x2) (x3 := Int32.ofNat Y) (x5 := Int32.ofNat y) (c := nn x1) (k := nn x2) (y := y) h ih
    refine ⟨fun g => ?_, fun g => ?_⟩
    · have eh : fHas S (nn x1) (nn x2) y = 0 := by unfold fHas; rw [if_pos g]
      rw [eh] at key
      exact key
    · have eh : fHas S (nn x1) (nn x2) y = 1 := by unfold fHas; rw [if_neg g]
      rw [eh] at key
      exact key
theorem b_find {P : Int32 → mM → Prop} {M : mM} {S : bS} (h : bM M am ad S) {x1 x2 x3 : Int32} (h1 : vp_in x1 36) (h2 : vp_in x2 4) (h3 : vp_in x3 10) (kk : ∀ M', bM M' am ad (fB S (fnd S (nn x1) (nn x2) (nn x3 + 1)).2.1 (fnd S (nn x1) (nn x2) (nn x3 + 1)).2.2) → P (fnd S (nn x1) (nn x2) (nn x3 + 1)).1 M') : wp_X4_find G b P M am x1 x2 x3 := by
  have h0 : (0 : Int32) ≤ x3 := Int32.not_lt.mp fun z => h3 (Or.inl z)
  have key := b_find6 (G := G) (b := b) (Y := nn x3) (bLt h3) h1 h2 kk (nn x3 + 1) 0 (nn x3 + 2) M (by omega) (by omega) (by show bM M am ad (fB S (S 47 0 0 0) (S 48 0 0 0)); rw [fB_self]; exact h)
  rw [← i_of h0] at key
  unfold wp_X4_find
  exact ⟨_, key⟩
/-- how little is known of a cell and a kind -/
def dbt (S : bS) (c k : Nat) : Int32 := if (fnd S c k (nn (S 2 0 0 0) + 1)).1 = 0 then 20 else (fnd S c k (nn (S 2 0 0 0) + 1)).2.2 - (fnd S c k (nn (S 2 0 0 0) + 1)).2.1
theorem fHas_47 (S : bS) (lo hi : Int32) (c k y : Nat) : fHas (fB S lo hi) c k y = fHas S c k y := by
  unfold fHas
  rw [fB_o (f := 45) (by decide)]
theorem fOh_47 (S : bS) (lo hi : Int32) (c k y : Nat) : fOh (fB S lo hi) c k y = fOh S c k y := by
  unfold fOh
  rw [fB_o (f := 45) (by decide), fB_o (f := 46) (by decide)]
theorem fLo_47 (S : bS) (lo hi : Int32) (c k y : Nat) (t : f3) : fLo (fB S lo hi) c k y t = fLo S c k y t := by
  unfold fLo
  rw [fHas_47, fB_o (f := 45) (by decide)]
theorem fSt_47 (S : bS) (lo hi : Int32) (c k y : Nat) (t : f3) : fSt (fB S lo hi) c k y t = fSt S c k y t := by
  unfold fSt fHi
  rw [fLo_47, fHas_47, fOh_47]
theorem fSt_0 (S : bS) (c k y : Nat) (p q p' q' : Int32) : fSt S c k y (0, p, q) = fSt S c k y (0, p', q') := by
  simp only [fSt, fLo, fHi, if_pos]
theorem fnd_47 (S : bS) (lo hi : Int32) (c k n : Nat) : fnd (fB S lo hi) c k (n + 1) = fnd S c k (n + 1) := by
  induction n with
  | zero =>
    show fSt (fB S lo hi) c k 0 (0, _, _) = fSt S c k 0 (0, _, _)
    rw [fSt_47]
    exact fSt_0 _ _ _ _ _ _ _ _
  | succ n ih =>
    show fSt (fB S lo hi) c k (n + 1) (fnd (fB S lo hi) c k (n + 1)) = fSt S c k (n + 1) (fnd S c k (n + 1))
    rw [ih, fSt_47]
theorem dbt_47 (S : bS) (lo hi : Int32) (c k : Nat) : dbt (fB S lo hi) c k = dbt S c k := by
  unfold dbt
  rw [fB_o (f := 2) (by decide), fnd_47]
theorem b_doubt {P : Int32 → mM → Prop} {M : mM} {S : bS} (h : bM M am ad S) (hX : bX S) {x1 x2 : Int32} (h1 : vp_in x1 36) (h2 : vp_in x2 4) (kk : ∀ lo hi M', bM M' am ad (fB S lo hi) → P (dbt S (nn x1) (nn x2)) M') : wp_X4_doubt G b P M am x1 x2 := by
  unfold wp_X4_doubt wb_X4_doubt_27
  have hy : vp_in (S 2 0 0 0) 10 := bIn_v (c := 9) hX.2.2.2.2.1 (by decide)
  refine b_gfi h (by decide) ⟨h.isc, b_find h h1 h2 hy fun M' hM' => ⟨fun z => ?_, fun z => b_gfi hM' (by decide) (b_gfi hM' (by decide) ?_)⟩⟩
  · have := kk _ _ M' hM'
    unfold dbt at this
    rw [if_pos z] at this
    exact this
  · have := kk _ _ M' hM'
    unfold dbt at this
    rw [if_neg z] at this
    exact this
end B48
