/-! THE TWIN's type -/
def sv : Nat → Int32
  | 0 => -8
  | n + 1 => Int32.ofNat (8 * n)
theorem sv_s {n : Nat} (h : n < 8) : sv (n + 1) + (-8) = sv n := by
  rcases (by omega : n = 0 ∨ n = 1 ∨ n = 2 ∨ n = 3 ∨ n = 4 ∨ n = 5 ∨ n = 6 ∨ n = 7) with rfl | rfl | rfl | rfl | rfl | rfl | rfl | rfl <;> decide
theorem sv_n {n : Nat} (h : n < 8) : ¬ sv (n + 1) < 0 := by
  rcases (by omega : n = 0 ∨ n = 1 ∨ n = 2 ∨ n = 3 ∨ n = 4 ∨ n = 5 ∨ n = 6 ∨ n = 7) with rfl | rfl | rfl | rfl | rfl | rfl | rfl | rfl <;> decide
/-- the n-th byte from the right -/
def tyB (y : Int64) (n : Nat) : Int64 := ((y.toUInt64 >>> ((sv (n + 1)).toInt64.toUInt64 &&& Int64.toUInt64 63)).toInt64 &&& 255)
/-- the signs of the last n bytes -/
def tyL (y : Int64) : Nat → List Int32
  | 0 => []
  | n + 1 => if lg_cmp (tyB y n) 0 = 0 then tyL y n else (tyB y n).toInt32 :: tyL y n
theorem tyL_len (y : Int64) : ∀ n, (tyL y n).length ≤ n
  | 0 => Nat.le_refl _
  | n + 1 => by
    unfold tyL
    split
    · exact Nat.le_trans (tyL_len y n) (Nat.le_succ n)
    · exact Nat.succ_le_succ (tyL_len y n)
def sTyp (S : bS) : List Int32 → bS
  | [] => S
  | x :: xs => sTyp (bU (bU S 18 0 0 0 (S 18 0 0 0 + 1)) 22 (nn (S 18 0 0 0)) 0 0 x) xs
def eType (S : bS) (y : Int64) : Int32 := bE (decide (¬ S 18 0 0 0 + Int32.ofNat (tyL y 8).length ≤ 60)) false false
section B51
variable {G : mG} {b : Nat} {am : Nat} {ad : bA}
theorem b_ty6 {P : Int32 → mM → Prop} {M : mM} {S : bS} (h : bM M am ad S) {y : Int64} {N : Nat} (kk : ∀ u : Bool, u = decide (¬ S 18 0 0 0 + Int32.ofNat N ≤ 60) → wb_X4_type_50 G P b M am y am (bI u)) : ∀ (n a q : Nat), n ≤ 8 → n < q → a + (tyL y n).length = N → wl_X4_type_6 G P q b M am y (Int32.ofNat a) (sv n)
  | _, _, 0, _, hq, _ => absurd hq (Nat.not_lt_zero _)
  | 0, a, q + 1, _, _, ha => by
    have e : a = N := ha
    subst e
    unfold wl_X4_type_6
    refine ⟨fun _ => b_gfi h (by decide) ⟨fun z => kk false (decide_eq_false (p := ¬ S 18 0 0 0 + Int32.ofNat a ≤ 60) (not_not_intro z)).symm, fun z => kk true (decide_eq_true (p := ¬ S 18 0 0 0 + Int32.ofNat a ≤ 60) z).symm⟩, fun z => absurd (by decide) z⟩
  | n + 1, a, q + 1, hn, hq, ha => by
    unfold wl_X4_type_6 wb_X4_type_27
    refine ⟨fun z => absurd z (sv_n (by omega)), fun _ g2 e2 => ?_⟩
    subst e2
    rw [sv_s (by omega)]
    refine ⟨fun z => ?_, fun z => ?_⟩
    · refine b_ty6 h kk n a q (by omega) (by omega) ?_
      rw [← ha]
      show a + (tyL y n).length = a + (if lg_cmp (tyB y n) 0 = 0 then tyL y n else (tyB y n).toInt32 :: tyL y n).length
      rw [if_pos (show lg_cmp (tyB y n) 0 = 0 from z)]
    · rw [i_s]
      refine b_ty6 h kk n (a + 1) q (by omega) (by omega) ?_
      rw [← ha]
      show a + 1 + (tyL y n).length = a + (if lg_cmp (tyB y n) 0 = 0 then tyL y n else (tyB y n).toInt32 :: tyL y n).length
      rw [if_neg (show ¬ lg_cmp (tyB y n) 0 = 0 from z), List.length_cons]
      omega
theorem b_ty64 {P : Int32 → mM → Prop} {y : Int64} : ∀ (n L q : Nat) (M : mM) (S : bS), n ≤ 8 → n < q → S 18 0 0 0 = Int32.ofNat L → L + (tyL y n).length ≤ 60 → bM M am ad S → (∀ M', bM M' am ad (sTyp S (tyL y n)) → P (sTyp S (tyL y n) 18 0 0 0) M') → wl_X4_type_64 G P q b M am y (sv n)
  | _, _, 0, _, _, _, hq, _, _, _, _ => absurd hq (Nat.not_lt_zero _)
  | 0, L, q + 1, M, S, _, _, _, _, h, kk => by
    unfold wl_X4_type_64
    exact ⟨fun _ => b_gfi h (by decide) (kk M h), fun z => absurd (by decide) z⟩
  | n + 1, L, q + 1, M, S, hn, hq, hS, hL, h, kk => by
    unfold wl_X4_type_64 wb_X4_type_107
    refine ⟨fun z => absurd z (sv_n (by omega)), fun _ g6 e6 => ?_⟩
    subst e6
    rw [sv_s (by omega)]
    have ex : tyL y (n + 1) = (if lg_cmp (tyB y n) 0 = 0 then tyL y n else (tyB y n).toInt32 :: tyL y n) := rfl
    refine ⟨fun z => ?_, fun z => ?_⟩
    · rw [ex, if_pos (show lg_cmp (tyB y n) 0 = 0 from z)] at hL kk
      exact b_ty64 n L q M S (by omega) (by omega) hS hL h kk
    · rw [ex, if_neg (show ¬ lg_cmp (tyB y n) 0 = 0 from z)] at hL kk
      rw [List.length_cons] at hL
      have hx : vp_in (S 18 0 0 0) 60 := by rw [hS]; exact i_vp (by omega) (by omega)
      refine b_gfa h (by decide) (b_gfi h (by decide) (b_pfi h (by decide) fun M1 h1 => ?_))
      intro g10 e10
      subst e10
      refine b_st1 h1 (by decide) hx fun M2 h2 => ?_
      refine b_ty64 n (L + 1) q M2 (bU (bU S 18 0 0 0 (S 18 0 0 0 + 1)) 22 (nn (S 18 0 0 0)) 0 0 (tyB y n).toInt32) (by omega) (by omega) ?_ (by omega) h2 kk
      rw [bU_f (by decide), bU_s, hS, i_s]
theorem t_type {M : mM} {S : bS} (h : bM M am ad S) {L : Nat} (hL : L ≤ 60) (hS : S 18 0 0 0 = Int32.ofNat L) {y : Int64} {K : Int32 → mM → Prop} (kk : ∀ M', bM M' am ad (oS (eType S y) S (sTyp (z0 S) (tyL y 8))) → K (oA (eType S y) (sTyp (z0 S) (tyL y 8) 18 0 0 0)) M') : wp_X4_type G b K M am y := by
  unfold wp_X4_type
  refine ⟨9, ?_⟩
  have fin : ∀ u : Bool, u = decide (¬ S 18 0 0 0 + Int32.ofNat (tyL y 8).length ≤ 60) → wb_X4_type_50 G K b M am y am (bI u) := by
    intro u hu
    have he : eType S y = bE u false false := by rw [hu]; rfl
    rw [he] at kk
    unfold wb_X4_type_50
    refine ⟨h.isc, b_chk (q := false) (r := false) h (fun _ _ => rfl) (fun h1 _ _ M' hM' => ⟨9, ?_⟩) (fun h1 M' hM' => ?_)⟩
    · rw [h1] at kk hu
      have hle : S 18 0 0 0 + Int32.ofNat (tyL y 8).length ≤ 60 := by simpa using hu
      have hl8 := tyL_len y 8
      have hs : L + (tyL y 8).length ≤ 60 := by
        rw [hS, ← Int32.ofNat_add] at hle
        exact (i_le (a := L + (tyL y 8).length) (c := 60) (by omega) (by decide)).mp hle
      exact b_ty64 8 L 9 M' (bU S 0 0 0 0 0) (by omega) (by omega) (by rw [bU_f (by decide)]; exact hS) hs hM' kk
    · rw [oS1 h1, oA1 h1] at kk
      exact kk M' hM'
  exact b_ty6 h fin 8 0 9 (by omega) (by omega) (by omega)
end B51
