/-! THE TWIN's end -/
def eEnd (S : bS) (w : Int32) : Int32 := bE (eWalk S w) (!decide (S 34 (nn w) 0 0 = 0)) false
def manyN (S : bS) (w : Int32) : Nat → Int32
  | 0 => 0
  | n + 1 => if S 36 n 0 0 = w then manyN S w n + S 40 n 0 0 else manyN S w n
def sTellC (w : Nat) (sh : Int32) (c : Nat) (S : bS) : bS := itN (sTell w c sh) 4 S
def sTells (S : bS) (w : Nat) (sh : Int32) : bS := itN (sTellC w sh) 36 S
def sDone (S : bS) (w : Int32) : bS := sAdd (sTells S (nn w) (share S (S 30 (nn w) 0 0))) w
def sEnd (S : bS) (w d : Int32) : bS := if d = 0 then bU (sDone (z0 S) w) 34 (nn w) 0 0 1 else bU (z0 S) 34 (nn w) 0 0 2
theorem sTellC_of (w : Nat) (sh : Int32) (c : Nat) (S : bS) : bOf [45, 46] S (sTellC w sh c S) := bOf.it (sTell_of w c sh) 4 S
theorem sTells_of (S : bS) (w : Nat) (sh : Int32) : bOf [45, 46] S (sTells S w sh) := bOf.it (sTellC_of w sh) 36 S
section B57
variable {G : mG} {b : Nat} {am : Nat} {ad : bA}
theorem b_end111 {P : Int32 → mM → Prop} {K101 : Nat → mM → Nat → Int32 → Int32 → Int32 → Int32 → Int32 → Prop} {x1 x2 x3 x4 x5 : Int32} (h1 : vp_in x1 40) (h5 : vp_in x5 36) : ∀ (n c q : Nat) (M : mM) (S : bS), c + n = 4 → n < q → bM M am ad S → bX S → bQ S → (∀ M', bM M' am ad (itF (sTell (nn x1) (nn x5) x4) c n S) → K101 b M' am x1 x2 x3 x4 (x5 + 1)) → wl_X4_end_111 G P K101 q b M am x1 x2 x3 x4 x5 (Int32.ofNat c)
  | _, _, 0, _, _, _, hq, _, _, _, _ => absurd hq (Nat.not_lt_zero _)
  | 0, c, q + 1, M, S, hc, _, h, _, _, kk => by
    unfold wl_X4_end_111
    exact ⟨fun _ => kk M h, fun z => absurd ((i_le (a := 4) (by decide) (by omega)).mpr (by omega)) z⟩
  | n + 1, c, q + 1, M, S, hc, hq, h, hX, hQ, kk => by
    have hx : vp_in (Int32.ofNat c) 4 := i_vp (by omega) (by omega)
    have e : nn (Int32.ofNat c) = c := i_nn (by omega)
    have hlt : ¬ (4 : Int32) ≤ Int32.ofNat c := fun z => absurd ((i_le (a := 4) (by decide) (by omega)).mp z) (by omega)
    have ho := sTell_of (nn x1) (nn x5) x4 c S
    unfold wl_X4_end_111
    refine ⟨fun z => absurd z hlt, fun _ => ⟨h.isc, b_tell h hX hQ h1 h5 hx fun M' hM' => ?_⟩⟩
    rw [e] at hM'
    rw [i_s]
    exact b_end111 h1 h5 n (c + 1) q M' _ (by omega) (by omega) hM' (hX.of ho (by decide)) (hQ.of ho (by decide)) kk
theorem b_end145 {P : Int32 → mM → Prop} {M : mM} {S : bS} (h : bM M am ad S) {x1 x2 x3 : Int32} (h1 : vp_in x1 40) (kk : ∀ M', bM M' am ad (bU S 34 (nn x1) 0 0 (if x2 = 0 then 1 else 2)) → P x3 M') : wb_X4_end_145 G P b M am x1 x2 x3 := by
  unfold wb_X4_end_145 wb_X4_end_159
  refine b_gfa h (by decide) ⟨fun z => b_st1 h (by decide) h1 fun M' hM' => kk M' ?_, fun z => b_st1 h (by decide) h1 fun M' hM' => kk M' ?_⟩
  · rw [if_pos z]; exact hM'
  · rw [if_neg z]; exact hM'
theorem b_end101 {P : Int32 → mM → Prop} {x1 x2 x3 x4 : Int32} (h1 : vp_in x1 40) : ∀ (n c q : Nat) (M : mM) (S : bS), c + n = 36 → n < q → bM M am ad S → bX S → bQ S → bNt S → (∀ M', bM M' am ad (itF (sTellC (nn x1) x4) c n S) → wp_X4_add G 0 (fun M19 => wb_X4_end_145 G P b M19 am x1 x2 x3) M' am x1) → wl_X4_end_101 G P q b M am x1 x2 x3 x4 (Int32.ofNat c)
  | _, _, 0, _, _, _, hq, _, _, _, _, _ => absurd hq (Nat.not_lt_zero _)
  | 0, c, q + 1, M, S, hc, _, h, _, _, _, kk => by
    unfold wl_X4_end_101
    exact ⟨fun _ => ⟨h.isc, kk M h⟩, fun z => absurd ((i_le (a := 36) (by decide) (by omega)).mpr (by omega)) z⟩
  | n + 1, c, q + 1, M, S, hc, hq, h, hX, hQ, hN, kk => by
    have hx : vp_in (Int32.ofNat c) 36 := i_vp (by omega) (by omega)
    have e : nn (Int32.ofNat c) = c := i_nn (by omega)
    have ho := sTellC_of (nn x1) x4 c S
    unfold wl_X4_end_101
    refine ⟨fun z => absurd z (nlt36 (by omega)), fun _ => ⟨5, b_end111 h1 hx 4 0 5 M S (by omega) (by omega) h hX hQ fun M' hM' => ?_⟩⟩
    rw [itF_it, e] at hM'
    rw [i_s]
    exact b_end101 h1 n (c + 1) q M' (sTellC (nn x1) x4 c S) (by omega) (by omega) hM' (hX.of ho (by decide)) (hQ.of ho (by decide)) (hN.of ho (by decide)) kk
theorem b_end58 {P : Int32 → mM → Prop} {M : mM} {S : bS} (h : bM M am ad S) (hX : bX S) (hQ : bQ S) (hNt : bNt S) {x1 x2 x4 : Int32} (h1 : vp_in x1 40) {N : Nat} (hN : N ≤ 200) (hs : S 29 0 0 0 = Int32.ofNat N) (kk : ∀ M', bM M' am ad (if x2 = 0 then bU (sAdd (sTells S (nn x1) x4) x1) 34 (nn x1) 0 0 1 else bU S 34 (nn x1) 0 0 2) → P (manyN S x1 N) M') : ∀ (n c q : Nat), c + n = N → n < q → wl_X4_end_58 G P q b M am x1 x2 (manyN S x1 c) x4 (Int32.ofNat c)
  | _, _, 0, _, hq => absurd hq (Nat.not_lt_zero _)
  | 0, c, q + 1, hc, _ => by
    have : c = N := by omega
    subst this
    unfold wl_X4_end_58
    refine b_gfi h (by decide) ?_
    rw [hs]
    refine ⟨fun _ => ⟨fun z => b_end145 h h1 fun M' hM' => kk M' ?_, fun z => ⟨37, b_end101 h1 36 0 37 M S (by omega) (by omega) h hX hQ hNt fun M' hM' => ?_⟩⟩, fun z => absurd (Int32.le_refl _) z⟩
    · rw [if_neg z] at hM' ⊢
      exact hM'
    · rw [itF_it] at hM'
      have ho := sTells_of S (nn x1) x4
      refine b_add hM' (hX.of ho (by decide)) (hNt.of ho (by decide)) h1 fun M2 hM2 => b_end145 hM2 h1 fun M3 hM3 => kk M3 ?_
      rw [if_pos z] at hM3 ⊢
      exact hM3
  | n + 1, c, q + 1, hc, hq => by
    have hx : vp_in (Int32.ofNat c) 200 := i_vp (by omega) (by omega)
    have e : nn (Int32.ofNat c) = c := i_nn (by omega)
    have hlt : ¬ Int32.ofNat N ≤ Int32.ofNat c := fun z => absurd ((i_le (by omega) (by omega)).mp z) (by omega)
    have ih := b_end58 (P := P) h hX hQ hNt h1 hN hs kk n (c + 1) q (by omega) (by omega)
    rw [show manyN S x1 (c + 1) = (if S 36 c 0 0 = x1 then manyN S x1 c + S 40 c 0 0 else manyN S x1 c) from rfl] at ih
    unfold wl_X4_end_58 wb_X4_end_88
    refine b_gfi h (by decide) ?_
    rw [hs, i_s]
    refine ⟨fun z => absurd z hlt, fun _ => b_gfa h (by decide) (b_ld1 h (by decide) hx ?_)⟩
    rw [show (Int32.ofNat c).toNatClampNeg = c from e]
    refine ⟨fun z => ?_, fun z => b_gfa h (by decide) (b_ld1 h (by decide) hx ?_)⟩
    · rw [if_neg z] at ih
      exact ih
    · rw [show (Int32.ofNat c).toNatClampNeg = c from e]
      rw [if_pos z] at ih
      exact ih
theorem t_end {M : mM} {S : bS} (h : bM M am ad S) (hX : bX S) (hQ : bQ S) (hNt : bNt S) {w d : Int32} {K : Int32 → mM → Prop} (kk : ∀ M', bM M' am ad (oS (eEnd S w) S (sEnd S w d)) → K (oA (eEnd S w) (manyN S w (nn (S 29 0 0 0)))) M') : wp_X4_end G b K M am w d := by
  have hm : ∀ n, manyN (z0 S) w n = manyN S w n := by
    intro n
    induction n with
    | zero => rfl
    | succ n ih => unfold manyN; rw [ih]; rfl
  have f2 : ∀ (M : mM) (hw : vp_in w 40) (u : Bool), eWalk S w = false → u = (!decide (S 34 (nn w) 0 0 = 0)) → bM M am ad (z0 S) → wb_X4_end_32 G K b M am w d am 0 (bI u) := by
    intro M hw u hew hu h
    have he : eEnd S w = bE false u false := by unfold eEnd; rw [hew, hu]
    rw [he] at kk
    unfold wb_X4_end_32
    refine ⟨h.isc, b_chk (p := false) (r := false) h (fun _ _ => rfl) (fun _ h2 _ M' hM' => ?_) (fun h1 M' hM' => ?_)⟩
    · rw [h2] at kk
      rw [show bU (z0 S) 0 0 0 0 0 = z0 S from bU_bU] at hM'
      obtain ⟨d0, d1⟩ := bIn_t hX.2.2.2.1
      have hXz : bX (z0 S) := hX
      refine b_gfa hM' (by decide) (b_ld1 hM' (by decide) hw ⟨hM'.isc, b_share hM' hXz ⟨_, b_end58 hM' hXz (show bQ (z0 S) from hQ) (show bNt (z0 S) from hNt) hw (N := nn (S 29 0 0 0)) (i_nle d0 d1) (i_of d0) (fun M2 hM2 => ?_) (nn (S 29 0 0 0)) 0 _ (Nat.zero_add _) (Nat.lt_succ_self _)⟩⟩)
      rw [hm]
      refine kk M2 ?_
      rw [show bE false false false = 0 from rfl, oS0]
      unfold sEnd sDone
      exact hM2
    · rw [oS1 h1, oA1 h1] at kk
      rw [show bU (z0 S) 0 0 0 0 (bE false u false) = bU S 0 0 0 0 (bE false u false) from bU_bU] at hM'
      exact kk M' hM'
  unfold wp_X4_end
  refine ⟨h.isc, b_noWalk h ⟨h.isc, b_chk (q := false) (r := false) h (fun _ _ => rfl) (fun h1 _ _ M' hM' => ?_) (fun h1 M' hM' => ?_)⟩⟩
  · have hw := (b_inN (n := 40) (not_f h1) hX.2.2.1 (by decide)).1
    exact b_gfa hM' (by decide) (b_ld1 hM' (by decide) hw ⟨fun z => f2 M' hw false h1 (by rw [decide_eq_true (p := S 34 (nn w) 0 0 = 0) z]; rfl) hM', fun z => f2 M' hw true h1 (by rw [decide_eq_false (p := S 34 (nn w) 0 0 = 0) z]; rfl) hM'⟩)
  · have ht := bE_1 h1
    have he : eEnd S w = 1 := by unfold eEnd; rw [ht]; rfl
    rw [he, oS1 (by decide), oA1 (by decide)] at kk
    rw [ht] at hM'
    exact kk M' hM'
end B57
