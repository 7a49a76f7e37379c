/-! LOOPS' COUNTERS; THE TWIN's DAYS -/
theorem i_le {a c : Nat} (ha : a < 2 ^ 31) (hc : c < 2 ^ 31) : Int32.ofNat a ≤ Int32.ofNat c ↔ a ≤ c := Int32.ofNat_le_ofNat ha hc
theorem i_nn {c : Nat} (hc : c < 2 ^ 31) : nn (Int32.ofNat c) = c := Int32.toNatClampNeg_ofNat_of_lt hc
theorem i_s (c : Nat) : Int32.ofNat c + 1 = Int32.ofNat (c + 1) := by
  rw [show (1 : Int32) = Int32.ofNat 1 from rfl, ← Int32.ofNat_add]
theorem i_vp {c n : Nat} (hc : c < 2 ^ 31) (h : c < n) : vp_in (Int32.ofNat c) n := by
  rintro (z | z)
  · have := (i_le (a := 0) (by decide) hc).mpr (Nat.zero_le c)
    exact absurd z (Int32.not_lt.mpr this)
  · rw [show (Int32.ofNat c).toNatClampNeg = c from i_nn hc] at z
    omega
/-- n times -/
def itN (f : Nat → bS → bS) : Nat → bS → bS
  | 0, S => S
  | n + 1, S => f n (itN f n S)
theorem itN_s {f : Nat → bS → bS} {n : Nat} {S : bS} : itN f (n + 1) S = f n (itN f n S) := rfl
def gDep (S : bS) (c : Nat) : Int32 := S 8 (nn (S 5 c 0 0)) 0 0 - S 3 c 0 0
def gNow (d : Int32) : Int32 := if 0 ≤ d then (if 2 ≤ d then (if d ≤ 2 then 0 else 3) else 2) else 1
def gSince (S : bS) (c : Nat) (now : Int32) : Int32 := if now = 0 then 0 else if now = S 6 c 0 0 then S 7 c 0 0 + 1 else 1
def gS1 (S : bS) (c : Nat) (now : Int32) : bS := bU (bU S 7 c 0 0 (gSince S c now)) 6 c 0 0 now
def gCov (S : bS) (c : Nat) (now : Int32) : bS :=
  if now = 2 then (if gSince S c now < 10 then gS1 S c now else bU (gS1 S c now) 4 c 0 0 1)
  else if now = 3 then (if gSince S c now < 10 then gS1 S c now else bU (gS1 S c now) 4 c 0 0 0)
  else if now = 1 then (if gSince S c now < 20 then gS1 S c now else bU (gS1 S c now) 4 c 0 0 2) else gS1 S c now
def sGrow (S : bS) (c : Nat) : bS := gCov S c (gNow (gDep S c))
theorem gS1_7 {S : bS} {c : Nat} {now : Int32} : gS1 S c now 7 c 0 0 = gSince S c now := by
  unfold gS1
  rw [bU_f (by decide), bU_s]
section B43
variable {G : mG} {b : Nat} {M : mM} {am : Nat} {ad : bA} {S : bS}
theorem t_grow_cov {x now : Int32} (hx : vp_in x 36) {P : mM → Prop} (kk : ∀ M', bM M' am ad (gCov S (nn x) now) → P M') (h : bM M am ad (gS1 S (nn x) now)) : (¬ now = 2 → wb_X4_grow_104 G P b M am x now) ∧ (now = 2 → gfa M am 3 7 fun u11 => ldi M 0 u11 x fun v12 => (v12 < 10 → wb_X4_grow_104 G P b M am x now) ∧ (¬ v12 < 10 → gfa M am 3 4 fun u13 => sti M 0 u13 x 1 fun M14 => wb_X4_grow_104 G P b M14 am x now)) := by
  unfold wb_X4_grow_104 wb_X4_grow_127 wb_X4_grow_150
  unfold gCov at kk
  refine ⟨fun h2 => ⟨fun h3 => ⟨fun h1 => ?_, fun h1 => ?_⟩, fun h3 => ?_⟩, fun h2 => ?_⟩
  · rw [if_neg h2, if_neg h3, if_neg h1] at kk
    exact kk _ h
  · rw [if_neg h2, if_neg h3, if_pos h1] at kk
    repeat (first
    | exact And.intro rfl (by assumption)
    | (refine ⟨bM.isc (by assumption), ?_⟩)
    | refine b_gfi (by assumption) (by decide) ?_
    | refine b_gfa (by assumption) (by decide) ?_
    | refine b_pfi (by assumption) (by decide) (fun M' hM' => ?_)
    | refine b_ld1 (by assumption) (by decide) (by first | assumption | fail) ?_
    | refine b_lda (by assumption) (by decide) (by first | assumption | fail) ?_
    | refine b_ld2 (by assumption) (by decide) (by first | assumption | exact bLt (by first | assumption | fail)) (by first | assumption | fail) ?_
    | refine b_lda2 (by assumption) (by decide) (by first | assumption | exact bLt (by first | assumption | fail)) (by first | assumption | fail) ?_
    | refine b_ld3 (by assumption) (by decide) (by first | assumption | exact bLt (by first | assumption | fail)) (by first | assumption | exact bLt (by first | assumption | fail)) (by first | assumption | fail) ?_
    | refine b_st1 (by assumption) (by decide) (by first | assumption | fail) (fun M' hM' => ?_)
    | refine b_st2 (by assumption) (by decide) (by first | assumption | exact bLt (by first | assumption | fail)) (by first | assumption | fail) (fun M' hM' => ?_)
    | refine b_st3 (by assumption) (by decide) (by first | assumption | exact bLt (by first | assumption | fail)) (by first | assumption | exact bLt (by first | assumption | fail)) (by first | assumption | fail) (fun M' hM' => ?_))
    rw [show gS1 S (nn x) now 7 x.toNatClampNeg 0 0 = gSince S (nn x) now from gS1_7]
    refine ⟨fun h4 => ?_, fun h4 => ?_⟩
    · rw [if_pos h4] at kk; exact kk _ h
    · rw [if_neg h4] at kk
      repeat (first
    | exact And.intro rfl (by assumption)
    | (refine ⟨bM.isc (by assumption), ?_⟩)
    | refine b_gfi (by assumption) (by decide) ?_
    | refine b_gfa (by assumption) (by decide) ?_
    | refine b_pfi (by assumption) (by decide) (fun M' hM' => ?_)
    | refine b_ld1 (by assumption) (by decide) (by first | assumption | fail) ?_
    | refine b_lda (by assumption) (by decide) (by first | assumption | fail) ?_
    | refine b_ld2 (by assumption) (by decide) (by first | assumption | exact bLt (by first | assumption | fail)) (by first | assumption | fail) ?_
    | refine b_lda2 (by assumption) (by decide) (by first | assumption | exact bLt (by first | assumption | fail)) (by first | assumption | fail) ?_
    | refine b_ld3 (by assumption) (by decide) (by first | assumption | exact bLt (by first | assumption | fail)) (by first | assumption | exact bLt (by first | assumption | fail)) (by first | assumption | fail) ?_
    | refine b_st1 (by assumption) (by decide) (by first | assumption | fail) (fun M' hM' => ?_)
    | refine b_st2 (by assumption) (by decide) (by first | assumption | exact bLt (by first | assumption | fail)) (by first | assumption | fail) (fun M' hM' => ?_)
    | refine b_st3 (by assumption) (by decide) (by first | assumption | exact bLt (by first | assumption | fail)) (by first | assumption | exact bLt (by first | assumption | fail)) (by first | assumption | fail) (fun M' hM' => ?_))
      exact kk _ (by assumption)
  · rw [if_neg h2, if_pos h3] at kk
    have h1 : ¬ now = 1 := fun z => by rw [z] at h3; exact absurd h3 (by decide)
    repeat (first
    | exact And.intro rfl (by assumption)
    | (refine ⟨bM.isc (by assumption), ?_⟩)
    | refine b_gfi (by assumption) (by decide) ?_
    | refine b_gfa (by assumption) (by decide) ?_
    | refine b_pfi (by assumption) (by decide) (fun M' hM' => ?_)
    | refine b_ld1 (by assumption) (by decide) (by first | assumption | fail) ?_
    | refine b_lda (by assumption) (by decide) (by first | assumption | fail) ?_
    | refine b_ld2 (by assumption) (by decide) (by first | assumption | exact bLt (by first | assumption | fail)) (by first | assumption | fail) ?_
    | refine b_lda2 (by assumption) (by decide) (by first | assumption | exact bLt (by first | assumption | fail)) (by first | assumption | fail) ?_
    | refine b_ld3 (by assumption) (by decide) (by first | assumption | exact bLt (by first | assumption | fail)) (by first | assumption | exact bLt (by first | assumption | fail)) (by first | assumption | fail) ?_
    | refine b_st1 (by assumption) (by decide) (by first | assumption | fail) (fun M' hM' => ?_)
    | refine b_st2 (by assumption) (by decide) (by first | assumption | exact bLt (by first | assumption | fail)) (by first | assumption | fail) (fun M' hM' => ?_)
    | refine b_st3 (by assumption) (by decide) (by first | assumption | exact bLt (by first | assumption | fail)) (by first | assumption | exact bLt (by first | assumption | fail)) (by first | assumption | fail) (fun M' hM' => ?_))
    rw [show gS1 S (nn x) now 7 x.toNatClampNeg 0 0 = gSince S (nn x) now from gS1_7]
    refine ⟨fun h4 => ⟨fun _ => ?_, fun z => absurd z h1⟩, fun h4 => ?_⟩
    · rw [if_pos h4] at kk; exact kk _ h
    · rw [if_neg h4] at kk
      repeat (first
    | exact And.intro rfl (by assumption)
    | (refine ⟨bM.isc (by assumption), ?_⟩)
    | refine b_gfi (by assumption) (by decide) ?_
    | refine b_gfa (by assumption) (by decide) ?_
    | refine b_pfi (by assumption) (by decide) (fun M' hM' => ?_)
    | refine b_ld1 (by assumption) (by decide) (by first | assumption | fail) ?_
    | refine b_lda (by assumption) (by decide) (by first | assumption | fail) ?_
    | refine b_ld2 (by assumption) (by decide) (by first | assumption | exact bLt (by first | assumption | fail)) (by first | assumption | fail) ?_
    | refine b_lda2 (by assumption) (by decide) (by first | assumption | exact bLt (by first | assumption | fail)) (by first | assumption | fail) ?_
    | refine b_ld3 (by assumption) (by decide) (by first | assumption | exact bLt (by first | assumption | fail)) (by first | assumption | exact bLt (by first | assumption | fail)) (by first | assumption | fail) ?_
    | refine b_st1 (by assumption) (by decide) (by first | assumption | fail) (fun M' hM' => ?_)
    | refine b_st2 (by assumption) (by decide) (by first | assumption | exact bLt (by first | assumption | fail)) (by first | assumption | fail) (fun M' hM' => ?_)
    | refine b_st3 (by assumption) (by decide) (by first | assumption | exact bLt (by first | assumption | fail)) (by first | assumption | exact bLt (by first | assumption | fail)) (by first | assumption | fail) (fun M' hM' => ?_))
      exact ⟨fun _ => kk _ (by assumption), fun z => absurd z h1⟩
  · rw [if_pos h2] at kk
    have h1 : ¬ now = 1 := fun z => by rw [z] at h2; exact absurd h2 (by decide)
    have h3 : ¬ now = 3 := fun z => by rw [z] at h2; exact absurd h2 (by decide)
    repeat (first
    | exact And.intro rfl (by assumption)
    | (refine ⟨bM.isc (by assumption), ?_⟩)
    | refine b_gfi (by assumption) (by decide) ?_
    | refine b_gfa (by assumption) (by decide) ?_
    | refine b_pfi (by assumption) (by decide) (fun M' hM' => ?_)
    | refine b_ld1 (by assumption) (by decide) (by first | assumption | fail) ?_
    | refine b_lda (by assumption) (by decide) (by first | assumption | fail) ?_
    | refine b_ld2 (by assumption) (by decide) (by first | assumption | exact bLt (by first | assumption | fail)) (by first | assumption | fail) ?_
    | refine b_lda2 (by assumption) (by decide) (by first | assumption | exact bLt (by first | assumption | fail)) (by first | assumption | fail) ?_
    | refine b_ld3 (by assumption) (by decide) (by first | assumption | exact bLt (by first | assumption | fail)) (by first | assumption | exact bLt (by first | assumption | fail)) (by first | assumption | fail) ?_
    | refine b_st1 (by assumption) (by decide) (by first | assumption | fail) (fun M' hM' => ?_)
    | refine b_st2 (by assumption) (by decide) (by first | assumption | exact bLt (by first | assumption | fail)) (by first | assumption | fail) (fun M' hM' => ?_)
    | refine b_st3 (by assumption) (by decide) (by first | assumption | exact bLt (by first | assumption | fail)) (by first | assumption | exact bLt (by first | assumption | fail)) (by first | assumption | fail) (fun M' hM' => ?_))
    rw [show gS1 S (nn x) now 7 x.toNatClampNeg 0 0 = gSince S (nn x) now from gS1_7]
    refine ⟨fun h4 => ⟨fun _ => ⟨fun _ => ?_, fun z => absurd z h1⟩, fun z => absurd z h3⟩, fun h4 => ?_⟩
    · rw [if_pos h4] at kk; exact kk _ h
    · rw [if_neg h4] at kk
      repeat (first
    | exact And.intro rfl (by assumption)
    | (refine ⟨bM.isc (by assumption), ?_⟩)
    | refine b_gfi (by assumption) (by decide) ?_
    | refine b_gfa (by assumption) (by decide) ?_
    | refine b_pfi (by assumption) (by decide) (fun M' hM' => ?_)
    | refine b_ld1 (by assumption) (by decide) (by first | assumption | fail) ?_
    | refine b_lda (by assumption) (by decide) (by first | assumption | fail) ?_
    | refine b_ld2 (by assumption) (by decide) (by first | assumption | exact bLt (by first | assumption | fail)) (by first | assumption | fail) ?_
    | refine b_lda2 (by assumption) (by decide) (by first | assumption | exact bLt (by first | assumption | fail)) (by first | assumption | fail) ?_
    | refine b_ld3 (by assumption) (by decide) (by first | assumption | exact bLt (by first | assumption | fail)) (by first | assumption | exact bLt (by first | assumption | fail)) (by first | assumption | fail) ?_
    | refine b_st1 (by assumption) (by decide) (by first | assumption | fail) (fun M' hM' => ?_)
    | refine b_st2 (by assumption) (by decide) (by first | assumption | exact bLt (by first | assumption | fail)) (by first | assumption | fail) (fun M' hM' => ?_)
    | refine b_st3 (by assumption) (by decide) (by first | assumption | exact bLt (by first | assumption | fail)) (by first | assumption | exact bLt (by first | assumption | fail)) (by first | assumption | fail) (fun M' hM' => ?_))
      exact ⟨fun _ => ⟨fun _ => kk _ (by assumption), fun z => absurd z h1⟩, fun z => absurd z h3⟩
theorem t_grow_73 (h : bM M am ad S) {x now t : Int32} (hx : vp_in x 36) (ht : t = gSince S (nn x) now) {P : mM → Prop} (kk : ∀ M', bM M' am ad (gCov S (nn x) now) → P M') : wb_X4_grow_73 G P b M am x now (ad 7 0 0 0) x t := by
  subst ht
  unfold wb_X4_grow_73
  repeat (first
    | exact And.intro rfl (by assumption)
    | (refine ⟨bM.isc (by assumption), ?_⟩)
    | refine b_gfi (by assumption) (by decide) ?_
    | refine b_gfa (by assumption) (by decide) ?_
    | refine b_pfi (by assumption) (by decide) (fun M' hM' => ?_)
    | refine b_ld1 (by assumption) (by decide) (by first | assumption | fail) ?_
    | refine b_lda (by assumption) (by decide) (by first | assumption | fail) ?_
    | refine b_ld2 (by assumption) (by decide) (by first | assumption | exact bLt (by first | assumption | fail)) (by first | assumption | fail) ?_
    | refine b_lda2 (by assumption) (by decide) (by first | assumption | exact bLt (by first | assumption | fail)) (by first | assumption | fail) ?_
    | refine b_ld3 (by assumption) (by decide) (by first | assumption | exact bLt (by first | assumption | fail)) (by first | assumption | exact bLt (by first | assumption | fail)) (by first | assumption | fail) ?_
    | refine b_st1 (by assumption) (by decide) (by first | assumption | fail) (fun M' hM' => ?_)
    | refine b_st2 (by assumption) (by decide) (by first | assumption | exact bLt (by first | assumption | fail)) (by first | assumption | fail) (fun M' hM' => ?_)
    | refine b_st3 (by assumption) (by decide) (by first | assumption | exact bLt (by first | assumption | fail)) (by first | assumption | exact bLt (by first | assumption | fail)) (by first | assumption | fail) (fun M' hM' => ?_))
  exact t_grow_cov hx kk (by assumption)
theorem t_grow_33 (h : bM M am ad S) {x now : Int32} (hx : vp_in x 36) {P : mM → Prop} (kk : ∀ M', bM M' am ad (gCov S (nn x) now) → P M') : wb_X4_grow_33 G P b M am x now := by
  unfold wb_X4_grow_33 wb_X4_grow_64
  refine b_gfa h (by decide) ⟨fun h0 => ⟨fun z => absurd h0 z, fun _ => t_grow_73 h hx ?_ kk⟩, fun h0 => ?_⟩
  · unfold gSince; rw [if_pos h0]
  · repeat (first
    | exact And.intro rfl (by assumption)
    | (refine ⟨bM.isc (by assumption), ?_⟩)
    | refine b_gfi (by assumption) (by decide) ?_
    | refine b_gfa (by assumption) (by decide) ?_
    | refine b_pfi (by assumption) (by decide) (fun M' hM' => ?_)
    | refine b_ld1 (by assumption) (by decide) (by first | assumption | fail) ?_
    | refine b_lda (by assumption) (by decide) (by first | assumption | fail) ?_
    | refine b_ld2 (by assumption) (by decide) (by first | assumption | exact bLt (by first | assumption | fail)) (by first | assumption | fail) ?_
    | refine b_lda2 (by assumption) (by decide) (by first | assumption | exact bLt (by first | assumption | fail)) (by first | assumption | fail) ?_
    | refine b_ld3 (by assumption) (by decide) (by first | assumption | exact bLt (by first | assumption | fail)) (by first | assumption | exact bLt (by first | assumption | fail)) (by first | assumption | fail) ?_
    | refine b_st1 (by assumption) (by decide) (by first | assumption | fail) (fun M' hM' => ?_)
    | refine b_st2 (by assumption) (by decide) (by first | assumption | exact bLt (by first | assumption | fail)) (by first | assumption | fail) (fun M' hM' => ?_)
    | refine b_st3 (by assumption) (by decide) (by first | assumption | exact bLt (by first | assumption | fail)) (by first | assumption | exact bLt (by first | assumption | fail)) (by first | assumption | fail) (fun M' hM' => ?_))
    refine ⟨fun h1 => ⟨fun _ => t_grow_73 h hx ?_ kk, fun z => absurd z h0⟩, fun h1 => ?_⟩
    · unfold gSince; rw [if_neg h0, if_neg h1]
    · refine b_gfa h (by decide) (b_ld1 h (by decide) hx (t_grow_73 h hx ?_ kk))
      unfold gSince; rw [if_neg h0, if_pos h1]
theorem t_grow (h : bM M am ad S) {x : Int32} (hx : vp_in x 36) (hp : vp_in (S 5 (nn x) 0 0) 4) {P : mM → Prop} (kk : ∀ M', bM M' am ad (sGrow S (nn x)) → P M') : wp_X4_grow G b P M am x := by
  unfold wp_X4_grow
  refine ⟨h.isc, b_depth h hx hp ⟨fun h1 => ⟨fun h2 => ⟨fun h3 => t_grow_33 h hx fun M' hM' => kk M' ?_, fun h3 => t_grow_33 h hx fun M' hM' => kk M' ?_⟩, fun h2 => t_grow_33 h hx fun M' hM' => kk M' ?_⟩, fun h1 => t_grow_33 h hx fun M' hM' => kk M' ?_⟩⟩
  · have e : gNow (gDep S (nn x)) = 0 := by unfold gNow; rw [if_pos (show (0 : Int32) ≤ gDep S (nn x) from h1), if_pos (show (2 : Int32) ≤ gDep S (nn x) from h2), if_pos (show gDep S (nn x) ≤ 2 from h3)]
    unfold sGrow; rw [e]; exact hM'
  · have e : gNow (gDep S (nn x)) = 3 := by unfold gNow; rw [if_pos (show (0 : Int32) ≤ gDep S (nn x) from h1), if_pos (show (2 : Int32) ≤ gDep S (nn x) from h2), if_neg (show ¬ gDep S (nn x) ≤ 2 from h3)]
    unfold sGrow; rw [e]; exact hM'
  · have e : gNow (gDep S (nn x)) = 2 := by unfold gNow; rw [if_pos (show (0 : Int32) ≤ gDep S (nn x) from h1), if_neg (show ¬ (2 : Int32) ≤ gDep S (nn x) from h2)]
    unfold sGrow; rw [e]; exact hM'
  · have e : gNow (gDep S (nn x)) = 1 := by unfold gNow; rw [if_neg (show ¬ (0 : Int32) ≤ gDep S (nn x) from h1)]
    unfold sGrow; rw [e]; exact hM'
end B43
