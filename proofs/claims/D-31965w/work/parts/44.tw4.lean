/-! THE TWIN's pass -/
theorem bU_bU {S : bS} {f i j k : Nat} {x y : Int32} : bU (bU S f i j k x) f i j k y = bU S f i j k y := by
  funext a b c d
  unfold bU
  by_cases h : a = f ∧ b = i ∧ c = j ∧ d = k
  · rw [if_pos h, if_pos h]
  · rw [if_neg h, if_neg h, if_neg h]
def sPond (S : bS) (p : Nat) : bS := bU S 8 p 0 0 (if (0 : Int32) < (if S 8 p 0 0 + S 9 p 0 0 < (9 : Int32) then S 8 p 0 0 + S 9 p 0 0 else (9 : Int32)) then (if S 8 p 0 0 + S 9 p 0 0 < (9 : Int32) then S 8 p 0 0 + S 9 p 0 0 else (9 : Int32)) else (0 : Int32))
def sFl1 (S : bS) (k : Nat) : bS := bU S 8 (nn (S 14 k 0 0)) 0 0 (S 8 (nn (S 14 k 0 0)) 0 0 - 1)
def sFl2 (S : bS) (k : Nat) : bS := if S 15 k 0 0 = -1 then sFl1 S k else bU (sFl1 S k) 8 (nn (S 15 k 0 0)) 0 0 (sFl1 S k 8 (nn (S 15 k 0 0)) 0 0 + 1)
def sFlow (S : bS) (k : Nat) : bS :=
  if S 17 k 0 0 = 0 then S else if S 8 (nn (S 14 k 0 0)) 0 0 ≤ S 16 k 0 0 then S else if S 15 k 0 0 = -1 then sFl2 S k
  else if S 8 (nn (S 14 k 0 0)) 0 0 ≤ S 8 (nn (S 15 k 0 0)) 0 0 then S else sFl2 S k
def sCell (S : bS) (c : Nat) : bS := if S 5 c 0 0 = -1 then S else sGrow S c
/-- the reserve is in order -/
def bW (S : bS) : Prop := (∀ c, c < 36 → S 5 c 0 0 = -1 ∨ vp_in (S 5 c 0 0) 4) ∧ bIn (S 13 0 0 0) 0 8 = true ∧ (∀ k, k < 8 → vp_in (S 14 k 0 0) 4) ∧ ∀ k, k < 8 → S 15 k 0 0 = -1 ∨ vp_in (S 15 k 0 0) 4
def bSm (S S' : bS) : Prop := ∀ f, f ∈ [5, 13, 14, 15] → S' f = S f
theorem bSm.refl (S : bS) : bSm S S := fun _ _ => rfl
theorem bSm.trans {S S' S'' : bS} (h : bSm S S') (h' : bSm S' S'') : bSm S S'' := fun f hf => (h' f hf).trans (h f hf)
theorem bSm.U {S : bS} {f i j k : Nat} {x : Int32} (h : f ∉ [5, 13, 14, 15]) : bSm S (bU S f i j k x) := fun g hg => by
  funext a b c
  exact bU_f fun z => h (z ▸ hg)
theorem bW.sm {S S' : bS} (h : bW S) (hs : bSm S S') : bW S' := by
  unfold bW
  rw [hs 5 (by decide), hs 13 (by decide), hs 14 (by decide), hs 15 (by decide)]
  exact h
theorem bSm_pond (S : bS) (p : Nat) : bSm S (sPond S p) := bSm.U (by decide)
theorem bSm_fl2 (S : bS) (k : Nat) : bSm S (sFl2 S k) := by
  unfold sFl2 sFl1
  split
  · exact bSm.U (by decide)
  · exact (bSm.U (by decide)).trans (bSm.U (by decide))
theorem bSm_flow (S : bS) (k : Nat) : bSm S (sFlow S k) := by
  unfold sFlow
  repeat (first | exact bSm.refl S | exact bSm_fl2 S k | split)
theorem bSm_grow (S : bS) (c : Nat) : bSm S (sGrow S c) := by
  have h1 : ∀ now, bSm S (gS1 S c now) := fun now => (bSm.U (by decide)).trans (bSm.U (by decide))
  unfold sGrow gCov
  repeat (first | exact h1 _ | exact (h1 _).trans (bSm.U (by decide)) | split)
theorem bSm_cell (S : bS) (c : Nat) : bSm S (sCell S c) := by
  unfold sCell
  split
  · exact bSm.refl S
  · exact bSm_grow S c
theorem bSm_it {f : Nat → bS → bS} (h : ∀ k S, bSm S (f k S)) (n : Nat) (S : bS) : bSm S (itN f n S) := by
  induction n with
  | zero => exact bSm.refl S
  | succ n ih => exact ih.trans (h _ _)
/-- from the k-th on -/
def itF (f : Nat → bS → bS) : Nat → Nat → bS → bS
  | _, 0, S => S
  | k, n + 1, S => itF f (k + 1) n (f k S)
theorem itF_end (f : Nat → bS → bS) : ∀ n k S, itF f k (n + 1) S = f (k + n) (itF f k n S)
  | 0, k, S => rfl
  | n + 1, k, S => by
    show itF f (k + 1) (n + 1) (f k S) = _
    rw [itF_end f n (k + 1) (f k S), show k + 1 + n = k + (n + 1) by omega]
    rfl
theorem itF_it (f : Nat → bS → bS) : ∀ n S, itF f 0 n S = itN f n S
  | 0, _ => rfl
  | n + 1, S => by rw [itF_end, itF_it f n S, Nat.zero_add]; rfl
theorem bSm_itF {f : Nat → bS → bS} (h : ∀ k S, bSm S (f k S)) : ∀ (n k : Nat) (S : bS), bSm S (itF f k n S)
  | 0, _, S => bSm.refl S
  | n + 1, k, S => (h k S).trans (bSm_itF h n (k + 1) (f k S))
def fPond (p : Nat) (S : bS) : bS := sPond S p
def fFlow (k : Nat) (S : bS) : bS := sFlow S k
def fCell (c : Nat) (S : bS) : bS := sCell S c
def sDay (S : bS) : bS := itN fCell 36 (itN fFlow (nn (S 13 0 0 0)) (itN fPond 4 S))
theorem bSm_day (S : bS) : bSm S (sDay S) := ((bSm_it (f := fPond) (fun _ _ => bSm_pond _ _) _ _).trans (bSm_it (f := fFlow) (fun _ _ => bSm_flow _ _) _ _)).trans (bSm_it (f := fCell) (fun _ _ => bSm_cell _ _) _ _)
section B44
variable {G : mG} {b : Nat} {am : Nat} {ad : bA}
theorem t_pass_225 {P : Int32 → mM → Prop} {K57 : Nat → mM → Nat → Int32 → Int32 → Prop} {x1 x2 : Int32} : ∀ (n c q : Nat) (M : mM) (S : bS), c + n = 36 → n < q → bM M am ad S → bW S → (∀ M', bM M' am ad (itF fCell c n S) → K57 b M' am x1 (x2 + 1)) → wl_X4_pass_225 G P K57 q b M am x1 x2 (Int32.ofNat c)
  | _, _, 0, _, _, _, hq, _, _, _ => absurd hq (Nat.not_lt_zero _)
  | 0, c, q + 1, M, S, hc, _, h, _, kk => by
    unfold wl_X4_pass_225
    exact ⟨fun _ => kk M h, fun z => absurd ((i_le (a := 36) (by decide) (by omega)).mpr (by omega)) z⟩
  | n + 1, c, q + 1, M, S, hc, hq, h, hW, kk => by
    have hx : vp_in (Int32.ofNat c) 36 := i_vp (by omega) (by omega)
    have e : nn (Int32.ofNat c) = c := i_nn (by omega)
    have hlt : ¬ (36 : Int32) ≤ Int32.ofNat c := fun z => absurd ((i_le (a := 36) (by decide) (by omega)).mp z) (by omega)
    have ih : ∀ M', bM M' am ad (sCell S c) → wl_X4_pass_225 G P K57 q b M' am x1 x2 (Int32.ofNat c + 1) := fun M' hM' => by
      rw [i_s]
      exact t_pass_225 n (c + 1) q M' (sCell S c) (by omega) (by omega) hM' (hW.sm (bSm_cell S c)) kk
    unfold wl_X4_pass_225 wb_X4_pass_246
    refine ⟨fun z => absurd z hlt, fun _ => b_gfa h (by decide) (b_ld1 h (by decide) hx ⟨fun h1 => ih M ?_, fun h1 => ⟨h.isc, t_grow h hx ?_ fun M' hM' => ih M' ?_⟩⟩)⟩
    · rw [show (Int32.ofNat c).toNatClampNeg = c from e] at h1
      unfold sCell; rw [if_pos h1]; exact h
    · rw [show (Int32.ofNat c).toNatClampNeg = c from e] at h1
      rw [e]
      exact (hW.1 c (by omega)).resolve_left h1
    · rw [show (Int32.ofNat c).toNatClampNeg = c from e] at h1
      rw [e] at hM'
      unfold sCell; rw [if_neg h1]; exact hM'
theorem t_pass_64 {P : Int32 → mM → Prop} {K57 : Nat → mM → Nat → Int32 → Int32 → Prop} {x1 x2 : Int32} : ∀ (n c q : Nat) (M : mM) (S : bS), c + n = 4 → n < q → bM M am ad S → (∀ M', bM M' am ad (itF fPond c n S) → ∃ n105, wl_X4_pass_105 G P K57 n105 b M' am x1 x2 0) → wl_X4_pass_64 G P K57 q b M am x1 x2 (Int32.ofNat c)
  | _, _, 0, _, _, _, hq, _, _ => absurd hq (Nat.not_lt_zero _)
  | 0, c, q + 1, M, S, hc, _, h, kk => by
    unfold wl_X4_pass_64
    exact ⟨fun _ => kk M h, fun z => absurd ((i_le (a := 4) (by decide) (by omega)).mpr (by omega)) z⟩
  | n + 1, c, q + 1, M, S, hc, hq, h, kk => by
    have hx : vp_in (Int32.ofNat c) 4 := i_vp (by omega) (by omega)
    have e : (Int32.ofNat c).toNatClampNeg = c := i_nn (by omega)
    have hlt : ¬ (4 : Int32) ≤ Int32.ofNat c := fun z => absurd ((i_le (a := 4) (by decide) (by omega)).mp z) (by omega)
    unfold wl_X4_pass_64
    refine ⟨fun z => absurd z hlt, fun _ => ?_⟩
    refine b_gfa h (by decide) (b_gfa h (by decide) (b_ld1 h (by decide) hx (b_gfa h (by decide) (b_ld1 h (by decide) hx ?_))))
    intro g16 e16 g17 e17
    refine b_st1 h (by decide) hx fun M' hM' => ?_
    rw [i_s]
    refine t_pass_64 n (c + 1) q M' (sPond S c) (by omega) (by omega) ?_ kk
    subst e17
    subst e16
    rw [e] at hM'
    exact hM'
theorem t_pass_177 {P : Int32 → mM → Prop} {K57 : Nat → mM → Nat → Int32 → Int32 → Prop} {K105 : Nat → mM → Nat → Int32 → Int32 → Int32 → Prop} {x1 x2 x3 : Int32} {M : mM} {S : bS} (h : bM M am ad S) (hx : vp_in x3 8) (hW : bW S) (kk : ∀ M', bM M' am ad (sFl2 S (nn x3)) → K105 b M' am x1 x2 (x3 + 1)) : wb_X4_pass_177 G P K57 K105 b M am x1 x2 x3 := by
  have h14 : vp_in (S 14 (nn x3) 0 0) 4 := hW.2.2.1 _ (bLt hx)
  unfold wb_X4_pass_177 wb_X4_pass_217
  refine b_gfa h (by decide) (b_gfa h (by decide) (b_ld1 h (by decide) hx (b_ld1 h (by decide) h14 (b_st1 h (by decide) h14 fun M' hM' => ?_))))
  refine b_gfa hM' (by decide) (b_ld1 hM' (by decide) hx ⟨fun h1 => kk _ ?_, fun h1 => ?_⟩)
  · have h2 : S 15 (nn x3) 0 0 = -1 := h1
    unfold sFl2; rw [if_pos h2]; exact hM'
  · have h2 : ¬ S 15 (nn x3) 0 0 = -1 := h1
    have h15 : vp_in (S 15 (nn x3) 0 0) 4 := (hW.2.2.2 _ (bLt hx)).resolve_left h2
    refine b_gfa hM' (by decide) (b_gfa hM' (by decide) (b_ld1 hM' (by decide) hx (b_ld1 hM' (by decide) h15 (b_st1 hM' (by decide) h15 fun M'' hM'' => kk _ ?_))))
    unfold sFl2; rw [if_neg h2]; exact hM''
theorem t_pass_105 {P : Int32 → mM → Prop} {K57 : Nat → mM → Nat → Int32 → Int32 → Prop} {x1 x2 : Int32} {N : Nat} (hN : N ≤ 8) : ∀ (n c q : Nat) (M : mM) (S : bS), c + n = N → n < q → bM M am ad S → bW S → S 13 0 0 0 = Int32.ofNat N → (∀ M', bM M' am ad (itF fFlow c n S) → ∃ n225, wl_X4_pass_225 G P K57 n225 b M' am x1 x2 0) → wl_X4_pass_105 G P K57 q b M am x1 x2 (Int32.ofNat c)
  | _, _, 0, _, _, _, hq, _, _, _, _ => absurd hq (Nat.not_lt_zero _)
  | 0, c, q + 1, M, S, hc, _, h, _, hs, kk => by
    unfold wl_X4_pass_105
    refine b_gfi h (by decide) ?_
    rw [hs]
    exact ⟨fun _ => kk M h, fun z => absurd ((i_le (by omega) (by omega)).mpr (by omega)) z⟩
  | n + 1, c, q + 1, M, S, hc, hq, h, hW, hs, kk => by
    have hx : vp_in (Int32.ofNat c) 8 := i_vp (by omega) (by omega)
    have e : nn (Int32.ofNat c) = c := i_nn (by omega)
    have e' : (Int32.ofNat c).toNatClampNeg = c := e
    have hlt : ¬ Int32.ofNat N ≤ Int32.ofNat c := fun z => absurd ((i_le (by omega) (by omega)).mp z) (by omega)
    have ih : ∀ M', bM M' am ad (sFlow S c) → wl_X4_pass_105 G P K57 q b M' am x1 x2 (Int32.ofNat c + 1) := fun M' hM' => by
      rw [i_s]
      exact t_pass_105 hN n (c + 1) q M' (sFlow S c) (by omega) (by omega) hM' (hW.sm (bSm_flow S c)) (by rw [bSm_flow S c 13 (by decide)]; exact hs) kk
    have h14 : vp_in (S 14 c 0 0) 4 := hW.2.2.1 _ (by omega)
    unfold wl_X4_pass_105
    refine b_gfi h (by decide) ?_
    rw [hs]
    refine ⟨fun z => absurd z hlt, fun _ => b_gfa h (by decide) (b_ld1 h (by decide) hx ?_)⟩
    rw [e']
    refine ⟨fun h1 => ih M (by unfold sFlow; rw [if_pos h1]; exact h), fun h1 => b_gfa h (by decide) (b_gfa h (by decide) (b_ld1 h (by decide) hx ?_))⟩
    rw [e']
    refine b_ld1 h (by decide) h14 (b_gfa h (by decide) (b_ld1 h (by decide) hx ?_))
    rw [e']
    refine ⟨fun h2 => ih M (by unfold sFlow; rw [if_neg h1, if_pos h2]; exact h), fun h2 => b_gfa h (by decide) (b_ld1 h (by decide) hx ?_)⟩
    rw [e']
    refine ⟨fun h3 => t_pass_177 h hx hW fun M' hM' => ih M' (by unfold sFlow; rw [if_neg h1, if_neg h2, if_pos h3]; rw [e] at hM'; exact hM'), fun h3 => b_gfa h (by decide) (b_gfa h (by decide) (b_ld1 h (by decide) hx ?_))⟩
    rw [e']
    refine b_ld1 h (by decide) h14 (b_gfa h (by decide) (b_gfa h (by decide) (b_ld1 h (by decide) hx ?_)))
    rw [e']
    refine b_ld1 h (by decide) ((hW.2.2.2 c (by omega)).resolve_left h3) ⟨fun h4 => ih M (by unfold sFlow; rw [if_neg h1, if_neg h2, if_neg h3, if_pos h4]; exact h), fun h4 => t_pass_177 h hx hW fun M' hM' => ih M' (by unfold sFlow; rw [if_neg h1, if_neg h2, if_neg h3, if_neg h4]; rw [e] at hM'; exact hM')⟩
end B44
