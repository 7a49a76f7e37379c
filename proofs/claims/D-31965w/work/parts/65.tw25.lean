/-! THE TWIN's go -/
def runL : List (Int32 × Nat) → bS → bS
  | [], S => S
  | x :: l, S => if eSt S x.1 = 0 then runL l (sStp S x.1 x.2) else sStp S x.1 x.2
def runE : List (Int32 × Nat) → bS → Int32
  | [], _ => 0
  | x :: l, S => if eSt S x.1 = 0 then runE l (sStp S x.1 x.2) else eSt S x.1
theorem run_app : ∀ (l l' : List (Int32 × Nat)) (S : bS), runL (l ++ l') S = (if runE l S = 0 then runL l' (runL l S) else runL l S) ∧ runE (l ++ l') S = (if runE l S = 0 then runE l' (runL l S) else runE l S)
  | [], l', S => ⟨rfl, rfl⟩
  | x :: l, l', S => by
    show (if eSt S x.1 = 0 then runL (l ++ l') (sStp S x.1 x.2) else sStp S x.1 x.2) = (if (if eSt S x.1 = 0 then runE l (sStp S x.1 x.2) else eSt S x.1) = 0 then runL l' (if eSt S x.1 = 0 then runL l (sStp S x.1 x.2) else sStp S x.1 x.2) else (if eSt S x.1 = 0 then runL l (sStp S x.1 x.2) else sStp S x.1 x.2)) ∧ (if eSt S x.1 = 0 then runE (l ++ l') (sStp S x.1 x.2) else eSt S x.1) = (if (if eSt S x.1 = 0 then runE l (sStp S x.1 x.2) else eSt S x.1) = 0 then runE l' (if eSt S x.1 = 0 then runL l (sStp S x.1 x.2) else sStp S x.1 x.2) else (if eSt S x.1 = 0 then runE l (sStp S x.1 x.2) else eSt S x.1))
    by_cases h : eSt S x.1 = 0
    · rw [if_pos h, if_pos h, if_pos h, if_pos h]
      exact run_app l l' _
    · rw [if_neg h, if_neg h, if_neg h, if_neg h, if_neg h, if_neg h]
      exact ⟨rfl, rfl⟩
/-- what a going needs -/
def gI (S : bS) : Prop := bIn (S 18 0 0 0) 0 60 = true ∧ vp_in (S 24 0 0 0) 8 ∧ bIn (S 23 (nn (S 24 0 0 0)) 0 0) 0 31 = true
theorem sStp_of (S : bS) (c : Int32) (k : Nat) : bOf [19, 20, 21, 23, 25, 26] S (sStp S c k) := by
  unfold sStp sStO
  split
  · exact (((bOf.U (by decide)).trans (bOf.U (by decide))).trans (bOf.U (by decide))).trans (bOf.U (by decide))
  · exact ((bOf.U (by decide)).trans (bOf.U (by decide))).trans (bOf.U (by decide))
theorem lt_of {L : List Nat} {S S' : bS} (h : bOf L S S') (h1 : 18 ∉ L) (h2 : 22 ∉ L) : lt S' = lt S := by
  funext p
  unfold lt
  rw [h 18 h1, h 22 h2]
theorem bIn_s {x : Int32} (h : bIn x 0 31 = true) (hn : ¬ x = 31) : bIn (x + 1) 0 31 = true := by
  obtain ⟨a0, a1⟩ := bIn_t h
  have n1 : nn x ≤ 31 := i_nle a0 a1
  have n2 : ¬ nn x = 31 := fun z => hn (by rw [i_of a0, z]; rfl)
  rw [i_of a0, i_s]
  unfold bIn
  rw [decide_eq_true (show (0 : Int32) ≤ Int32.ofNat (nn x + 1) from (i_le (a := 0) (by decide) (by omega)).mpr (by omega)), decide_eq_true (show Int32.ofNat (nn x + 1) ≤ (31 : Int32) from (i_le (c := 31) (by omega) (by decide)).mpr (by omega))]
  rfl
theorem gI_st {S : bS} (h : gI S) (c : Int32) (k : Nat) : gI (sStp S c k) := by
  have ho := sStp_of S c k
  unfold gI
  rw [ho 18 (by decide), ho 24 (by decide)]
  refine ⟨h.1, h.2.1, ?_⟩
  unfold sStp
  split
  · next e0 =>
    have hn : ¬ S 23 (nn (S 24 0 0 0)) 0 0 = 31 := fun z => by
      unfold eSt at e0
      rw [if_pos z] at e0
      exact absurd e0 (by decide)
    unfold sStO
    rw [bU_f (by decide), bU_f (by decide), bU_s]
    exact bIn_s h.2.2 hn
  · rw [bU_f (by decide), bU_f (by decide), bU_f (by decide)]
    exact h.2.2
theorem run_gI : ∀ (l : List (Int32 × Nat)) (S : bS), gI S → gI (runL l S)
  | [], _, h => h
  | x :: l, S, h => by
    show gI (if eSt S x.1 = 0 then runL l (sStp S x.1 x.2) else sStp S x.1 x.2)
    split
    · exact run_gI l _ (gI_st h _ _)
    · exact gI_st h _ _
theorem run_of : ∀ (l : List (Int32 × Nat)) (S : bS), bOf [19, 20, 21, 23, 25, 26] S (runL l S)
  | [], S => bOf.refl _ S
  | x :: l, S => by
    show bOf _ S (if eSt S x.1 = 0 then runL l (sStp S x.1 x.2) else sStp S x.1 x.2)
    split
    · exact (sStp_of _ _ _).trans (run_of l _)
    · exact sStp_of _ _ _
theorem rdT_3 (t : Nat → Int32) (n d q : Nat) (fl : List (Int32 × Nat)) (h : (rdT t (rdI t n d) q fl).1 = 0) : (rdT t (rdI t n d) q fl).2.2 = repL fl (ts t q) ++ (rdL t n d (nx t q)).2.2 := by
  rw [rdT_1] at h
  unfold rdT rdL
  unfold rdL at h
  by_cases hi : itemB (t (nx t q)) = true
  · rw [if_pos hi] at h ⊢
    rw [if_pos h, if_pos hi]
  · rw [if_neg hi, if_neg hi]
    show _ = _ ++ []
    rw [List.append_nil]
theorem ts_b {x : Int32} (h : bIn x 50 57 = true) : x - 48 = Int32.ofNat (nn (x - 48)) ∧ nn (x - 48) ≤ 9 := by
  obtain ⟨a0, a1⟩ := bIn_t h
  have e0 : (50 : Int) ≤ x.toInt := Int32.le_iff_toInt_le.mp a0
  have e1 : x.toInt ≤ (57 : Int) := Int32.le_iff_toInt_le.mp a1
  have s : (x - 48).toInt = x.toInt - 48 := by
    rw [Int32.toInt_sub]
    show (x.toInt - 48).bmod (2 ^ 32) = x.toInt - 48
    rw [Int.bmod_eq_of_le] <;> omega
  refine ⟨i_of (Int32.le_iff_toInt_le.mpr ?_), ?_⟩
  · rw [s]; show (0 : Int) ≤ _; omega
  · show (x - 48).toInt.toNat ≤ 9
    rw [s]; omega
section B65
variable {G : mG} {am : Nat} {ad : bA}
/-- what a call on the way does: it runs some steps -/
def unOk (am : Nat) (ad : bA) (T : bS) (u : List (Int32 × Nat)) (C : (Int32 → mM → Prop) → mM → Prop) : Prop := ∀ (K : Int32 → mM → Prop) (M : mM) (S : bS), bM M am ad S → gI S → S 18 = T 18 ∧ S 22 = T 22 → (∀ M', bM M' am ad (runL u S) → K (bI (decide (runE u S = 0))) M') → C K M
theorem b_go72 {m : Nat} {P : Int32 → mM → Prop} {K2 : Nat → mM → Nat → Int32 → Int32 → Prop} {b : Nat} {x2 x3 x4 x5 : Int32} {T : bS} {u : List (Int32 × Nat)} {N : Nat} (hN : N ≤ 9) (hu1 : ¬ x4 = x3 → unOk am ad T u fun K M => wR_X4_go m G 0 K M am (x3 + 1) x4) (hu2 : x4 = x3 → unOk am ad T u fun K M => wp_X4_step G 0 K M am x3) : ∀ (n j q : Nat) (M : mM) (S : bS), j + n = N → n < q → bM M am ad S → gI S → S 18 = T 18 ∧ S 22 = T 22 → (runE (repL u n) S = 0 → ∀ M', bM M' am ad (runL (repL u n) S) → K2 b M' am x2 (if x5 = 0 then x4 + 1 else x4 + 2)) → (¬ runE (repL u n) S = 0 → ∀ M', bM M' am ad (runL (repL u n) S) → P 0 M') → wl_X4_go_72 (wR_X4_go m) G P K2 q b M am x2 x3 x4 x5 (Int32.ofNat N) (Int32.ofNat j)
  | _, _, 0, _, _, _, hq, _, _, _, _, _ => absurd hq (Nat.not_lt_zero _)
  | 0, j, q + 1, M, S, hj, _, h, _, _, k0, _ => by
    have : j = N := by omega
    subst this
    have k0 := k0 rfl M h
    unfold wl_X4_go_72 wb_X4_go_132
    refine ⟨fun _ => ⟨fun z => ?_, fun z => ?_⟩, fun z => absurd (Int32.le_refl _) z⟩
    · rw [if_pos z] at k0; exact k0
    · rw [if_neg z] at k0; exact k0
  | n + 1, j, q + 1, M, S, hj, hq, h, hg, ht, k0, k1 => by
    have hlt : ¬ Int32.ofNat N ≤ Int32.ofNat j := fun z => absurd ((i_le (by omega) (by omega)).mp z) (by omega)
    have e1 := (run_app u (repL u n) S).1
    have e2 := (run_app u (repL u n) S).2
    rw [show repL u (n + 1) = u ++ repL u n from rfl, e1, e2] at k0 k1
    have nxt : ∀ M', runE u S = 0 → bM M' am ad (runL u S) → wl_X4_go_72 (wR_X4_go m) G P K2 q b M' am x2 x3 x4 x5 (Int32.ofNat N) (Int32.ofNat j + 1) := fun M' h0 hM' => by
      rw [if_pos h0, if_pos h0] at k0 k1
      rw [i_s]
      exact b_go72 hN hu1 hu2 n (j + 1) q M' (runL u S) (by omega) (by omega) hM' (run_gI u S hg) (by rw [run_of u S 18 (by decide), run_of u S 22 (by decide)]; exact ht) k0 k1
    have bad : ∀ M', ¬ runE u S = 0 → bM M' am ad (runL u S) → wb_X4_go_108 (wR_X4_go m) G P b M' := fun M' h0 hM' => by
      rw [if_neg h0, if_neg h0] at k1
      unfold wb_X4_go_108
      exact ⟨rfl, k1 h0 M' hM'⟩
    unfold wl_X4_go_72 wb_X4_go_110
    refine ⟨fun z => absurd z hlt, fun _ => ⟨fun z => ⟨h.isc, hu1 z _ M S h hg ht fun M' hM' => ?_⟩, fun z => ⟨h.isc, hu2 z _ M S h hg ht fun M' hM' => ?_⟩⟩⟩
    · refine ⟨fun w => nxt M' (of_decide_eq_true (bI1.mp w)) hM', fun w => bad M' (of_decide_eq_false (bI0.mp w)) hM'⟩
    · refine ⟨fun w => bad M' (of_decide_eq_false (bI0.mp w)) hM', fun w => nxt M' (of_decide_eq_true (bI1.mp w)) hM'⟩
end B65
