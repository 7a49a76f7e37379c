/-! THE TWIN's meanDoubt, doneShare -/
theorem fl_enc (s : Bool) (c : Nat) (q : Int) (hc : c < 2 ^ 53) (hq : q ≤ 971) : FP.Core.encode FP.Core.b64 (.fin s c q) % 2 ^ 63 ≤ 9218868437227405312 := by
  show (if c < 4503599627370496 then (s.toNat * 2048 + 0) * 4503599627370496 + c else (s.toNat * 2048 + ((q - (-1074)).toNat + 1)) * 4503599627370496 + (c - 4503599627370496)) % 2 ^ 63 ≤ 9218868437227405312
  have hs : s.toNat = 0 ∨ s.toNat = 1 := by cases s <;> simp
  split
  · rcases hs with h | h <;> rw [h] <;> omega
  · have : (q - (-1074)).toNat ≤ 2045 := by omega
    rcases hs with h | h <;> rw [h] <;> omega
theorem fl_inf (s : Bool) : FP.Core.encode FP.Core.b64 (.inf s) % 2 ^ 63 ≤ 9218868437227405312 := by cases s <;> decide
theorem fl_bound (s : Bool) (c : Nat) (q : Int) (hc : c < 2 ^ 53) : FP.Core.encode FP.Core.b64 (FP.Core.bound FP.Core.b64 s c q) % 2 ^ 63 ≤ 9218868437227405312 := by
  unfold FP.Core.bound
  split
  · next h => exact fl_enc s c q hc h
  · exact fl_inf s
theorem fl_ratio (s : Bool) (n d : Nat) (e : Int) : FP.Core.encode FP.Core.b64 (FP.Core.roundRatio FP.Core.b64 s n d e) % 2 ^ 63 ≤ 9218868437227405312 := by
  unfold FP.Core.roundRatio FP.Core.roundAt FP.Core.settle
  split
  · exact fl_enc s 0 _ (by decide) (by decide)
  · split
    · next h => exact fl_bound s _ _ h
    · exact fl_bound s _ _ (by decide)
theorem fl_dec (n : Nat) (h : n % 2 ^ 63 ≤ 9218868437227405312) : FP.Core.decode FP.Core.b64 n ≠ .nan := by
  show (if n / 4503599627370496 % 2048 = 2047 then (if n % 4503599627370496 = 0 then FP.Core.Datum.inf _ else .nan) else if n / 4503599627370496 % 2048 = 0 then .fin _ _ _ else .fin _ _ _) ≠ .nan
  split
  · have : n % 4503599627370496 = 0 := by omega
    rw [if_pos this]
    exact fun z => FP.Core.Datum.noConfusion z
  · split <;> exact fun z => FP.Core.Datum.noConfusion z
theorem fl_div (a : FP.Core.Datum) (h : a ≠ .nan) (d : Nat) (hd : d ≠ 0) (r : Int) : FP.Core.encode FP.Core.b64 (FP.Core.quotient FP.Core.b64 a (.fin false d r)) % 2 ^ 63 ≤ 9218868437227405312 := by
  cases a with
  | nan => exact absurd rfl h
  | inf s => exact fl_inf _
  | fin s c q =>
    show FP.Core.encode FP.Core.b64 (if d = 0 then _ else FP.Core.roundRatio FP.Core.b64 _ c d (q - r)) % 2 ^ 63 ≤ _
    rw [if_neg hd]
    exact fl_ratio _ _ _ _
theorem md_num (v : Int64) : vf_n64 (FP.ddiv (FP.l2d v) (4639270566145032192 : UInt64)) := by
  have hx : (FP.Core.l2d v).toNat % 2 ^ 63 ≤ 9218868437227405312 := by
    have := fl_ratio (decide (v.toInt < 0)) v.toInt.natAbs 1 0
    show (FP.Core.encode FP.Core.b64 (FP.Core.roundRatio FP.Core.b64 (decide (v.toInt < 0)) v.toInt.natAbs 1 0)) % 2 ^ 64 % 2 ^ 63 ≤ _
    omega
  have hd : ∃ d r, d ≠ 0 ∧ FP.Core.decode FP.Core.b64 (4639270566145032192 : UInt64).toNat = .fin false d r := ⟨_, _, by decide, rfl⟩
  obtain ⟨d, r, hd0, hd⟩ := hd
  have key := fl_div _ (fl_dec _ hx) d hd0 r
  rw [← hd] at key
  unfold vf_n64
  rw [UInt64.le_iff_toNat_le, UInt64.toNat_and, show (0x7fffffffffffffff : UInt64).toNat = 2 ^ 63 - 1 from rfl, Nat.and_two_pow_sub_one_eq_mod]
  show (FP.Core.encode FP.Core.b64 (FP.Core.quotient FP.Core.b64 (FP.Core.decode FP.Core.b64 (FP.Core.l2d v).toNat) (FP.Core.decode FP.Core.b64 (4639270566145032192 : UInt64).toNat))) % 2 ^ 64 % 2 ^ 63 ≤ 9218868437227405312
  omega
theorem ds_num0 : ∀ v : Nat, v < 41 → ∀ w : Nat, w < 41 → ¬ w = 0 → (FP.fdiv (FP.i2f (Int32.ofNat v)) (FP.i2f (Int32.ofNat w))) &&& 0x7fffffff ≤ 0x7f800000 := by decide +kernel
def doneN (S : bS) : Nat → Int32
  | 0 => 0
  | n + 1 => if S 34 n 0 0 = 1 then doneN S n + 1 else doneN S n
def aDone (S : bS) : UInt32 := if S 28 0 0 0 = 0 then FP.fconst0 else FP.fdiv (FP.i2f (doneN S (nn (S 28 0 0 0)))) (FP.i2f (S 28 0 0 0))
def aMean (S : bS) : UInt64 := FP.ddiv (FP.l2d (mdN S 36)) (4639270566145032192 : UInt64)
theorem fB_z {S : bS} {lo hi v : Int32} : fB (bU S 0 0 0 0 v) lo hi = bU (fB S lo hi) 0 0 0 0 v := by
  funext f i j k
  unfold fB bU
  by_cases h1 : f = 48 ∧ i = 0 ∧ j = 0 ∧ k = 0
  · rw [if_pos h1, if_neg (by omega), if_pos h1]
  · rw [if_neg h1]
    by_cases h2 : f = 47 ∧ i = 0 ∧ j = 0 ∧ k = 0
    · rw [if_pos h2, if_neg (by omega), if_neg h1, if_pos h2]
    · rw [if_neg h2]
      by_cases h3 : f = 0 ∧ i = 0 ∧ j = 0 ∧ k = 0
      · rw [if_pos h3, if_pos h3]
      · rw [if_neg h3, if_neg h3, if_neg h1, if_neg h2]
theorem doneN_n (S : bS) : ∀ n, n ≤ 40 → ∃ m, m ≤ n ∧ doneN S n = Int32.ofNat m
  | 0, _ => ⟨0, by omega, rfl⟩
  | n + 1, h => by
    obtain ⟨m, hm, e⟩ := doneN_n S n (by omega)
    show ∃ m, m ≤ n + 1 ∧ (if S 34 n 0 0 = 1 then doneN S n + 1 else doneN S n) = Int32.ofNat m
    split
    · exact ⟨m + 1, by omega, by rw [e, i_s]⟩
    · exact ⟨m, by omega, e⟩
section B59
variable {G : mG} {b : Nat} {am : Nat} {ad : bA}
theorem b_md13 {P : UInt64 → mM → Prop} {K4 : Nat → mM → Nat → Int64 → Int32 → Prop} {S : bS} (hX : bX S) {c : Nat} (hc : c < 36) {a : Int64} (kk : ∀ M', bM' M' am ad S → K4 b M' am (mdK S c a 4) (Int32.ofNat c + 1)) : ∀ (n k q : Nat) (M : mM), k + n = 4 → n < q → bM' M am ad S → wl_X4_meanDoubt_13 G P K4 q b M am (mdK S c a k) (Int32.ofNat c) (Int32.ofNat k)
  | _, _, 0, _, _, hq, _ => absurd hq (Nat.not_lt_zero _)
  | 0, k, q + 1, M, hk, _, h => by
    have : k = 4 := by omega
    subst this
    unfold wl_X4_meanDoubt_13
    exact ⟨fun _ => kk M h, fun z => absurd (by decide) z⟩
  | n + 1, k, q + 1, M, hk, hq, h => by
    have hlt : ¬ (4 : Int32) ≤ Int32.ofNat k := fun z => absurd ((i_le (a := 4) (by decide) (by omega)).mp z) (by omega)
    have hxk : vp_in (Int32.ofNat k) 4 := i_vp (by omega) (by omega)
    have hxc : vp_in (Int32.ofNat c) 36 := i_vp (by omega) hc
    unfold wl_X4_meanDoubt_13
    refine ⟨fun z => absurd z hlt, fun _ => ⟨h.isc, b_doubt' h hX hxc hxk fun M' hM' => ?_⟩⟩
    have ih := b_md13 (P := P) hX hc kk n (k + 1) q M' (by omega) (by omega) hM'
    rw [show mdK S c a (k + 1) = mdK S c a k + (dbt S c k).toInt64 from rfl] at ih
    rw [i_s, show nn (Int32.ofNat c) = c from i_nn (by omega), show nn (Int32.ofNat k) = k from i_nn (by omega)]
    exact ih
theorem b_md4 {P : UInt64 → mM → Prop} {S : bS} (hX : bX S) (kk : ∀ M', bM' M' am ad (z0 S) → P (aMean S) M') : ∀ (n c q : Nat) (M : mM), c + n = 36 → n < q → bM' M am ad S → wl_X4_meanDoubt_4 G P q b M am (mdN S c) (Int32.ofNat c)
  | _, _, 0, _, _, hq, _ => absurd hq (Nat.not_lt_zero _)
  | 0, c, q + 1, M, hc, _, h => by
    have : c = 36 := by omega
    subst this
    obtain ⟨lo, hi, h0⟩ := id h
    unfold wl_X4_meanDoubt_4
    refine ⟨fun _ => b_pfi h0 (by decide) fun M' hM' => ⟨md_num _, kk M' ⟨lo, hi, ?_⟩⟩, fun z => absurd (by decide) z⟩
    rw [show fB (z0 S) lo hi = bU (fB S lo hi) 0 0 0 0 0 from fB_z]
    exact hM'
  | n + 1, c, q + 1, M, hc, hq, h => by
    have ih : ∀ M', bM' M' am ad S → wl_X4_meanDoubt_4 G P q b M' am (mdK S c (mdN S c) 4) (Int32.ofNat c + 1) := fun M' hM' => by
      have := b_md4 hX kk n (c + 1) q M' (by omega) (by omega) hM'
      rw [show mdN S (c + 1) = mdK S c (mdN S c) 4 from rfl] at this
      rw [i_s]
      exact this
    have k1 := b_md13 (G := G) (P := P) hX (c := c) (by omega) (a := mdN S c) ih 4 0 5 M (by omega) (by omega) h
    unfold wl_X4_meanDoubt_4
    exact ⟨fun z => absurd z (nlt36 (by omega)), fun _ => ⟨5, k1⟩⟩
theorem t_mean {M : mM} {S : bS} (h : bM M am ad S) (hX : bX S) {K : UInt64 → mM → Prop} (kk : ∀ M', bM' M' am ad (z0 S) → K (aMean S) M') : wp_X4_meanDoubt G b K M am := by
  unfold wp_X4_meanDoubt
  exact ⟨37, b_md4 hX kk 36 0 37 M (by omega) (by omega) (bM'.of h)⟩
theorem b_ds9 {P : UInt32 → mM → Prop} {M : mM} {S : bS} (h : bM M am ad S) {N : Nat} (hN : N ≤ 40) (hs : S 28 0 0 0 = Int32.ofNat N) (kk : P (aDone S) M) : ∀ (n c q : Nat), c + n = N → n < q → wl_X4_doneShare_9 G P q b M am (doneN S c) (Int32.ofNat c)
  | _, _, 0, _, hq => absurd hq (Nat.not_lt_zero _)
  | 0, c, q + 1, hc, _ => by
    have : c = N := by omega
    subst this
    have en : nn (S 28 0 0 0) = c := by rw [hs]; exact i_nn (by omega)
    unfold aDone at kk
    rw [en] at kk
    unfold wl_X4_doneShare_9 wb_X4_doneShare_55
    refine b_gfi h (by decide) ⟨fun _ => b_gfi h (by decide) ⟨fun z => b_gfi h (by decide) ⟨?_, ?_⟩, fun z => ?_⟩, fun z => absurd (by rw [hs]; exact Int32.le_refl _) z⟩
    · obtain ⟨m, hm, e⟩ := doneN_n S c hN
      rw [e, hs]
      exact ds_num0 m (by omega) c (by omega) fun z0 => z (by rw [hs, z0]; rfl)
    · rw [if_neg z] at kk; exact kk
    · rw [if_pos z] at kk; exact kk
  | n + 1, c, q + 1, hc, hq => by
    have hx : vp_in (Int32.ofNat c) 40 := i_vp (by omega) (by omega)
    have e : nn (Int32.ofNat c) = c := i_nn (by omega)
    have hlt : ¬ Int32.ofNat N ≤ Int32.ofNat c := fun z => absurd ((i_le (by omega) (by omega)).mp z) (by omega)
    have ih := b_ds9 (P := P) h hN hs kk n (c + 1) q (by omega) (by omega)
    rw [show doneN S (c + 1) = (if S 34 c 0 0 = 1 then doneN S c + 1 else doneN S c) from rfl] at ih
    unfold wl_X4_doneShare_9 wb_X4_doneShare_30
    refine b_gfi h (by decide) ?_
    rw [hs, i_s]
    refine ⟨fun z => absurd z hlt, fun _ => b_gfa h (by decide) (b_ld1 h (by decide) hx ?_)⟩
    rw [show (Int32.ofNat c).toNatClampNeg = c from e]
    refine ⟨fun z => ?_, fun z => ?_⟩
    · rw [if_neg z] at ih; exact ih
    · rw [if_pos z] at ih; exact ih
theorem t_done {M : mM} {S : bS} (h : bM M am ad S) (hX : bX S) {K : UInt32 → mM → Prop} (kk : ∀ M', bM M' am ad (z0 S) → K (aDone (z0 S)) M') : wp_X4_doneShare G b K M am := by
  obtain ⟨d0, d1⟩ := bIn_t hX.2.2.1
  unfold wp_X4_doneShare
  exact b_pfi h (by decide) fun M' hM' => ⟨_, b_ds9 hM' (N := nn (S 28 0 0 0)) (i_nle d0 d1) (i_of d0) (kk M' hM') (nn (S 28 0 0 0)) 0 _ (Nat.zero_add _) (Nat.lt_succ_self _)⟩
end B59
