/-! THE TWIN's pass, whole; setSluice, cellAt -/
def fDay (_ : Nat) (S : bS) : bS := sDay S
def ePass (S : bS) (d : Int32) : Int32 := bE (!bIn d 1 400) (decide (¬ S 1 0 0 0 + d ≤ 20000)) false
def sPassD (S : bS) (n : Nat) : bS := itN fDay n S
def sPass (S : bS) (d : Int32) : bS := bU (sPassD (z0 S) (nn d)) 1 0 0 0 (sPassD (z0 S) (nn d) 1 0 0 0 + d)
theorem z0z {S : bS} {x : Int32} : bU (z0 S) 0 0 0 0 x = bU S 0 0 0 0 x := bU_bU
theorem bW_z0 {S : bS} (h : bW S) : bW (z0 S) := h.sm (bSm.U (by decide))
theorem itF_it' (f : Nat → bS → bS) (n : Nat) (S : bS) (h : itF f 0 n S = itN f n S) : itF f 0 n S = itN f n S := h
theorem i_of {x : Int32} (h : 0 ≤ x) : x = Int32.ofNat (nn x) := by
  have h1 : (0 : Int) ≤ x.toInt := Int32.le_iff_toInt_le.mp h
  have h2 : x.toInt < 2 ^ 31 := Int32.toInt_lt x
  refine Int32.toInt_inj.mp ?_
  have e : (Int32.ofNat (nn x)).toInt = (nn x : Int) := Int32.toInt_ofNat_of_lt (by show x.toInt.toNat < 2 ^ 31; omega)
  rw [e]
  show x.toInt = ((x.toInt.toNat : Nat) : Int)
  omega
theorem i_nle {x a : Int32} (h : 0 ≤ x) (h2 : x ≤ a) : nn x ≤ nn a := by
  have := Int32.le_iff_toInt_le.mp h2
  show x.toInt.toNat ≤ a.toInt.toNat
  omega
theorem nn_lt (x : Int32) : nn x < 2 ^ 31 := by
  have := Int32.toInt_lt x
  show x.toInt.toNat < 2 ^ 31
  omega
section B45
variable {G : mG} {b : Nat} {am : Nat} {ad : bA}
theorem t_day {P : Int32 → mM → Prop} {K57 : Nat → mM → Nat → Int32 → Int32 → Prop} {x1 x2 : Int32} {M : mM} {S : bS} (h : bM M am ad S) (hW : bW S) (kk : ∀ M', bM M' am ad (sDay S) → K57 b M' am x1 (x2 + 1)) : ∃ n64, wl_X4_pass_64 G P K57 n64 b M am x1 x2 0 := by
  have h0 := bIn_t hW.2.1
  have hn : S 13 0 0 0 = Int32.ofNat (nn (S 13 0 0 0)) := i_of h0.1
  have hle : nn (S 13 0 0 0) ≤ 8 := i_nle h0.1 h0.2
  refine ⟨5, t_pass_64 4 0 5 M S rfl (by decide) h fun M1 h1 => ⟨nn (S 13 0 0 0) + 1, ?_⟩⟩
  rw [itF_it] at h1
  have s1 : bSm S (itN fPond 4 S) := bSm_it (f := fPond) (fun _ _ => bSm_pond _ _) 4 S
  refine t_pass_105 (N := nn (S 13 0 0 0)) hle (nn (S 13 0 0 0)) 0 _ M1 _ (by omega) (by omega) h1 (hW.sm s1) (by rw [s1 13 (by decide)]; exact hn) fun M2 h2 => ⟨37, ?_⟩
  rw [itF_it] at h2
  have s2 := bSm_it (f := fFlow) (fun _ _ => bSm_flow _ _) (nn (S 13 0 0 0)) (itN fPond 4 S)
  refine t_pass_225 36 0 37 M2 _ rfl (by decide) h2 ((hW.sm s1).sm s2) fun M3 h3 => ?_
  rw [itF_it] at h3
  exact kk M3 h3
theorem t_pass_57 {P : Int32 → mM → Prop} {N : Nat} (hN : N < 2 ^ 31) : ∀ (n c q : Nat) (M : mM) (S : bS), c + n = N → n < q → bM M am ad S → bW S → (∀ M', bM M' am ad (bU (itF fDay c n S) 1 0 0 0 (itF fDay c n S 1 0 0 0 + Int32.ofNat N)) → P (itF fDay c n S 1 0 0 0 + Int32.ofNat N) M') → wl_X4_pass_57 G P q b M am (Int32.ofNat N) (Int32.ofNat c)
  | _, _, 0, _, _, _, hq, _, _, _ => absurd hq (Nat.not_lt_zero _)
  | 0, c, q + 1, M, S, hc, _, h, _, kk => by
    unfold wl_X4_pass_57
    refine ⟨fun _ => b_gfi h (by decide) (b_pfi h (by decide) fun M' hM' => b_gfi hM' (by decide) ?_), fun z => absurd ((i_le (by omega) (by omega)).mpr (by omega)) z⟩
    rw [bU_s]
    exact kk M' hM'
  | n + 1, c, q + 1, M, S, hc, hq, h, hW, kk => by
    have hlt : ¬ Int32.ofNat N ≤ Int32.ofNat c := fun z => absurd ((i_le (by omega) (by omega)).mp z) (by omega)
    unfold wl_X4_pass_57
    refine ⟨fun z => absurd z hlt, fun _ => t_day h hW fun M' hM' => ?_⟩
    rw [i_s]
    exact t_pass_57 hN n (c + 1) q M' (sDay S) (by omega) (by omega) hM' (hW.sm (bSm_day S)) kk
theorem t_pass {M : mM} {S : bS} (h : bM M am ad S) (hW : bW S) {d : Int32} {K : Int32 → mM → Prop} (kk : ∀ M', bM M' am ad (oS (ePass S d) S (sPass S d)) → K (oA (ePass S d) (sPass S d 1 0 0 0)) M') : wp_X4_pass G b K M am d := by
  have fin : ∀ u : Bool, u = (!bIn d 1 400) → wb_X4_pass_17 G K b M am d am (bI u) := by
    intro u hu
    unfold wb_X4_pass_17
    refine ⟨h.isc, b_chk (q := false) (r := false) h (fun _ _ => rfl) (fun h1 _ _ M1 h1M => ?_) (fun h1 M' hM' => ?_)⟩
    · have hd : bIn d 1 400 = true := by rw [h1] at hu; revert hu; cases bIn d 1 400 <;> simp
      obtain ⟨d1, d2⟩ := bIn_t hd
      have d0 : (0 : Int32) ≤ d := Int32.le_trans (by decide) d1
      have hdN := i_of d0
      refine b_gfi h1M (by decide) ?_
      have fin2 : ∀ w : Bool, w = decide (¬ S 1 0 0 0 + d ≤ 20000) → wb_X4_pass_46 G K b M1 am d am 0 (bI w) := by
        intro w hw
        unfold wb_X4_pass_46
        have he : ePass S d = bE false w false := by unfold ePass; rw [hd, ← hw]; rfl
        refine ⟨h1M.isc, b_chk (p := false) (r := false) h1M (fun _ _ => rfl) (fun _ h2 _ M2 h2M => ⟨nn d + 1, ?_⟩) (fun h2 M2 h2M => ?_)⟩
        · rw [bU_bU] at h2M
          have e0 : ePass S d = 0 := by rw [he, h2]; rfl
          rw [e0, oS0, oA0] at kk
          have hs : bU (sPassD (z0 S) (nn d)) 1 0 0 0 (sPassD (z0 S) (nn d) 1 0 0 0 + d) = sPass S d := rfl
          have key := t_pass_57 (G := G) (b := b) (P := K) (N := nn d) (nn_lt d) (nn d) 0 (nn d + 1) M2 (z0 S) (by omega) (by omega) h2M (bW_z0 hW) (fun M' hM' => by
            rw [itF_it, ← hdN] at hM' ⊢
            have := kk M' hM'
            rw [show sPass S d 1 0 0 0 = sPassD (z0 S) (nn d) 1 0 0 0 + d from bU_s _ _ _ _ _ _] at this
            exact this)
          rw [← hdN] at key
          exact key
        · rw [bU_bU] at h2M
          rw [he, oS1 h2, oA1 h2] at kk
          exact kk M2 h2M
      exact ⟨fun z => fin2 false (decide_eq_false (p := ¬ S 1 0 0 0 + d ≤ 20000) (not_not_intro z)).symm, fun z => fin2 true (decide_eq_true (p := ¬ S 1 0 0 0 + d ≤ 20000) z).symm⟩
    · have he : ePass S d = bE u false false := by
        have hu1 : u = true := by cases u; · exact absurd rfl h1
                                  · rfl
        unfold ePass
        rw [← hu, hu1]
        rfl
      rw [he, oS1 h1, oA1 h1] at kk
      exact kk M' hM'
  unfold wp_X4_pass
  exact b_isIn ⟨fun h1 => fin false (by rw [bI1.mp h1]; rfl), fun h1 => fin true (by rw [bI0.mp h1]; rfl)⟩
theorem t_setSluice {M : mM} {S : bS} (h : bM M am ad S) (hW : bW S) (hb : ∀ k, k < 8 → vp_nar .boolean (S 17 k 0 0) = S 17 k 0 0) {k o : Int32} (ho : vp_nar .boolean o = o) {K : Int32 → mM → Prop} (kk : ∀ M', bM M' am ad (oS (eSetSluice S k) S (sSetSluice S k o)) → K (oA (eSetSluice S k) (S 17 (nn k) 0 0)) M') : wp_X4_setSluice G b K M am k o := by
  have fin : ∀ u : Bool, u = (!bIn k 0 (S 13 0 0 0 - 1)) → wb_X4_setSluice_20 G K b M am k o am (bI u) := by
    intro u hu
    have he : eSetSluice S k = bE u false false := by rw [hu]; rfl
    rw [he] at kk
    unfold wb_X4_setSluice_20
    refine ⟨h.isc, b_chk (q := false) (r := false) h (fun _ _ => rfl) (fun h1 _ _ M' hM' => ?_) (fun h1 M' hM' => ⟨rfl, ?_⟩)⟩
    · have hk : vp_in k 8 := by
        have h2 : bIn k 0 (S 13 0 0 0 - 1) = true := by rw [h1] at hu; revert hu; cases bIn k 0 (S 13 0 0 0 - 1) <;> simp
        obtain ⟨k0, k1⟩ := bIn_t h2
        obtain ⟨n0, n1⟩ := bIn_t hW.2.1
        refine b_in (a := 7) k0 (Int32.le_trans k1 ?_) (by decide)
        have e := i_of n0
        have hle : nn (S 13 0 0 0) ≤ 8 := i_nle n0 n1
        rw [e]
        generalize nn (S 13 0 0 0) = z at hle
        revert hle
        match z with
        | 0 | 1 | 2 | 3 | 4 | 5 | 6 | 7 | 8 => intro _; decide
        | z + 9 => intro hle; omega
      rw [h1] at kk
      refine b_gfa hM' (by decide) (b_ld1 hM' (by decide) hk (b_gfa hM' (by decide) (b_stn hM' (by decide) ho hk fun M'' hM'' => ⟨?_, kk _ hM''⟩)))
      have := hb _ (bLt hk)
      show narrow .boolean (.int (S 17 (nn k) 0 0)) = .int (S 17 (nn k) 0 0)
      rw [show narrow .boolean (.int (S 17 (nn k) 0 0)) = .int (vp_nar .boolean (S 17 (nn k) 0 0)) from rfl, this]
    · rw [oS1 h1, oA1 h1] at kk
      exact kk M' hM'
  unfold wp_X4_setSluice
  refine b_gfi h (by decide) (b_isIn ⟨fun h1 => fin false (by rw [bI1.mp h1]; rfl), fun h1 => fin true (by rw [bI0.mp h1]; rfl)⟩)
end B45
