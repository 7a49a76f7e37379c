/-! THE TWIN's constructor: the walk -/
theorem bU_ff {S : bS} {f i j k f' : Nat} {x : Int32} (h : f' ≠ f) : bU S f i j k x f' = S f' := by
  funext a c d
  exact bU_f h
def S00 : bS := fun _ _ _ _ => 0
def S01 : bS := bU S00 21 0 0 0 (-1)
def fI5 (c : Nat) (S : bS) : bS := bU S 5 c 0 0 (-1)
def fI11 (k : Nat) (S : bS) : bS := bU (bU S 11 k 0 0 2) 12 k 0 0 1
def fI45 (y c k : Nat) (S : bS) : bS := bU S 45 y c k (-1)
def fI45c (y c : Nat) (S : bS) : bS := itN (fI45 y c) 4 S
def fI45y (y : Nat) (S : bS) : bS := itN (fI45c y) 36 S
def sIni : bS := itN fI45y 10 (itN fI11 4 (itN fI5 36 S01))
theorem S01_f {f : Nat} (h : f ≠ 21) : S01 f = fun _ _ _ => 0 := bU_ff h
theorem dfs4 (ad : bA) : dfsX4 = bRN 3 ad S00 := rfl
section B69
variable {G : mG} {b : Nat} {am : Nat}
theorem bMp.pfi {n : Nat} {M : mM} {ad : bA} {S : bS} (h : bMp n M am ad S) {k : Nat} (hk : k < 49 ∧ bD k = 0) {v : Int32} {K : mM → Prop} (kk : ∀ M', bMp n M' am ad (bU S k 0 0 0 v) → K M') : pfi M am 3 k v K := by
  obtain ⟨h1, h2, h3, h4⟩ := h
  refine ⟨_, h1, by rw [bRN_len]; exact hk.1, kk _ ⟨?_, fun f l i j hf hl => ?_, h3, h4⟩⟩
  · rw [mset_s]
    congr 4
    refine List.ext_getElem? fun j => ?_
    rw [List.getElem?_set]
    by_cases hj : k = j
    · subst hj
      rw [if_pos rfl, bRN_len, if_pos hk.1, bRN_get hk.1, bRvN, if_pos hk.2, bU_s]
    · rw [if_neg hj]
      rcases Nat.lt_or_ge j 49 with y | y
      · rw [bRN_get y, bRN_get y, bRvN, bRvN, bU_f (Ne.symm hj)]
      · rw [List.getElem?_eq_none (by rw [bRN_len]; exact y), List.getElem?_eq_none (by rw [bRN_len]; exact y)]
  · rw [mset_n (h3 f l i j hf hl), h2 f l i j hf hl]
    have hne : f ≠ k := fun z => by
      subst z
      obtain ⟨-, q | q | q⟩ := hl <;> omega
    unfold bC
    simp only [bU_f hne]
theorem b_ini375 {P : mM → Prop} {K359 : Nat → mM → Nat → Int32 → Prop} {K367 : Nat → mM → Nat → Int32 → Int32 → Prop} {ad : bA} {y c : Nat} (hy : y < 10) (hc : c < 36) : ∀ (n k q : Nat) (M : mM) (S : bS), k + n = 4 → n < q → bM M am ad S → (∀ M', bM M' am ad (itF (fI45 y c) k n S) → K367 b M' am (Int32.ofNat y) (Int32.ofNat c + 1)) → wl_X4_init_375 G P K359 K367 q b M am (Int32.ofNat y) (Int32.ofNat c) (Int32.ofNat k)
  | _, _, 0, _, _, _, hq, _, _ => absurd hq (Nat.not_lt_zero _)
  | 0, k, q + 1, M, S, hk, _, h, kk => by
    unfold wl_X4_init_375
    exact ⟨fun _ => kk M h, fun z => absurd ((i_le (a := 4) (by decide) (by omega)).mpr (by omega)) z⟩
  | n + 1, k, q + 1, M, S, hk, hq, h, kk => by
    have hlt : ¬ (4 : Int32) ≤ Int32.ofNat k := fun z => absurd ((i_le (a := 4) (by decide) (by omega)).mp z) (by omega)
    have vy : vp_in (Int32.ofNat y) 10 := i_vp (by omega) hy
    have vc : vp_in (Int32.ofNat c) 36 := i_vp (by omega) hc
    have vk : vp_in (Int32.ofNat k) 4 := i_vp (by omega) (by omega)
    have ey : (Int32.ofNat y).toNatClampNeg = y := i_nn (by omega)
    have ec : (Int32.ofNat c).toNatClampNeg = c := i_nn (by omega)
    have ek : (Int32.ofNat k).toNatClampNeg = k := i_nn (by omega)
    unfold wl_X4_init_375
    refine ⟨fun z => absurd z hlt, fun _ => b_gfa h (by decide) (b_lda h (by decide) vy ?_)⟩
    rw [ey]
    refine b_lda2 h (by decide) hy vc ?_
    rw [ec]
    refine b_st3 h (by decide) hy hc vk fun M' hM' => ?_
    rw [ek] at hM'
    rw [i_s]
    exact b_ini375 hy hc n (k + 1) q M' _ (by omega) (by omega) hM' kk
theorem b_ini367 {P : mM → Prop} {K359 : Nat → mM → Nat → Int32 → Prop} {ad : bA} {y : Nat} (hy : y < 10) : ∀ (n c q : Nat) (M : mM) (S : bS), c + n = 36 → n < q → bM M am ad S → (∀ M', bM M' am ad (itF (fI45c y) c n S) → K359 b M' am (Int32.ofNat y + 1)) → wl_X4_init_367 G P K359 q b M am (Int32.ofNat y) (Int32.ofNat c)
  | _, _, 0, _, _, _, hq, _, _ => absurd hq (Nat.not_lt_zero _)
  | 0, c, q + 1, M, S, hc, _, h, kk => by
    unfold wl_X4_init_367
    exact ⟨fun _ => kk M h, fun z => absurd ((i_le (a := 36) (by decide) (by omega)).mpr (by omega)) z⟩
  | n + 1, c, q + 1, M, S, hc, hq, h, kk => by
    unfold wl_X4_init_367
    refine ⟨fun z => absurd z (nlt36 (by omega)), fun _ => ⟨5, b_ini375 hy (by omega) 4 0 5 M S (by omega) (by omega) h fun M' hM' => ?_⟩⟩
    rw [itF_it] at hM'
    rw [i_s]
    exact b_ini367 hy n (c + 1) q M' _ (by omega) (by omega) hM' kk
theorem b_ini359 {P : mM → Prop} {ad : bA} : ∀ (n y q : Nat) (M : mM) (S : bS), y + n = 10 → n < q → bM M am ad S → (∀ M', bM M' am ad (itF fI45y y n S) → P M') → wl_X4_init_359 G P q b M am (Int32.ofNat y)
  | _, _, 0, _, _, _, hq, _, _ => absurd hq (Nat.not_lt_zero _)
  | 0, y, q + 1, M, S, hy, _, h, kk => by
    unfold wl_X4_init_359
    exact ⟨fun _ => kk M h, fun z => absurd ((i_le (a := 10) (by decide) (by omega)).mpr (by omega)) z⟩
  | n + 1, y, q + 1, M, S, hy, hq, h, kk => by
    have hlt : ¬ (10 : Int32) ≤ Int32.ofNat y := fun z => absurd ((i_le (a := 10) (by decide) (by omega)).mp z) (by omega)
    unfold wl_X4_init_359
    refine ⟨fun z => absurd z hlt, fun _ => ⟨37, b_ini367 (by omega) 36 0 37 M S (by omega) (by omega) h fun M' hM' => ?_⟩⟩
    rw [itF_it] at hM'
    rw [i_s]
    exact b_ini359 n (y + 1) q M' _ (by omega) (by omega) hM' kk
theorem b_ini332 {P : mM → Prop} {ad : bA} : ∀ (n k q : Nat) (M : mM) (S : bS), k + n = 4 → n < q → bM M am ad S → (∀ M', bM M' am ad (itF fI11 k n S) → ∃ n359, wl_X4_init_359 G P n359 b M' am 0) → wl_X4_init_332 G P q b M am (Int32.ofNat k)
  | _, _, 0, _, _, _, hq, _, _ => absurd hq (Nat.not_lt_zero _)
  | 0, k, q + 1, M, S, hk, _, h, kk => by
    unfold wl_X4_init_332
    exact ⟨fun _ => kk M h, fun z => absurd ((i_le (a := 4) (by decide) (by omega)).mpr (by omega)) z⟩
  | n + 1, k, q + 1, M, S, hk, hq, h, kk => by
    have hlt : ¬ (4 : Int32) ≤ Int32.ofNat k := fun z => absurd ((i_le (a := 4) (by decide) (by omega)).mp z) (by omega)
    have vk : vp_in (Int32.ofNat k) 4 := i_vp (by omega) (by omega)
    have ek : (Int32.ofNat k).toNatClampNeg = k := i_nn (by omega)
    unfold wl_X4_init_332
    refine ⟨fun z => absurd z hlt, fun _ => b_gfa h (by decide) (b_st1 h (by decide) vk fun M1 h1 => b_gfa h1 (by decide) (b_st1 h1 (by decide) vk fun M2 h2 => ?_))⟩
    rw [ek] at h2
    rw [i_s]
    exact b_ini332 n (k + 1) q M2 _ (by omega) (by omega) h2 kk
theorem b_ini311 {P : mM → Prop} {ad : bA} : ∀ (n c q : Nat) (M : mM) (S : bS), c + n = 36 → n < q → bM M am ad S → (∀ M', bM M' am ad (itF fI5 c n S) → ∃ n332, wl_X4_init_332 G P n332 b M' am 0) → wl_X4_init_311 G P q b M am (Int32.ofNat c)
  | _, _, 0, _, _, _, hq, _, _ => absurd hq (Nat.not_lt_zero _)
  | 0, c, q + 1, M, S, hc, _, h, kk => by
    unfold wl_X4_init_311
    exact ⟨fun _ => kk M h, fun z => absurd ((i_le (a := 36) (by decide) (by omega)).mpr (by omega)) z⟩
  | n + 1, c, q + 1, M, S, hc, hq, h, kk => by
    have vc : vp_in (Int32.ofNat c) 36 := i_vp (by omega) (by omega)
    have ec : (Int32.ofNat c).toNatClampNeg = c := i_nn (by omega)
    unfold wl_X4_init_311
    refine ⟨fun z => absurd z (nlt36 (by omega)), fun _ => b_gfa h (by decide) (b_st1 h (by decide) vc fun M1 h1 => ?_)⟩
    rw [ec] at h1
    rw [i_s]
    exact b_ini311 n (c + 1) q M1 _ (by omega) (by omega) h1 kk
theorem t_init {P : mM → Prop} {M : mM} (h : M am = some (true, .inr (3, dfsX4))) (hb : 17000 ≤ b) (kk : ∀ M' ad, bM M' am ad sIni → P M') : wp_X4_init G b P M am := by
  have h : bMp 3 M am (fun _ _ _ _ => 0) S00 := ⟨by rw [h, dfs4 fun _ _ _ _ => 0], fun f l i j hf hl => absurd hl (by rintro ⟨-, z | z | z⟩ <;> (have : f = 0 ∨ f = 1 ∨ f = 2 := by omega) <;> rcases this with rfl | rfl | rfl <;> (first | exact absurd z.2.2.2 (by decide) | exact absurd z.2.2.2 (by decide))), fun f l i j hf hl => absurd hl (by rintro ⟨-, z | z | z⟩ <;> (have : f = 0 ∨ f = 1 ∨ f = 2 := by omega) <;> rcases this with rfl | rfl | rfl <;> exact absurd z.2.2.2 (by decide)), fun f l i j f' l' i' j' hf hf' hl hl' _ => absurd hl (by rintro ⟨-, z | z | z⟩ <;> (have : f = 0 ∨ f = 1 ∨ f = 2 := by omega) <;> rcases this with rfl | rfl | rfl <;> exact absurd z.2.2.2 (by decide))⟩
  unfold wp_X4_init
  refine i_nw1 3 36 0 36 h (by decide) rfl (by omega) fun M ad h => ?_
  refine i_nw1 4 36 0 36 h (by decide) rfl (by omega) fun M ad h => ?_
  refine i_nw1 5 36 0 36 h (by decide) rfl (by omega) fun M ad h => ?_
  refine i_nw1 6 36 0 36 h (by decide) rfl (by omega) fun M ad h => ?_
  refine i_nw1 7 36 0 36 h (by decide) rfl (by omega) fun M ad h => ?_
  refine i_nw1 8 4 0 4 h (by decide) rfl (by omega) fun M ad h => ?_
  refine i_nw1 9 4 0 4 h (by decide) rfl (by omega) fun M ad h => ?_
  refine i_nw1 10 4 0 4 h (by decide) rfl (by omega) fun M ad h => ?_
  refine i_nw1 11 4 0 4 h (by decide) rfl (by omega) fun M ad h => ?_
  refine i_nw1 12 4 0 4 h (by decide) rfl (by omega) fun M ad h => ?_
  have h := bMp.num h (by decide)
  refine i_nw1 14 8 0 8 h (by decide) rfl (by omega) fun M ad h => ?_
  refine i_nw1 15 8 0 8 h (by decide) rfl (by omega) fun M ad h => ?_
  refine i_nw1 16 8 0 8 h (by decide) rfl (by omega) fun M ad h => ?_
  refine i_nw1 17 8 1 8 h (by decide) rfl (by omega) fun M ad h => ?_
  have h := bMp.num h (by decide)
  have h := bMp.num h (by decide)
  have h := bMp.num h (by decide)
  refine bMp.pfi h (by decide) fun M h => ?_
  have h := bMp.num h (by decide)
  refine i_nw1 22 60 0 60 h (by decide) (S01_f (by decide)) (by omega) fun M ad h => ?_
  refine i_nw1 23 8 0 8 h (by decide) (S01_f (by decide)) (by omega) fun M ad h => ?_
  have h := bMp.num h (by decide)
  have h := bMp.num h (by decide)
  refine i_nw2 26 8 31 8 0 8 31 h (by decide) (S01_f (by decide)) (by omega) fun M ad h => ?_
  have h := bMp.num h (by decide)
  have h := bMp.num h (by decide)
  have h := bMp.num h (by decide)
  refine i_nw1 30 40 0 40 h (by decide) (S01_f (by decide)) (by omega) fun M ad h => ?_
  refine i_nw1 31 40 0 40 h (by decide) (S01_f (by decide)) (by omega) fun M ad h => ?_
  refine i_nw1 32 40 0 40 h (by decide) (S01_f (by decide)) (by omega) fun M ad h => ?_
  refine i_nw1 33 40 0 40 h (by decide) (S01_f (by decide)) (by omega) fun M ad h => ?_
  refine i_nw1 34 40 0 40 h (by decide) (S01_f (by decide)) (by omega) fun M ad h => ?_
  refine i_nw1 35 40 0 40 h (by decide) (S01_f (by decide)) (by omega) fun M ad h => ?_
  refine i_nw1 36 200 0 200 h (by decide) (S01_f (by decide)) (by omega) fun M ad h => ?_
  refine i_nw1 37 200 0 200 h (by decide) (S01_f (by decide)) (by omega) fun M ad h => ?_
  refine i_nw1 38 200 0 200 h (by decide) (S01_f (by decide)) (by omega) fun M ad h => ?_
  refine i_nw1 39 200 0 200 h (by decide) (S01_f (by decide)) (by omega) fun M ad h => ?_
  refine i_nw1 40 200 0 200 h (by decide) (S01_f (by decide)) (by omega) fun M ad h => ?_
  refine i_nw3 41 40 36 4 9 8 0 40 36 4 h (by decide) (S01_f (by decide)) (by omega) fun M ad h => ?_
  refine i_nw2 42 40 36 10 1 40 36 h (by decide) (S01_f (by decide)) (by omega) fun M ad h => ?_
  refine i_nw2 43 3 4 8 0 3 4 h (by decide) (S01_f (by decide)) (by omega) fun M ad h => ?_
  refine i_nw3 44 4 3 4 9 8 0 4 3 4 h (by decide) (S01_f (by decide)) (by omega) fun M ad h => ?_
  refine i_nw3 45 10 36 4 9 8 0 10 36 4 h (by decide) (S01_f (by decide)) (by omega) fun M ad h => ?_
  refine i_nw3 46 10 36 4 9 8 0 10 36 4 h (by decide) (S01_f (by decide)) (by omega) fun M ad h => ?_
  have h := bMp.num h (by decide)
  have h := bMp.num h (by decide)
  have h := h.end
  refine ⟨37, b_ini311 36 0 37 M S01 (by omega) (by omega) h fun M1 h1 => ⟨5, b_ini332 4 0 5 M1 _ (by omega) (by omega) h1 fun M2 h2 => ⟨11, b_ini359 10 0 11 M2 _ (by omega) (by omega) h2 fun M3 h3 => kk M3 ad ?_⟩⟩⟩
  rw [itF_it, itF_it, itF_it] at h3
  exact h3
end B69
