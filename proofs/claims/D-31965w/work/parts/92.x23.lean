/-! THE CLASS's walk -/
theorem isGo_m {S : bS} {x : Int32} {a : Nat} (h : isGo S x a = true) : ∀ n, isGo S x (a + n) = true
  | 0 => h
  | n + 1 => by
    show (isGo S x (a + n) || _) = true
    rw [isGo_m h n]
    rfl
def xWlk (X : bS) (w r h : Int32) : bS :=
  bU (bU (bU (bU (bU (bU (bU (bU (bU X 30 (nn (X 28 0 0 0)) 0 0 w) 31 (nn (X 28 0 0 0)) 0 0 r) 32 (nn (X 28 0 0 0)) 0 0 h) 33 (nn (X 28 0 0 0)) 0 0 (X 2 0 0 0)) 34 (nn (X 28 0 0 0)) 0 0 0) 35 (nn (X 28 0 0 0)) 0 0 0) 68 (4 + nn (X 28 0 0 0)) 0 0 0) 69 (4 + nn (X 28 0 0 0)) 0 0 0) 28 0 0 0 (X 28 0 0 0 + 1)
theorem xWlk_f {X : bS} {w r h : Int32} {f : Nat} (hf : f ∉ [28, 30, 31, 32, 33, 34, 35, 68, 69]) : xWlk X w r h f = X f := by
  simp only [List.mem_cons, List.not_mem_nil, or_false] at hf
  unfold xWlk
  rw [bU_ff (by omega), bU_ff (by omega), bU_ff (by omega), bU_ff (by omega), bU_ff (by omega), bU_ff (by omega), bU_ff (by omega), bU_ff (by omega), bU_ff (by omega)]
theorem xWlk_i {X : bS} {w r h : Int32} {f j : Nat} (hf : f ∈ [30, 31, 32, 33, 34, 35]) (hj : j ≠ nn (X 28 0 0 0)) : xWlk X w r h f j 0 0 = X f j 0 0 := by
  simp only [List.mem_cons, List.not_mem_nil, or_false] at hf
  unfold xWlk
  rw [bU_f (by omega), bU_f (by omega), bU_f (by omega), bU_i hj, bU_i hj, bU_i hj, bU_i hj, bU_i hj, bU_i hj]
theorem xWlk_L {X : bS} {w r h : Int32} {f j : Nat} (hf : f = 68 ∨ f = 69) (hj : j ≠ 4 + nn (X 28 0 0 0)) : xWlk X w r h f j 0 0 = X f j 0 0 := by
  unfold xWlk
  rw [bU_f (by omega), bU_i hj, bU_i hj, bU_f (by omega), bU_f (by omega), bU_f (by omega), bU_f (by omega), bU_f (by omega), bU_f (by omega)]
section B92
variable {G : mG} {b : Nat} {κ : xK} {M : mM} {ad : xA} {X : bS}
theorem x_pushK (h : rX κ M ad X) (hI : xI X) (hG : κ.2.1 = G.2.2 0) (hC : κ.1 (G.2.2 0) = some (false, .inl (5, 0, mRs fun _ => none))) (h40 : xN X 3 < 40) {w r hh : Int32} {u l : Nat} (hu : M u = some (true, .inr (14, [.int w, .int r, .int hh, .int (X 2 0 0 0), .int 0, .ref l]))) (hl : M l = some (true, .inr (16, [.int 0, .ref κ.2.1, .int 0]))) (ou : xO κ ad X u) (ol : xO κ ad X l) (hb : 310 ≤ b) {K : Int32 → mM → Prop} (kk : ∀ M' ad' X', rX κ M' ad' X' → xI X' → xE (xWlk X w r hh) X' → K 1 M') : wp_J2_add G b K M (ad 22 3 0) u := by
  have hL : 3 < 4 + xN X 3 := by omega
  obtain ⟨e0, e2⟩ := hI.z hL
  have hn3 : xN X 3 = nn (X 28 0 0 0) := rfl
  have hz : xZ (xWlk X w r hh) 3 = Int32.ofNat (xN X 3 + 1) := by
    rw [← i_s, ← e0]
    show xWlk X w r hh 28 0 0 0 = X 28 0 0 0 + 1
    unfold xWlk
    rw [bU_s]
  have e35 : xWlk X w r hh 35 (xN X 3) 0 0 = 0 := by
    unfold xWlk
    rw [← hn3, bU_f (by decide), bU_f (by decide), bU_f (by decide), bU_s]
  have e68 : xWlk X w r hh 68 (4 + xN X 3) 0 0 = 0 := by
    unfold xWlk
    rw [← hn3, bU_f (by decide), bU_f (by decide), bU_s]
  have e69 : xWlk X w r hh 69 (4 + xN X 3) 0 0 = 0 := by
    unfold xWlk
    rw [← hn3, bU_f (by decide), bU_s]
  have hZi : ∀ i, i ≠ 3 → i ≠ 4 + xN X 3 → xZ (xWlk X w r hh) i = xZ X i := fun i hi hi2 => by
    unfold xZ
    rw [xWlk_f (f := 13) (by decide), xWlk_f (f := 24) (by decide), xWlk_f (f := 27) (by decide), if_neg hi, if_neg hi]
    by_cases z0 : i = 0
    · rw [if_pos z0, if_pos z0]
    rw [if_neg z0, if_neg z0]
    by_cases z1 : i = 1
    · rw [if_pos z1, if_pos z1]
    rw [if_neg z1, if_neg z1]
    by_cases z2 : i = 2
    · rw [if_pos z2, if_pos z2]
    rw [if_neg z2, if_neg z2]
    exact xWlk_i (by decide) (by rw [← hn3]; omega)
  have hZn : xZ (xWlk X w r hh) (4 + xN X 3) = 0 := by
    unfold xZ
    rw [if_neg (by omega), if_neg (by omega), if_neg (by omega), if_neg (by omega), show 4 + xN X 3 - 4 = xN X 3 by omega]
    exact e35
  have hN3 : xN (xWlk X w r hh) 3 = xN X 3 + 1 := by unfold xN; rw [hz]; exact i_nn (by unfold xN at h40; omega)
  have hNi : ∀ i, i ≠ 3 → i ≠ 4 + xN X 3 → xN (xWlk X w r hh) i = xN X i := fun i hi hi2 => by unfold xN; rw [hZi i hi hi2]
  have hNn : xN (xWlk X w r hh) (4 + xN X 3) = 0 := by
    show nn (xZ (xWlk X w r hh) (4 + xN X 3)) = 0
    rw [hZn]; rfl
  let ad1 : xA := fun t i j => if t = 24 ∧ i = 3 ∧ j = xN X 3 then u else if t = 22 ∧ i = 4 + xN X 3 ∧ j = 0 then l else ad t i j
  have ar : ∀ t', t' ≠ 22 → t' ≠ 24 → ad1 t' = ad t' := fun t' h1 h2 => by
    funext i j
    show (if t' = 24 ∧ i = 3 ∧ j = xN X 3 then u else if t' = 22 ∧ i = 4 + xN X 3 ∧ j = 0 then l else ad t' i j) = _
    rw [if_neg (by omega), if_neg (by omega)]
  have ao : ∀ t i j, xL X t i j → ad1 t i j = ad t i j := fun t i j hl => by
    show (if t = 24 ∧ i = 3 ∧ j = xN X 3 then u else if t = 22 ∧ i = 4 + xN X 3 ∧ j = 0 then l else ad t i j) = _
    have n1 : ¬ (t = 24 ∧ i = 3 ∧ j = xN X 3) := by
      rintro ⟨rfl, rfl, rfl⟩
      rcases hl with z | z | z | z | z | z | z | z | z | z <;> first | omega | (have z := z.1; simp at z)
    have n2 : ¬ (t = 22 ∧ i = 4 + xN X 3 ∧ j = 0) := by
      rintro ⟨rfl, rfl, rfl⟩
      rcases hl with z | z | z | z | z | z | z | z | z | z <;> first | omega | (have z := z.1; simp at z)
    rw [if_neg n1, if_neg n2]
  have au : ad1 24 3 (xN X 3) = u := if_pos ⟨rfl, rfl, rfl⟩
  have al : ad1 22 (4 + xN X 3) 0 = l := by
    show (if _ then u else if _ then l else _) = l
    rw [if_neg (by omega), if_pos ⟨rfl, rfl, rfl⟩]
  have hul : u ≠ l := fun z => by rw [z, hl] at hu; cases hu
  refine x_push h hI hG hC hL (by omega) (X1 := xWlk X w r hh) (ad1 := ad1) (fun t i j => (t = 24 ∧ i = 3 ∧ j = xN X 3) ∨ (t = 22 ∧ i = 4 + xN X 3 ∧ j = 0)) hb (fun t i j hl => ?_) (fun t i j hl => ⟨ao t i j hl, fun h22 h23 => ?_⟩) (fun t i j hN => ?_) (fun t i j t' i' j' hN hN' he => ?_) hz ⟨?_, fun i hi hi2 => ?_⟩ au ⟨true, 14, _, hu⟩ fun M' a' X' y1 y2 y3 _ => kk M' a' X' y1 y2 y3
  · unfold xL at hl ⊢
    rw [hN3, hNi 1 (by decide) (by omega), hNi 2 (by decide) (by omega)] at hl
    rcases hl with z | z | z | z | z | z | z | z | z | z
    · exact Or.inl (Or.inl z)
    · exact Or.inl (Or.inr (Or.inl z))
    · exact Or.inl (Or.inr (Or.inr (Or.inl z)))
    · by_cases y : i = 4 + xN X 3
      · exact Or.inr (Or.inr ⟨z.1, y, z.2.2⟩)
      · exact Or.inl (Or.inr (Or.inr (Or.inr (Or.inl ⟨z.1, by omega, z.2.2⟩))))
    · by_cases y : i = 4 + xN X 3
      · rw [y, e69] at z
        exact absurd rfl z.2.2.2
      · rw [xWlk_L (Or.inr rfl) (by rw [← hn3]; exact y)] at z
        exact Or.inl (Or.inr (Or.inr (Or.inr (Or.inr (Or.inl ⟨z.1, by omega, z.2.2⟩)))))
    · by_cases y : i = 3
      · subst y
        rw [hN3] at z
        by_cases w : j = xN X 3
        · exact Or.inr (Or.inl ⟨z.1, rfl, w⟩)
        · exact Or.inl (Or.inr (Or.inr (Or.inr (Or.inr (Or.inr (Or.inl ⟨z.1, by omega, by omega⟩))))))
      · by_cases y4 : i = 4 + xN X 3
        · rw [y4, hNn] at z
          exact absurd z.2.2 (Nat.not_lt_zero _)
        · rw [hNi i y y4] at z
          exact Or.inl (Or.inr (Or.inr (Or.inr (Or.inr (Or.inr (Or.inl ⟨z.1, by omega, z.2.2⟩))))))
    · exact Or.inl (Or.inr (Or.inr (Or.inr (Or.inr (Or.inr (Or.inr (Or.inl z)))))))
    · exact Or.inl (Or.inr (Or.inr (Or.inr (Or.inr (Or.inr (Or.inr (Or.inr (Or.inl z))))))))
    · exact Or.inl (Or.inr (Or.inr (Or.inr (Or.inr (Or.inr (Or.inr (Or.inr (Or.inr (Or.inl z)))))))))
    · exact Or.inl (Or.inr (Or.inr (Or.inr (Or.inr (Or.inr (Or.inr (Or.inr (Or.inr (Or.inr z)))))))))
  · have i22 : t = 22 ∨ t = 23 ∨ t = 24 → i < 4 + xN X 3 := fun y => by
      rcases hl with w | w | w | w | w | w | w | w | w | w <;> first | exact w.2.1 | omega | (have w := w.1; simp at w; omega)
    have j24 : t = 24 → j < xN X i := fun y => by
      rcases hl with w | w | w | w | w | w | w | w | w | w <;> first | exact w.2.2 | omega | (have w := w.1; simp at w; omega)
    refine xC_g hl ao (fun t' ht => ar t' (by simp only [List.mem_cons, List.not_mem_nil, or_false] at ht; omega) (by simp only [List.mem_cons, List.not_mem_nil, or_false] at ht; omega)) (fun _ p => by rw [ar 27 (by decide) (by decide)]) (fun f hf => xWlk_f (by simp only [List.mem_cons, List.not_mem_nil, or_false] at hf ⊢; omega)) (fun z => ?_) (fun z => ?_) (fun z => ⟨fun _ f hf => ?_, fun y f hf => ?_, fun _ f hf => ?_⟩) (fun z => ?_) fun z c => ?_
    · have hi : i ≠ 3 := fun y => h22 ⟨z, y⟩
      have hi4 : i ≠ 4 + xN X 3 := by have := i22 (Or.inl z); omega
      exact ⟨xWlk_L (Or.inl rfl) (by rw [← hn3]; exact hi4), xWlk_L (Or.inr rfl) (by rw [← hn3]; exact hi4), hZi i hi hi4⟩
    · have hi : i ≠ 3 := fun y => h23 ⟨z, y⟩
      have hi4 : i ≠ 4 + xN X 3 := by have := i22 (Or.inr (Or.inl z)); omega
      exact ⟨xWlk_L (Or.inr rfl) (by rw [← hn3]; exact hi4), hZi i hi hi4⟩
    · rw [xWlk_f (by simp only [List.mem_cons, List.not_mem_nil, or_false] at hf ⊢; omega)]
    · have := j24 z
      refine xWlk_i (by simp only [List.mem_cons, List.not_mem_nil, or_false] at hf ⊢; omega) ?_
      rw [y] at this
      rw [← hn3]
      omega
    · rw [xWlk_f (by simp only [List.mem_cons, List.not_mem_nil, or_false] at hf ⊢; omega)]
    · rw [xWlk_f (by decide), xWlk_f (f := 26) (by decide)]
      exact ⟨rfl, fun _ => rfl⟩
    · rw [xWlk_f (by decide)]
  · rcases hN with ⟨rfl, rfl, rfl⟩ | ⟨rfl, rfl, rfl⟩
    · rw [au]
      refine ⟨ou, ?_, by decide, by decide⟩
      rw [hu]
      show some (true, (Sum.inr (14, [.int w, .int r, .int hh, .int (X 2 0 0 0), .int 0, .ref l]) : mE)) = some (true, Sum.inr (14, [.int (xWlk X w r hh 30 (xN X 3) 0 0), .int (xWlk X w r hh 31 (xN X 3) 0 0), .int (xWlk X w r hh 32 (xN X 3) 0 0), .int (xWlk X w r hh 33 (xN X 3) 0 0), .int (xWlk X w r hh 34 (xN X 3) 0 0), .ref (ad1 22 (4 + xN X 3) 0)]))
      rw [al]
      unfold xWlk
      rw [← hn3]
      simp only [bU_s, bU_ff (show (30 : Nat) ≠ 28 by decide), bU_ff (show (30 : Nat) ≠ 69 by decide), bU_ff (show (30 : Nat) ≠ 68 by decide), bU_ff (show (30 : Nat) ≠ 35 by decide), bU_ff (show (30 : Nat) ≠ 34 by decide), bU_ff (show (30 : Nat) ≠ 33 by decide), bU_ff (show (30 : Nat) ≠ 32 by decide), bU_ff (show (30 : Nat) ≠ 31 by decide),
        bU_ff (show (31 : Nat) ≠ 28 by decide), bU_ff (show (31 : Nat) ≠ 69 by decide), bU_ff (show (31 : Nat) ≠ 68 by decide), bU_ff (show (31 : Nat) ≠ 35 by decide), bU_ff (show (31 : Nat) ≠ 34 by decide), bU_ff (show (31 : Nat) ≠ 33 by decide), bU_ff (show (31 : Nat) ≠ 32 by decide),
        bU_ff (show (32 : Nat) ≠ 28 by decide), bU_ff (show (32 : Nat) ≠ 69 by decide), bU_ff (show (32 : Nat) ≠ 68 by decide), bU_ff (show (32 : Nat) ≠ 35 by decide), bU_ff (show (32 : Nat) ≠ 34 by decide), bU_ff (show (32 : Nat) ≠ 33 by decide),
        bU_ff (show (33 : Nat) ≠ 28 by decide), bU_ff (show (33 : Nat) ≠ 69 by decide), bU_ff (show (33 : Nat) ≠ 68 by decide), bU_ff (show (33 : Nat) ≠ 35 by decide), bU_ff (show (33 : Nat) ≠ 34 by decide),
        bU_ff (show (34 : Nat) ≠ 28 by decide), bU_ff (show (34 : Nat) ≠ 69 by decide), bU_ff (show (34 : Nat) ≠ 68 by decide), bU_ff (show (34 : Nat) ≠ 35 by decide)]
    · rw [al]
      refine ⟨ol, ?_, by decide, fun z => by omega⟩
      rw [hl]
      show some (true, (Sum.inr (16, [.int 0, .ref κ.2.1, .int 0]) : mE)) = some (true, Sum.inr (16, [.int (xWlk X w r hh 68 (4 + xN X 3) 0 0), .ref (if xWlk X w r hh 69 (4 + xN X 3) 0 0 = 0 then κ.2.1 else ad1 23 (4 + xN X 3) 0), .int (xZ (xWlk X w r hh) (4 + xN X 3))]))
      rw [e68, e69, hZn, if_pos rfl]
  · rcases hN with ⟨rfl, rfl, rfl⟩ | ⟨rfl, rfl, rfl⟩ <;> rcases hN' with ⟨rfl, rfl, rfl⟩ | ⟨rfl, rfl, rfl⟩
    · exact ⟨rfl, rfl, rfl⟩
    · rw [au, al] at he; exact absurd he hul
    · rw [au, al] at he; exact absurd he.symm hul
    · exact ⟨rfl, rfl, rfl⟩
  · show bIn (xZ (xWlk X w r hh) 3) 0 40 = true
    rw [hz]
    unfold bIn
    rw [show (40 : Int32) = Int32.ofNat 40 from rfl]
    rw [decide_eq_true (show (0 : Int32) ≤ Int32.ofNat (xN X 3 + 1) from (i_le (a := 0) (by decide) (by omega)).mpr (by omega)), decide_eq_true ((i_le (c := 40) (by omega) (by decide)).mpr (by omega))]; rfl
  · rw [hN3] at hi
    by_cases y : i = 4 + xN X 3
    · subst y
      rw [hZn, hNn, e69]
      exact ⟨by decide, Nat.zero_le _, by decide⟩
    · rw [hZi i hi2 y, hNi i hi2 y, xWlk_L (Or.inr rfl) (by rw [← hn3]; exact y)]
      exact hI.2 i (by omega)
theorem x_walk57 {P : Int32 → mM → Prop} {Xx : String → Nat → mM → Prop} (h : rX κ M ad X) (hI : xI X) (hG : κ.2.1 = G.2.2 0) (hC : κ.1 (G.2.2 0) = some (false, .inl (5, 0, mRs fun _ => none))) (h40 : xN X 3 < 40) {w r hh : Int32} (hb : 330 ≤ b) (bad : isGo X w (xN X 3) = true → ∀ q, Xx "java/lang/IllegalStateException" q M) (kk : isGo X w (xN X 3) = false → ∀ M' ad' X', rX κ M' ad' X' → xI X' → xE (xWlk X w r hh) X' → P (X 28 0 0 0) M') : ∀ (n c q : Nat), c + n = xN X 3 → n < q → isGo X w c = false → wl_X1_walk_57 G P Xx q b M κ.2.2.1 w r hh (Int32.ofNat c)
  | _, _, 0, _, hq, _ => absurd hq (Nat.not_lt_zero _)
  | 0, c, q + 1, hc, _, hg => by
    have : c = xN X 3 := by omega
    subst this
    have hL : 3 < 4 + xN X 3 := by omega
    obtain ⟨e, e2⟩ := hI.z hL
    unfold wl_X1_walk_57
    refine gfa_ h.main rfl ⟨isc_ (h.list hL), x_size h hL ⟨fun _ => gfa_ h.main rfl ⟨by omega, fun u hu => ?_⟩, fun z => absurd (by rw [e]; exact Int32.le_refl _) z⟩⟩
    have fu := hu u (Nat.le_refl _)
    have hxu := h.fresh fu
    have h1 := h.oth hxu (.inr (14, dfsX17))
    refine gfi_ h1.main rfl ⟨4, b - (6 + 1) - 4, by omega, ?_⟩
    unfold wp_X17_init
    refine ⟨_, mset_s _ _ _, Nat.le_of_ble_eq_true rfl, ?_⟩
    rw [mset_mset]
    refine ⟨by decide, fun l hl => ?_⟩
    have fl := hl l (Nat.le_refl _)
    have hlu : l ≠ u := fun y => by rw [y, mset_s] at fl; cases fl
    rw [mset_n hlu] at fl
    have hxl := h.fresh fl
    unfold wp_J2_init wp_J1_init_J2 wp_J0_init_J2
    refine ⟨_, mset_s _ _ _, Nat.le_of_ble_eq_true rfl, ?_⟩
    rw [mset_mset]
    refine ⟨_, mset_s _ _ _, Nat.le_of_ble_eq_true rfl, ?_⟩
    rw [mset_mset]
    refine ⟨_, by rw [mset_n (Ne.symm hlu)]; exact mset_s _ _ _, Nat.le_of_ble_eq_true rfl, ?_⟩
    refine ⟨_, mset_s _ _ _, Nat.le_of_ble_eq_true rfl, ?_⟩
    rw [mset_mset]
    refine ⟨_, mset_s _ _ _, Nat.le_of_ble_eq_true rfl, ?_⟩
    rw [mset_mset]
    refine ⟨_, mset_s _ _ _, Nat.le_of_ble_eq_true rfl, ?_⟩
    rw [mset_mset]
    refine ⟨_, mset_s _ _ _, Nat.le_of_ble_eq_true rfl, ?_⟩
    rw [mset_mset]
    have h2 := ((h.oth hxu (.inr (14, (List.set dfsX17 4 (.int 0))))).oth hxl (.inr (16, [.int 0, .ref κ.2.1, .int 0]))).oth hxu (.inr (14, [.int w, .int r, .int hh, .int (X 2 0 0 0), .int 0, .ref l]))
    have hee : (.inr (16, [.int 0, .ref κ.2.1, .int 0]) : mE) = .inr (16, [.int 0, .ref (G.2.2 0), .int 0]) := by rw [hG]
    rw [hee] at h2
    refine ⟨isc_ (h2.list hL), 310, b - (6 + 1) - 4 - 310, by omega, x_pushK h2 hI hG hC h40 (mset_s _ _ _) (by rw [mset_n hlu, mset_s, hG]) hxu hxl (Nat.le_refl _) fun M3 ad3 X3 h3 hI3 hE3 => ?_⟩
    have hL3 : 3 < 4 + xN X3 3 := by omega
    refine gfa_ h3.main rfl ⟨isc_ (h3.list hL3), x_size h3 hL3 ?_⟩
    have e28 : xZ X3 3 - 1 = X 28 0 0 0 := by
      show X3 28 0 0 0 - 1 = _
      rw [hE3 28 (by decide) (by decide)]
      unfold xWlk
      rw [bU_s]
      exact Int32.add_sub_cancel _ _
    rw [e28]
    exact kk hg M3 ad3 X3 h3 hI3 hE3
  | n + 1, c, q + 1, hc, hq, hg => by
    have hL : 3 < 4 + xN X 3 := by omega
    obtain ⟨e, e2⟩ := hI.z hL
    have hc3 : c < xN X 3 := by omega
    have hv : vp_in (Int32.ofNat c) (xN X 3) := i_vp (by omega) hc3
    have ec : nn (Int32.ofNat c) = c := i_nn (by omega)
    have ha := h.at (xl24 hL hc3)
    have ex : isGo X w (c + 1) = (isGo X w c || (decide (X 30 c 0 0 = w) && decide (X 34 c 0 0 = 0))) := rfl
    unfold wl_X1_walk_57 wb_X1_walk_112 wb_X1_walk_117
    refine gfa_ h.main rfl ⟨isc_ (h.list hL), x_size h hL ⟨fun z => ?_, fun _ => gfa_ h.main rfl ⟨isc_ (h.list hL), x_get h hI hL hv ?_⟩⟩⟩
    · rw [e] at z
      have := (i_le (by omega) (by omega)).mp z
      omega
    · rw [ec]
      have go : isGo X w (c + 1) = false → ∃ b49 r50 : Nat, b49 + r50 = b ∧ wp_X1_checkState G b49 (fun M48 => wl_X1_walk_57 G P Xx q r50 M48 κ.2.2.1 w r hh (Int32.ofNat c + 1)) Xx M 1 := fun y => by
        refine ⟨0, b, Nat.zero_add _, ?_⟩
        unfold wp_X1_checkState
        refine ⟨fun _ => ?_, fun v => absurd v (by decide)⟩
        rw [i_s]
        exact x_walk57 h hI hG hC h40 hb bad kk n (c + 1) q (by omega) (by omega) y
      refine ⟨isc_ ha, gfi_ ha rfl ⟨fun z => go ?_, fun z => gfa_ h.main rfl ⟨isc_ (h.list hL), x_get h hI hL hv ?_⟩⟩⟩
      · rw [ex, hg, decide_eq_false z]; rfl
      · rw [ec]
        refine ⟨isc_ ha, gfi_ ha rfl ⟨fun y => ⟨b, 0, rfl, x_cst (by omega) (fun v => absurd rfl v) fun _ => bad ?_⟩, fun y => go ?_⟩⟩
        · have : isGo X w (c + 1) = true := by
            rw [ex, hg, decide_eq_true z, decide_eq_true y]; rfl
          have m := isGo_m this n
          rw [show c + 1 + n = xN X 3 by omega] at m
          exact m
        · rw [ex, hg, decide_eq_true z, decide_eq_false y]; rfl
theorem x0_walk (h : rX κ M ad X) (hI : xI X) (hG : κ.2.1 = G.2.2 0) (hC : κ.1 (G.2.2 0) = some (false, .inl (5, 0, mRs fun _ => none))) {w r hh : Int32} {K : Int32 → mM → Prop} (hb : 400 ≤ b) (kk : ∀ M' ad' X', rX κ M' ad' X' → xI X' → xE (xs (eWalkO X w r hh) X (xWlk X w r hh)) X' → (eWalkO X w r hh = 0 → xOut κ M' (X 28 0 0 0).toInt64) → K (eWalkO X w r hh) M') : wp_X0_walk G b K M κ.2.2.1 w r hh κ.2.2.2 := by
  have hL1 : 1 < 4 + xN X 3 := by omega
  have hL2 : 2 < 4 + xN X 3 := by omega
  have hL3 : 3 < 4 + xN X 3 := by omega
  have hn3 : xN X 3 = nn (X 28 0 0 0) := rfl
  have nok : ∀ e, eWalkO X w r hh = e → ¬ e = 0 → K e M := fun e he hne => by
    subst he
    exact kk M ad X h hI (fun g _ _ => by rw [xs1 hne]) fun z => absurd z hne
  unfold wp_X0_walk wp_X1_walk wb_X1_walk_51 wb_X0_walk_15 wb_X0_walk_19 wb_X0_walk_23
  refine ⟨h.isc, b, 0, rfl, gfa_ h.main rfl ⟨isc_ (h.list hL2), x_size h hL2 ⟨7, b - 7, by omega, x_cix (bIn_t (hI.2 2 hL2).1).1 rfl (by omega) (fun z1 => gfa_ h.main rfl ⟨isc_ (h.list hL1), x_size h hL1 ⟨7, b - 7 - 7, by omega, x_cix (bIn_t (hI.2 1 hL1).1).1 rfl (by omega) (fun z2 => ⟨7, b - 7 - 7 - 7, by omega, x_crg (by omega) (fun z3 => gfa_ h.main rfl ⟨isc_ (h.list hL3), x_size h hL3 ?_⟩) fun z3 q => Or.inl ⟨rfl, nok 2 ?_ (by decide)⟩⟩) fun z2 q => Or.inr (Or.inr ⟨rfl, nok 1 ?_ (by decide)⟩)⟩⟩) fun z1 q => Or.inr (Or.inr ⟨rfl, nok 1 ?_ (by decide)⟩)⟩⟩⟩
  · change bIn w 0 (X 27 0 0 0 - 1) = true at z1
    change bIn r 0 (X 24 0 0 0 - 1) = true at z2
    have e1 : bE (eWalker X w || eRoute X r) (!bIn hh 0 3) false = 0 := by
      unfold eWalker eRoute
      rw [z1, z2, z3]; rfl
    have eO : eWalkO X w r hh = bE false false (decide (X 28 0 0 0 = 40) || isGo X w (nn (X 28 0 0 0))) := by
      unfold eWalkO
      rw [if_pos e1]
    refine ⟨fun z4 => ⟨b - 7 - 7 - 7, 0, rfl, x_cst (by omega) (fun v => absurd rfl v) fun _ q => Or.inr (Or.inl ⟨rfl, nok 3 ?_ (by decide)⟩)⟩, fun z4 => ⟨7, b - 7 - 7 - 7 - 7, by omega, x_cst (by omega) (fun _ => ⟨xN X 3 + 1, ?_⟩) fun v => absurd v (by decide)⟩⟩
    · have z6 : X 28 0 0 0 = 40 := Int32.le_antisymm (bIn_t hI.1).2 z4
      rw [eO, decide_eq_true z6]; rfl
    · have z6 : ¬ X 28 0 0 0 = 40 := fun y => z4 (by show (40 : Int32) ≤ X 28 0 0 0; rw [y]; decide)
      have h40 : xN X 3 < 40 := by
        have h9 : nn (X 28 0 0 0) ≤ 40 := i_nle (bIn_t hI.1).1 (bIn_t hI.1).2
        have h8 : ¬ nn (X 28 0 0 0) = 40 := fun y => z6 (by rw [i_of (bIn_t hI.1).1, y]; rfl)
        rw [hn3]
        omega
      refine x_walk57 h hI hG hC h40 (by omega) (fun g q => Or.inr (Or.inl ⟨rfl, nok 3 ?_ (by decide)⟩)) (fun g M1 ad1 X1 h1 hI1 hE1 => ?_) (xN X 3) 0 _ (Nat.zero_add _) (Nat.lt_succ_self _) rfl
      · have eZ : eWalkO X w r hh = 0 := by
          rw [eO, ← hn3, g, decide_eq_false z6]; rfl
        rw [eZ] at kk
        exact x_out h1 fun M' h' ho => kk M' ad1 X1 h' hI1 hE1 fun _ => ho
      · rw [eO, ← hn3, g, Bool.or_true]; rfl
  · change bIn w 0 (X 27 0 0 0 - 1) = true at z1
    change bIn r 0 (X 24 0 0 0 - 1) = true at z2
    unfold eWalkO eWalker eRoute
    rw [z1, z2, z3]
    rfl
  · change bIn w 0 (X 27 0 0 0 - 1) = true at z1
    change bIn r 0 (X 24 0 0 0 - 1) = false at z2
    unfold eWalkO eWalker eRoute
    rw [z1, z2]
    rfl
  · change bIn w 0 (X 27 0 0 0 - 1) = false at z1
    unfold eWalkO eWalker eRoute
    rw [z1]
    rfl
end B92
