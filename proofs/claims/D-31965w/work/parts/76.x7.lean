/-! THE CLASS's setSluice, setCell, cellAt -/
theorem i_m1 {p : Int32} : bIn (p - (-1)) 0 4 = true ↔ (p = -1 ∨ bIn p 0 3 = true) := by
  have s : (p - (-1)).toInt = (p.toInt + 1).bmod (2 ^ 32) := by
    rw [Int32.toInt_sub]
    rfl
  have l1 := Int32.le_toInt p
  have l2 := Int32.toInt_lt p
  have e1 : p = -1 ↔ p.toInt = -1 := by
    rw [← Int32.toInt_inj]; rfl
  unfold bIn
  rw [Bool.and_eq_true, Bool.and_eq_true, decide_eq_true_iff, decide_eq_true_iff, decide_eq_true_iff, decide_eq_true_iff, Int32.le_iff_toInt_le, Int32.le_iff_toInt_le, Int32.le_iff_toInt_le, Int32.le_iff_toInt_le, e1, s]
  show (0 : Int) ≤ (p.toInt + 1).bmod (2 ^ 32) ∧ (p.toInt + 1).bmod (2 ^ 32) ≤ 4 ↔ p.toInt = -1 ∨ (0 : Int) ≤ p.toInt ∧ p.toInt ≤ 3
  by_cases hz : p.toInt + 1 < 2 ^ 31
  · rw [Int.bmod_eq_of_le (by omega) (by omega)]
    omega
  · have hv : p.toInt = 2 ^ 31 - 1 := by omega
    rw [hv]
    constructor
    · intro h
      exact absurd h (by decide)
    · intro h
      omega
section B76
variable {G : mG} {b : Nat} {κ : xK} {M : mM} {ad : xA} {X : bS}
theorem x_pslu (h : rX κ M ad X) {k : Nat} (hk : k < xN X 0) {o : Int32} (ho : o = 0 ∨ o = 1) {K : mM → Prop} (kk : ∀ M', rX κ M' ad (bU X 17 k 0 0 o) → (∀ a, xO κ ad X a → M' a = M a) → K M') : pfn M (ad 24 0 k) 4 3 .boolean o K := by
  have hl : xL X 24 0 k := xl24 (by omega) hk
  refine ⟨_, h.at hl, Nat.le_of_ble_eq_true rfl, by rcases ho with rfl | rfl <;> exact ⟨rfl, rfl⟩, kk _ (h.putU hl (by decide) (by decide) ?_ fun i' j' hl' hn => ?_) fun a ha => mset_n (Ne.symm (ha.1 _ _ _ hl))⟩
  · show (Sum.inr (4, [.int (X 14 k 0 0), .int (X 15 k 0 0), .int (X 16 k 0 0), .int o]) : mE) = Sum.inr (4, [.int (bU X 17 k 0 0 o 14 k 0 0), .int (bU X 17 k 0 0 o 15 k 0 0), .int (bU X 17 k 0 0 o 16 k 0 0), .int (bU X 17 k 0 0 o 17 k 0 0)])
    rw [bU_s, bU_f (by decide), bU_f (by decide), bU_f (by decide)]
  · have e : ∀ g, g ≠ 17 → bU X 17 k 0 0 o g = X g := fun g hg => bU_ff hg
    show xEl ad (bU X 17 k 0 0 o) i' j' = xEl ad X i' j'
    unfold xEl
    by_cases z : i' = 0
    · subst z
      have hj : j' ≠ k := fun y => hn ⟨rfl, y⟩
      rw [if_pos rfl, if_pos rfl, e 14 (by decide), e 15 (by decide), e 16 (by decide), bU_i hj]
    · rw [if_neg z, if_neg z, e 30 (by decide), e 31 (by decide), e 32 (by decide), e 33 (by decide), e 34 (by decide), e 64 (by decide), e 65 (by decide), e 66 (by decide), e 67 (by decide)]
theorem x0_setSluice (h : rX κ M ad X) (hI : xI X) (h8 : xN X 0 ≤ 8) (h17 : ∀ k, k < 8 → X 17 k 0 0 = 0 ∨ X 17 k 0 0 = 1) {k o : Int32} (ho : o = 0 ∨ o = 1) {K : Int32 → mM → Prop} (hb : 30 ≤ b) (kk : ∀ M', rX κ M' ad (xs (eSetSluice X k) X (bU X 17 (nn k) 0 0 o)) → (eSetSluice X k = 0 → xOut κ M' (if X 17 (nn k) 0 0 = 0 then 0 else 1)) → K (eSetSluice X k) M') : wp_X0_setSluice G b K M κ.2.2.1 k o κ.2.2.2 := by
  unfold eSetSluice at kk
  unfold wp_X0_setSluice wp_X1_setSluice wb_X0_setSluice_16 wb_X0_setSluice_20
  have hL : 0 < 4 + xN X 3 := by omega
  refine ⟨h.isc, b, 0, rfl, gfa_ h.main rfl ⟨b, 0, rfl, x_at h hI hL (by omega) (fun z => ?_) fun z q => ⟨rfl, ?_⟩⟩⟩
  · change bIn k 0 (X 13 0 0 0 - 1) = true at z
    rw [z] at kk
    have hr := (b_inN (n := 200) z (hI.2 0 hL).1 (by decide)).2
    change nn k < xN X 0 at hr
    have ha := h.at (xl24 hL hr)
    refine ⟨isc_ ha, gfi_ ha rfl (x_pslu h hr ho fun M1 h1 _ => ⟨?_, fun z0 => ?_, fun z0 => ?_⟩)⟩
    · rcases h17 (nn k) (by omega) with e | e <;> rw [e] <;> rfl
    · exact x_out h1 fun M' h' ho' => kk M' h' fun _ => by rw [if_pos z0]; exact ho'
    · exact x_out h1 fun M' h' ho' => kk M' h' fun _ => by rw [if_neg z0]; exact ho'
  · change bIn k 0 (X 13 0 0 0 - 1) = false at z
    rw [z] at kk
    exact kk M h (fun w9 => by first | exact absurd (show (1 : Int32) = 0 from w9) (by decide) | exact absurd (show (2 : Int32) = 0 from w9) (by decide) | exact absurd (show (3 : Int32) = 0 from w9) (by decide))
/-- another object in a cell's place -/
def xSw (X : bS) (c : Nat) (g v p : Int32) : bS := bU (bU (bU (bU (bU X 3 c 0 0 g) 4 c 0 0 v) 5 c 0 0 p) 60 c 0 0 3) 61 c 0 0 0
theorem xC_ad {e t i j : Nat} {ad' : xA} (h : ∀ t', t' ≠ 20 → ad' t' = ad t') (ht : t ≠ 0) : xC e ad' X t i j = xC e ad X t i j := by
  unfold xC xEl xMain
  rw [if_neg ht, if_neg ht, h 0 (by decide), h 1 (by decide), h 2 (by decide), h 3 (by decide), h 8 (by decide), h 9 (by decide), h 10 (by decide), h 11 (by decide), h 12 (by decide), h 21 (by decide), h 22 (by decide), h 23 (by decide), h 24 (by decide), h 25 (by decide), h 26 (by decide), h 27 (by decide), h 28 (by decide), h 29 (by decide)]
theorem rX.swap (h : rX κ M ad X) {c u : Nat} (hc : c < 36) (hu : M u = none) {g v p : Int32} : rX κ (mset (mset M u (.inr (1, [.int g, .int v, .int p, .int 3, .int 0]))) (ad 0 0 0) (.inl (6, 36, mRs (va_up (tb 36 fun c => ad 20 c 0) c (some u))))) (fun t i j => if t = 20 ∧ i = c ∧ j = 0 then u else ad t i j) (xSw X c g v p) := by
  have hx := h.fresh hu
  have h0 : xL X 0 0 0 := xl0 (by decide)
  have hL : ∀ t i j, xL (xSw X c g v p) t i j → xL X t i j := fun t i j hl => (xL_of (fun f hf => by
    unfold xSw
    simp only [List.mem_cons, List.not_mem_nil, or_false] at hf
    rw [bU_ff (by omega), bU_ff (by omega), bU_ff (by omega), bU_ff (by omega), bU_ff (by omega)]) t i j).mp hl
  have c20 : ∀ {i j}, xL X 20 i j → i < 36 ∧ j = 0 := fun {i j} hl => by
    rcases hl with z | z | z | z | z | z | z | z | z | z <;> first | exact ⟨z.2.1, z.2.2⟩ | (have z := z.1; simp at z)
  have c0 : ∀ {i j}, xL X 0 i j → i = 0 ∧ j = 0 := fun {i j} hl => by
    rcases hl with z | z | z | z | z | z | z | z | z | z <;> first | exact ⟨z.2.1, z.2.2⟩ | (have z := z.1; omega)
  have a20 : ∀ t', t' ≠ 20 → (fun t i j => if t = 20 ∧ i = c ∧ j = 0 then u else ad t i j) t' = ad t' := fun t' ht => by
    funext i j
    exact if_neg fun z => ht z.1
  obtain ⟨h1, h2, h3, h4, ⟨f, h5⟩, h6⟩ := id h
  refine ⟨fun t i j hl => ?_, fun t i j t' i' j' hl hl' he => ?_, fun a x hxa => ?_, ?_, ⟨f, ?_⟩, fun t i j hl => ?_⟩
  · have hl := hL t i j hl
    by_cases z : t = 20 ∧ i = c ∧ j = 0
    · obtain ⟨rfl, rfl, rfl⟩ := z
      show mset _ _ _ (if 20 = 20 ∧ i = i ∧ 0 = 0 then u else ad 20 i 0) = _
      rw [if_pos ⟨rfl, rfl, rfl⟩, mset_n (fun y => hx.1 0 0 0 h0 y.symm), mset_s]
      show some (true, (Sum.inr (1, [.int g, .int v, .int p, .int 3, .int 0]) : mE)) = some (true, Sum.inr (1, [.int (xSw X i g v p 3 i 0 0), .int (xSw X i g v p 4 i 0 0), .int (xSw X i g v p 5 i 0 0), .int (xSw X i g v p 60 i 0 0), .int (xSw X i g v p 61 i 0 0)]))
      unfold xSw
      rw [bU_s, bU_f (f' := 3) (by decide), bU_f (f' := 3) (by decide), bU_f (f' := 3) (by decide), bU_f (f' := 3) (by decide), bU_s, bU_f (f' := 4) (by decide), bU_f (f' := 4) (by decide), bU_f (f' := 4) (by decide), bU_s, bU_f (f' := 5) (by decide), bU_f (f' := 5) (by decide), bU_s, bU_f (f' := 60) (by decide), bU_s]
    · show mset _ _ _ (if t = 20 ∧ i = c ∧ j = 0 then u else ad t i j) = _
      rw [if_neg z]
      by_cases y : t = 0
      · subst y
        obtain ⟨rfl, rfl⟩ := c0 hl
        rw [mset_s]
        show some (true, (Sum.inl (6, 36, mRs (va_up (tb 36 fun c => ad 20 c 0) c (some u))) : mE)) = some (true, Sum.inl (6, 36, mRs (tb 36 fun k => if 20 = 20 ∧ k = c ∧ 0 = 0 then u else ad 20 k 0)))
        refine congrArg (fun g : Nat → Option Nat => some (true, (Sum.inl (6, 36, mRs g) : mE))) (funext fun k => ?_)
        unfold va_up tb
        by_cases w : k = c
        · rw [if_pos w, if_pos (by omega)]
          exact congrArg some (if_pos ⟨rfl, w, rfl⟩).symm
        · rw [if_neg w]
          by_cases v : k < 36
          · rw [if_pos v, if_pos v]
            exact congrArg some (if_neg fun q => w q.2.1).symm
          · rw [if_neg v, if_neg v]
      · have hne : ad t i j ≠ ad 0 0 0 := fun q => y (h2 _ _ _ _ _ _ hl h0 q).1
        rw [mset_n hne, mset_n (hx.1 t i j hl), h1 t i j hl, xC_ad a20 y]
        congr 2
        by_cases w : t = 20
        · subst w
          obtain ⟨w1, rfl⟩ := c20 hl
          have hi : i ≠ c := fun q => z ⟨rfl, q, rfl⟩
          show (Sum.inr (1, [.int (X 3 i 0 0), .int (X 4 i 0 0), .int (X 5 i 0 0), .int (X 60 i 0 0), .int (X 61 i 0 0)]) : mE) = Sum.inr (1, [.int (xSw X c g v p 3 i 0 0), .int (xSw X c g v p 4 i 0 0), .int (xSw X c g v p 5 i 0 0), .int (xSw X c g v p 60 i 0 0), .int (xSw X c g v p 61 i 0 0)])
          unfold xSw
          simp only [bU_i hi]
        · refine (xC_of hl fun f hf => ?_).symm
          have hn : ∀ q, q ∈ [3, 4, 5, 60, 61] → f ≠ q := fun q hq e => by
            subst e
            refine w (xR_t (f := f) (t0 := 20) ?_ hf)
            simp only [List.mem_cons, List.not_mem_nil, or_false] at hq
            rcases hq with rfl | rfl | rfl | rfl | rfl <;> decide
          unfold xSw
          rw [bU_ff (hn 61 (by decide)), bU_ff (hn 60 (by decide)), bU_ff (hn 5 (by decide)), bU_ff (hn 4 (by decide)), bU_ff (hn 3 (by decide))]
  · have hl := hL t i j hl
    have hl' := hL t' i' j' hl'
    change (if t = 20 ∧ i = c ∧ j = 0 then u else ad t i j) = (if t' = 20 ∧ i' = c ∧ j' = 0 then u else ad t' i' j') at he
    by_cases z : t = 20 ∧ i = c ∧ j = 0 <;> by_cases z' : t' = 20 ∧ i' = c ∧ j' = 0
    · exact ⟨z.1.trans z'.1.symm, z.2.1.trans z'.2.1.symm, z.2.2.trans z'.2.2.symm⟩
    · rw [if_pos z, if_neg z'] at he
      exact absurd he.symm (hx.1 t' i' j' hl')
    · rw [if_neg z, if_pos z'] at he
      exact absurd he (hx.1 t i j hl)
    · rw [if_neg z, if_neg z'] at he
      exact h2 _ _ _ _ _ _ hl hl' he
  · have hau : a ≠ u := fun z => hx.2.2 x (z ▸ hxa)
    rw [mset_n (fun z => ?_), mset_n hau]
    · exact h3 a x hxa
    · have := h3 a x hxa
      rw [z, h1 _ _ _ h0] at this
      cases this
  · show (if 40 = 20 ∧ 0 = c ∧ 0 = 0 then u else ad 40 0 0) = _
    rw [if_neg (by omega)]
    exact h4
  · rw [mset_n (Ne.symm (h6 _ _ _ h0)), mset_n (Ne.symm hx.2.1)]
    exact h5
  · show (if t = 20 ∧ i = c ∧ j = 0 then u else ad t i j) ≠ _
    split
    · exact hx.2.1
    · exact h6 t i j (hL t i j hl)
theorem x0_setCell (h : rX κ M ad X) {c g v p : Int32} {K : Int32 → mM → Prop} (hb : 50 ≤ b) (kk : ∀ M' ad', rX κ M' ad' (xs (eSetCell c g v p) X (xSw X (nn c) g v p)) → (eSetCell c g v p = 0 → xOut κ M' (X 4 (nn c) 0 0).toInt64) → K (eSetCell c g v p) M') : wp_X0_setCell G b K M κ.2.2.1 c g v p κ.2.2.2 := by
  unfold eSetCell at kk
  unfold wp_X0_setCell wp_X1_setCell wb_X0_setCell_17 wb_X0_setCell_21
  have hp : bIn (p - (-1)) 0 4 = !(decide (p ≠ -1) && !bIn p 0 3) := by
    have := i_m1 (p := p)
    by_cases z : p = -1
    · rw [this.mpr (Or.inl z), decide_eq_false (not_not_intro z)]; rfl
    · rw [decide_eq_true z, Bool.true_and, Bool.not_not]
      cases hh : bIn p 0 3 with
      | true => exact this.mpr (Or.inr hh)
      | false =>
        cases h4 : bIn (p - (-1)) 0 4 with
        | false => rfl
        | true =>
          rcases this.mp h4 with q | q
          · exact absurd q z
          · rw [hh] at q; cases q
  generalize (decide (p ≠ -1) && !bIn p 0 3) = pb at hp kk
  refine ⟨h.isc, b, 0, rfl, 7, b - 7, by omega, x_cix (m := 35) (by decide) (by decide) (by omega) (fun z => ⟨7, b - 7 - 7, by omega, x_cix (m := 4) (by decide) (by decide) (by omega) (fun y => ⟨7, b - 7 - 7 - 7, by omega, x_crg (by omega) (fun w => ⟨7, b - 7 - 7 - 7 - 7, by omega, x_crg (by omega) (fun x => ?_) fun x q => Or.inl ⟨rfl, ?_⟩⟩) fun w q => Or.inl ⟨rfl, ?_⟩⟩) fun y q => Or.inr ⟨rfl, ?_⟩⟩) fun z q => Or.inr ⟨rfl, ?_⟩⟩
  · rw [hp] at y
    have y : pb = false := by simpa using y
    rw [z, y, w, x] at kk
    have hi : vp_in c 36 := bIn_v z (by decide)
    have hl := bLt hi
    refine gfa_ h.main rfl (lda_ (h.at (xl0 (t := 0) (by decide))) hi (if_pos hl) (gfi_ (h.at (xl20 hl)) rfl (gfa_ h.main rfl ⟨by omega, fun u hu => ?_⟩)))
    have hfr := hu u (Nat.le_refl _)
    have hx := h.fresh hfr
    have hne : ad 0 0 0 ≠ u := hx.1 0 0 0 (xl0 (by decide))
    unfold wp_X2_init_2
    refine ⟨_, mset_s _ _ _, Nat.le_of_ble_eq_true rfl, ?_⟩
    rw [mset_mset]
    refine ⟨_, mset_s _ _ _, Nat.le_of_ble_eq_true rfl, ?_⟩
    rw [mset_mset]
    refine ⟨_, mset_s _ _ _, Nat.le_of_ble_eq_true rfl, ?_⟩
    rw [mset_mset]
    refine ⟨_, mset_s _ _ _, Nat.le_of_ble_eq_true rfl, ?_⟩
    rw [mset_mset]
    refine ⟨isc_ (mset_s _ _ _), 36, tb 36 fun c => ad 20 c 0, by rw [mset_n hne]; exact h.at (xl0 (t := 0) (by decide)), hi, ?_⟩
    exact x_out (h.swap (c := nn c) (u := u) hl hfr (g := g) (v := v) (p := p)) fun M' h' ho => kk M' _ h' fun _ => ho
  · rw [hp] at y
    have y : pb = false := by simpa using y
    rw [z, y, w, x] at kk
    exact kk M ad h (fun w9 => by first | exact absurd (show (1 : Int32) = 0 from w9) (by decide) | exact absurd (show (2 : Int32) = 0 from w9) (by decide) | exact absurd (show (3 : Int32) = 0 from w9) (by decide))
  · rw [hp] at y
    have y : pb = false := by simpa using y
    rw [z, y, w] at kk
    exact kk M ad h (fun w9 => by first | exact absurd (show (1 : Int32) = 0 from w9) (by decide) | exact absurd (show (2 : Int32) = 0 from w9) (by decide) | exact absurd (show (3 : Int32) = 0 from w9) (by decide))
  · rw [hp] at y
    have y : pb = true := by simpa using y
    rw [z, y] at kk
    exact kk M ad h (fun w9 => by first | exact absurd (show (1 : Int32) = 0 from w9) (by decide) | exact absurd (show (2 : Int32) = 0 from w9) (by decide) | exact absurd (show (3 : Int32) = 0 from w9) (by decide))
  · rw [z] at kk
    exact kk M ad h (fun w9 => by first | exact absurd (show (1 : Int32) = 0 from w9) (by decide) | exact absurd (show (2 : Int32) = 0 from w9) (by decide) | exact absurd (show (3 : Int32) = 0 from w9) (by decide))
end B76
