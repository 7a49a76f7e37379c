/-! THE CLASS's type -/
theorem and255 (z : Int64) : ∃ m : Nat, m < 256 ∧ (z &&& 255) = Int64.ofNat m := by
  refine ⟨(z &&& 255).toBitVec.toNat, ?_, ?_⟩
  · have e : (z &&& 255).toBitVec = z.toBitVec &&& 255#64 := rfl
    rw [e, BitVec.toNat_and]
    have h255 : (255#64).toNat = 255 := rfl
    rw [h255]
    exact Nat.lt_succ_of_le Nat.and_le_right
  · refine Int64.toBitVec_inj.mp ?_
    show _ = BitVec.ofNat 64 _
    exact (BitVec.ofNat_toNat _ _).symm ▸ (by simp)
theorem ty255 : ∀ m : Nat, m < 256 → (lg_cmp (Int64.ofNat m) 0 = 0 ↔ m = 0) ∧ (Int64.ofNat m).toInt32 = Int32.ofNat m ∧ (((Int64.ofNat m).toInt32).toUInt32 % 65536).toInt32 = Int32.ofNat m ∧ (Int32.ofNat m = 0 ↔ m = 0) := by decide +kernel
theorem tyB_m (y : Int64) (n : Nat) : ∃ m : Nat, m < 256 ∧ tyB y n = Int64.ofNat m := and255 _
/-- the text of the class -/
def tI (X : bS) : Prop := bIn (X 18 0 0 0) 0 60 = true ∧ nn (X 18 0 0 0) ≤ nn (X 71 0 0 0) ∧ (X 71 0 0 0 = 16 ∨ X 71 0 0 0 = 34 ∨ X 71 0 0 0 = 70) ∧ (X 72 0 0 0 = 0 ∨ X 72 0 0 0 = 1) ∧ ∀ i, fits .byte (.int (X 70 i 0 0)) = true
def xTxt (X : bS) (f : Nat → Int32) (cap n : Nat) (ml : Int32) : bS := fun g i j k => if g = 70 then f i else if g = 71 then Int32.ofNat cap else if g = 72 then ml else if g = 18 then Int32.ofNat n else X g i j k
theorem xTxt_f {X : bS} {f : Nat → Int32} {cap n : Nat} {ml : Int32} {g : Nat} (h : g ∉ [18, 70, 71, 72]) : xTxt X f cap n ml g = X g := by
  simp only [List.mem_cons, List.not_mem_nil, or_false] at h
  funext i j k
  unfold xTxt
  rw [if_neg (by omega), if_neg (by omega), if_neg (by omega), if_neg (by omega)]
section B95
variable {G : mG} {b : Nat} {κ : xK} {M : mM} {ad : xA} {X : bS}
theorem rX.keep (h : rX κ M ad X) {M' : mM} (ho : ∀ a, ¬ xO κ ad X a → M' a = M a) : rX κ M' ad X := by
  obtain ⟨h1, h2, h3, h4, ⟨f, h5⟩, h6⟩ := id h
  refine ⟨fun t i j hl => ?_, h2, fun a x hx => ?_, h4, ⟨f, ?_⟩, h6⟩
  · rw [ho _ fun z => z.1 t i j hl rfl]; exact h1 t i j hl
  · rw [ho a fun z => z.2.2 x hx]; exact h3 a x hx
  · rw [ho _ fun z => z.2.1 rfl]; exact h5
theorem rX.textB (h : rX κ M ad X) (hT : tI X) : sB M (ad 12 0 0) (ad 29 0 0) (nn (X 18 0 0 0)) (nn (X 71 0 0 0)) (X 72 0 0 0) (fun p => X 70 p 0 0) := by
  obtain ⟨t1, t2, t3, t4, t5⟩ := hT
  refine ⟨?_, h.at (xl0 (t := 29) (by decide)), t2, ?_, t5⟩
  · rw [← i_of (bIn_t t1).1]
    exact h.at (xl0 (t := 12) (by decide))
  · unfold bCap
    rcases t3 with e | e | e <;> rw [e]
    · exact Or.inl rfl
    · exact Or.inr (Or.inl rfl)
    · exact Or.inr (Or.inr rfl)
/-- the text's builder has another array and other signs -/
theorem rX.text (h : rX κ M ad X) {M' : mM} {q n cap : Nat} {ml : Int32} {f : Nat → Int32} (hB : sB M' (ad 12 0 0) q n cap ml f) (hq : q = ad 29 0 0 ∨ xO κ ad X q) (ho : ∀ a, a ≠ ad 12 0 0 → a ≠ q → M' a = M a) : rX κ M' (fun t i j => if t = 29 ∧ i = 0 ∧ j = 0 then q else ad t i j) (xTxt X f cap n ml) := by
  have c100 : cap ≤ 70 := by have := hB.2.2.2.1; unfold bCap at this; omega
  obtain ⟨h1, h2, h3, h4, ⟨g, h5⟩, h6⟩ := id h
  have hL : ∀ t i j, xL (xTxt X f cap n ml) t i j → xL X t i j := fun t i j hl => (xL_of (fun g hg => xTxt_f (by simp only [List.mem_cons, List.not_mem_nil, or_false] at hg ⊢; omega)) t i j).mp hl
  have l12 : xL X 12 0 0 := xl0 (by decide)
  have l29 : xL X 29 0 0 := xl0 (by decide)
  have z0 : ∀ {t i j}, t = 12 ∨ t = 29 → xL X t i j → i = 0 ∧ j = 0 := fun {t i j} ht hl => by
    rcases hl with z | z | z | z | z | z | z | z | z | z <;> first | exact ⟨z.2.1, z.2.2⟩ | (have z := z.1; omega)
  have hq12 : q ≠ ad 12 0 0 := Ne.symm hB.ne
  have oq : ∀ {t i j}, xL X t i j → t ≠ 29 → ad t i j ≠ q := fun {t i j} hl ht z => by
    rcases hq with y | y
    · exact ht (h2 _ _ _ _ _ _ hl l29 (z.trans y)).1
    · exact y.1 t i j hl z
  have e29 : (fun t i j => if t = 29 ∧ i = 0 ∧ j = 0 then q else ad t i j : xA) 29 0 0 = q := if_pos ⟨rfl, rfl, rfl⟩
  have qout : q ≠ κ.2.2.2 := by
    rcases hq with y | y
    · rw [y]; exact h6 _ _ _ l29
    · exact y.2.1
  have qc : ∀ x, κ.1 q ≠ some (false, x) := fun x z => by
    rcases hq with y | y
    · have := h3 q x z
      rw [y, h1 _ _ _ l29] at this
      cases this
    · exact y.2.2 x z
  refine ⟨fun t i j hl => ?_, fun t i j t' i' j' hl hl' he => ?_, fun a x hx => ?_, ?_, ⟨g, ?_⟩, fun t i j hl => ?_⟩
  · have hl := hL t i j hl
    by_cases y29 : t = 29
    · subst y29
      obtain ⟨rfl, rfl⟩ := z0 (Or.inr rfl) hl
      rw [e29, hB.2.1]
      show some (true, (Sum.inl (3, cap, mIs f) : mE)) = some (true, Sum.inl (3, nn (Int32.ofNat cap), mIs fun p => f p))
      rw [i_nn (by omega)]
    · have ea : (fun t i j => if t = 29 ∧ i = 0 ∧ j = 0 then q else ad t i j : xA) t i j = ad t i j := if_neg fun z => y29 z.1
      rw [ea]
      by_cases y12 : t = 12
      · subst y12
        obtain ⟨rfl, rfl⟩ := z0 (Or.inl rfl) hl
        rw [hB.1]
        show some (true, (Sum.inr (17, [.ref q, .int 0, .int ml, .int (Int32.ofNat n)]) : mE)) = some (true, Sum.inr (17, [.ref ((fun t i j => if t = 29 ∧ i = 0 ∧ j = 0 then q else ad t i j : xA) 29 0 0), .int 0, .int (xTxt X f cap n ml 72 0 0 0), .int (xTxt X f cap n ml 18 0 0 0)]))
        rw [e29]
        rfl
      · rw [ho _ (fun z => y12 (h2 _ _ _ _ _ _ hl l12 z).1) (oq hl y29), h1 t i j hl]
        refine congrArg (fun v => some (true, v)) ?_
        have ed : ∀ t', t' ≠ 29 → (fun t i j => if t = 29 ∧ i = 0 ∧ j = 0 then q else ad t i j : xA) t' = ad t' := fun t' ht => by
          funext i j
          exact if_neg fun z => ht z.1
        have ef : xC κ.2.1 ad (xTxt X f cap n ml) t i j = xC κ.2.1 ad X t i j := xC_of hl fun g hg => xTxt_f fun hm => by
          have : ∀ t, t < 41 → g ∈ xR t → t = 12 ∨ t = 29 := by
            simp only [List.mem_cons, List.not_mem_nil, or_false] at hm
            rcases hm with rfl | rfl | rfl | rfl <;> decide
          rcases Nat.lt_or_ge t 41 with z | z
          · rcases this t z hg with w | w
            · exact y12 w
            · exact y29 w
          · rw [xR_big z] at hg
            exact absurd hg (by simp)
        rw [← ef]
        unfold xC xEl xMain
        rw [ed 0 (by decide), ed 1 (by decide), ed 2 (by decide), ed 3 (by decide), ed 8 (by decide), ed 9 (by decide), ed 10 (by decide), ed 11 (by decide), ed 12 (by decide), ed 20 (by decide), ed 21 (by decide), ed 22 (by decide), ed 23 (by decide), ed 24 (by decide), ed 25 (by decide), ed 26 (by decide), ed 27 (by decide), ed 28 (by decide), if_neg y12, if_neg y12]
  · have hl := hL t i j hl
    have hl' := hL t' i' j' hl'
    by_cases y29 : t = 29 <;> by_cases y29' : t' = 29
    · subst y29; subst y29'
      obtain ⟨rfl, rfl⟩ := z0 (Or.inr rfl) hl
      obtain ⟨rfl, rfl⟩ := z0 (Or.inr rfl) hl'
      exact ⟨rfl, rfl, rfl⟩
    · subst y29
      obtain ⟨rfl, rfl⟩ := z0 (Or.inr rfl) hl
      rw [e29] at he
      have ea : (fun t i j => if t = 29 ∧ i = 0 ∧ j = 0 then q else ad t i j : xA) t' i' j' = ad t' i' j' := if_neg fun z => y29' z.1
      rw [ea] at he
      exact absurd he.symm (oq hl' y29')
    · subst y29'
      obtain ⟨rfl, rfl⟩ := z0 (Or.inr rfl) hl'
      rw [e29] at he
      have ea : (fun t i j => if t = 29 ∧ i = 0 ∧ j = 0 then q else ad t i j : xA) t i j = ad t i j := if_neg fun z => y29 z.1
      rw [ea] at he
      exact absurd he (oq hl y29)
    · have ea : (fun t i j => if t = 29 ∧ i = 0 ∧ j = 0 then q else ad t i j : xA) t i j = ad t i j := if_neg fun z => y29 z.1
      have ea' : (fun t i j => if t = 29 ∧ i = 0 ∧ j = 0 then q else ad t i j : xA) t' i' j' = ad t' i' j' := if_neg fun z => y29' z.1
      rw [ea, ea'] at he
      exact h2 _ _ _ _ _ _ hl hl' he
  · rw [ho a (fun z => ?_) (fun z => qc x (z ▸ hx))]
    · exact h3 a x hx
    · have := h3 a x hx
      rw [z, h1 _ _ _ l12] at this
      cases this
  · show (if 40 = 29 ∧ 0 = 0 ∧ 0 = 0 then q else ad 40 0 0) = _
    rw [if_neg (by omega)]
    exact h4
  · rw [ho _ (Ne.symm (h6 _ _ _ l12)) (Ne.symm qout)]
    exact h5
  · by_cases y : t = 29 ∧ i = 0 ∧ j = 0
    · show (if t = 29 ∧ i = 0 ∧ j = 0 then q else ad t i j) ≠ _
      rw [if_pos y]; exact qout
    · show (if t = 29 ∧ i = 0 ∧ j = 0 then q else ad t i j) ≠ _
      rw [if_neg y]; exact h6 t i j (hL t i j hl)
/-- what type does -/
def xTyp (X X' : bS) (L : List Int32) : Prop :=
  (∀ f, f ∉ [18, 70, 71, 72] → X' f = X f) ∧ X' 18 0 0 0 = X 18 0 0 0 + Int32.ofNat L.length ∧ (∀ i, i < nn (X 18 0 0 0) → X' 70 i 0 0 = X 70 i 0 0) ∧ ∀ i, i < L.length → X' 70 (nn (X 18 0 0 0) + i) 0 0 = bt8 (L.getD i 0)
theorem x_ty12 {P : Int32 → mM → Prop} {Xx : String → Nat → mM → Prop} (hT : tI X) {y : Int64} {u : Nat} (ou : xO κ ad X u) (bad : ¬ X 18 0 0 0 + Int32.ofNat (tyL y 8).length ≤ 60 → ∀ M' q, rX κ M' ad X → Xx "java/lang/IllegalStateException" q M') (kk : X 18 0 0 0 + Int32.ofNat (tyL y 8).length ≤ 60 → ∀ M' ad' X', rX κ M' ad' X' → tI X' → xTyp X X' (tyL y 8) → P (X 18 0 0 0 + Int32.ofNat (tyL y 8).length) M') : ∀ (n k q b cap : Nat) (M : mM) (v : Nat) (f : Nat → Int32) (pre : List Int32), n ≤ 8 → n < q → 71 * n + 80 ≤ b → rX κ M ad X → sB M u v k cap 0 f → xO κ ad X v → pre.length = k → pre ++ tyL y n = tyL y 8 → (∀ i, i < k → f i = bt8 (pre.getD i 0)) → wl_X1_type_12 G P Xx q b M κ.2.2.1 y u (sv n)
  | _, _, 0, _, _, _, _, _, _, _, hq, _, _, _, _, _, _, _ => absurd hq (Nat.not_lt_zero _)
  | 0, k, q + 1, b, cap, M, v, f, pre, _, _, hb, h, hu, ov, hk, hp, hf => by
    have hpre : pre = tyL y 8 := by rw [← hp]; exact (List.append_nil pre).symm
    subst hpre
    subst hk
    obtain ⟨t1, t2, t3, t4, t5⟩ := id hT
    have lk := tyL_len y 8
    have h60 : nn (X 18 0 0 0) ≤ 60 := i_nle (bIn_t t1).1 (bIn_t t1).2
    have e18 : X 18 0 0 0 = Int32.ofNat (nn (X 18 0 0 0)) := i_of (bIn_t t1).1
    have hbt := h.textB hT
    unfold wl_X1_type_12 wb_X1_type_69
    refine ⟨fun _ => gfa_ h.main rfl ⟨isc_ hbt.1, r_len hbt ⟨isc_ hu.1, r_len hu ?_⟩⟩, fun z => absurd (by decide) z⟩
    rw [← e18]
    refine ⟨fun z => ⟨b, 0, rfl, x_cst (by omega) (fun w => absurd rfl w) fun _ q => bad (Int32.not_le.mpr z) M q h⟩, fun z => ⟨7, b - 7, by omega, x_cst (by omega) (fun _ => gfa_ h.main rfl ⟨isc_ hbt.1, b - 7, 0, rfl, ?_⟩) fun w => absurd w (by decide)⟩⟩
    have z := Int32.not_lt.mp z
    have z' := z
    rw [e18, ← Int32.ofNat_add] at z'
    have hle : nn (X 18 0 0 0) + (tyL y 8).length ≤ 60 := (i_le (c := 60) (by omega) (by decide)).mp z'
    have hne : ad 29 0 0 ≠ v := ov.1 _ _ _ (xl0 (by decide))
    have hnu : ad 12 0 0 ≠ u := ou.1 _ _ _ (xl0 (by decide))
    refine r_app2 hbt hu hnu hne t4 (by omega) (by omega) (by omega) fun M1 q1 cap1 f1 h1 hlo hhi hq1 hM1 => ?_
    have hX := h.text h1 (hq1.imp id fun w => h.fresh w) hM1
    have c70 : bCap cap1 := h1.2.2.2.1
    have hm := hX.main
    have h12 := hX.at (t := 12) (i := 0) (j := 0) (xl0 (by decide))
    have e29 : (fun t i j => if t = 29 ∧ i = 0 ∧ j = 0 then q1 else ad t i j : xA) 12 0 0 = ad 12 0 0 := if_neg (by omega)
    refine gfa_ (v := ad 12 0 0) hm ?_ ⟨isc_ h1.1, r_len h1 ?_⟩
    · show some (Value.ref ((fun t i j => if t = 29 ∧ i = 0 ∧ j = 0 then q1 else ad t i j : xA) 12 0 0)) = _
      rw [e29]
    · rw [Int32.ofNat_add, ← e18]
      refine kk z M1 _ _ hX ⟨?_, ?_, ?_, t4, h1.2.2.2.2⟩ ⟨fun g hg => xTxt_f hg, ?_, fun i hi => hlo i hi, fun i hi => ?_⟩
      · show bIn (Int32.ofNat (nn (X 18 0 0 0) + (tyL y 8).length)) 0 60 = true
        unfold bIn
        rw [show (60 : Int32) = Int32.ofNat 60 from rfl]
        rw [decide_eq_true (show (0 : Int32) ≤ Int32.ofNat (nn (X 18 0 0 0) + (tyL y 8).length) from (i_le (a := 0) (by decide) (by omega)).mpr (by omega)), decide_eq_true ((i_le (by omega) (by omega)).mpr (by omega))]; rfl
      · show nn (Int32.ofNat (nn (X 18 0 0 0) + (tyL y 8).length)) ≤ nn (Int32.ofNat cap1)
        rw [i_nn (by omega), i_nn (by unfold bCap at c70; omega)]
        exact h1.2.2.1
      · show Int32.ofNat cap1 = 16 ∨ Int32.ofNat cap1 = 34 ∨ Int32.ofNat cap1 = 70
        unfold bCap at c70
        rcases c70 with e | e | e <;> rw [e]
        · exact Or.inl rfl
        · exact Or.inr (Or.inl rfl)
        · exact Or.inr (Or.inr rfl)
      · show Int32.ofNat (nn (X 18 0 0 0) + (tyL y 8).length) = _
        rw [Int32.ofNat_add, ← e18]
      · show f1 (nn (X 18 0 0 0) + i) = _
        rw [hhi i hi]
        exact hf i (by omega)
  | n + 1, k, q + 1, b, cap, M, v, f, pre, hn, hq, hb, h, hu, ov, hk, hp, hf => by
    obtain ⟨m, hm, em⟩ := tyB_m y n
    obtain ⟨y1, y2, y3, y4⟩ := ty255 m hm
    have kn : k + (n + 1) ≤ 16 := by
      have l1 : (pre ++ tyL y (n + 1)).length = (tyL y 8).length := by rw [hp]
      rw [List.length_append, hk] at l1
      have := tyL_len y 8
      omega
    unfold wl_X1_type_12 wb_X1_type_41
    refine ⟨fun z => absurd z (sv_n (by omega)), fun _ => ?_⟩
    intro g hg
    have eg : g &&& 255 = Int64.ofNat m := by rw [hg]; exact em
    rw [eg, y3, y2, sv_s (by omega)]
    have ex : tyL y (n + 1) = if lg_cmp (tyB y n) 0 = 0 then tyL y n else (tyB y n).toInt32 :: tyL y n := rfl
    rw [em, y2] at ex
    refine ⟨fun z => ?_, fun z => ⟨isc_ hu.1, 71, b - 71, by omega, r_app1 hu rfl hm (by omega) (by omega) fun M1 v1 cap1 f1 h1 hlo hhi hv1 hM1 => ?_⟩⟩
    · rw [if_pos (y1.mpr (y4.mp z))] at ex
      exact x_ty12 hT ou bad kk n k q b cap M v f pre (by omega) (by omega) (by omega) h hu ov hk (by rw [← ex]; exact hp) hf
    · rw [if_neg fun w => z (y4.mpr (y1.mp w))] at ex
      have ov1 : xO κ ad X v1 := by
        rcases hv1 with w | w
        · rw [w]; exact ov
        · exact h.fresh w
      have h2 : rX κ M1 ad X := h.keep fun a ha => hM1 a (fun w => ha (w ▸ ou)) fun w => ha (w ▸ ov1)
      refine x_ty12 hT ou bad kk n (k + 1) q (b - 71) cap1 M1 v1 f1 (pre ++ [Int32.ofNat m]) (by omega) (by omega) (by omega) h2 h1 ov1 (by rw [List.length_append, hk]; rfl) (by rw [List.append_assoc]; show pre ++ (Int32.ofNat m :: tyL y n) = _; rw [← ex]; exact hp) fun i hi => ?_
      by_cases w : i = k
      · subst w
        rw [hhi, List.getD_eq_getElem?_getD, List.getElem?_append_right (by omega), hk, Nat.sub_self]
        rfl
      · rw [hlo i (by omega), hf i (by omega), List.getD_eq_getElem?_getD, List.getD_eq_getElem?_getD, List.getElem?_append_left (by omega)]
theorem x0_type (h : rX κ M ad X) (hT : tI X) {y : Int64} {K : Int32 → mM → Prop} (hb : 900 ≤ b) (kk : ∀ M' ad' X', rX κ M' ad' X' → tI X' → (eType X y = 0 → xTyp X X' (tyL y 8)) → (¬ eType X y = 0 → X' = X) → (eType X y = 0 → xOut κ M' (X 18 0 0 0 + Int32.ofNat (tyL y 8).length).toInt64) → K (eType X y) M') : wp_X0_type G b K M κ.2.2.1 y κ.2.2.2 := by
  unfold eType at kk
  unfold wp_X0_type wp_X1_type wb_X0_type_12
  refine ⟨h.isc, b, 0, rfl, by omega, fun u hu => ⟨17, b - (4 + 1) - 17, by omega, r_new (mset_s _ _ _) (by omega) fun q M1 fq h1 hM1 => ⟨9, ?_⟩⟩⟩
  have fu := hu u (Nat.le_refl _)
  have ou := h.fresh fu
  have hqu : q ≠ u := fun z => by rw [z, mset_s] at fq; cases fq
  rw [mset_n hqu] at fq
  have oq := h.fresh fq
  have h2 : rX κ M1 ad X := h.keep fun a ha => by
    rw [hM1 a (fun w => ha (w ▸ ou)) fun w => ha (w ▸ oq)]
    exact mset_n fun w => ha (w ▸ ou)
  refine x_ty12 hT ou (fun z M2 q2 h3 => ⟨rfl, ?_⟩) (fun z M2 ad2 X2 h3 hT2 hX2 => ?_) 8 0 9 _ 16 M1 q _ [] (Nat.le_refl _) (by omega) (by omega) h2 h1 oq rfl rfl fun i hi => absurd hi (Nat.not_lt_zero _)
  · rw [decide_eq_false (p := ¬ X 18 0 0 0 + Int32.ofNat (tyL y 8).length ≤ 60) (not_not_intro z)] at kk
    exact x_out h3 fun M' h' ho => kk M' ad2 X2 h' hT2 (fun _ => hX2) (fun w => absurd rfl w) fun _ => ho
  · rw [decide_eq_true (p := ¬ X 18 0 0 0 + Int32.ofNat (tyL y 8).length ≤ 60) z] at kk
    exact kk M2 ad X h3 hT (fun w9 => by first | exact absurd (show (1 : Int32) = 0 from w9) (by decide) | exact absurd (show (2 : Int32) = 0 from w9) (by decide) | exact absurd (show (3 : Int32) = 0 from w9) (by decide)) (fun _ => rfl) (fun w9 => by first | exact absurd (show (1 : Int32) = 0 from w9) (by decide) | exact absurd (show (2 : Int32) = 0 from w9) (by decide) | exact absurd (show (3 : Int32) = 0 from w9) (by decide))
end B95
