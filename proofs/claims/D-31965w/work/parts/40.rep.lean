/-! THE PLAIN PART: the twin's world as a bank of ints -/
abbrev bS : Type := Nat → Nat → Nat → Nat → Int32
/-- the bank with one place set -/
def bU (S : bS) (f i j k : Nat) (x : Int32) : bS := fun f' i' j' k' => if f' = f ∧ i' = i ∧ j' = j ∧ k' = k then x else S f' i' j' k'
theorem bU_s (S : bS) (f i j k : Nat) (x : Int32) : bU S f i j k x f i j k = x := if_pos ⟨rfl, rfl, rfl, rfl⟩
theorem bU_f {S : bS} {f i j k f' i' j' k' : Nat} {x : Int32} (h : f' ≠ f) : bU S f i j k x f' i' j' k' = S f' i' j' k' := if_neg fun z => h z.1
theorem bU_i {S : bS} {f i j k f' i' j' k' : Nat} {x : Int32} (h : i' ≠ i) : bU S f i j k x f' i' j' k' = S f' i' j' k' := if_neg fun z => h z.2.1
/-- how many dimensions the twin's f-th field has -/
def bD (f : Nat) : Nat := if f ∈ [0, 1, 2, 13, 18, 19, 20, 21, 24, 25, 27, 28, 29, 47, 48] then 0 else if f ∈ [26, 42, 43] then 2 else if f ∈ [41, 44, 45, 46] then 3 else 1
/-- its sizes -/
def bN (f d : Nat) : Nat :=
  if f ∈ [3, 4, 5, 6, 7] then 36 else if f ∈ [8, 9, 10, 11, 12] then 4 else if f ∈ [14, 15, 16, 17, 23] then 8 else if f = 22 then 60 else if f ∈ [30, 31, 32, 33, 34, 35] then 40 else if f ∈ [36, 37, 38, 39, 40] then 200
  else if f = 26 then (if d = 0 then 8 else 31) else if f = 41 then (if d = 0 then 40 else if d = 1 then 36 else 4) else if f = 42 then (if d = 0 then 40 else 36) else if f = 43 then (if d = 0 then 3 else 4)
  else if f = 44 then (if d = 0 then 4 else if d = 1 then 3 else 4) else (if d = 0 then 10 else if d = 1 then 36 else 4)
/-- its elements' type -/
def bT (f : Nat) : Nat := if f = 17 ∨ f = 42 then 1 else 0
def bT2 (f : Nat) : Nat := if f = 42 then 10 else if bD f = 3 then 9 else 8
def bLive (f l i j : Nat) : Prop := f < 49 ∧ ((l = 0 ∧ i = 0 ∧ j = 0 ∧ 1 ≤ bD f) ∨ (l = 1 ∧ j = 0 ∧ i < bN f 0 ∧ 2 ≤ bD f) ∨ (l = 2 ∧ i < bN f 0 ∧ j < bN f 1 ∧ bD f = 3))
abbrev bA : Type := Nat → Nat → Nat → Nat → Nat
abbrev mIs (f : Nat → Int32) : mX5 := .inl f
abbrev mRs (f : Nat → Option Nat) : mX5 := .inr (.inr (.inr (.inr f)))
def bC (ad : bA) (S : bS) (f l i j : Nat) : mE :=
  if l = 0 then (if bD f = 1 then .inl (bT f, bN f 0, mIs fun x => S f x 0 0) else .inl (bT2 f, bN f 0, mRs fun x => some (ad f 1 x 0)))
  else if l = 1 then (if bD f = 2 then .inl (bT f, bN f 1, mIs fun x => S f i x 0) else .inl (8, bN f 1, mRs fun x => some (ad f 2 i x)))
  else .inl (bT f, bN f 2, mIs fun x => S f i j x)
def bRv (ad : bA) (S : bS) (f : Nat) : Value := if bD f = 0 then .int (S f 0 0 0) else .ref (ad f 0 0 0)
def bR (ad : bA) (S : bS) : List Value := (List.range 49).map (bRv ad S)
theorem bR_len (ad : bA) (S : bS) : (bR ad S).length = 49 := by simp [bR]
theorem bR_get {ad : bA} {S : bS} {k : Nat} (h : k < 49) : (bR ad S)[k]? = some (bRv ad S k) := by
  simp [bR, List.getElem?_map, List.getElem?_range h]
theorem bR_set {ad : bA} {S : bS} {k : Nat} {v : Int32} (h : k < 49) (h0 : bD k = 0) : (bR ad S).set k (.int v) = bR ad (bU S k 0 0 0 v) := by
  refine List.ext_getElem? fun j => ?_
  rw [List.getElem?_set]
  by_cases hj : k = j
  · subst hj
    rw [if_pos rfl, bR_len, if_pos h, bR_get h, bRv, if_pos h0, bU_s]
  · rw [if_neg hj]
    rcases Nat.lt_or_ge j 49 with h1 | h1
    · rw [bR_get h1, bR_get h1, bRv, bRv, bU_f (Ne.symm hj)]
    · rw [List.getElem?_eq_none (by rw [bR_len]; exact h1), List.getElem?_eq_none (by rw [bR_len]; exact h1)]
/-- the twin's world -/
def bM (M : mM) (am : Nat) (ad : bA) (S : bS) : Prop :=
  M am = some (true, .inr (3, bR ad S)) ∧ (∀ f l i j, bLive f l i j → M (ad f l i j) = some (true, bC ad S f l i j)) ∧ (∀ f l i j, bLive f l i j → ad f l i j ≠ am) ∧
  ∀ f l i j f' l' i' j', bLive f l i j → bLive f' l' i' j' → ad f l i j = ad f' l' i' j' → f = f' ∧ l = l' ∧ i = i' ∧ j = j'
section BM
variable {M : mM} {am : Nat} {ad : bA} {S : bS}
theorem bM.isc (h : bM M am ad S) : isc M am 3 := ⟨_, _, h.1⟩
theorem b_gfi (h : bM M am ad S) {k : Nat} (hk : k < 49 ∧ bD k = 0) {K : Int32 → Prop} (kk : K (S k 0 0 0)) : gfi M am 3 k K :=
  ⟨_, _, _, h.1, by rw [bR_get hk.1, bRv, if_pos hk.2], kk⟩
theorem b_gfa (h : bM M am ad S) {k : Nat} (hk : k < 49 ∧ ¬ bD k = 0) {K : Nat → Prop} (kk : K (ad k 0 0 0)) : gfa M am 3 k K :=
  ⟨_, _, _, h.1, by rw [bR_get hk.1, bRv, if_neg hk.2], kk⟩
theorem b_pfi (h : bM M am ad S) {k : Nat} (hk : k < 49 ∧ bD k = 0) {v : Int32} {K : mM → Prop} (kk : ∀ M', bM M' am ad (bU S k 0 0 0 v) → K M') : pfi M am 3 k v K := by
  refine ⟨_, h.1, by rw [bR_len]; exact hk.1, kk _ ?_⟩
  obtain ⟨h1, h2, h3, h4⟩ := h
  refine ⟨by rw [mset_s, bR_set hk.1 hk.2], fun f l i j hl => ?_, h3, h4⟩
  rw [mset_n (h3 f l i j hl), h2 f l i j hl]
  have hf : f ≠ k := fun z => by
    subst z
    obtain ⟨-, h | h | h⟩ := hl <;> omega
  unfold bC
  simp only [bU_f hf]
/-- one array's content is another -/
theorem bM.put (h : bM M am ad S) {f l i j : Nat} (hl : bLive f l i j) {e : mE} {S' : bS} (he : e = bC ad S' f l i j) (hr : bR ad S' = bR ad S) (ho : ∀ f' l' i' j', bLive f' l' i' j' → ¬ (f' = f ∧ l' = l ∧ i' = i ∧ j' = j) → bC ad S' f' l' i' j' = bC ad S f' l' i' j') : bM (mset M (ad f l i j) e) am ad S' := by
  obtain ⟨h1, h2, h3, h4⟩ := h
  refine ⟨by rw [mset_n (Ne.symm (h3 f l i j hl)), h1, hr], fun f' l' i' j' hl' => ?_, h3, h4⟩
  by_cases hq : ad f' l' i' j' = ad f l i j
  · obtain ⟨rfl, rfl, rfl, rfl⟩ := h4 _ _ _ _ _ _ _ _ hl' hl hq
    rw [mset_s, he]
  · rw [mset_n hq, h2 f' l' i' j' hl', ho f' l' i' j' hl' fun z => hq (by rw [z.1, z.2.1, z.2.2.1, z.2.2.2])]
theorem bR_of {S' : bS} (h : ∀ f, bD f = 0 → S' f 0 0 0 = S f 0 0 0) : bR ad S' = bR ad S := by
  unfold bR
  refine List.map_congr_left fun f _ => ?_
  unfold bRv
  by_cases h0 : bD f = 0
  · rw [if_pos h0, if_pos h0, h f h0]
  · rw [if_neg h0, if_neg h0]
theorem bLt {i : Int32} {n : Nat} (h : vp_in i n) : i.toNatClampNeg < n := Nat.not_le.mp fun q => h (Or.inr q)
theorem b_ld1 (h : bM M am ad S) {f t : Nat} (hf : f < 49 ∧ bD f = 1 ∧ bT f = t) {i : Int32} {K : Int32 → Prop} (hi : vp_in i (bN f 0)) (kk : K (S f i.toNatClampNeg 0 0)) : ldi M t (ad f 0 0 0) i K := by
  have h9 := h.2.1 f 0 0 0 ⟨hf.1, Or.inl ⟨rfl, rfl, rfl, by omega⟩⟩
  rw [bC, if_pos rfl, if_pos hf.2.1, hf.2.2] at h9
  exact ⟨_, _, _, h9, hi, kk⟩
theorem b_lda (h : bM M am ad S) {f t : Nat} (hf : f < 49 ∧ 2 ≤ bD f ∧ bT2 f = t) {i : Int32} {K : Nat → Prop} (hi : vp_in i (bN f 0)) (kk : K (ad f 1 i.toNatClampNeg 0)) : lda M t (ad f 0 0 0) i K := by
  have h9 := h.2.1 f 0 0 0 ⟨hf.1, Or.inl ⟨rfl, rfl, rfl, by omega⟩⟩
  rw [bC, if_pos rfl, if_neg (by omega), hf.2.2] at h9
  exact ⟨_, _, _, _, h9, hi, rfl, kk⟩
theorem b_ld2 (h : bM M am ad S) {f t x : Nat} (hf : f < 49 ∧ bD f = 2 ∧ bT f = t) (hx : x < bN f 0) {i : Int32} {K : Int32 → Prop} (hi : vp_in i (bN f 1)) (kk : K (S f x i.toNatClampNeg 0)) : ldi M t (ad f 1 x 0) i K := by
  have h9 := h.2.1 f 1 x 0 ⟨hf.1, Or.inr (Or.inl ⟨rfl, rfl, hx, by omega⟩)⟩
  rw [bC, if_neg (by decide), if_pos rfl, if_pos hf.2.1, hf.2.2] at h9
  exact ⟨_, _, _, h9, hi, kk⟩
theorem b_lda2 (h : bM M am ad S) {f x : Nat} (hf : f < 49 ∧ bD f = 3) (hx : x < bN f 0) {i : Int32} {K : Nat → Prop} (hi : vp_in i (bN f 1)) (kk : K (ad f 2 x i.toNatClampNeg)) : lda M 8 (ad f 1 x 0) i K := by
  have h9 := h.2.1 f 1 x 0 ⟨hf.1, Or.inr (Or.inl ⟨rfl, rfl, hx, by omega⟩)⟩
  rw [bC, if_neg (by decide), if_pos rfl, if_neg (by omega)] at h9
  exact ⟨_, _, _, _, h9, hi, rfl, kk⟩
theorem b_ld3 (h : bM M am ad S) {f t x y : Nat} (hf : f < 49 ∧ bD f = 3 ∧ bT f = t) (hx : x < bN f 0) (hy : y < bN f 1) {i : Int32} {K : Int32 → Prop} (hi : vp_in i (bN f 2)) (kk : K (S f x y i.toNatClampNeg)) : ldi M t (ad f 2 x y) i K := by
  have h9 := h.2.1 f 2 x y ⟨hf.1, Or.inr (Or.inr ⟨rfl, hx, hy, hf.2.1⟩)⟩
  rw [bC, if_neg (by decide), if_neg (by decide), hf.2.2] at h9
  exact ⟨_, _, _, h9, hi, kk⟩
theorem bC_o {f x y z f' l' i' j' : Nat} {v : Int32} (hd : bD f ≠ 0) (hlv : bLive f' l' i' j') (h : ¬ (f' = f ∧ (bD f = 1 → l' = 0) ∧ (bD f = 2 → l' = 1 ∧ i' = x) ∧ (bD f = 3 → l' = 2 ∧ i' = x ∧ j' = y))) (hz : (bD f = 1 → y = 0 ∧ z = 0) ∧ (bD f = 2 → z = 0)) : bC ad (bU S f x y z v) f' l' i' j' = bC ad S f' l' i' j' := by
  by_cases hf : f' = f
  · subst hf
    unfold bC
    by_cases h0 : l' = 0
    · subst h0
      rw [if_pos rfl, if_pos rfl]
      by_cases h1 : bD f' = 1
      · exact absurd ⟨rfl, fun _ => rfl, fun z => by omega, fun z => by omega⟩ h
      · rw [if_neg h1, if_neg h1]
    · rw [if_neg h0, if_neg h0]
      by_cases h1 : l' = 1
      · subst h1
        rw [if_pos rfl, if_pos rfl]
        by_cases h2 : bD f' = 2
        · rw [if_pos h2, if_pos h2]
          have hi : i' ≠ x := fun z => h ⟨rfl, fun z => by omega, fun _ => ⟨rfl, z⟩, fun z => by omega⟩
          simp only [bU_i hi]
        · rw [if_neg h2, if_neg h2]
      · rw [if_neg h1, if_neg h1]
        obtain ⟨-, hl | hl | hl⟩ := hlv
        · omega
        · omega
        · have hn : ¬ (i' = x ∧ j' = y) := fun z => h ⟨rfl, fun q => by omega, fun q => by omega, fun _ => ⟨hl.1, z.1, z.2⟩⟩
          congr 4
          funext q
          exact if_neg fun z => hn ⟨z.2.1, z.2.2.1⟩
  · unfold bC
    simp only [bU_f hf]
theorem bU_up1 {f i : Nat} {x : Int32} : (fun q => bU S f i 0 0 x f q 0 0) = upd (fun q => S f q 0 0) i x := by
  funext q
  by_cases hq : q = i
  · subst hq; simp [bU, upd]
  · simp [bU, upd, hq]
theorem bU_up2 {f x i : Nat} {v : Int32} : (fun q => bU S f x i 0 v f x q 0) = upd (fun q => S f x q 0) i v := by
  funext q
  by_cases hq : q = i
  · subst hq; simp [bU, upd]
  · simp [bU, upd, hq]
theorem bU_up3 {f x y i : Nat} {v : Int32} : (fun q => bU S f x y i v f x y q) = upd (fun q => S f x y q) i v := by
  funext q
  by_cases hq : q = i
  · subst hq; simp [bU, upd]
  · simp [bU, upd, hq]
theorem bR_U {f i j k : Nat} {x : Int32} (hd : bD f ≠ 0) : bR ad (bU S f i j k x) = bR ad S := bR_of fun g hg => bU_f fun z => hd (z ▸ hg)
theorem b_st1 (h : bM M am ad S) {f t : Nat} (hf : f < 49 ∧ bD f = 1 ∧ bT f = t) {i v : Int32} {K : mM → Prop} (hi : vp_in i (bN f 0)) (kk : ∀ M', bM M' am ad (bU S f i.toNatClampNeg 0 0 v) → K M') : sti M t (ad f 0 0 0) i v K := by
  have hl : bLive f 0 0 0 := ⟨hf.1, Or.inl ⟨rfl, rfl, rfl, by omega⟩⟩
  have h9 := h.2.1 f 0 0 0 hl
  rw [bC, if_pos rfl, if_pos hf.2.1, hf.2.2] at h9
  refine ⟨_, _, h9, hi, kk _ (h.put hl ?_ (bR_U (by omega)) fun f' l' i' j' hl' hn => bC_o (by omega) hl' (fun z => hn ⟨z.1, z.2.1 hf.2.1, ?_⟩) ⟨fun _ => ⟨rfl, rfl⟩, fun _ => rfl⟩)⟩
  · rw [bC, if_pos rfl, if_pos hf.2.1, hf.2.2, bU_up1]
  · obtain ⟨rfl, h2, -⟩ := z
    have h3 := h2 hf.2.1
    obtain ⟨-, hh | hh | hh⟩ := hl' <;> omega
theorem b_stn (h : bM M am ad S) {f : Nat} (hf : f < 49 ∧ bD f = 1 ∧ bT f = 1) {i v : Int32} {K : mM → Prop} (hv : vp_nar .boolean v = v) (hi : vp_in i (bN f 0)) (kk : ∀ M', bM M' am ad (bU S f i.toNatClampNeg 0 0 v) → K M') : stn M 1 (ad f 0 0 0) .boolean i v K := by
  obtain ⟨n, g, h1, h2, h3⟩ := b_st1 h hf (v := v) hi kk
  exact ⟨n, g, h1, h2, by rw [hv]; exact h3⟩
theorem b_st2 (h : bM M am ad S) {f t x : Nat} (hf : f < 49 ∧ bD f = 2 ∧ bT f = t) (hx : x < bN f 0) {i v : Int32} {K : mM → Prop} (hi : vp_in i (bN f 1)) (kk : ∀ M', bM M' am ad (bU S f x i.toNatClampNeg 0 v) → K M') : sti M t (ad f 1 x 0) i v K := by
  have hl : bLive f 1 x 0 := ⟨hf.1, Or.inr (Or.inl ⟨rfl, rfl, hx, by omega⟩)⟩
  have h9 := h.2.1 f 1 x 0 hl
  rw [bC, if_neg (by decide), if_pos rfl, if_pos hf.2.1, hf.2.2] at h9
  refine ⟨_, _, h9, hi, kk _ (h.put hl ?_ (bR_U (by omega)) fun f' l' i' j' hl' hn => bC_o (by omega) hl' (fun z => hn ⟨z.1, (z.2.2.1 hf.2.1).1, (z.2.2.1 hf.2.1).2, ?_⟩) ⟨fun _ => by omega, fun _ => rfl⟩)⟩
  · rw [bC, if_neg (by decide), if_pos rfl, if_pos hf.2.1, hf.2.2, bU_up2]
  · obtain ⟨rfl, -, h2, -⟩ := z
    have h3 := h2 hf.2.1
    obtain ⟨-, hh | hh | hh⟩ := hl' <;> omega
theorem b_stn2 (h : bM M am ad S) {f x : Nat} (hf : f < 49 ∧ bD f = 2 ∧ bT f = 1) (hx : x < bN f 0) {i v : Int32} {K : mM → Prop} (hv : vp_nar .boolean v = v) (hi : vp_in i (bN f 1)) (kk : ∀ M', bM M' am ad (bU S f x i.toNatClampNeg 0 v) → K M') : stn M 1 (ad f 1 x 0) .boolean i v K := by
  obtain ⟨n, g, h1, h2, h3⟩ := b_st2 h hf (v := v) hx hi kk
  exact ⟨n, g, h1, h2, by rw [hv]; exact h3⟩
theorem b_st3 (h : bM M am ad S) {f t x y : Nat} (hf : f < 49 ∧ bD f = 3 ∧ bT f = t) (hx : x < bN f 0) (hy : y < bN f 1) {i v : Int32} {K : mM → Prop} (hi : vp_in i (bN f 2)) (kk : ∀ M', bM M' am ad (bU S f x y i.toNatClampNeg v) → K M') : sti M t (ad f 2 x y) i v K := by
  have hl : bLive f 2 x y := ⟨hf.1, Or.inr (Or.inr ⟨rfl, hx, hy, hf.2.1⟩)⟩
  have h9 := h.2.1 f 2 x y hl
  rw [bC, if_neg (by decide), if_neg (by decide), hf.2.2] at h9
  refine ⟨_, _, h9, hi, kk _ (h.put hl ?_ (bR_U (by omega)) fun f' l' i' j' hl' hn => bC_o (by omega) hl' (fun z => hn ⟨z.1, (z.2.2.2 hf.2.1).1, (z.2.2.2 hf.2.1).2.1, (z.2.2.2 hf.2.1).2.2⟩) ⟨fun _ => by omega, fun _ => by omega⟩)⟩
  rw [bC, if_neg (by decide), if_neg (by decide), hf.2.2, bU_up3]
end BM
