/-! THE CLASS's WORLD. Its bank is numbered as the twin's where both hold the same; beside that: 60 state and 61 days of a cell, 62 highs (year, cell, kind), 63 seen (walker, row, cell), 64…67 notes (walk, number), 68 modCount, 69 capacity of a list, 70 the text's bytes, 71 its capacity, 72 maybeLatin1. Addresses by keys (t, i, j). -/
abbrev xA : Type := Nat → Nat → Nat → Nat
/-- what stays all through: the constants' world, the empty element data, the object, the law's own array -/
abbrev xK : Type := mM × Nat × Nat × Nat
def xZ (X : bS) (L : Nat) : Int32 := if L = 0 then X 13 0 0 0 else if L = 1 then X 24 0 0 0 else if L = 2 then X 27 0 0 0 else if L = 3 then X 28 0 0 0 else X 35 (L - 4) 0 0
def xN (X : bS) (L : Nat) : Nat := nn (xZ X L)
def xRows (m : Nat) : Nat := if m = 0 then 3 else if m = 1 then 12 else 40
def xCols (m : Nat) : Nat := if m < 2 then 4 else 36
def xTab (X : bS) (m i j : Nat) : Int32 := if m = 0 then X 43 i j 0 else if m = 1 then X 44 (i / 3) (i % 3) j else if m = 2 then X 45 (i / 4) j (i % 4) else X 62 (i / 4) j (i % 4)
def xL (X : bS) (t i j : Nat) : Prop :=
  (t ∈ [0, 1, 2, 3, 8, 9, 10, 11, 12, 29, 40] ∧ i = 0 ∧ j = 0) ∨ (t = 20 ∧ i < 36 ∧ j = 0) ∨ (t = 21 ∧ i < 4 ∧ j = 0) ∨ (t = 22 ∧ i < 4 + xN X 3 ∧ j = 0) ∨ (t = 23 ∧ i < 4 + xN X 3 ∧ j = 0 ∧ ¬ X 69 i 0 0 = 0) ∨
  (t = 24 ∧ i < 4 + xN X 3 ∧ j < xN X i) ∨ (t = 25 ∧ i < xN X 1 ∧ j = 0) ∨ (t = 26 ∧ i < xN X 2 ∧ j = 0) ∨ (t = 27 ∧ i < xN X 2 ∧ j < 40) ∨ (t = 28 ∧ i < 4 ∧ j < xRows i)
def xMain (ad : xA) (X : bS) : List Value := [.ref (ad 0 0 0), .ref (ad 1 0 0), .ref (ad 2 0 0), .ref (ad 3 0 0), .ref (ad 22 0 0), .ref (ad 22 1 0), .ref (ad 22 2 0), .ref (ad 22 3 0), .ref (ad 8 0 0), .ref (ad 9 0 0), .ref (ad 10 0 0), .ref (ad 11 0 0), .ref (ad 12 0 0), .int (X 20 0 0 0), .int (X 21 0 0 0), .int (X 29 0 0 0), .int (X 1 0 0 0), .int (X 2 0 0 0)]
def xEl (ad : xA) (X : bS) (L j : Nat) : mE :=
  if L = 0 then .inr (4, [.int (X 14 j 0 0), .int (X 15 j 0 0), .int (X 16 j 0 0), .int (X 17 j 0 0)]) else if L = 1 then .inr (11, [.ref (ad 25 j 0)]) else if L = 2 then .inr (13, [.ref (ad 26 j 0)])
  else if L = 3 then .inr (14, [.int (X 30 j 0 0), .int (X 31 j 0 0), .int (X 32 j 0 0), .int (X 33 j 0 0), .int (X 34 j 0 0), .ref (ad 22 (4 + j) 0)]) else .inr (15, [.int (X 64 (L - 4) j 0), .int (X 65 (L - 4) j 0), .int (X 66 (L - 4) j 0), .int (X 67 (L - 4) j 0)])
/-- a table of n references -/
def tb (n : Nat) (g : Nat → Nat) : Nat → Option Nat := fun c => if c < n then some (g c) else none
def xC (e : Nat) (ad : xA) (X : bS) (t i j : Nat) : mE :=
  if t = 0 then .inl (6, 36, mRs (tb 36 fun c => ad 20 c 0)) else if t = 1 then .inl (7, 4, mRs (tb 4 fun c => ad 21 c 0)) else if t = 2 then .inl (0, 4, mIs fun c => X 8 c 0 0) else if t = 3 then .inl (0, 4, mIs fun c => X 9 c 0 0)
  else if t = 8 then .inl (8, 3, mRs fun c => some (ad 28 0 c)) else if t = 9 then .inl (8, 12, mRs fun c => some (ad 28 1 c)) else if t = 10 then .inl (8, 40, mRs fun c => some (ad 28 2 c)) else if t = 11 then .inl (8, 40, mRs fun c => some (ad 28 3 c))
  else if t = 12 then .inr (17, [.ref (ad 29 0 0), .int 0, .int (X 72 0 0 0), .int (X 18 0 0 0)])
  else if t = 20 then .inr (1, [.int (X 3 i 0 0), .int (X 4 i 0 0), .int (X 5 i 0 0), .int (X 60 i 0 0), .int (X 61 i 0 0)])
  else if t = 21 then .inr (2, [.int (X 10 i 0 0), .int (X 11 i 0 0), .int (X 12 i 0 0)])
  else if t = 22 then .inr (16, [.int (X 68 i 0 0), .ref (if X 69 i 0 0 = 0 then e else ad 23 i 0), .int (xZ X i)])
  else if t = 23 then .inl (5, nn (X 69 i 0 0), mRs fun j => if j < xN X i then some (ad 24 i j) else none)
  else if t = 24 then xEl ad X i j
  else if t = 25 then .inl (0, nn (X 23 i 0 0), mIs fun p => X 26 i p 0)
  else if t = 26 then .inl (11, 40, mRs fun p => some (ad 27 i p))
  else if t = 27 then .inl (2, 36, mIs fun c => X 63 i j c)
  else if t = 28 then .inl (0, xCols i, mIs fun c => xTab X i j c)
  else if t = 29 then .inl (3, nn (X 71 0 0 0), mIs fun p => X 70 p 0 0)
  else .inr (0, xMain ad X)
/-- an address that is none of the world's -/
def xO (κ : xK) (ad : xA) (X : bS) (a : Nat) : Prop := (∀ t i j, xL X t i j → ad t i j ≠ a) ∧ a ≠ κ.2.2.2 ∧ ∀ x, κ.1 a ≠ some (false, x)
def rX (κ : xK) (M : mM) (ad : xA) (X : bS) : Prop :=
  (∀ t i j, xL X t i j → M (ad t i j) = some (true, xC κ.2.1 ad X t i j)) ∧ (∀ t i j t' i' j', xL X t i j → xL X t' i' j' → ad t i j = ad t' i' j' → t = t' ∧ i = i' ∧ j = j') ∧
  (∀ a x, κ.1 a = some (false, x) → M a = some (false, x)) ∧ ad 40 0 0 = κ.2.2.1 ∧ (∃ f, M κ.2.2.2 = some (true, .inl (4, 1, .inr (.inl f)))) ∧ ∀ t i j, xL X t i j → ad t i j ≠ κ.2.2.2
section BX
variable {κ : xK} {M : mM} {ad : xA} {X : bS}
theorem rX.at (h : rX κ M ad X) {t i j : Nat} (hl : xL X t i j) : M (ad t i j) = some (true, xC κ.2.1 ad X t i j) := h.1 t i j hl
theorem rX.am (h : rX κ M ad X) : ad 40 0 0 = κ.2.2.1 := h.2.2.2.1
/-- a fresh address is none of the world's -/
theorem rX.fresh (h : rX κ M ad X) {q : Nat} (hq : M q = none) : xO κ ad X q := by
  refine ⟨fun t i j hl z => ?_, fun z => ?_, fun x z => ?_⟩
  · have := h.at hl
    rw [z, hq] at this
    cases this
  · obtain ⟨f, hf⟩ := h.2.2.2.2.1
    rw [← z, hq] at hf
    cases hf
  · have := h.2.2.1 q x z
    rw [hq] at this
    cases this
theorem rX.oth (h : rX κ M ad X) {a : Nat} (ha : xO κ ad X a) (v : mE) : rX κ (mset M a v) ad X := by
  obtain ⟨h1, h2, h3, h4, ⟨f, h5⟩, h6⟩ := h
  refine ⟨fun t i j hl => by rw [mset_n (ha.1 t i j hl)]; exact h1 t i j hl, h2, fun b x hx => ?_, h4, ⟨f, by rw [mset_n (Ne.symm ha.2.1)]; exact h5⟩, h6⟩
  have hne : b ≠ a := fun z => ha.2.2 x (z ▸ hx)
  rw [mset_n hne]
  exact h3 b x hx
/-- one cell's content is another, and so is the bank -/
theorem rX.put (h : rX κ M ad X) {t i j : Nat} (hl : xL X t i j) {v : mE} {X' : bS} (hv : v = xC κ.2.1 ad X' t i j) (hL : ∀ t i j, xL X' t i j → xL X t i j) (ho : ∀ t' i' j', xL X t' i' j' → ¬ (t' = t ∧ i' = i ∧ j' = j) → xC κ.2.1 ad X' t' i' j' = xC κ.2.1 ad X t' i' j') : rX κ (mset M (ad t i j) v) ad X' := by
  obtain ⟨h1, h2, h3, h4, ⟨f, h5⟩, h6⟩ := h
  refine ⟨fun t' i' j' hl' => ?_, fun t i j t' i' j' hl hl' => h2 t i j t' i' j' (hL _ _ _ hl) (hL _ _ _ hl'), fun b x hx => ?_, h4, ⟨f, by rw [mset_n (Ne.symm (h6 t i j hl))]; exact h5⟩, fun t i j hl => h6 t i j (hL _ _ _ hl)⟩
  · have hl2 := hL _ _ _ hl'
    by_cases hq : ad t' i' j' = ad t i j
    · obtain ⟨rfl, rfl, rfl⟩ := h2 _ _ _ _ _ _ hl2 hl hq
      rw [mset_s, hv]
    · rw [mset_n hq, h1 _ _ _ hl2, ho _ _ _ hl2 fun z => hq (by rw [z.1, z.2.1, z.2.2])]
  · rw [mset_n (fun z => ?_)]
    · exact h3 b x hx
    · have e1 := h3 b x hx
      rw [z, h1 t i j hl] at e1
      cases e1
/-- the same world by another bank -/
theorem rX.congr (h : rX κ M ad X) {X' : bS} (hL : ∀ t i j, xL X' t i j → xL X t i j) (ho : ∀ t i j, xL X' t i j → xC κ.2.1 ad X' t i j = xC κ.2.1 ad X t i j) : rX κ M ad X' := by
  obtain ⟨h1, h2, h3, h4, h5, h6⟩ := h
  exact ⟨fun t i j hl => by rw [ho t i j hl]; exact h1 t i j (hL _ _ _ hl), fun t i j t' i' j' hl hl' => h2 t i j t' i' j' (hL _ _ _ hl) (hL _ _ _ hl'), h3, h4, h5, fun t i j hl => h6 t i j (hL _ _ _ hl)⟩
/-- which fields the cells of a kind hold -/
def xR (t : Nat) : List Nat :=
  if t = 2 then [8] else if t = 3 then [9] else if t = 12 then [72, 18] else if t = 20 then [3, 4, 5, 60, 61] else if t = 21 then [10, 11, 12] else if t = 22 then [68, 69, 13, 24, 27, 28, 35] else if t = 23 then [69, 13, 24, 27, 28, 35]
  else if t = 24 then [14, 15, 16, 17, 30, 31, 32, 33, 34, 64, 65, 66, 67] else if t = 25 then [23, 26] else if t = 27 then [63] else if t = 28 then [43, 44, 45, 62] else if t = 29 then [71, 70] else if t = 40 then [20, 21, 29, 1, 2] else []
theorem xR_big {t : Nat} (h : 41 ≤ t) : xR t = [] := by
  unfold xR
  rw [if_neg (by omega), if_neg (by omega), if_neg (by omega), if_neg (by omega), if_neg (by omega), if_neg (by omega), if_neg (by omega), if_neg (by omega), if_neg (by omega), if_neg (by omega), if_neg (by omega), if_neg (by omega), if_neg (by omega)]
theorem xZ_of {X X' : bS} (h : ∀ f, f ∈ [13, 24, 27, 28, 35] → X' f = X f) (L : Nat) : xZ X' L = xZ X L := by
  unfold xZ
  rw [h 13 (by decide), h 24 (by decide), h 27 (by decide), h 28 (by decide), h 35 (by decide)]
theorem xN_of {X X' : bS} (h : ∀ f, f ∈ [13, 24, 27, 28, 35] → X' f = X f) (L : Nat) : xN X' L = xN X L := by unfold xN; rw [xZ_of h]
theorem xL_of {X X' : bS} (h : ∀ f, f ∈ [13, 24, 27, 28, 35, 69] → X' f = X f) (t i j : Nat) : xL X' t i j ↔ xL X t i j := by
  have hn : ∀ L, xN X' L = xN X L := xN_of fun f hf => h f (by simp only [List.mem_cons, List.not_mem_nil, or_false] at hf ⊢; omega)
  unfold xL
  rw [hn 3, hn 1, hn 2, hn i, h 69 (by decide)]
theorem xC_of0 {e i j : Nat} {X X' : bS} (h : ∀ f, f ∈ xR 0 → X' f = X f) : xC e ad X' 0 i j = xC e ad X 0 i j := by
  rfl
theorem xC_of1 {e i j : Nat} {X X' : bS} (h : ∀ f, f ∈ xR 1 → X' f = X f) : xC e ad X' 1 i j = xC e ad X 1 i j := by
  rfl
theorem xC_of2 {e i j : Nat} {X X' : bS} (h : ∀ f, f ∈ xR 2 → X' f = X f) : xC e ad X' 2 i j = xC e ad X 2 i j := by
  show (Sum.inl (0, 4, mIs fun c => X' 8 c 0 0) : mE) = Sum.inl (0, 4, mIs fun c => X 8 c 0 0)
  rw [h 8 (by decide)]
theorem xC_of3 {e i j : Nat} {X X' : bS} (h : ∀ f, f ∈ xR 3 → X' f = X f) : xC e ad X' 3 i j = xC e ad X 3 i j := by
  show (Sum.inl (0, 4, mIs fun c => X' 9 c 0 0) : mE) = Sum.inl (0, 4, mIs fun c => X 9 c 0 0)
  rw [h 9 (by decide)]
theorem xC_of8 {e i j : Nat} {X X' : bS} (h : ∀ f, f ∈ xR 8 → X' f = X f) : xC e ad X' 8 i j = xC e ad X 8 i j := by
  rfl
theorem xC_of9 {e i j : Nat} {X X' : bS} (h : ∀ f, f ∈ xR 9 → X' f = X f) : xC e ad X' 9 i j = xC e ad X 9 i j := by
  rfl
theorem xC_of10 {e i j : Nat} {X X' : bS} (h : ∀ f, f ∈ xR 10 → X' f = X f) : xC e ad X' 10 i j = xC e ad X 10 i j := by
  rfl
theorem xC_of11 {e i j : Nat} {X X' : bS} (h : ∀ f, f ∈ xR 11 → X' f = X f) : xC e ad X' 11 i j = xC e ad X 11 i j := by
  rfl
theorem xC_of12 {e i j : Nat} {X X' : bS} (h : ∀ f, f ∈ xR 12 → X' f = X f) : xC e ad X' 12 i j = xC e ad X 12 i j := by
  show (Sum.inr (17, [.ref (ad 29 0 0), .int 0, .int (X' 72 0 0 0), .int (X' 18 0 0 0)]) : mE) = Sum.inr (17, [.ref (ad 29 0 0), .int 0, .int (X 72 0 0 0), .int (X 18 0 0 0)])
  rw [h 72 (by decide), h 18 (by decide)]
theorem xC_of20 {e i j : Nat} {X X' : bS} (h : ∀ f, f ∈ xR 20 → X' f = X f) : xC e ad X' 20 i j = xC e ad X 20 i j := by
  show (Sum.inr (1, [.int (X' 3 i 0 0), .int (X' 4 i 0 0), .int (X' 5 i 0 0), .int (X' 60 i 0 0), .int (X' 61 i 0 0)]) : mE) = Sum.inr (1, [.int (X 3 i 0 0), .int (X 4 i 0 0), .int (X 5 i 0 0), .int (X 60 i 0 0), .int (X 61 i 0 0)])
  rw [h 3 (by decide), h 4 (by decide), h 5 (by decide), h 60 (by decide), h 61 (by decide)]
theorem xC_of21 {e i j : Nat} {X X' : bS} (h : ∀ f, f ∈ xR 21 → X' f = X f) : xC e ad X' 21 i j = xC e ad X 21 i j := by
  show (Sum.inr (2, [.int (X' 10 i 0 0), .int (X' 11 i 0 0), .int (X' 12 i 0 0)]) : mE) = Sum.inr (2, [.int (X 10 i 0 0), .int (X 11 i 0 0), .int (X 12 i 0 0)])
  rw [h 10 (by decide), h 11 (by decide), h 12 (by decide)]
theorem xC_of22 {e i j : Nat} {X X' : bS} (h : ∀ f, f ∈ xR 22 → X' f = X f) : xC e ad X' 22 i j = xC e ad X 22 i j := by
  show (Sum.inr (16, [.int (X' 68 i 0 0), .ref (if X' 69 i 0 0 = 0 then e else ad 23 i 0), .int (xZ X' i)]) : mE) = Sum.inr (16, [.int (X 68 i 0 0), .ref (if X 69 i 0 0 = 0 then e else ad 23 i 0), .int (xZ X i)])
  rw [h 68 (by decide), h 69 (by decide), xZ_of fun f hf => h f (by simp only [List.mem_cons, List.not_mem_nil, or_false] at hf; rcases hf with rfl | rfl | rfl | rfl | rfl <;> decide)]
theorem xC_of23 {e i j : Nat} {X X' : bS} (h : ∀ f, f ∈ xR 23 → X' f = X f) : xC e ad X' 23 i j = xC e ad X 23 i j := by
  show (Sum.inl (5, nn (X' 69 i 0 0), mRs fun j => if j < xN X' i then some (ad 24 i j) else none) : mE) = Sum.inl (5, nn (X 69 i 0 0), mRs fun j => if j < xN X i then some (ad 24 i j) else none)
  rw [h 69 (by decide), xN_of fun f hf => h f (by simp only [List.mem_cons, List.not_mem_nil, or_false] at hf; rcases hf with rfl | rfl | rfl | rfl | rfl <;> decide)]
theorem xC_of24 {e i j : Nat} {X X' : bS} (h : ∀ f, f ∈ xR 24 → X' f = X f) : xC e ad X' 24 i j = xC e ad X 24 i j := by
  show xEl ad X' i j = xEl ad X i j
  unfold xEl
  rw [h 14 (by decide), h 15 (by decide), h 16 (by decide), h 17 (by decide), h 30 (by decide), h 31 (by decide), h 32 (by decide), h 33 (by decide), h 34 (by decide), h 64 (by decide), h 65 (by decide), h 66 (by decide), h 67 (by decide)]
theorem xC_of25 {e i j : Nat} {X X' : bS} (h : ∀ f, f ∈ xR 25 → X' f = X f) : xC e ad X' 25 i j = xC e ad X 25 i j := by
  show (Sum.inl (0, nn (X' 23 i 0 0), mIs fun p => X' 26 i p 0) : mE) = Sum.inl (0, nn (X 23 i 0 0), mIs fun p => X 26 i p 0)
  rw [h 23 (by decide), h 26 (by decide)]
theorem xC_of26 {e i j : Nat} {X X' : bS} (h : ∀ f, f ∈ xR 26 → X' f = X f) : xC e ad X' 26 i j = xC e ad X 26 i j := by
  show (Sum.inl (11, 40, mRs fun p => some (ad 27 i p)) : mE) = Sum.inl (11, 40, mRs fun p => some (ad 27 i p))
  rfl
theorem xC_of27 {e i j : Nat} {X X' : bS} (h : ∀ f, f ∈ xR 27 → X' f = X f) : xC e ad X' 27 i j = xC e ad X 27 i j := by
  show (Sum.inl (2, 36, mIs fun c => X' 63 i j c) : mE) = Sum.inl (2, 36, mIs fun c => X 63 i j c)
  rw [h 63 (by decide)]
theorem xC_of28 {e i j : Nat} {X X' : bS} (h : ∀ f, f ∈ xR 28 → X' f = X f) : xC e ad X' 28 i j = xC e ad X 28 i j := by
  show (Sum.inl (0, xCols i, mIs fun c => xTab X' i j c) : mE) = Sum.inl (0, xCols i, mIs fun c => xTab X i j c)
  unfold xTab
  rw [h 43 (by decide), h 44 (by decide), h 45 (by decide), h 62 (by decide)]
theorem xC_of29 {e i j : Nat} {X X' : bS} (h : ∀ f, f ∈ xR 29 → X' f = X f) : xC e ad X' 29 i j = xC e ad X 29 i j := by
  show (Sum.inl (3, nn (X' 71 0 0 0), mIs fun p => X' 70 p 0 0) : mE) = Sum.inl (3, nn (X 71 0 0 0), mIs fun p => X 70 p 0 0)
  rw [h 71 (by decide), h 70 (by decide)]
theorem xC_of40 {e i j : Nat} {X X' : bS} (h : ∀ f, f ∈ xR 40 → X' f = X f) : xC e ad X' 40 i j = xC e ad X 40 i j := by
  show (Sum.inr (0, xMain ad X') : mE) = Sum.inr (0, xMain ad X)
  unfold xMain
  rw [h 20 (by decide), h 21 (by decide), h 29 (by decide), h 1 (by decide), h 2 (by decide)]
theorem xC_of {e : Nat} {X X' : bS} {t i j : Nat} (hl : xL X t i j) (h : ∀ f, f ∈ xR t → X' f = X f) : xC e ad X' t i j = xC e ad X t i j := by
  rcases hl with ⟨h0, -, -⟩ | ⟨rfl, -, -⟩ | ⟨rfl, -, -⟩ | ⟨rfl, -, -⟩ | ⟨rfl, -, -⟩ | ⟨rfl, -, -⟩ | ⟨rfl, -, -⟩ | ⟨rfl, -, -⟩ | ⟨rfl, -, -⟩ | ⟨rfl, -, -⟩
  · simp only [List.mem_cons, List.not_mem_nil, or_false] at h0
    rcases h0 with rfl | rfl | rfl | rfl | rfl | rfl | rfl | rfl | rfl | rfl | rfl
    · exact xC_of0 h
    · exact xC_of1 h
    · exact xC_of2 h
    · exact xC_of3 h
    · exact xC_of8 h
    · exact xC_of9 h
    · exact xC_of10 h
    · exact xC_of11 h
    · exact xC_of12 h
    · exact xC_of29 h
    · exact xC_of40 h
  · exact xC_of20 h
  · exact xC_of21 h
  · exact xC_of22 h
  · exact xC_of23 h
  · exact xC_of24 h
  · exact xC_of25 h
  · exact xC_of26 h
  · exact xC_of27 h
  · exact xC_of28 h
/-- a bank that differs in fields that no cell holds -/
theorem rX.same (h : rX κ M ad X) {X' : bS} (hf : ∀ f, (f ∈ [1, 2, 3, 4, 5, 8, 9, 10, 11, 12, 13, 14, 15, 16, 17, 18, 20, 21, 23, 24, 26, 27, 28, 29, 30, 31, 32, 33, 34, 35, 43, 44, 45] ∨ 60 ≤ f) → X' f = X f) : rX κ M ad X' := by
  have hL : ∀ t i j, xL X' t i j → xL X t i j := fun t i j => (xL_of (fun f hm => hf f (by simp only [List.mem_cons, List.not_mem_nil, or_false] at hm ⊢; omega)) t i j).mp
  have hd : ∀ t, t < 41 → ∀ f, f ∈ xR t → (f ∈ [1, 2, 3, 4, 5, 8, 9, 10, 11, 12, 13, 14, 15, 16, 17, 18, 20, 21, 23, 24, 26, 27, 28, 29, 30, 31, 32, 33, 34, 35, 43, 44, 45] ∨ 60 ≤ f) := by decide
  refine h.congr hL fun t i j hl => xC_of (hL t i j hl) fun f hm => hf f ?_
  rcases Nat.lt_or_ge t 41 with z | z
  · exact hd t z f hm
  · rw [xR_big z] at hm
    exact absurd hm (by simp)
/-! live keys -/
theorem xl0 {t : Nat} (h : t ∈ [0, 1, 2, 3, 8, 9, 10, 11, 12, 29, 40]) : xL X t 0 0 := Or.inl ⟨h, rfl, rfl⟩
theorem xl20 {c : Nat} (h : c < 36) : xL X 20 c 0 := Or.inr (Or.inl ⟨rfl, h, rfl⟩)
theorem xl21 {c : Nat} (h : c < 4) : xL X 21 c 0 := Or.inr (Or.inr (Or.inl ⟨rfl, h, rfl⟩))
theorem xl22 {c : Nat} (h : c < 4 + xN X 3) : xL X 22 c 0 := Or.inr (Or.inr (Or.inr (Or.inl ⟨rfl, h, rfl⟩)))
theorem xl23 {c : Nat} (h : c < 4 + xN X 3) (h0 : ¬ X 69 c 0 0 = 0) : xL X 23 c 0 := Or.inr (Or.inr (Or.inr (Or.inr (Or.inl ⟨rfl, h, rfl, h0⟩))))
theorem xl24 {c j : Nat} (h : c < 4 + xN X 3) (hj : j < xN X c) : xL X 24 c j := Or.inr (Or.inr (Or.inr (Or.inr (Or.inr (Or.inl ⟨rfl, h, hj⟩)))))
theorem xl25 {c : Nat} (h : c < xN X 1) : xL X 25 c 0 := Or.inr (Or.inr (Or.inr (Or.inr (Or.inr (Or.inr (Or.inl ⟨rfl, h, rfl⟩))))))
theorem xl26 {c : Nat} (h : c < xN X 2) : xL X 26 c 0 := Or.inr (Or.inr (Or.inr (Or.inr (Or.inr (Or.inr (Or.inr (Or.inl ⟨rfl, h, rfl⟩)))))))
theorem xl27 {c j : Nat} (h : c < xN X 2) (hj : j < 40) : xL X 27 c j := Or.inr (Or.inr (Or.inr (Or.inr (Or.inr (Or.inr (Or.inr (Or.inr (Or.inl ⟨rfl, h, hj⟩))))))))
theorem xl28 {c j : Nat} (h : c < 4) (hj : j < xRows c) : xL X 28 c j := Or.inr (Or.inr (Or.inr (Or.inr (Or.inr (Or.inr (Or.inr (Or.inr (Or.inr ⟨rfl, h, hj⟩))))))))
/-! reading -/
variable {w : Bool} {a ci k t n v : Nat} {fs : List Value}
theorem gfi_ {x : Int32} {K : Int32 → Prop} (h : M a = some (w, .inr (ci, fs))) (hk : fs[k]? = some (.int x)) (kk : K x) : gfi M a ci k K := ⟨w, fs, x, h, hk, kk⟩
theorem gfa_ {K : Nat → Prop} (h : M a = some (w, .inr (ci, fs))) (hk : fs[k]? = some (.ref v)) (kk : K v) : gfa M a ci k K := ⟨w, fs, v, h, hk, kk⟩
theorem isc_ (h : M a = some (w, .inr (ci, fs))) : isc M a ci := ⟨w, fs, h⟩
theorem ldi_ {f : Nat → Int32} {i : Int32} {K : Int32 → Prop} (h : M a = some (w, .inl (t, n, .inl f))) (hi : vp_in i n) (kk : K (f i.toNatClampNeg)) : ldi M t a i K := ⟨w, n, f, h, hi, kk⟩
theorem lda_ {f : Nat → Option Nat} {i : Int32} {K : Nat → Prop} (h : M a = some (w, .inl (t, n, .inr (.inr (.inr (.inr f)))))) (hi : vp_in i n) (hf : f i.toNatClampNeg = some v) (kk : K v) : lda M t a i K := ⟨w, n, f, v, h, hi, hf, kk⟩
theorem aln_ {x : mX5} {K : Int32 → Prop} (h : M a = some (w, .inl (t, n, x))) (ht : t < 14) (kk : K (Int32.ofNat n)) : aln M a K := ⟨w, t, n, x, h, ht, kk⟩
theorem rX.main (h : rX κ M ad X) : M κ.2.2.1 = some (true, .inr (0, xMain ad X)) := by
  have := h.at (t := 40) (i := 0) (j := 0) (xl0 (by decide))
  rw [h.am] at this
  exact this
theorem rX.isc (h : rX κ M ad X) : isc M κ.2.2.1 0 := isc_ h.main
end BX
