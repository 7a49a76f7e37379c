/-! AN ELEMENT MORE in one of the class's lists -/
section B73
variable {G : mG} {b : Nat} {κ : xK} {M : mM} {ad : xA} {X : bS}
theorem rX.push (h : rX κ M ad X) {L : Nat} (hL : L < 4 + xN X 3) {M' : mM} {ed' : Nat} {ad' : xA} {X' : bS} (N : Nat → Nat → Nat → Prop) (hM : ∀ a, a ≠ ad 22 L 0 → a ≠ ed' → M' a = M a) (hed : (¬ X 69 L 0 0 = 0 ∧ ed' = ad 23 L 0) ∨ xO κ ad X ed')
    (k1 : ∀ t i j, xL X' t i j → xL X t i j ∨ (t = 23 ∧ i = L ∧ j = 0) ∨ N t i j) (k2 : ∀ t i j, xL X t i j → ¬ (t = 23 ∧ i = L) → ad' t i j = ad t i j ∧ (¬ (t = 22 ∧ i = L) → xC κ.2.1 ad' X' t i j = xC κ.2.1 ad X t i j)) (k3 : ad' 23 L 0 = ed')
    (k4 : ∀ t i j, N t i j → xO κ ad X (ad' t i j) ∧ ad' t i j ≠ ed' ∧ M (ad' t i j) = some (true, xC κ.2.1 ad' X' t i j)) (k5 : ∀ t i j t' i' j', N t i j → N t' i' j' → ad' t i j = ad' t' i' j' → t = t' ∧ i = i' ∧ j = j')
    (c22 : M' (ad 22 L 0) = some (true, xC κ.2.1 ad' X' 22 L 0)) (c23 : M' ed' = some (true, xC κ.2.1 ad' X' 23 L 0)) (hne : ed' ≠ ad 22 L 0) : rX κ M' ad' X' := by
  obtain ⟨h1, h2, h3, h4, ⟨f, h5⟩, h6⟩ := id h
  have l22 : xL X 22 L 0 := xl22 hL
  -- the old ones that stay where they were
  have old : ∀ t i j, xL X t i j → ¬ (t = 23 ∧ i = L) → ad' t i j = ad t i j ∧ ad t i j ≠ ed' := fun t i j hl hn => by
    refine ⟨(k2 t i j hl hn).1, fun z => ?_⟩
    rcases hed with ⟨y, y2⟩ | y
    · obtain ⟨e1, e2, e3⟩ := h2 _ _ _ _ _ _ hl (xl23 hL y) (z.trans y2)
      exact hn ⟨e1, e2⟩
    · exact y.1 t i j hl z
  have j0 : ∀ {i j}, xL X 23 i j → j = 0 := fun {i j} hl => by
    rcases hl with z | z | z | z | z | z | z | z | z | z <;> first | exact z.2.2.1 | (have z := z.1; simp at z)
  have j2 : ∀ {i j}, xL X 22 i j → j = 0 := fun {i j} hl => by
    rcases hl with z | z | z | z | z | z | z | z | z | z <;> first | exact z.2.2 | (have z := z.1; simp at z)
  have edx : xO κ ad X ed' ∨ (¬ X 69 L 0 0 = 0 ∧ ed' = ad 23 L 0) := hed.symm
  have edc : ed' ≠ κ.2.2.2 ∧ ∀ x, κ.1 ed' ≠ some (false, x) := by
    rcases hed with ⟨y, y2⟩ | y
    · refine ⟨by rw [y2]; exact h6 _ _ _ (xl23 hL y), fun x z => ?_⟩
      have := h3 _ _ z
      rw [y2, h1 _ _ _ (xl23 hL y)] at this
      cases this
    · exact ⟨y.2.1, y.2.2⟩
  have cls : ∀ t i j, xL X' t i j → (t = 23 ∧ i = L ∧ j = 0) ∨ (¬ (t = 23 ∧ i = L) ∧ xL X t i j) ∨ N t i j := fun t i j hl => by
    rcases k1 t i j hl with z | z | z
    · by_cases y : t = 23 ∧ i = L
      · obtain ⟨rfl, rfl⟩ := y
        exact Or.inl ⟨rfl, rfl, j0 z⟩
      · exact Or.inr (Or.inl ⟨y, z⟩)
    · exact Or.inl z
    · exact Or.inr (Or.inr z)
  refine ⟨fun t i j hl => ?_, fun t i j t' i' j' hl hl' he => ?_, fun a x hx => ?_, ?_, ⟨f, ?_⟩, fun t i j hl => ?_⟩
  · rcases cls t i j hl with ⟨rfl, rfl, rfl⟩ | ⟨hn, z⟩ | z
    · rw [k3, c23]
    · obtain ⟨e1, e2⟩ := old t i j z hn
      by_cases y : t = 22 ∧ i = L
      · obtain ⟨rfl, rfl⟩ := y
        have := j2 z
        subst this
        rw [e1, c22]
      · rw [e1, hM _ (fun q => ?_) e2, h1 t i j z, (k2 t i j z hn).2 y]
        obtain ⟨a1, a2, -⟩ := h2 _ _ _ _ _ _ z l22 q
        exact y ⟨a1, a2⟩
    · obtain ⟨e1, e2, e3⟩ := k4 t i j z
      rw [hM _ (fun q => e1.1 _ _ _ l22 q.symm) e2, e3]
  · rcases cls t i j hl with ⟨rfl, rfl, rfl⟩ | ⟨hn, z⟩ | z <;> rcases cls t' i' j' hl' with ⟨rfl, rfl, rfl⟩ | ⟨hn', z'⟩ | z'
    · exact ⟨rfl, rfl, rfl⟩
    · obtain ⟨e1, e2⟩ := old t' i' j' z' hn'
      rw [k3, e1] at he
      exact absurd he.symm e2
    · rw [k3] at he
      exact absurd he.symm (k4 t' i' j' z').2.1
    · obtain ⟨e1, e2⟩ := old t i j z hn
      rw [k3, e1] at he
      exact absurd he e2
    · rw [(old t i j z hn).1, (old t' i' j' z' hn').1] at he
      exact h2 _ _ _ _ _ _ z z' he
    · rw [(old t i j z hn).1] at he
      exact absurd he ((k4 t' i' j' z').1.1 t i j z)
    · rw [k3] at he
      exact absurd he (k4 t i j z).2.1
    · rw [(old t' i' j' z' hn').1] at he
      exact absurd he.symm ((k4 t i j z).1.1 t' i' j' z')
    · exact k5 _ _ _ _ _ _ z z' he
  · rw [hM a (fun z => ?_) (fun z => edc.2 x (z ▸ hx))]
    · exact h3 a x hx
    · have := h3 a x hx
      rw [z, h1 _ _ _ l22] at this
      cases this
  · rw [(old 40 0 0 (xl0 (by decide)) (by omega)).1]
    exact h4
  · rw [hM _ (Ne.symm (h6 _ _ _ l22)) (Ne.symm edc.1)]
    exact h5
  · rcases cls t i j hl with ⟨rfl, rfl, rfl⟩ | ⟨hn, z⟩ | z
    · rw [k3]; exact edc.1
    · rw [(old t i j z hn).1]; exact h6 t i j z
    · exact (k4 t i j z).1.2.1
/-- the list as an ArrayList -/
theorem rX.aL (h : rX κ M ad X) (hI : xI X) (hG : κ.2.1 = G.2.2 0) (hC : κ.1 (G.2.2 0) = some (false, .inl (5, 0, mRs fun _ => none))) {L : Nat} (hL : L < 4 + xN X 3) : aL G M (ad 22 L 0) (if X 69 L 0 0 = 0 then κ.2.1 else ad 23 L 0) (nn (X 69 L 0 0)) (xN X L) (X 68 L 0 0) (fun j => if j < xN X L then some (ad 24 L j) else none) := by
  obtain ⟨e, e2⟩ := hI.z hL
  obtain ⟨-, i2, i3⟩ := hI.2 L hL
  have hc4 := i_nle (bIn_t i3).1 (bIn_t i3).2
  have h4 : nn (400 : Int32) = 400 := rfl
  refine ⟨by rw [← e]; exact h.list hL, ?_, ⟨i2, e2, by omega⟩, fun j hj => if_neg (by omega)⟩
  by_cases z : X 69 L 0 0 = 0
  · refine Or.inr ⟨by rw [z]; rfl, by rw [if_pos z]; exact hG, ?_⟩
    rw [if_pos z, hG, h.2.2.1 _ _ hC]
    have e0 : nn (X 69 L 0 0) = 0 := by rw [z]; rfl
    exact congrArg (fun g : Nat → Option Nat => some (false, (Sum.inl (5, 0, mRs g) : mE))) (funext fun j => (if_neg (by omega)).symm)
  · refine Or.inl ⟨fun y => z ?_, ?_, ?_⟩
    · rw [i_of (bIn_t i3).1, y]; rfl
    · rw [if_neg z]
      exact fun y => by
        have := (h.2.1 _ _ _ _ _ _ (xl23 hL z) (xl22 hL) y).1
        omega
    · rw [if_neg z]
      exact h.elems hL z
end B73
