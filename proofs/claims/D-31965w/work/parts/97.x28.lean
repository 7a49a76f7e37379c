/-! THE CLASS's reading: the tree of steps -/
theorem fc8 : ∀ m : Nat, m < 256 → fits .char (.int (Int32.ofNat m)) = true := by decide +kernel
def catL (L : Nat → List (Int32 × Nat)) : Nat → List (Int32 × Nat)
  | 0 => []
  | n + 1 => catL L n ++ L n
theorem catL_eq {L L' : Nat → List (Int32 × Nat)} : ∀ n, (∀ i, i < n → L' i = L i) → catL L' n = catL L n
  | 0, _ => rfl
  | n + 1, h => by
    show catL L' n ++ L' n = catL L n ++ L n
    rw [catL_eq n fun i hi => h i (by omega), h n (by omega)]
def cOk (cap : Nat) : Prop := cap = 0 ∨ cap = 10 ∨ cap = 15 ∨ cap = 22 ∨ cap = 33 ∨ cap = 49 ∨ cap = 73
/-- a letter in memory -/
def letB (M : mM) (x k : Nat) (body : List (Int32 × Nat)) : Prop := ∃ (c : Int32) (p : Nat), p ≤ 60 ∧ M x = some (true, .inr (8, [.int (Int32.ofNat k), .int c, .int (Int32.ofNat p)])) ∧ body = [(c, p)]
/-- a list in memory -/
def lstB (G : mG) (M : mM) (l ed cap n : Nat) (w : Nat → Nat) : Prop := ∃ mc, aL G M l ed cap n mc fun i => if i < n then some (w i) else none
/-- an item of a tree: its body once, and how often -/
def iB (G : mG) : Nat → (Nat → Prop) → mM → Nat → List (Int32 × Nat) → Nat → Prop
  | 0, _, M, x, body, k => (0 < k ∧ k < 10) ∧ letB M x k body
  | e + 1, Z, M, x, body, k => (0 < k ∧ k < 10) ∧ (letB M x k body ∨ ∃ (l ed cap n : Nat) (w : Nat → Nat) (L : Nat → List (Int32 × Nat)), M x = some (true, .inr (6, [.int (Int32.ofNat k), .ref l])) ∧ (Z l ∧ Z ed ∧ ¬ cap = 0 ∧ 0 < n) ∧ lstB G M l ed cap n w ∧ (∀ j, j < n → Z (w j) ∧ ∃ b' k', iB G e Z M (w j) b' k' ∧ L j = repL b' k') ∧ body = catL L n)
section B97
variable {G : mG}
theorem lstB.keep {M M' : mM} {l ed cap n : Nat} {w : Nat → Nat} (h : lstB G M l ed cap n w) (h1 : M' l = M l) (h2 : M' ed = M ed) : lstB G M' l ed cap n w := by
  obtain ⟨mc, a1, a2, a3, a4⟩ := h
  exact ⟨mc, by rw [h1]; exact a1, by rw [h2]; exact a2, a3, a4⟩
theorem iB.keep {M M' : mM} {Z Z' : Nat → Prop} (hZ : ∀ a, Z a → M' a = M a) (hZ' : ∀ a, Z a → Z' a) : ∀ e x body k, iB G e Z M x body k → M' x = M x → iB G e Z' M' x body k
  | 0, x, body, k, h, hx => by
    obtain ⟨h1, c, p, h2, h3, h4⟩ := h
    exact ⟨h1, c, p, h2, by rw [hx]; exact h3, h4⟩
  | e + 1, x, body, k, h, hx => by
    obtain ⟨h1, h2⟩ := h
    refine ⟨h1, ?_⟩
    rcases h2 with ⟨c, p, h2, h3, h4⟩ | ⟨l, ed, cap, n, w, L, h3, ⟨z1, z2, z3⟩, h5, h6, h7⟩
    · exact Or.inl ⟨c, p, h2, by rw [hx]; exact h3, h4⟩
    · refine Or.inr ⟨l, ed, cap, n, w, L, by rw [hx]; exact h3, ⟨hZ' l z1, hZ' ed z2, z3⟩, h5.keep (hZ l z1) (hZ ed z2), fun j hj => ?_, h7⟩
      obtain ⟨y1, b', k', y2, y3⟩ := h6 j hj
      exact ⟨hZ' _ y1, b', k', iB.keep hZ hZ' e _ _ _ y2 (hZ _ y1), y3⟩
theorem iB.up {M : mM} {Z : Nat → Prop} : ∀ e x body k, iB G e Z M x body k → iB G (e + 1) Z M x body k
  | 0, x, body, k, h => ⟨h.1, Or.inl h.2⟩
  | e + 1, x, body, k, h => by
    obtain ⟨h1, h2⟩ := h
    refine ⟨h1, ?_⟩
    rcases h2 with h2 | ⟨l, ed, cap, n, w, L, h3, h4, h5, h6, h7⟩
    · exact Or.inl h2
    · refine Or.inr ⟨l, ed, cap, n, w, L, h3, h4, h5, fun j hj => ?_, h7⟩
      obtain ⟨y1, b', k', y2, y3⟩ := h6 j hj
      exact ⟨y1, b', k', iB.up e _ _ _ y2, y3⟩
/-- an item is an object -/
theorem iB.obj {M : mM} {Z : Nat → Prop} {e x k : Nat} {body : List (Int32 × Nat)} (h : iB G e Z M x body k) : (∃ c p, M x = some (true, .inr (8, [.int (Int32.ofNat k), .int c, .int p]))) ∨ ∃ l, M x = some (true, .inr (6, [.int (Int32.ofNat k), .ref l])) := by
  cases e with
  | zero =>
    obtain ⟨h1, c, p, h2, h3, h4⟩ := h
    exact Or.inl ⟨c, _, h3⟩
  | succ e =>
    obtain ⟨h1, h2⟩ := h
    rcases h2 with ⟨c, p, h2, h3, h4⟩ | ⟨l, ed, cap, n, w, L, h3, -⟩
    · exact Or.inl ⟨c, _, h3⟩
    · exact Or.inr ⟨l, h3⟩
/-- how often, set anew -/
theorem iB.set {M : mM} {Z : Nat → Prop} {x k k' : Nat} {body : List (Int32 × Nat)} (hk : 0 < k' ∧ k' < 10) (hx : ∀ a, Z a → a ≠ x) {P : mM → Prop} : ∀ e, iB G e Z M x body k → (∀ v, iB G e Z (mset M x v) x body k' → P (mset M x v)) → (pfi M x 8 0 (Int32.ofNat k') P) ∨ (pfi M x 6 0 (Int32.ofNat k') P)
  | 0, h, kk => by
    obtain ⟨h1, c, p, h2, h3, h4⟩ := h
    exact Or.inl ⟨_, h3, Nat.le_of_ble_eq_true rfl, kk _ ⟨hk, c, p, h2, mset_s _ _ _, h4⟩⟩
  | e + 1, h, kk => by
    obtain ⟨h1, h2⟩ := h
    rcases h2 with ⟨c, p, h2, h3, h4⟩ | ⟨l, ed, cap, n, w, L, h3, ⟨z1, z2, z3⟩, h5, h6, h7⟩
    · exact Or.inl ⟨_, h3, Nat.le_of_ble_eq_true rfl, kk _ ⟨hk, Or.inl ⟨c, p, h2, mset_s _ _ _, h4⟩⟩⟩
    · refine Or.inr ⟨_, h3, Nat.le_of_ble_eq_true rfl, kk _ ⟨hk, Or.inr ⟨l, ed, cap, n, w, L, mset_s _ _ _, ⟨z1, z2, z3⟩, h5.keep (mset_n (hx _ z1)) (mset_n (hx _ z2)), fun j hj => ?_, h7⟩⟩⟩
      obtain ⟨y1, b', k', y2, y3⟩ := h6 j hj
      exact ⟨y1, b', k', iB.keep (fun a ha => mset_n (hx a ha)) (fun _ z => z) e _ _ _ y2 (mset_n (hx _ y1)), y3⟩
/-- a group in the making -/
def gM (G : mG) (e : Nat) (M : mM) (ρ u l ed cap j : Nat) (w : Nat → Nat) (L : Nat → List (Int32 × Nat)) (Z : Nat → Prop) : Prop :=
  M u = some (true, .inr (6, [.int 1, .ref l])) ∧ lstB G M l ed cap j w ∧ cOk cap ∧ (∀ i, i < j → Z (w i) ∧ ∃ b' k', iB G e Z M (w i) b' k' ∧ L i = repL b' k') ∧ ∀ a, Z a → M a ≠ none ∧ a ≠ ρ ∧ a ≠ u ∧ a ≠ l ∧ a ≠ ed
/-- one item more -/
theorem gM.add {b e ρ u l ed cap j x k : Nat} {M : mM} {w : Nat → Nat} {L : Nat → List (Int32 × Nat)} {Z Zx : Nat → Prop} {body : List (Int32 × Nat)} (h : gM G e M ρ u l ed cap j w L Z) (hj : j < 60) (hx : iB G e Zx M x body k) (hZx : ∀ a, Zx a ∨ a = x → M a ≠ none ∧ a ≠ ρ ∧ a ≠ u ∧ a ≠ l ∧ a ≠ ed) (hρ : ∃ fs, M ρ = some (true, .inr (5, fs))) (hb : 75 ≤ b) {K : Int32 → mM → Prop}
    (kk : ∀ M' ed' cap', gM G e M' ρ u l ed' cap' (j + 1) (fun i => if i = j then x else w i) (fun i => if i = j then repL body k else L i) (fun a => Z a ∨ Zx a ∨ a = x) → ¬ cap' = 0 → ((¬ cap = 0 ∧ ed' = ed) ∨ M ed' = none) → (∀ a, M a ≠ none → a ≠ l → (a ≠ ed ∨ cap = 0) → M' a = M a) → (∀ a, a ≠ l → a ≠ ed' → M' a = M a) → K 1 M') : wp_J2_add G b K M l x := by
  obtain ⟨h1, ⟨mc, h2⟩, hc, h3, h4⟩ := h
  have hxo : iso M x := by
    rcases hx.obj with ⟨c, p, e1⟩ | ⟨l', e1⟩
    · exact ⟨true, 8, _, e1⟩
    · exact ⟨true, 6, _, e1⟩
  have cj : j = cap → 11 ≤ b ∧ grw j + 1 ≤ b := fun z => by
    refine ⟨by omega, ?_⟩
    have : grw j ≤ 73 := by
      rw [z]
      unfold cOk at hc
      rcases hc with rfl | rfl | rfl | rfl | rfl | rfl | rfl <;> first | decide | omega
    omega
  refine r_addB h2 (by omega) (fun i hi y hy => ?_) hxo cj fun M' ed' cap' hcap hA hc0 hed hM' => ?_
  · have hy : (if i < j then some (w i) else none) = some y := hy
    by_cases z : i < j
    · rw [if_pos z] at hy
      cases hy
      obtain ⟨-, b', k', y2, -⟩ := h3 i z
      rcases y2.obj with ⟨c, p, e1⟩ | ⟨l', e1⟩
      · exact ⟨true, 8, _, e1⟩
      · exact ⟨true, 6, _, e1⟩
    · rw [if_neg z] at hy
      cases hy
  have hc' : cOk cap' := by
    rw [hcap]
    unfold cOk at hc ⊢
    by_cases z : j = cap
    · rw [if_pos z]
      by_cases z0 : j = 0
      · rw [if_pos z0]; exact Or.inr (Or.inl rfl)
      · rw [if_neg z0, z]
        rcases hc with rfl | rfl | rfl | rfl | rfl | rfl | rfl <;> first | decide | omega
    · rw [if_neg z]; exact hc
  have hedd : ed' = ed ∨ M ed' = none := hed.imp (fun z => z.2.1) id
  have hed2 : (¬ cap = 0 ∧ ed' = ed) ∨ M ed' = none := hed.imp (fun z => ⟨z.1, z.2.1⟩) id
  have ho2 : ∀ a, M a ≠ none → a ≠ l → (a ≠ ed ∨ cap = 0) → M' a = M a := fun a ha a1 a2 => hM' a a1 fun z => by
    rcases hed2 with y | y
    · rcases a2 with w | w
      · exact w (z.trans y.2)
      · exact y.1 w
    · exact ha (z ▸ y)
  have ho : ∀ a, M a ≠ none → a ≠ l → a ≠ ed → M' a = M a := fun a ha a1 a2 => ho2 a ha a1 (Or.inl a2)
  have hul : u ≠ l := fun z => by rw [z, h2.1] at h1; cases h1
  have hedm : ∃ w', M ed = some (w', .inl (5, cap, mRs fun i => if i < j then some (w i) else none)) := by
    obtain ⟨w', y, -⟩ := h2.ed
    exact ⟨w', y⟩
  have hued : u ≠ ed := fun z => by
    obtain ⟨w', y⟩ := hedm
    rw [← z, h1] at y
    cases y
  have keepZ : ∀ a, Z a → M' a = M a := fun a ha => by
    obtain ⟨y1, y2, y3, y4, y5⟩ := h4 a ha
    exact ho a y1 y4 y5
  have keepX : ∀ a, Zx a ∨ a = x → M' a = M a := fun a ha => by
    obtain ⟨y1, y2, y3, y4, y5⟩ := hZx a ha
    exact ho a y1 y4 y5
  refine kk M' ed' cap' ⟨?_, ⟨mc + 1, ?_⟩, hc', fun i hi => ?_, fun a ha => ?_⟩ hc0 hed2 ho2 hM'
  · rw [ho u (by rw [h1]; exact fun z => by cases z) hul hued]
    exact h1
  · have ef : va_up (fun i => if i < j then some (w i) else none) j (some x) = fun i => if i < j + 1 then some (if i = j then x else w i) else none := by
      funext i
      unfold va_up
      by_cases z : i = j
      · rw [if_pos z, if_pos (by omega), if_pos z]
      · rw [if_neg z]
        show (if i < j then some (w i) else none) = _
        by_cases y : i < j
        · rw [if_pos y, if_pos (by omega), if_neg z]
        · rw [if_neg y, if_neg (by omega)]
    rw [ef] at hA
    exact hA
  · by_cases z : i = j
    · refine ⟨Or.inr (Or.inr (if_pos z)), body, k, ?_, if_pos z⟩
      show iB G e _ M' (if i = j then x else w i) body k
      rw [if_pos z]
      exact iB.keep (fun a ha => keepX a (Or.inl ha)) (fun a ha => Or.inr (Or.inl ha)) e _ _ _ hx (keepX x (Or.inr rfl))
    · obtain ⟨y1, b', k', y2, y3⟩ := h3 i (by omega)
      refine ⟨Or.inl ?_, b', k', ?_, ?_⟩
      · show Z (if i = j then x else w i)
        rw [if_neg z]; exact y1
      · show iB G e _ M' (if i = j then x else w i) b' k'
        rw [if_neg z]
        exact iB.keep keepZ (fun a ha => Or.inl ha) e _ _ _ y2 (keepZ _ y1)
      · show (if i = j then repL body k else L i) = _
        rw [if_neg z]; exact y3
  · have hm : M a ≠ none ∧ a ≠ ρ ∧ a ≠ u ∧ a ≠ l ∧ a ≠ ed := by
      rcases ha with z | z
      · exact h4 a z
      · exact hZx a z
    obtain ⟨y1, y2, y3, y4, y5⟩ := hm
    refine ⟨by rw [ho a y1 y4 y5]; exact y1, y2, y3, y4, fun z => ?_⟩
    rcases hedd with y | y
    · exact y5 (z.trans y)
    · exact y1 (z ▸ y)
end B97
