/-! THE TWIN's read: the parser of a text -/
abbrev bRr := Int32 × Nat × List (Int32 × Nat)
def itemB (x : Int32) : Bool := decide (x = 40) || wayB x
def nx (t : Nat → Int32) (q : Nat) : Nat := if bIn (t q) 50 57 = true then q + 1 else q
def ts (t : Nat → Int32) (q : Nat) : Nat := if bIn (t q) 50 57 = true then nn (t q - 48) else 1
def repL (l : List (Int32 × Nat)) : Nat → List (Int32 × Nat)
  | 0 => []
  | n + 1 => l ++ repL l n
def rdT (t : Nat → Int32) (R : Nat → bRr) (q : Nat) (fl : List (Int32 × Nat)) : bRr :=
  if itemB (t (nx t q)) = true then (if (R (nx t q)).1 = 0 then (0, (R (nx t q)).2.1, repL fl (ts t q) ++ (R (nx t q)).2.2) else R (nx t q)) else (0, nx t q, repL fl (ts t q))
/-- items from a place on, in some brackets: a code and its place, or the place behind them and their steps -/
def rdI (t : Nat → Int32) : Nat → Nat → Nat → bRr
  | 0, _, p => (1, p, [])
  | n + 1, d, p =>
    if itemB (t p) = true then
      (if t p = 40 then
        (if d = 4 then (2, p, []) else
          if (rdI t n (d + 1) (p + 1)).1 = 0 then (if t (rdI t n (d + 1) (p + 1)).2.1 = 41 then rdT t (rdI t n d) ((rdI t n (d + 1) (p + 1)).2.1 + 1) (rdI t n (d + 1) (p + 1)).2.2 else (1, (rdI t n (d + 1) (p + 1)).2.1, []))
          else rdI t n (d + 1) (p + 1))
      else rdT t (rdI t n d) (p + 1) [(t p, p)])
    else (1, p, [])
theorem rdI_no {t : Nat → Int32} {p : Nat} (h : itemB (t p) = false) : ∀ n d, rdI t n d p = (1, p, [])
  | 0, _ => rfl
  | n + 1, d => by
    unfold rdI
    rw [h]
    rfl
/-- the bank behind the reading -/
def sRd (S : bS) (r : bRr) : bS := if r.1 = 0 then bU S 19 0 0 0 (Int32.ofNat r.2.1) else bU (bU (bU S 19 0 0 0 (Int32.ofNat r.2.1)) 20 0 0 0 r.1) 21 0 0 0 (Int32.ofNat r.2.1)
theorem bU_self {S : bS} {f i j k : Nat} {x : Int32} (h : S f i j k = x) : bU S f i j k x = S := by
  funext a b c d
  unfold bU
  split
  · next z => obtain ⟨rfl, rfl, rfl, rfl⟩ := z; exact h.symm
  · rfl
theorem lt_19 {S : bS} {x : Int32} : lt (bU S 19 0 0 0 x) = lt S := by
  funext p
  rfl
theorem lt_off {S : bS} {p : Nat} (h : nn (S 18 0 0 0) ≤ p) : lt S p = -1 := by unfold lt; rw [if_pos h]
theorem it_off {S : bS} {p : Nat} (h : nn (S 18 0 0 0) ≤ p) : itemB (lt S p) = false := by rw [lt_off h]; rfl
theorem it_on {S : bS} {p : Nat} (h : itemB (lt S p) = true) : p < nn (S 18 0 0 0) := by
  refine Nat.not_le.mp fun z => ?_
  rw [it_off z] at h
  exact absurd h (by decide)
/-- where the reading stops lies in the text, or right behind it -/
theorem nx_le {S : bS} {q : Nat} (h : q ≤ nn (S 18 0 0 0)) : nx (lt S) q ≤ nn (S 18 0 0 0) ∧ q ≤ nx (lt S) q := by
  unfold nx
  split
  · next z =>
    refine ⟨?_, by omega⟩
    refine Nat.not_le.mp fun y => ?_
    have : nn (S 18 0 0 0) ≤ q := by omega
    rw [lt_off this] at z
    exact absurd z (by decide)
  · exact ⟨h, Nat.le_refl _⟩
theorem rdI_le {S : bS} : ∀ n d p, p ≤ nn (S 18 0 0 0) → (rdI (lt S) n d p).2.1 ≤ nn (S 18 0 0 0) ∧ p ≤ (rdI (lt S) n d p).2.1
  | 0, _, p, h => ⟨h, Nat.le_refl _⟩
  | n + 1, d, p, h => by
    have tl : ∀ q fl, q ≤ nn (S 18 0 0 0) → p ≤ q → (rdT (lt S) (rdI (lt S) n d) q fl).2.1 ≤ nn (S 18 0 0 0) ∧ p ≤ (rdT (lt S) (rdI (lt S) n d) q fl).2.1 := by
      intro q fl hq hp
      obtain ⟨h1, h2⟩ := nx_le hq
      obtain ⟨h3, h4⟩ := rdI_le (S := S) n d _ h1
      unfold rdT
      split
      · split
        · exact ⟨h3, by show p ≤ (rdI (lt S) n d (nx (lt S) q)).2.1; omega⟩
        · exact ⟨h3, by omega⟩
      · exact ⟨h1, by show p ≤ nx (lt S) q; omega⟩
    unfold rdI
    split
    · next z =>
      have hp := it_on z
      split
      · split
        · exact ⟨h, Nat.le_refl _⟩
        · obtain ⟨h3, h4⟩ := rdI_le (S := S) n (d + 1) (p + 1) (by omega)
          split
          · split
            · next _ _ w =>
              refine tl _ _ ?_ (by omega)
              refine Nat.not_le.mp fun y => ?_
              have : nn (S 18 0 0 0) ≤ (rdI (lt S) n (d + 1) (p + 1)).2.1 := by omega
              rw [lt_off this] at w
              exact absurd w (by decide)
            · exact ⟨h3, by show p ≤ (rdI (lt S) n (d + 1) (p + 1)).2.1; omega⟩
          · exact ⟨h3, by omega⟩
      · exact tl _ _ (by omega) (by omega)
    · exact ⟨h, Nat.le_refl _⟩
/-- a sum of results: what the loop makes from a place on -/
def rdL (t : Nat → Int32) (n d p : Nat) : bRr := if itemB (t p) = true then rdI t n d p else (0, p, [])
section B61
variable {G : mG} {b : Nat} {am : Nat} {ad : bA}
theorem b_chkI {M : mM} {S : bS} (h : bM M am ad S) (hL : bIn (S 18 0 0 0) 0 60 = true) {p : Nat} (hp : p < 2 ^ 31) (hs : S 19 0 0 0 = Int32.ofNat p) {A B : Prop} (hA : itemB (lt S p) = true → A) (hB : itemB (lt S p) = false → B) : wp_X4_is G 0 (fun v1 M1 => (¬ v1 = 0 → A) ∧ (v1 = 0 → gfi M am 3 19 fun v3 => isc M am 3 ∧ (wp_X4_letter G 0 (fun v5 _ => wp_X4_isWay G 0 (fun v7 _ => (¬ v7 = 0 → A) ∧ (v7 = 0 → B)) M v5) M am v3))) M am 40 := by
  refine b_is h hL hp hs ⟨fun z => hA ?_, fun z => b_gfi h (by decide) ?_⟩
  · unfold itemB; rw [bI1.mp z]; rfl
  · rw [hs]
    refine ⟨h.isc, b_letter h hL hp (b_isWay ⟨fun y => hA ?_, fun y => hB ?_⟩)⟩
    · unfold itemB; rw [bI1.mp y, Bool.or_true]
    · unfold itemB; rw [bI0.mp z, bI0.mp y]; rfl
end B61
