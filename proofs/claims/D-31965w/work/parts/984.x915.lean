/-! THE CLASS's Goer: the way -/
def runN : List (Int32 × Nat) → bS → Nat
  | [], _ => 0
  | x :: l, S => if eSt S x.1 = 0 then runN l (sStp S x.1 x.2) + 1 else 1
theorem runN_app : ∀ (l l' : List (Int32 × Nat)) (S : bS), runN (l ++ l') S = if runE l S = 0 then runN l S + runN l' (runL l S) else runN l S
  | [], l', S => by
    show runN l' S = if (0 : Int32) = 0 then 0 + runN l' S else 0
    rw [if_pos rfl, Nat.zero_add]
  | x :: l, l', S => by
    show (if eSt S x.1 = 0 then runN (l ++ l') (sStp S x.1 x.2) + 1 else 1) = if (if eSt S x.1 = 0 then runE l (sStp S x.1 x.2) else eSt S x.1) = 0 then (if eSt S x.1 = 0 then runN l (sStp S x.1 x.2) + 1 else 1) + runN l' (if eSt S x.1 = 0 then runL l (sStp S x.1 x.2) else sStp S x.1 x.2) else (if eSt S x.1 = 0 then runN l (sStp S x.1 x.2) + 1 else 1)
    by_cases h : eSt S x.1 = 0
    · rw [if_pos h, if_pos h, if_pos h, if_pos h, runN_app l l']
      by_cases y : runE l (sStp S x.1 x.2) = 0
      · rw [if_pos y, if_pos y]; omega
      · rw [if_neg y, if_neg y]
    · rw [if_neg h, if_neg h, if_neg h, if_neg h]
theorem runN_pos {l : List (Int32 × Nat)} (h : l ≠ []) (S : bS) : 1 ≤ runN l S := by
  cases l with
  | nil => exact absurd rfl h
  | cons x l =>
    show 1 ≤ if eSt S x.1 = 0 then runN l (sStp S x.1 x.2) + 1 else 1
    split <;> omega
def catF (L : Nat → List (Int32 × Nat)) : Nat → Nat → List (Int32 × Nat)
  | _, 0 => []
  | j, n + 1 => L j ++ catF L (j + 1) n
theorem catF_L (L : Nat → List (Int32 × Nat)) : ∀ n j, catL L j ++ catF L j n = catL L (j + n)
  | 0, j => List.append_nil _
  | n + 1, j => by
    show catL L j ++ (L j ++ catF L (j + 1) n) = _
    rw [← List.append_assoc, show catL L j ++ L j = catL L (j + 1) from rfl, catF_L L n (j + 1)]
    exact congrArg (catL L) (by omega)
/-- what a way leaves as it was: all but the list and its array -/
def Fr (M M' : mM) (l ed ed' : Nat) : Prop := (ed' = ed ∨ M ed' = none) ∧ ∀ a, M a ≠ none → a ≠ l → a ≠ ed → M' a = M a
def FQ (M : mM) (v : Nat) (S : bS) : Prop := ∃ fs, M v = some (true, .inr (10, fs)) ∧ fs[0]? = some (.int (S 20 0 0 0)) ∧ fs[1]? = some (.int (S 21 0 0 0))
theorem Fr.refl (M : mM) (l ed : Nat) : Fr M M l ed ed := ⟨Or.inl rfl, fun _ _ _ _ => rfl⟩
theorem Fr.trans {M M1 M2 : mM} {l ed ed1 ed2 : Nat} (h : Fr M M1 l ed ed1) (h' : Fr M1 M2 l ed1 ed2) (hl : M1 l ≠ none) : Fr M M2 l ed ed2 := by
  obtain ⟨a1, a2⟩ := h
  obtain ⟨b1, b2⟩ := h'
  have n1 : ∀ a, M a ≠ none → a ≠ ed → a ≠ ed1 := fun a ha h1 h2 => by
    rcases a1 with y | y
    · exact h1 (h2.trans y)
    · exact ha (h2 ▸ y)
  refine ⟨?_, fun a ha h1 h2 => ?_⟩
  · rcases b1 with y | y
    · rw [y]; exact a1
    · by_cases z : ed2 = ed
      · exact Or.inl z
      · refine Or.inr ?_
        cases hh : M ed2 with
        | none => rfl
        | some x =>
          have hne : M ed2 ≠ none := by rw [hh]; exact fun w => by cases w
          rw [a2 ed2 hne (fun w => hl (w ▸ y)) z, hh] at y
          cases y
  · rw [b2 a (by rw [a2 a ha h1 h2]; exact ha) h1 (n1 a ha h2), a2 a ha h1 h2]
section B984
variable {G : mG} {ic : Nat → Nat} {γ l : Nat}
theorem gS.cap {M : mM} {ed cap : Nat} {S : bS} (h : gS G ic M γ l ed cap S) : ¬ cap = 0 ∧ (∃ fs, M l = some (true, .inr (16, fs))) ∧ ∃ n f, M ed = some (true, .inl (5, n, f)) := by
  obtain ⟨h1, h2, h3, h4, h5, h6, h7⟩ := h
  have hc : ¬ cap = 0 := fun z => by
    obtain ⟨mc, -, -, h, -⟩ := h2
    omega
  exact ⟨hc, h2.cls.1, h2.cls.2.resolve_left hc⟩
theorem kI.fr {M M' : mM} {ed ed' cap : Nat} {S : bS} (h : kI G ic M) (hg : gS G ic M γ l ed cap S) (hF : Fr M M' l ed ed') : kI G ic M' := by
  obtain ⟨-, ⟨fs, cl⟩, n, f, ce⟩ := hg.cap
  exact h.keep fun a x hx => hF.2 a (by rw [hx]; exact fun z => by cases z) (fun z => by rw [z, cl] at hx; cases hx) fun z => by rw [z, ce] at hx; cases hx
/-- nothing of a tree is the goer's -/
def zO (M : mM) (l ed γ : Nat) (Z : Nat → Prop) (x : Nat) : Prop := ∀ a, Z a ∨ a = x → M a ≠ none ∧ a ≠ l ∧ a ≠ ed ∧ a ≠ γ
theorem zO.fr {M M' : mM} {ed ed' x : Nat} {Z : Nat → Prop} (h : zO M l ed γ Z x) (hF : Fr M M' l ed ed') : zO M' l ed' γ Z x ∧ ∀ a, Z a ∨ a = x → M' a = M a := by
  have e : ∀ a, Z a ∨ a = x → M' a = M a := fun a ha => hF.2 a (h a ha).1 (h a ha).2.1 (h a ha).2.2.1
  refine ⟨fun a ha => ⟨by rw [e a ha]; exact (h a ha).1, (h a ha).2.1, fun z => ?_, (h a ha).2.2.2⟩, e⟩
  rcases hF.1 with y | y
  · exact (h a ha).2.2.1 (z.trans y)
  · exact (h a ha).1 (z ▸ y)
theorem x_st1 {b ed cap k : Nat} {M : mM} {S : bS} {c x2 : Int32} {P : mM → Prop} {Xx : String → Nat → mM → Prop} (hI : kI G ic M) (hg : gS G ic M γ l ed cap S) (hb : 75 ≤ b) (h2 : x2 = Int32.ofNat k)
    (ok : eSt S c = 0 → ∀ M' ed' cap', gS G ic M' γ l ed' cap' (sStp S c k) → Fr M M' l ed ed' → P M')
    (bad : ¬ eSt S c = 0 → ∀ v M', FQ M' v (sStp S c k) → Fr M M' l ed ed → Xx "Hidecount$StepFault" v M') : wp_X12_step G b P Xx M γ c x2 := by
  refine x_step hI hg hb h2 (fun h0 M' ed' cap' h1 h2 h3 h4 => ok h0 M' ed' cap' h1 ⟨h2.imp (fun z => z.2) id, fun a ha h5 h6 => h4 a ha h5 (Or.inl h6)⟩) fun h0 v M' hf => bad h0 v M' ?_ ⟨Or.inl rfl, fun a ha _ _ => hf.2.2 a fun z => ha (z ▸ hf.1)⟩
  obtain ⟨-, ⟨fs, f1, f2, f3⟩, -⟩ := hf
  have e : sStp S c k = bU (bU (bU S 19 0 0 0 (Int32.ofNat k)) 20 0 0 0 (eSt S c)) 21 0 0 0 (Int32.ofNat k) := by unfold sStp; rw [if_neg h0]
  refine ⟨fs, f1, ?_, ?_⟩
  · rw [f2, e, bU_f (by decide), bU_s]
  · rw [f3, e, bU_s]
/-- a letter is gone as often as it says -/
theorem x_go11 {c : Int32} {p k x : Nat} {P : mM → Prop} {Xx : String → Nat → mM → Prop} (hk : k < 10) : ∀ (n i q b : Nat) (M : mM) (S : bS) (ed cap : Nat), i + n = k → n < q → 75 * runN (repL [(c, p)] n) S ≤ b → kI G ic M → gS G ic M γ l ed cap S → M x = some (true, .inr (8, [.int (Int32.ofNat k), .int c, .int (Int32.ofNat p)])) →
    (runE (repL [(c, p)] n) S = 0 → ∀ M' ed' cap', gS G ic M' γ l ed' cap' (runL (repL [(c, p)] n) S) → Fr M M' l ed ed' → P M') → (¬ runE (repL [(c, p)] n) S = 0 → ∀ v M' ed', FQ M' v (runL (repL [(c, p)] n) S) → Fr M M' l ed ed' → Xx "Hidecount$StepFault" v M') → wl_X7_go_X11_2 G P Xx q b M x γ (Int32.ofNat i)
  | _, _, 0, _, _, _, _, _, _, hq, _, _, _, _, _, _ => absurd hq (Nat.not_lt_zero _)
  | 0, i, q + 1, b, M, S, ed, cap, hi, _, _, hI, hg, hx, ok, _ => by
    have : i = k := by omega
    subst this
    unfold wl_X7_go_X11_2
    exact gfi_ hx rfl ⟨fun _ => ok rfl M ed cap hg (Fr.refl _ _ _), fun z => absurd (Int32.le_refl _) z⟩
  | n + 1, i, q + 1, b, M, S, ed, cap, hi, hq, hb, hI, hg, hx, ok, bad => by
    have e1 : runN (repL [(c, p)] (n + 1)) S = if eSt S c = 0 then runN (repL [(c, p)] n) (sStp S c p) + 1 else 1 := rfl
    have e2 : runE (repL [(c, p)] (n + 1)) S = if eSt S c = 0 then runE (repL [(c, p)] n) (sStp S c p) else eSt S c := rfl
    have e3 : runL (repL [(c, p)] (n + 1)) S = if eSt S c = 0 then runL (repL [(c, p)] n) (sStp S c p) else sStp S c p := rfl
    obtain ⟨-, ⟨fs, cl⟩, nn0, f0, ce⟩ := hg.cap
    have xl : x ≠ l := fun z => by rw [z, cl] at hx; cases hx
    have xe : x ≠ ed := fun z => by rw [z, ce] at hx; cases hx
    unfold wl_X7_go_X11_2 wp_X11_goOnce
    refine gfi_ hx rfl ⟨fun z => ?_, fun _ => ⟨isc_ hx, ?_⟩⟩
    · have := (i_le (by omega) (by omega)).mp z
      omega
    · have hb75 : 75 ≤ b := by
        have := runN_pos (l := repL [(c, p)] (n + 1)) (by show (c, p) :: repL [(c, p)] n ≠ []; exact fun z => by cases z) S
        omega
      refine ⟨75, b - 75, by omega, gfi_ hx rfl (gfi_ hx rfl ⟨isc_ hg.1, 75, 0, rfl, x_st1 (k := p) hI hg (Nat.le_refl _) rfl (fun h0 M1 ed1 cap1 g1 F1 => ?_) fun h0 v M1 hf F1 => ?_⟩)⟩
      · rw [if_pos h0] at e1 e2 e3
        rw [e1] at hb
        rw [e2, e3] at ok bad
        have l1 : M1 l ≠ none := by
          obtain ⟨-, ⟨fs, y⟩, -⟩ := g1.cap
          rw [y]
          exact fun z => by cases z
        rw [i_s]
        refine x_go11 hk n (i + 1) q (b - 75) M1 (sStp S c p) ed1 cap1 (by omega) (by omega) (by omega) (hI.fr hg F1) g1 (by rw [F1.2 x (by rw [hx]; exact fun z => by cases z) xl xe]; exact hx) (fun h1 M' ed' cap' g2 F2 => ok h1 M' ed' cap' g2 (F1.trans F2 l1)) fun h1 v M' ed' hf F2 => bad h1 v M' ed' hf (F1.trans F2 l1)
      · rw [if_neg h0] at e2 e3
        rw [e2, e3] at bad
        exact bad h0 v M1 ed hf F1
end B984
