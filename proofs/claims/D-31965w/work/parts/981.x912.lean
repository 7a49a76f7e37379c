/-! THE CLASS's reading: the loop of the items -/
section B981
variable {G : mG} {bv s sv len ρ : Nat} {g : Nat → Int32} {T : bS}
theorem nx_n {t : Nat → Int32} {q : Nat} (h : bIn (t q) 50 57 = false) : nx t q = q ∧ ts t q = 1 := by
  unfold nx ts
  rw [h]
  exact ⟨rfl, rfl⟩
theorem nx_y {t : Nat → Int32} {q : Nat} (h : bIn (t q) 50 57 = true) : nx t q = q + 1 ∧ ts t q = nn (t q - 48) := by
  unfold nx ts
  rw [h]
  exact ⟨rfl, rfl⟩
/-- an item's end: into the list, and on -/
theorem x_stp62 {P : Nat → mM → Prop} {Xx : String → Nat → mM → Prop} {n d k q b x : Nat} {M0 M : mM} {u l ed cap j c p nq : Nat} {w : Nat → Nat} {L : Nat → List (Int32 × Nat)} {Z Zx : Nat → Prop} {body : List (Int32 × Nat)} {r : bRr} (ih : pOk G bv s sv len ρ g T n) (hO : tOk len g) (hT : sgT len g T) (hd : d ≤ 4) (hk : k + 2 * d = 13) (hn : len < nq + n) (hq : n < q) (hp : nq ≤ len) (hj : j < nq) (hj60 : j < 60) (hpq : p ≤ nq)
    (hr : r = if itemB (lt T nq) = true then (if (rdI (lt T) n d nq).1 = 0 then (0, (rdI (lt T) n d nq).2.1, repL body c ++ (rdI (lt T) n d nq).2.2) else rdI (lt T) n d nq) else (0, nq, repL body c)) (hb : 80 * (r.2.1 - nq) + 9 + 75 ≤ b) (hJ : kJ G bv s sv len g M) (hR : rdr M ρ s nq) (hg : gM G (4 - d) M ρ u l ed cap j w L Z) (hx : iB G (4 - d) Zx M x body c) (hZx : ∀ a, Zx a ∨ a = x → M a ≠ none ∧ a ≠ ρ ∧ a ≠ u ∧ a ≠ l ∧ a ≠ ed ∧ M0 a = none)
    (hM0 : ∀ a, M0 a ≠ none → a ≠ ρ → M a = M0 a) (hρ0 : M0 ρ ≠ none)
    (ok : r.1 = 0 → ∀ M' ed' cap' j' w' L' Z', gM G (4 - d) M' ρ u l ed' cap' j' w' L' Z' → 0 < j' → catL L' j' = catL L j ++ r.2.2 → rdr M' ρ s r.2.1 → kJ G bv s sv len g M' → (∀ a, Z' a → Z a ∨ M0 a = none) → ¬ cap' = 0 → ((¬ cap = 0 ∧ ed' = ed) ∨ M0 ed' = none) → (∀ a, M0 a ≠ none → a ≠ ρ → a ≠ l → (a ≠ ed ∨ cap = 0) → M' a = M0 a) → P u M')
    (bad : ¬ r.1 = 0 → ∀ v M', M0 v = none → fltQ M' v r.1 r.2.1 → (∀ a, M0 a ≠ none → a ≠ ρ → a ≠ l → (a ≠ ed ∨ cap = 0) → M' a = M0 a) → Xx "Hidecount$ReadingFault" v M') :
    wb_X6_steps_62 (wR_X6_steps_X6_item k).2 G P Xx (wl_X6_steps_8 (wR_X6_steps_X6_item k).2 G P Xx q) b M ρ (Int32.ofNat d) u x := by
  have eR : M ρ = some (true, .inr (5, [.ref s, .int (Int32.ofNat nq)])) := hR
  have h60 := hO.1
  have n0 : ∀ a, M a = none → M0 a = none := fun a ha => by
    cases hh : M0 a with
    | none => rfl
    | some y =>
      rw [hM0 a (by rw [hh]; exact fun z => by cases z) (fun z => by rw [z, eR] at ha; cases ha), hh] at ha
      cases ha
  unfold wb_X6_steps_62
  obtain ⟨fs, cl⟩ := hg.2.1.cls.1
  refine gfa_ hg.1 rfl ⟨isc_ cl, 75, b - 75, by omega, hg.add hj60 hx (fun a ha => ⟨(hZx a ha).1, (hZx a ha).2.1, (hZx a ha).2.2.1, (hZx a ha).2.2.2.1, (hZx a ha).2.2.2.2.1⟩) ⟨_, eR⟩ (by omega) fun M2 ed2 cap2 g2 hc2 hed2 hM2 hM3 => ?_⟩
  have ec := hg.2.1.cls.2
  have lρ : ρ ≠ l := fun z => by rw [← z, eR] at cl; cases cl
  have eρ : ρ ≠ ed ∨ cap = 0 := by
    rcases ec with y | ⟨_, _, y⟩
    · exact Or.inr y
    · exact Or.inl fun z => by rw [← z, eR] at y; cases y
  have R2 : rdr M2 ρ s nq := by
    show M2 ρ = _
    rw [hM2 ρ (by rw [eR]; exact fun z => by cases z) lρ eρ]
    exact eR
  have J2 : kJ G bv s sv len g M2 := hJ.keep (ρ := ρ) (fun a h1 _ h3 h4 => hM2 a h1 h3 h4) (Or.inr ⟨_, eR⟩) (Or.inr (Or.inl ⟨_, cl⟩)) (ec.imp id Or.inr)
  have fr0 : ∀ a, M0 a ≠ none → a ≠ ρ → a ≠ l → (a ≠ ed ∨ cap = 0) → M2 a = M0 a := fun a h1 h2 h3 h4 => by
    rw [hM2 a (by rw [hM0 a h1 h2]; exact h1) h3 h4, hM0 a h1 h2]
  have n2 : ∀ a, M2 a = none → M0 a = none := fun a ha => by
    obtain ⟨⟨fs', y1⟩, y2⟩ := g2.2.1.cls
    refine n0 a ?_
    rw [← hM3 a (fun z => by rw [z, y1] at ha; cases ha) fun z => ?_]
    · exact ha
    · rcases y2 with y | ⟨_, _, y⟩
      · exact hc2 y
      · rw [z, y] at ha; cases ha
  have hZ2 : ∀ a, (Z a ∨ Zx a ∨ a = x) → Z a ∨ M0 a = none := fun a ha => by
    rcases ha with z | z
    · exact Or.inl z
    · exact Or.inr (hZx a z).2.2.2.2.2
  have hcat : catL (fun i => if i = j then repL body c else L i) (j + 1) = catL L j ++ repL body c := by
    show catL (fun i => if i = j then repL body c else L i) j ++ (if j = j then repL body c else L j) = _
    rw [if_pos rfl, catL_eq j fun i hi => if_neg (by omega)]
  have hed0 : (¬ cap = 0 ∧ ed2 = ed) ∨ M0 ed2 = none := hed2.imp id fun z => n0 _ z
  have ei := sgT_i hT nq
  refine ⟨isc_ R2, r_item J2.1 hO J2.2.1 R2 (by omega) (fun hy => ⟨fun _ => ?_, fun z => absurd z (by decide)⟩) fun hy => ⟨fun z => absurd rfl z, fun _ => ?_⟩⟩
  · rw [ei] at hy
    rw [if_pos hy] at hr
    refine ih d k nq q (b - 75) M2 u l ed2 cap2 (j + 1) _ _ _ P Xx _ hd hk hn hq hp (by omega) rfl ?_ J2 R2 g2 (fun h0 M' ed' cap' j' w' L' Z' h1 h2 h3 h4 h5 h6 h7 h8 h9 => ?_) fun h0 v M' h1 h2 h3 => ?_
    · have : r.2.1 = (rdI (lt T) n d nq).2.1 := by
        rw [hr]; split <;> rfl
      rw [← this]
      omega
    · rw [if_pos h0] at hr
      rw [hr] at ok
      refine ok rfl M' ed' cap' j' w' L' Z' h1 h2 ?_ h4 h5 (fun a ha => ?_) h7 ?_ fun a y1 y2 y3 y4 => ?_
      · rw [h3, hcat, List.append_assoc]
      · rcases h6 a ha with y | y
        · exact hZ2 a y
        · exact Or.inr (n2 a y)
      · rcases h8 with y | y
        · rcases hed0 with v | v
          · exact Or.inl ⟨v.1, y.2.trans v.2⟩
          · exact Or.inr (by rw [y.2]; exact v)
        · exact Or.inr (n2 _ y)
      · have s2 : M2 a ≠ none := by rw [fr0 a y1 y2 y3 y4]; exact y1
        rw [h9 a s2 y2 y3 ?_, fr0 a y1 y2 y3 y4]
        refine Or.inl fun v => ?_
        rcases hed0 with t | t
        · rcases y4 with f | f
          · exact f (v.trans t.2)
          · exact t.1 f
        · exact y1 (v ▸ t)
    · rw [if_neg h0] at hr
      rw [hr] at bad
      refine bad h0 v M' (n2 v h1) h2 fun a y1 y2 y3 y4 => ?_
      have s2 : M2 a ≠ none := by rw [fr0 a y1 y2 y3 y4]; exact y1
      rw [h3 a s2 y2 y3 ?_, fr0 a y1 y2 y3 y4]
      refine Or.inl fun v => ?_
      rcases hed0 with t | t
      · rcases y4 with f | f
        · exact f (v.trans t.2)
        · exact t.1 f
      · exact y1 (v ▸ t)
  · rw [ei] at hy
    rw [if_neg (by rw [hy]; decide)] at hr
    rw [hr] at ok
    exact ok rfl M2 ed2 cap2 (j + 1) _ _ _ g2 (Nat.succ_pos j) hcat R2 J2 hZ2 hc2 hed0 fr0
end B981
