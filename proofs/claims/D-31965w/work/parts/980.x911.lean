/-! THE CLASS's reading: the parser -/
/-- an item: a code and a place, or the place behind it and its body -/
def itR (t : Nat → Int32) (n d p : Nat) : bRr :=
  if t p = 40 then (if d = 4 then (2, p, []) else if (rdI t n (d + 1) (p + 1)).1 = 0 then (if t (rdI t n (d + 1) (p + 1)).2.1 = 41 then (0, (rdI t n (d + 1) (p + 1)).2.1 + 1, (rdI t n (d + 1) (p + 1)).2.2) else (1, (rdI t n (d + 1) (p + 1)).2.1, [])) else rdI t n (d + 1) (p + 1)) else (0, p + 1, [(t p, p)])
theorem rdI_it {t : Nat → Int32} {n d p : Nat} (h : itemB (t p) = true) : rdI t (n + 1) d p = if (itR t n d p).1 = 0 then rdT t (rdI t n d) (itR t n d p).2.1 (itR t n d p).2.2 else itR t n d p := by
  unfold rdI itR
  rw [if_pos h]
  by_cases z : t p = 40
  · rw [if_pos z, if_pos z]
    by_cases y : d = 4
    · rw [if_pos y, if_pos y, if_neg (show ¬ (2 : Int32) = 0 by decide)]
    · rw [if_neg y, if_neg y]
      by_cases w : (rdI t n (d + 1) (p + 1)).1 = 0
      · rw [if_pos w, if_pos w]
        by_cases v : t (rdI t n (d + 1) (p + 1)).2.1 = 41
        · rw [if_pos v, if_pos v, if_pos rfl]
        · rw [if_neg v, if_neg v, if_neg (show ¬ (1 : Int32) = 0 by decide)]
      · rw [if_neg w, if_neg w, if_neg w]
  · rw [if_neg z, if_neg z, if_pos rfl]
theorem dg_m : ∀ m : Nat, m < 256 → ((¬ Int32.ofNat m < 50 ∧ ¬ (57 : Int32) < Int32.ofNat m) ↔ bIn (Int32.ofNat m) 50 57 = true) ∧ (bIn (Int32.ofNat m) 50 57 = true → Int32.ofNat m - 48 = Int32.ofNat (nn (Int32.ofNat m - 48)) ∧ 0 < nn (Int32.ofNat m - 48) ∧ nn (Int32.ofNat m - 48) < 10) := by decide +kernel
/-- the signs of the class's text are the letters of a bank -/
def sgT (len : Nat) (g : Nat → Int32) (T : bS) : Prop := nn (T 18 0 0 0) = len ∧ ∀ p, p < len → sg len g p = T 22 p 0 0
theorem sgT_c {len : Nat} {g : Nat → Int32} {T : bS} (h : sgT len g T) (p : Nat) : (p < len ∧ sg len g p = lt T p) ∨ (len ≤ p ∧ sg len g p = 0 ∧ lt T p = -1) := by
  rcases Nat.lt_or_ge p len with z | z
  · refine Or.inl ⟨z, ?_⟩
    rw [h.2 p z]
    unfold lt
    rw [h.1, if_neg (by omega)]
  · refine Or.inr ⟨z, if_pos z, lt_off (by rw [h.1]; exact z)⟩
theorem sgT_i {len : Nat} {g : Nat → Int32} {T : bS} (h : sgT len g T) (p : Nat) : itemB (sg len g p) = itemB (lt T p) := by
  rcases sgT_c h p with ⟨-, e⟩ | ⟨-, e1, e2⟩
  · rw [e]
  · rw [e1, e2]; rfl
theorem sgT_x {len : Nat} {g : Nat → Int32} {T : bS} (h : sgT len g T) (p : Nat) {x : Int32} (h0 : ¬ x = 0) (h1 : ¬ x = -1) : sg len g p = x ↔ lt T p = x := by
  rcases sgT_c h p with ⟨-, e⟩ | ⟨-, e1, e2⟩
  · rw [e]
  · rw [e1, e2]
    exact ⟨fun z => absurd z.symm h0, fun z => absurd z.symm h1⟩
theorem sgT_d {len : Nat} {g : Nat → Int32} {T : bS} (hO : tOk len g) (h : sgT len g T) (p : Nat) : (¬ sg len g p < 50 ∧ ¬ (57 : Int32) < sg len g p) ↔ bIn (lt T p) 50 57 = true := by
  rcases sgT_c h p with ⟨-, e⟩ | ⟨-, e1, e2⟩
  · obtain ⟨m, hm, em, -⟩ := sg_m hO p
    rw [← e, em]
    exact (dg_m m hm).1
  · rw [e1, e2]
    decide
/-- what stays all through a reading -/
def kJ (G : mG) (bv s sv len : Nat) (g : Nat → Int32) (M : mM) : Prop := kS G bv M ∧ kT s sv len g M ∧ M (G.2.2 0) = some (false, .inl (5, 0, mRs fun _ => none))
def fltQ (M : mM) (v : Nat) (code : Int32) (p : Nat) : Prop := ∃ fs, M v = some (true, .inr (7, fs)) ∧ fs[0]? = some (.int code) ∧ fs[1]? = some (.int (Int32.ofNat p))
section B980
variable {G : mG} {bv s sv len ρ : Nat} {g : Nat → Int32} {T : bS}
theorem kJ.keep {M M' : mM} {l ed cap : Nat} (h : kJ G bv s sv len g M) (hM : ∀ a, M a ≠ none → a ≠ ρ → a ≠ l → (a ≠ ed ∨ cap = 0) → M' a = M a) (hρ : M ρ = none ∨ ∃ fs, M ρ = some (true, .inr (5, fs))) (hl : M l = none ∨ (∃ fs, M l = some (true, .inr (16, fs))) ∨ l = ρ) (he : cap = 0 ∨ M ed = none ∨ ∃ n f, M ed = some (true, .inl (5, n, f))) : kJ G bv s sv len g M' := by
  obtain ⟨⟨a1, a2⟩, ⟨a3, a4⟩, a5⟩ := h
  have go : ∀ a v, M a = some v → (∀ fs, v ≠ (true, .inr (5, fs))) → (∀ fs, v ≠ (true, .inr (16, fs))) → (∀ n f, v ≠ (true, .inl (5, n, f))) → M' a = some v := fun a v ha v1 v2 v3 => by
    have n1 : a ≠ ρ := fun z => by
      rcases hρ with y | ⟨fs, y⟩
      · rw [z, y] at ha; cases ha
      · rw [z, y] at ha
        cases ha
        exact v1 _ rfl
    have n2 : a ≠ l := fun z => by
      rcases hl with y | ⟨fs, y⟩ | y
      · rw [z, y] at ha; cases ha
      · rw [z, y] at ha
        cases ha
        exact v2 _ rfl
      · exact n1 (z.trans y)
    have n3 : a ≠ ed ∨ cap = 0 := by
      rcases he with y | y | ⟨n, f, y⟩
      · exact Or.inr y
      · exact Or.inl fun z => by rw [z, y] at ha; cases ha
      · refine Or.inl fun z => ?_
        rw [z, y] at ha
        cases ha
        exact v3 _ _ rfl
    rw [hM a (by rw [ha]; exact fun z => by cases z) n1 n2 n3]
    exact ha
  exact ⟨⟨go _ _ a1 (by simp) (by simp) (by simp), go _ _ a2 (by simp) (by simp) (by simp)⟩, ⟨go _ _ a3 (by simp) (by simp) (by simp), go _ _ a4 (by simp) (by simp) (by simp)⟩, go _ _ a5 (by simp) (by simp) (by simp)⟩
theorem kJ.more {M M' : mM} (h : kJ G bv s sv len g M) (hM : ∀ a, M a ≠ none → a ≠ ρ → M' a = M a) (hρ : M ρ = none ∨ ∃ fs, M ρ = some (true, .inr (5, fs))) {x : Nat} (hx : M x = none) : kJ G bv s sv len g M' :=
  h.keep (l := x) (ed := x) (cap := 0) (fun a h1 h2 _ _ => hM a h1 h2) hρ (Or.inl hx) (Or.inl rfl)
theorem lstB.cls {M : mM} {l ed cap n : Nat} {w : Nat → Nat} (h : lstB G M l ed cap n w) : (∃ fs, M l = some (true, .inr (16, fs))) ∧ (cap = 0 ∨ ∃ n f, M ed = some (true, .inl (5, n, f))) := by
  obtain ⟨mc, h1, h2 | h2, -⟩ := h
  · exact ⟨⟨_, h1⟩, Or.inr ⟨_, _, h2.2.2⟩⟩
  · exact ⟨⟨_, h1⟩, Or.inl h2.1⟩
/-- the loop of the items, from a place on -/
def pOk (G : mG) (bv s sv len ρ : Nat) (g : Nat → Int32) (T : bS) (n : Nat) : Prop := ∀ (d k p q b : Nat) (M : mM) (u l ed cap j : Nat) (w : Nat → Nat) (L : Nat → List (Int32 × Nat)) (Z : Nat → Prop) (P : Nat → mM → Prop) (Xx : String → Nat → mM → Prop) (r : bRr),
  d ≤ 4 → k + 2 * d = 13 → len < p + n → n < q → p ≤ len → j ≤ p → rdI (lt T) n d p = r → 80 * (r.2.1 - p) + 9 ≤ b → kJ G bv s sv len g M → rdr M ρ s p → gM G (4 - d) M ρ u l ed cap j w L Z →
  (r.1 = 0 → ∀ M' ed' cap' j' w' L' Z', gM G (4 - d) M' ρ u l ed' cap' j' w' L' Z' → 0 < j' → catL L' j' = catL L j ++ r.2.2 → rdr M' ρ s r.2.1 → kJ G bv s sv len g M' → (∀ a, Z' a → Z a ∨ M a = none) → ¬ cap' = 0 → ((¬ cap = 0 ∧ ed' = ed) ∨ M ed' = none) → (∀ a, M a ≠ none → a ≠ ρ → a ≠ l → (a ≠ ed ∨ cap = 0) → M' a = M a) → P u M') →
  (¬ r.1 = 0 → ∀ v M', M v = none → fltQ M' v r.1 r.2.1 → (∀ a, M a ≠ none → a ≠ ρ → a ≠ l → (a ≠ ed ∨ cap = 0) → M' a = M a) → Xx "Hidecount$ReadingFault" v M') →
  wl_X6_steps_8 (wR_X6_steps_X6_item k).2 G P Xx q b M ρ (Int32.ofNat d) u
theorem iB.lift {M : mM} {Z : Nat → Prop} {x k : Nat} {body : List (Int32 × Nat)} (h : iB G 0 Z M x body k) : ∀ e, iB G e Z M x body k
  | 0 => h
  | e + 1 => iB.up e _ _ _ (iB.lift h e)
theorem rdr.mv {M : mM} {p : Nat} (h : rdr M ρ s p) {P : mM → Prop} (kk : rdr (mset M ρ (.inr (5, [.ref s, .int (Int32.ofNat (p + 1))]))) ρ s (p + 1) → P (mset M ρ (.inr (5, [.ref s, .int (Int32.ofNat (p + 1))])))) : gfi M ρ 5 1 fun v => pfi M ρ 5 1 (v + 1) P := by
  refine gfi_ h rfl ⟨_, h, Nat.le_of_ble_eq_true rfl, ?_⟩
  rw [i_s]
  exact kk (mset_s _ _ _)
/-- a group: its items from a place on -/
theorem x_grp {b d k p n : Nat} {M : mM} {P : Nat → mM → Prop} {Xx : String → Nat → mM → Prop} {r : bRr} (ih : pOk G bv s sv len ρ g T n) (hd : d ≤ 4) (hk : k + 2 * d = 13) (hn : len < p + n) (hp : p ≤ len) (hr : rdI (lt T) n d p = r) (hb : 7 + 80 * (r.2.1 - p) + 9 ≤ b) (hJ : kJ G bv s sv len g M) (hR : rdr M ρ s p)
    (ok : r.1 = 0 → ∀ M' u l ed cap j w L Z, gM G (4 - d) M' ρ u l ed cap j w L Z → (¬ cap = 0 ∧ 0 < j) → catL L j = r.2.2 → rdr M' ρ s r.2.1 → kJ G bv s sv len g M' → (∀ a, Z a ∨ a = u ∨ a = l ∨ a = ed → M a = none) → (∀ a, M a ≠ none → a ≠ ρ → M' a = M a) → P u M')
    (bad : ¬ r.1 = 0 → ∀ v M', M v = none → fltQ M' v r.1 r.2.1 → (∀ a, M a ≠ none → a ≠ ρ → M' a = M a) → Xx "Hidecount$ReadingFault" v M') : wp_X6_steps (wR_X6_steps_X6_item k).2 G b P Xx M ρ (Int32.ofNat d) := by
  have eR : M ρ = some (true, .inr (5, [.ref s, .int (Int32.ofNat p)])) := hR
  unfold wp_X6_steps wp_X8_init wp_X7_init_X8
  refine ⟨by omega, fun u hu => ⟨4, b - (2 + 1) - 4, by omega, ?_⟩⟩
  have fu := hu u (Nat.le_refl _)
  refine ⟨_, mset_s _ _ _, Nat.le_of_ble_eq_true rfl, ?_⟩
  rw [mset_mset]
  refine ⟨by omega, fun l hl => ?_⟩
  have fl := hl l (Nat.le_refl _)
  have hlu : l ≠ u := fun y => by rw [y, mset_s] at fl; cases fl
  rw [mset_n hlu] at fl
  unfold wp_J2_init wp_J1_init_J2 wp_J0_init_J2
  refine ⟨_, mset_s _ _ _, Nat.le_of_ble_eq_true rfl, ?_⟩
  rw [mset_mset]
  refine ⟨_, mset_s _ _ _, Nat.le_of_ble_eq_true rfl, ?_⟩
  rw [mset_mset]
  refine ⟨_, by rw [mset_n (Ne.symm hlu)]; exact mset_s _ _ _, Nat.le_of_ble_eq_true rfl, ?_⟩
  generalize hM3 : mset (mset (mset M u (.inr (6, List.set dfsX8 0 (.int 1)))) l (.inr (16, List.set (List.set dfsJ2 0 (.int 0)) 1 (va_rf (some (G.2.2 0)))))) u (.inr (6, List.set (List.set dfsX8 0 (.int 1)) 1 (va_rf (some l)))) = M3
  have u3 : M3 u = some (true, .inr (6, [.int 1, .ref l])) := by rw [← hM3, mset_s]; rfl
  have l3 : M3 l = some (true, .inr (16, [.int 0, .ref (G.2.2 0), .int 0])) := by rw [← hM3, mset_n hlu, mset_s]; rfl
  have o3 : ∀ a, a ≠ u → a ≠ l → M3 a = M a := fun a h1 h2 => by rw [← hM3, mset_n h1, mset_n h2, mset_n h1]
  have some3 : ∀ a, M a ≠ none → M3 a = M a := fun a ha => o3 a (fun z => ha (z ▸ fu)) fun z => ha (z ▸ fl)
  have none3 : ∀ a, M3 a = none → M a = none := fun a ha => by
    rw [← o3 a (fun z => by rw [z, u3] at ha; cases ha) (fun z => by rw [z, l3] at ha; cases ha)]
    exact ha
  have J3 : kJ G bv s sv len g M3 := hJ.more (ρ := ρ) (fun a ha _ => some3 a ha) (Or.inr ⟨_, eR⟩) fu
  have R3 : rdr M3 ρ s p := by
    show M3 ρ = _
    rw [some3 ρ (by rw [eR]; exact fun z => by cases z)]
    exact eR
  have e0 : (fun i => if i < 0 then some (0 : Nat) else none) = fun _ => none := funext fun i => if_neg (Nat.not_lt_zero i)
  have hg : gM G (4 - d) M3 ρ u l (G.2.2 0) 0 0 (fun _ => 0) (fun _ => []) (fun _ => False) := by
    refine ⟨u3, ⟨0, l3, Or.inr ⟨rfl, rfl, ?_⟩, ⟨Nat.le_refl _, by omega, by omega⟩, fun j _ => if_neg (Nat.not_lt_zero j)⟩, Or.inl rfl, fun i hi => absurd hi (Nat.not_lt_zero i), fun a ha => absurd ha id⟩
    rw [e0]
    exact J3.2.2
  refine ⟨len - p + n + 2, ih d k p _ _ M3 u l (G.2.2 0) 0 0 _ _ _ P Xx r hd hk hn (by omega) hp (Nat.zero_le _) hr (by omega) J3 R3 hg (fun h0 M' ed' cap' j' w' L' Z' h1 h2 h3 h4 h5 h6 h7 h8 h9 => ?_) fun h0 v M' h1 h2 h3 => ?_⟩
  · have fr : ∀ a, M a ≠ none → a ≠ ρ → M' a = M a := fun a ha hρ => by
      rw [h9 a (by rw [some3 a ha]; exact ha) hρ (fun z => ha (z ▸ fl)) (Or.inr rfl), some3 a ha]
    refine ok h0 M' u l ed' cap' j' w' L' Z' h1 ⟨h7, h2⟩ h3 h4 h5 (fun a ha => ?_) fr
    rcases ha with z | z | z | z
    · rcases h6 a z with y | y
      · exact absurd y id
      · exact none3 a y
    · rw [z]; exact fu
    · rw [z]; exact fl
    · rcases h8 with y | y
      · exact absurd rfl y.1
      · rw [z]; exact none3 _ y
  · exact bad h0 v M' (none3 v h1) h2 fun a ha hρ => by
      rw [h3 a (by rw [some3 a ha]; exact ha) hρ (fun z => ha (z ▸ fl)) (Or.inr rfl), some3 a ha]
theorem x_it {b d k p n : Nat} {M : mM} {P : Nat → mM → Prop} {Xx : String → Nat → mM → Prop} {r : bRr} (ih : pOk G bv s sv len ρ g T n) (hO : tOk len g) (hT : sgT len g T) (hd : d ≤ 4) (hk : k + 1 + 2 * d = 13) (hn : len < p + 1 + n) (hr : itR (lt T) n d p = r) (hi : itemB (lt T p) = true) (hb0 : r.1 = 0 → 80 * (r.2.1 - p) ≤ b + 75) (hb1 : ¬ r.1 = 0 → 80 * (r.2.1 - p) + 9 ≤ b) (hJ : kJ G bv s sv len g M) (hR : rdr M ρ s p)
    (ok : r.1 = 0 → ∀ M' x Zx, iB G (4 - d) Zx M' x r.2.2 1 → (∀ a, Zx a ∨ a = x → M a = none ∧ M' a ≠ none ∧ a ≠ ρ) → (∀ a, Zx a → a ≠ x) → rdr M' ρ s r.2.1 → kJ G bv s sv len g M' → (∀ a, M a ≠ none → a ≠ ρ → M' a = M a) → P x M')
    (bad : ¬ r.1 = 0 → ∀ v M', M v = none → fltQ M' v r.1 r.2.1 → (∀ a, M a ≠ none → a ≠ ρ → M' a = M a) → Xx "Hidecount$ReadingFault" v M') : wp_X6_item (wR_X6_steps_X6_item k).1 G b P Xx M ρ (Int32.ofNat d) := by
  have hp : p < len := by rw [← hT.1]; exact it_on hi
  have h60 := hO.1
  have e40 := sgT_x hT p (x := 40) (by decide) (by decide)
  have eR : M ρ = some (true, .inr (5, [.ref s, .int (Int32.ofNat p)])) := hR
  have ρs : M ρ ≠ none := by rw [eR]; exact fun z => by cases z
  unfold wp_X6_item wb_X6_item_48
  refine ⟨isc_ hR, r_sign hO hJ.2.1 hR (by omega) ⟨fun z => ⟨fun y => ?_, fun y => ?_⟩, fun z => ?_⟩⟩
  · have d4 : d = 4 := by
      have := (i_le (a := 4) (by decide) (by omega)).mp y
      omega
    have er : r = (2, p, []) := by
      rw [← hr]
      unfold itR
      rw [if_pos (e40.mp z), if_pos d4]
    subst er
    have h2 : ¬ (2 : Int32) = 0 := by decide
    have := hb1 h2
    refine ⟨isc_ hR, b, 0, rfl, r_need hR (by omega) (fun w => absurd rfl w) fun _ u M' hf => ?_⟩
    exact bad h2 u M' hf.1 hf.2.1 fun a ha _ => hf.2.2 a fun w => ha (w ▸ hf.1)
  · have d4 : ¬ d = 4 := fun w => y (by rw [w]; decide)
    obtain ⟨k', rfl⟩ : ∃ k', k = k' + 1 := ⟨k - 1, by omega⟩
    have hle := rdI_le (S := T) n (d + 1) (p + 1) (by rw [hT.1]; omega)
    rw [hT.1] at hle
    refine ⟨isc_ hR, 0, b, Nat.zero_add _, ?_⟩
    unfold wp_X6_need
    refine ⟨fun _ => hR.mv fun R1 => ?_, fun w => absurd w (by decide)⟩
    have o1 : ∀ a, a ≠ ρ → mset M ρ (.inr (5, [.ref s, .int (Int32.ofNat (p + 1))])) a = M a := fun a ha => mset_n ha
    generalize hM1 : mset M ρ (.inr (5, [.ref s, .int (Int32.ofNat (p + 1))])) = M1 at R1 o1
    have n1 : ∀ a, M1 a = none → M a = none := fun a ha => by
      by_cases w : a = ρ
      · rw [w] at ha
        have : M1 ρ = _ := R1
        rw [this] at ha
        cases ha
      · rw [← o1 a w]; exact ha
    have J1 : kJ G bv s sv len g M1 := by
      exact hJ.keep (ρ := ρ) (l := ρ) (ed := ρ) (cap := 0) (fun a _ w _ _ => o1 a w) (Or.inr ⟨_, eR⟩) (Or.inr (Or.inr rfl)) (Or.inl rfl)
    refine ⟨isc_ R1, ?_⟩
    rw [i_s]
    by_cases h0 : (rdI (lt T) n (d + 1) (p + 1)).1 = 0
    · have e41 := sgT_x hT (rdI (lt T) n (d + 1) (p + 1)).2.1 (x := 41) (by decide) (by decide)
      have er0 : r = if lt T (rdI (lt T) n (d + 1) (p + 1)).2.1 = 41 then (0, (rdI (lt T) n (d + 1) (p + 1)).2.1 + 1, (rdI (lt T) n (d + 1) (p + 1)).2.2) else (1, (rdI (lt T) n (d + 1) (p + 1)).2.1, []) := by
        rw [← hr]
        unfold itR
        rw [if_pos (e40.mp z), if_neg d4, if_pos h0]
      have hbs : 7 + 80 * ((rdI (lt T) n (d + 1) (p + 1)).2.1 - (p + 1)) + 9 ≤ b ∧ (¬ lt T (rdI (lt T) n (d + 1) (p + 1)).2.1 = 41 → 7 + 80 * ((rdI (lt T) n (d + 1) (p + 1)).2.1 - (p + 1)) + 9 + 9 ≤ b) := by
        by_cases w : lt T (rdI (lt T) n (d + 1) (p + 1)).2.1 = 41
        · rw [if_pos w] at er0
          have := hb0 (by rw [er0])
          rw [er0] at this
          have t2 : 80 * ((rdI (lt T) n (d + 1) (p + 1)).2.1 + 1 - p) ≤ b + 75 := this
          exact ⟨by omega, fun y => absurd w y⟩
        · rw [if_neg w] at er0
          have := hb1 (by rw [er0]; exact fun y => absurd (show (1 : Int32) = 0 from y) (by decide))
          rw [er0] at this
          have t2 : 80 * ((rdI (lt T) n (d + 1) (p + 1)).2.1 - p) + 9 ≤ b := this
          exact ⟨by omega, fun _ => by omega⟩
      generalize hri : rdI (lt T) n (d + 1) (p + 1) = ri at h0 e41 er0 hbs hle
      refine ⟨7 + 80 * (ri.2.1 - (p + 1)) + 9, b - (7 + 80 * (ri.2.1 - (p + 1)) + 9), by omega, x_grp (r := ri) ih (by omega) (by omega) (by omega) (by omega) hri (Nat.le_refl _) J1 R1 (fun _ M2 u l ed cap j w L Z g1 g2 g3 g4 g5 g6 g7 => ?_) fun w => absurd h0 w⟩
      have eR2 : M2 ρ = some (true, .inr (5, [.ref s, .int (Int32.ofNat ri.2.1)])) := g4
      unfold wb_X6_item_85
      refine ⟨isc_ g4, r_sign hO g5.2.1 g4 (by omega) ⟨fun y => ?_, fun y => ?_⟩⟩
      · have y41 : ¬ lt T ri.2.1 = 41 := fun w => y (e41.mpr w)
        rw [if_neg y41] at er0
        subst er0
        have h1 : ¬ (1 : Int32) = 0 := by decide
        have hb9 := hbs.2 y41
        refine ⟨isc_ g4, b - (7 + 80 * (ri.2.1 - (p + 1)) + 9), 0, rfl, r_need g4 (by omega) (fun w => absurd rfl w) fun _ v M3 hf => ?_⟩
        refine bad h1 v M3 ?_ hf.2.1 fun a ha w => ?_
        · have hv := hf.1
          refine n1 v ?_
          cases hh : M1 v with
          | none => rfl
          | some x =>
            rw [g7 v (by rw [hh]; exact fun q => by cases q) (fun q => by rw [q, eR2] at hv; cases hv), hh] at hv
            cases hv
        · have hs1 : M1 a ≠ none := fun q => ha (n1 a q)
          rw [hf.2.2 a (fun q => by
            have hv := hf.1
            rw [← q, g7 a hs1 w] at hv
            exact hs1 hv), g7 a hs1 w, o1 a w]
      · have y41 : lt T ri.2.1 = 41 := e41.mp y
        rw [if_pos y41] at er0
        subst er0
        refine ⟨isc_ g4, 0, b - (7 + 80 * (ri.2.1 - (p + 1)) + 9), Nat.zero_add _, ?_⟩
        unfold wp_X6_need
        refine ⟨fun _ => g4.mv fun R3 => ?_, fun w => absurd w (by decide)⟩
        obtain ⟨q1, q2, q3, q4, q5⟩ := g1
        obtain ⟨⟨fs, cl⟩, ce⟩ := q2.cls
        have sl : M2 l ≠ none := by rw [cl]; exact fun q => by cases q
        have se : M2 ed ≠ none := by
          rcases ce with q | ⟨_, _, q⟩
          · exact absurd q g2.1
          · rw [q]; exact fun q => by cases q
        have su : M2 u ≠ none := by rw [q1]; exact fun q => by cases q
        have lρ : l ≠ ρ := fun q => by rw [q, eR2] at cl; cases cl
        have uρ : u ≠ ρ := fun q => by rw [q, eR2] at q1; cases q1
        have eρ : ed ≠ ρ := fun q => by
          rcases ce with q' | ⟨_, _, q'⟩
          · exact absurd q' g2.1
          · rw [q, eR2] at q'; cases q'
        have lu : l ≠ u := fun q => by rw [q, q1] at cl; cases cl
        have eu : ed ≠ u := fun q => by
          rcases ce with q' | ⟨_, _, q'⟩
          · exact absurd q' g2.1
          · rw [q, q1] at q'; cases q'
        have e4 : 4 - d = (4 - (d + 1)) + 1 := by omega
        refine ok rfl _ u (fun a => Z a ∨ a = l ∨ a = ed) ?_ (fun a ha => ?_) (fun a ha => ?_) R3 ?_ fun a ha w => ?_
        · rw [e4]
          refine ⟨by decide, Or.inr ⟨l, ed, cap, j, w, L, by rw [mset_n uρ]; exact q1, ⟨Or.inr (Or.inl rfl), Or.inr (Or.inr rfl), g2⟩, q2.keep (mset_n lρ) (mset_n eρ), fun i hi => ?_, g3.symm⟩⟩
          obtain ⟨y1, b', k', y2, y3⟩ := q4 i hi
          exact ⟨Or.inl y1, b', k', iB.keep (fun a ha => mset_n (q5 a ha).2.1) (fun a ha => Or.inl ha) _ _ _ _ y2 (mset_n (q5 _ y1).2.1), y3⟩
        · have hz : (Z a ∨ a = u ∨ a = l ∨ a = ed) ∧ M2 a ≠ none ∧ a ≠ ρ := by
            rcases ha with (q | q | q) | q
            · exact ⟨Or.inl q, (q5 a q).1, (q5 a q).2.1⟩
            · exact ⟨Or.inr (Or.inr (Or.inl q)), by rw [q]; exact sl, by rw [q]; exact lρ⟩
            · exact ⟨Or.inr (Or.inr (Or.inr q)), by rw [q]; exact se, by rw [q]; exact eρ⟩
            · exact ⟨Or.inr (Or.inl q), by rw [q]; exact su, by rw [q]; exact uρ⟩
          exact ⟨n1 a (g6 a hz.1), by rw [mset_n hz.2.2]; exact hz.2.1, hz.2.2⟩
        · rcases ha with q | q | q
          · exact (q5 a q).2.2.1
          · rw [q]; exact lu
          · rw [q]; exact eu
        · exact g5.keep (ρ := ρ) (l := ρ) (ed := ρ) (cap := 0) (fun a _ w _ _ => mset_n w) (Or.inr ⟨_, eR2⟩) (Or.inr (Or.inr rfl)) (Or.inl rfl)
        · rw [mset_n w, g7 a (fun q => ha (n1 a q)) w, o1 a w]
    · have er : r = rdI (lt T) n (d + 1) (p + 1) := by
        rw [← hr]
        unfold itR
        rw [if_pos (e40.mp z), if_neg d4, if_neg h0]
      have h0' : ¬ r.1 = 0 := by rw [er]; exact h0
      have hb := hb1 h0'
      refine ⟨b, 0, rfl, x_grp (r := r) ih (by omega) (by omega) (by omega) (by omega) er.symm (by rw [er] at hb ⊢; omega) J1 R1 (fun w => absurd w h0') fun _ v M' h1 h2 h3 => bad h0' v M' (n1 v h1) h2 fun a ha w => ?_⟩
      rw [h3 a (fun q => ha (n1 a q)) w, o1 a w]
  · have er : r = (0, p + 1, [(lt T p, p)]) := by
      rw [← hr]
      unfold itR
      rw [if_neg fun w => z (e40.mpr w)]
    subst er
    have hb5 : 80 * (p + 1 - p) ≤ b + 75 := hb0 rfl
    obtain ⟨m, hm, em, -, -⟩ := sg_m hO p
    obtain ⟨-, -, nc, -, -⟩ := nb8 m hm
    have el : sg len g p = lt T p := by
      rcases sgT_c hT p with ⟨-, e⟩ | ⟨e, -⟩
      · exact e
      · omega
    refine ⟨by omega, fun u hu => ?_⟩
    have fu := hu u (Nat.le_refl _)
    have uρ : u ≠ ρ := fun w => by rw [w] at fu; exact ρs fu
    have o1 : ∀ v a, a ≠ u → mset M u v a = M a := fun v a ha => mset_n ha
    have R1 : rdr (mset M u (.inr (8, dfsX11))) ρ s p := (o1 _ ρ (Ne.symm uρ)).trans eR
    have J1 : kJ G bv s sv len g (mset M u (.inr (8, dfsX11))) := hJ.more (ρ := ρ) (fun a ha _ => mset_n fun w => ha (w ▸ fu)) (Or.inr ⟨_, eR⟩) fu
    refine ⟨isc_ R1, r_sign hO J1.2.1 R1 (by omega) (gfi_ R1 rfl ?_)⟩
    rw [em]
    unfold wp_X11_init wp_X7_init_X11
    refine ⟨_, mset_s _ _ _, Nat.le_of_ble_eq_true rfl, ?_⟩
    rw [mset_mset]
    refine ⟨_, mset_s _ _ _, Nat.le_of_ble_eq_true rfl, ⟨nc, fc8 m hm⟩, ?_⟩
    rw [mset_mset]
    refine ⟨_, mset_s _ _ _, Nat.le_of_ble_eq_true rfl, ?_⟩
    rw [mset_mset]
    have R2 : rdr (mset M u (.inr (8, List.set (List.set (List.set dfsX11 0 (.int 1)) 1 (.int (Int32.ofNat m))) 2 (.int (Int32.ofNat p))))) ρ s p := (o1 _ ρ (Ne.symm uρ)).trans eR
    refine R2.mv fun R3 => ok rfl _ u (fun _ => False) (iB.lift ⟨by decide, Int32.ofNat m, p, by omega, ?_, ?_⟩ _) (fun a ha => ?_) (fun a ha => absurd ha id) R3 ?_ fun a ha w => ?_
    · rw [mset_n uρ, mset_s]
      rfl
    · show [(lt T p, p)] = [(Int32.ofNat m, p)]
      rw [← el, em]
    · rcases ha with q | q
      · exact absurd q id
      · rw [q]
        refine ⟨fu, ?_, uρ⟩
        rw [mset_n uρ, mset_s]
        exact fun y => by cases y
    · refine hJ.more (ρ := ρ) (fun a ha w => ?_) (Or.inr ⟨_, eR⟩) fu
      rw [mset_n w]
      exact mset_n fun w => ha (w ▸ fu)
    · rw [mset_n w]
      exact mset_n fun w => ha (w ▸ fu)
end B980
