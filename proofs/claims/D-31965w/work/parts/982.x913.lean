/-! THE CLASS's reading, whole -/
theorem itR_le {T : bS} {n d p : Nat} (h : itemB (lt T p) = true) : p ≤ (itR (lt T) n d p).2.1 ∧ (itR (lt T) n d p).2.1 ≤ nn (T 18 0 0 0) ∧ ((itR (lt T) n d p).1 = 0 → p < (itR (lt T) n d p).2.1) := by
  have hp := it_on h
  have hle := rdI_le (S := T) n (d + 1) (p + 1) (by omega)
  unfold itR
  by_cases z : lt T p = 40
  · rw [if_pos z]
    by_cases y : d = 4
    · rw [if_pos y]
      exact ⟨Nat.le_refl _, Nat.le_of_lt hp, fun w => absurd (show (2 : Int32) = 0 from w) (by decide)⟩
    · rw [if_neg y]
      by_cases w : (rdI (lt T) n (d + 1) (p + 1)).1 = 0
      · rw [if_pos w]
        by_cases v : lt T (rdI (lt T) n (d + 1) (p + 1)).2.1 = 41
        · rw [if_pos v]
          have : (rdI (lt T) n (d + 1) (p + 1)).2.1 < nn (T 18 0 0 0) := by
            refine Nat.not_le.mp fun q => ?_
            rw [lt_off q] at v
            exact absurd v (by decide)
          exact ⟨by show p ≤ (rdI (lt T) n (d + 1) (p + 1)).2.1 + 1; omega, this, fun _ => by show p < (rdI (lt T) n (d + 1) (p + 1)).2.1 + 1; omega⟩
        · rw [if_neg v]
          exact ⟨by show p ≤ (rdI (lt T) n (d + 1) (p + 1)).2.1; omega, hle.1, fun q => absurd (show (1 : Int32) = 0 from q) (by decide)⟩
      · rw [if_neg w]
        exact ⟨by omega, hle.1, fun q => absurd q w⟩
  · rw [if_neg z]
    exact ⟨Nat.le_succ p, hp, fun _ => Nat.lt_succ_self p⟩
theorem rdI_itD {t : Nat → Int32} {n d p : Nat} (h : itemB (t p) = true) (h0 : (itR t n d p).1 = 0) : rdI t (n + 1) d p = if itemB (t (nx t (itR t n d p).2.1)) = true then (if (rdI t n d (nx t (itR t n d p).2.1)).1 = 0 then (0, (rdI t n d (nx t (itR t n d p).2.1)).2.1, repL (itR t n d p).2.2 (ts t (itR t n d p).2.1) ++ (rdI t n d (nx t (itR t n d p).2.1)).2.2) else rdI t n d (nx t (itR t n d p).2.1)) else (0, nx t (itR t n d p).2.1, repL (itR t n d p).2.2 (ts t (itR t n d p).2.1)) := by
  rw [rdI_it h, if_pos h0]
  rfl
section B982
variable {G : mG} {bv s sv len ρ : Nat} {g : Nat → Int32} {T : bS}
theorem x_pOk (hO : tOk len g) (hT : sgT len g T) : ∀ n, pOk G bv s sv len ρ g T n
  | 0 => fun d k p q b M u l ed cap j w L Z P Xx r hd hk hn hq hp => absurd hn (by omega)
  | n + 1 => fun d k p q b M u l ed cap j w L Z P Xx r hd hk hn hq hp hj hr hb hJ hR hg ok bad => by
    have ih := x_pOk hO hT n
    obtain ⟨q, rfl⟩ : ∃ q', q = q' + 1 := ⟨q - 1, by omega⟩
    obtain ⟨k, rfl⟩ : ∃ k', k = k' + 1 := ⟨k - 1, by omega⟩
    have h60 := hO.1
    have ei := sgT_i hT p
    have eR : M ρ = some (true, .inr (5, [.ref s, .int (Int32.ofNat p)])) := hR
    have ρs : M ρ ≠ none := by rw [eR]; exact fun z => by cases z
    unfold wl_X6_steps_8
    refine ⟨isc_ hR, r_item hJ.1 hO hJ.2.1 hR (by omega) (fun hy => ?_) fun hy => ?_⟩
    · rw [ei] at hy
      have hle := itR_le (n := n) (d := d) hy
      rw [hT.1] at hle
      have hp' : p < len := by rw [← hT.1]; exact it_on hy
      refine ⟨isc_ hR, 0, b, Nat.zero_add _, ?_⟩
      unfold wp_X6_need
      refine ⟨fun _ => ⟨isc_ hR, ?_⟩, fun z => absurd z (by decide)⟩
      by_cases h0 : (itR (lt T) n d p).1 = 0
      · have hrr := rdI_itD (n := n) (d := d) hy h0
        rw [hr] at hrr
        generalize hi : itR (lt T) n d p = it at h0 hrr hle
        have hlt := hle.2.2 h0
        have hnx := nx_le (S := T) (q := it.2.1) (by rw [hT.1]; exact hle.2.1)
        rw [hT.1] at hnx
        -- the place behind all of it
        have hend : nx (lt T) it.2.1 ≤ r.2.1 := by
          have hl2 := rdI_le (S := T) n d (nx (lt T) it.2.1) (by rw [hT.1]; exact hnx.1)
          rw [hrr]
          split
          · split
            · exact hl2.2
            · exact hl2.2
          · exact Nat.le_refl _
        refine ⟨80 * (it.2.1 - p) - 75, b - (80 * (it.2.1 - p) - 75), by omega, x_it (k := k) (r := it) ih hO hT hd (by omega) (by omega) hi hy (fun _ => by omega) (fun z => absurd h0 z) hJ hR (fun _ M1 x Zx g1 g2 g3 g4 g5 g6 => ?_) fun z => absurd h0 z⟩
        have eR1 : M1 ρ = some (true, .inr (5, [.ref s, .int (Int32.ofNat it.2.1)])) := g4
        have hg1 : gM G (4 - d) M1 ρ u l ed cap j w L Z := by
          obtain ⟨y1, y2, y3, y4, y5⟩ := hg
          obtain ⟨⟨fs, cl⟩, ce⟩ := y2.cls
          have kp : ∀ a, Z a → M1 a = M a := fun a ha => g6 a (y5 a ha).1 (y5 a ha).2.1
          have edm : ∃ w', M ed = some (w', .inl (5, cap, mRs fun i => if i < j then some (w i) else none)) := by
            obtain ⟨mc, y⟩ := y2
            obtain ⟨w', y', -⟩ := y.ed
            exact ⟨w', y'⟩
          obtain ⟨w', em⟩ := edm
          refine ⟨?_, y2.keep (g6 l (by rw [cl]; exact fun z => by cases z) fun z => by rw [z, eR] at cl; cases cl) (g6 ed (by rw [em]; exact fun z => by cases z) fun z => by rw [z, eR] at em; cases em), y3, fun i hi' => ?_, fun a ha => ?_⟩
          · rw [g6 u (by rw [y1]; exact fun z => by cases z) fun z => by rw [z, eR] at y1; cases y1]
            exact y1
          · obtain ⟨v1, b', k', v2, v3⟩ := y4 i hi'
            exact ⟨v1, b', k', iB.keep kp (fun _ z => z) _ _ _ _ v2 (kp _ v1), v3⟩
          · obtain ⟨v1, v2⟩ := y5 a ha
            exact ⟨by rw [kp a ha]; exact v1, v2⟩
        obtain ⟨m, hm, em, -, -⟩ := sg_m hO it.2.1
        have ed50 := sgT_d hO hT it.2.1
        have hZ : ∀ a, Zx a ∨ a = x → M1 a ≠ none ∧ a ≠ ρ ∧ a ≠ u ∧ a ≠ l ∧ a ≠ ed ∧ M a = none := fun a ha => by
          obtain ⟨v1, v2, v3⟩ := g2 a ha
          obtain ⟨y1, y2, -⟩ := hg
          obtain ⟨⟨fs, cl⟩, ce⟩ := y2.cls
          refine ⟨v2, v3, fun z => (by rw [z, y1] at v1; cases v1), fun z => (by rw [z, cl] at v1; cases v1), fun z => ?_, v1⟩
          obtain ⟨mc, y⟩ := y2
          obtain ⟨w', y', -⟩ := y.ed
          rw [z, y'] at v1
          cases v1
        -- no number
        have no : bIn (lt T it.2.1) 50 57 = false → wb_X6_steps_62 (wR_X6_steps_X6_item (k + 1)).2 G P Xx (wl_X6_steps_8 (wR_X6_steps_X6_item (k + 1)).2 G P Xx q) (b - (80 * (it.2.1 - p) - 75)) M1 ρ (Int32.ofNat d) u x := fun hd0 => by
          obtain ⟨n1, n2⟩ := nx_n hd0
          rw [n1, n2] at hrr
          rw [n1] at hend hnx
          exact x_stp62 (c := 1) (p := p) ih hO hT hd hk (by omega) (by omega) hle.2.1 (by omega) (by omega) (by omega) hrr (by omega) g5 g4 hg1 g1 hZ g6 ρs ok bad
        refine ⟨isc_ g4, r_sign hO g5.2.1 g4 (by omega) ⟨fun z => no ?_, fun z => ⟨isc_ g4, r_sign hO g5.2.1 g4 (by omega) ⟨fun y => no ?_, fun y => ⟨isc_ g4, r_sign hO g5.2.1 g4 (by omega) ?_⟩⟩⟩⟩⟩
        · cases hh : bIn (lt T it.2.1) 50 57 with
          | false => rfl
          | true => exact absurd z (ed50.mpr hh).1
        · cases hh : bIn (lt T it.2.1) 50 57 with
          | false => rfl
          | true => exact absurd y (ed50.mpr hh).2
        · have hd1 : bIn (lt T it.2.1) 50 57 = true := ed50.mp ⟨z, y⟩
          obtain ⟨n1, n2⟩ := nx_y hd1
          rw [n1, n2] at hrr
          rw [n1] at hend hnx
          have el : sg len g it.2.1 = lt T it.2.1 := by
            rcases sgT_c hT it.2.1 with ⟨-, e⟩ | ⟨-, -, e⟩
            · exact e
            · rw [e] at hd1; exact absurd hd1 (by decide)
          have e48 := (dg_m m hm).2 (by rw [← em, el]; exact hd1)
          rw [← em, el] at e48
          rw [el, e48.1]
          have xρ : x ≠ ρ := (hZ x (Or.inr rfl)).2.1
          have go : ∀ v, iB G (4 - d) Zx (mset M1 x v) x it.2.2 (nn (lt T it.2.1 - 48)) → gfi (mset M1 x v) ρ 5 1 fun v26 => pfi (mset M1 x v) ρ 5 1 (v26 + 1) fun M27 => wb_X6_steps_62 (wR_X6_steps_X6_item (k + 1)).2 G P Xx (wl_X6_steps_8 (wR_X6_steps_X6_item (k + 1)).2 G P Xx q) (b - (80 * (it.2.1 - p) - 75)) M27 ρ (Int32.ofNat d) u x := fun v hv => by
            have R2 : rdr (mset M1 x v) ρ s it.2.1 := (mset_n (Ne.symm xρ)).trans g4
            refine R2.mv fun R3 => ?_
            have o3 : ∀ a, a ≠ ρ → a ≠ x → mset (mset M1 x v) ρ (.inr (5, [.ref s, .int (Int32.ofNat (it.2.1 + 1))])) a = M1 a := fun a h1 h2 => by rw [mset_n h1, mset_n h2]
            generalize hM3 : mset (mset M1 x v) ρ (.inr (5, [.ref s, .int (Int32.ofNat (it.2.1 + 1))])) = M3 at R3 o3
            have x3 : M3 x = (mset M1 x v) x := by rw [← hM3, mset_n xρ]
            have z3 : ∀ a, Zx a → M3 a = (mset M1 x v) a := fun a ha => by rw [← hM3, mset_n (hZ a (Or.inl ha)).2.1]
            have kx : ∀ {a y}, M a = some y → a ≠ ρ → M3 a = M1 a := fun {a y} ha h1 => o3 a h1 fun q => by
              have := (hZ x (Or.inr rfl)).2.2.2.2.2
              rw [← q, ha] at this
              cases this
            have J3 : kJ G bv s sv len g M3 := hJ.keep (ρ := ρ) (l := ρ) (ed := ρ) (cap := 0) (fun a h1 h2 _ _ => by
              rw [o3 a h2 (fun q => h1 (q ▸ (hZ x (Or.inr rfl)).2.2.2.2.2)), g6 a h1 h2]) (Or.inr ⟨_, eR⟩) (Or.inr (Or.inr rfl)) (Or.inl rfl)
            have hg3 : gM G (4 - d) M3 ρ u l ed cap j w L Z := by
              obtain ⟨y1, y2, y3, y4, y5⟩ := hg1
              have hn := hg.2.2.2.2
              obtain ⟨⟨fs, cl⟩, ce⟩ := y2.cls
              have kz : ∀ a, M a ≠ none → a ≠ ρ → M3 a = M1 a := fun a h1 h2 => o3 a h2 fun q => h1 (q ▸ (hZ x (Or.inr rfl)).2.2.2.2.2)
              have kp : ∀ a, Z a → M3 a = M1 a := fun a ha => kz a (hn a ha).1 (hn a ha).2.1
              obtain ⟨⟨fs0, cl0⟩, ce0⟩ := hg.2.1.cls
              have edm : ∃ w', M ed = some (w', .inl (5, cap, mRs fun i => if i < j then some (w i) else none)) := by
                obtain ⟨mc, y⟩ := hg.2.1
                obtain ⟨w', y', -⟩ := y.ed
                exact ⟨w', y'⟩
              obtain ⟨w', em'⟩ := edm
              refine ⟨?_, y2.keep (kz l (by rw [cl0]; exact fun z => by cases z) fun z => by rw [z, eR] at cl0; cases cl0) (kz ed (by rw [em']; exact fun z => by cases z) fun z => by rw [z, eR] at em'; cases em'), y3, fun i hi' => ?_, fun a ha => ?_⟩
              · have y0 := hg.1
                rw [kz u (by rw [y0]; exact fun z => by cases z) fun z => by rw [z, eR] at y0; cases y0]
                exact y1
              · obtain ⟨v1, b', k', v2, v3⟩ := y4 i hi'
                exact ⟨v1, b', k', iB.keep kp (fun _ z => z) _ _ _ _ v2 (kp _ v1), v3⟩
              · obtain ⟨v1, v2⟩ := y5 a ha
                exact ⟨by rw [kp a ha]; exact v1, v2⟩
            have hx3 : iB G (4 - d) Zx M3 x it.2.2 (nn (lt T it.2.1 - 48)) := iB.keep z3 (fun _ z => z) _ _ _ _ hv x3
            refine x_stp62 (c := nn (lt T it.2.1 - 48)) (p := p) ih hO hT hd hk (by omega) (by omega) (by omega) (by omega) (by omega) (by omega) hrr (by omega) J3 R3 hg3 hx3 (fun a ha => ?_) (fun a h1 h2 => ?_) ρs ok bad
            · obtain ⟨v1, v2⟩ := hZ a ha
              refine ⟨?_, v2⟩
              by_cases q : a = x
              · rw [q, x3, mset_s]; exact fun z => by cases z
              · rw [o3 a v2.1 q]; exact v1
            · rw [o3 a h2 fun q => h1 (q ▸ (hZ x (Or.inr rfl)).2.2.2.2.2), g6 a h1 h2]
          exact iB.set e48.2 g3 (4 - d) g1 fun v hv => go v hv
      · have hrr := rdI_it (t := lt T) (n := n) (d := d) hy
        rw [if_neg h0, hr] at hrr
        have hb' := hb
        rw [hrr] at hb' ok bad
        refine ⟨b, 0, rfl, x_it (k := k) (r := itR (lt T) n d p) ih hO hT hd (by omega) (by omega) rfl hy (fun z => absurd z h0) (fun _ => hb') hJ hR (fun z => absurd z h0) fun _ v M' h1 h2 h3 => ?_⟩
        exact bad h0 v M' h1 h2 fun a y1 y2 _ _ => h3 a y1 y2
    · rw [ei] at hy
      have er : r = (1, p, []) := by rw [← hr]; exact rdI_no hy _ _
      subst er
      have h1 : ¬ (1 : Int32) = 0 := by decide
      refine ⟨isc_ hR, b, 0, rfl, r_need hR (by omega) (fun w => absurd rfl w) fun _ v M' hf => ?_⟩
      exact bad h1 v M' hf.1 hf.2.1 fun a ha _ _ _ => hf.2.2 a fun w => ha (w ▸ hf.1)
end B982
