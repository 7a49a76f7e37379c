/-! THE CLASS's route: the reading whole, the goer's start, the route's array -/
section B987
variable {G : mG} {bv s sv len ρ : Nat} {g : Nat → Int32} {T : bS} {ic : Nat → Nat}
/-- how a reading ends: a code -/
def cAll (len : Nat) (r : bRr) : Int32 := if r.1 = 0 then (if len ≤ r.2.1 then 0 else 1) else r.1
theorem x_all {b n : Nat} {M : mM} {P : Nat → mM → Prop} {Xx : String → Nat → mM → Prop} {r : bRr} (hO : tOk len g) (hT : sgT len g T) (hn : len < n) (hr : rdI (lt T) n 0 0 = r) (hb : 4900 ≤ b) (hJ : kJ G bv s sv len g M) (hR : rdr M ρ s 0)
    (ok : cAll len r = 0 → ∀ M' u Z, iB G 5 Z M' u r.2.2 1 → (∀ a, Z a ∨ a = u → M a = none ∧ M' a ≠ none) → (∀ a, M a ≠ none → a ≠ ρ → M' a = M a) → (∃ fs, M' u = some (true, .inr (6, fs))) → P u M')
    (bad : ¬ cAll len r = 0 → ∀ v M', M v = none → fltQ M' v (cAll len r) r.2.1 → (∀ a, M a ≠ none → a ≠ ρ → M' a = M a) → Xx "Hidecount$ReadingFault" v M') : wp_X6_all G b P Xx M ρ := by
  have hle := rdI_le (S := T) n 0 0 (Nat.zero_le _)
  rw [hT.1, hr] at hle
  have h60 := hO.1
  unfold wp_X6_all wb_X6_all_26
  refine ⟨isc_ hR, b - 9, 9, by omega, ?_⟩
  show wp_X6_steps (wR_X6_steps_X6_item 13).2 G (b - 9) _ Xx M ρ (Int32.ofNat 0)
  refine x_grp (r := r) (x_pOk hO hT n) (by omega) rfl (by omega) (Nat.zero_le _) hr (by omega) hJ hR (fun h0 M1 u l ed cap j w L Z g1 g2 g3 g4 g5 g6 g7 => ?_) fun h0 v M' h1 h2 h3 => ?_
  · have eR1 : M1 ρ = some (true, .inr (5, [.ref s, .int (Int32.ofNat r.2.1)])) := g4
    have ec : cAll len r = if len ≤ r.2.1 then 0 else 1 := if_pos h0
    refine gfi_ g4 rfl (gfa_ g4 rfl ⟨isc_ g5.2.1.1, r_slen g5.2.1.1 g5.2.1.2 (by omega) ⟨fun z => ?_, fun z => ?_⟩⟩)
    · have hne : ¬ len ≤ r.2.1 := fun y => z (by rw [show r.2.1 = len by omega])
      rw [if_neg hne] at ec
      refine ⟨isc_ g4, 9, 0, rfl, r_need g4 (by omega) (fun w => absurd rfl w) fun _ v M2 hf => ?_⟩
      have hv : M v = none := by
        cases hh : M v with
        | none => rfl
        | some x =>
          have hv := hf.1
          rw [g7 v (by rw [hh]; exact fun q => by cases q) (fun q => by rw [q, eR1] at hv; cases hv), hh] at hv
          cases hv
      refine bad (by rw [ec]; decide) v M2 hv (by rw [ec]; exact hf.2.1) fun a ha w => ?_
      rw [hf.2.2 a fun q => ha (q ▸ hv), g7 a ha w]
    · have hlen : len ≤ r.2.1 := by
        have := i_eq (by omega) (by omega) z
        omega
      rw [if_pos hlen] at ec
      refine ⟨isc_ g4, 0, 9, rfl, ?_⟩
      unfold wp_X6_need
      refine ⟨fun _ => ?_, fun w => absurd w (by decide)⟩
      obtain ⟨q1, q2, q3, q4, q5⟩ := g1
      obtain ⟨⟨fs, cl⟩, ce⟩ := q2.cls
      have ce := ce.resolve_left g2.1
      obtain ⟨n0, f0, ce⟩ := ce
      refine ok ec M1 u (fun a => Z a ∨ a = l ∨ a = ed) ⟨by decide, Or.inr ⟨l, ed, cap, j, w, L, q1, ⟨Or.inr (Or.inl rfl), Or.inr (Or.inr rfl), g2⟩, q2, fun i hi => ?_, g3.symm⟩⟩ (fun a ha => ?_) g7 ⟨_, q1⟩
      · obtain ⟨y1, b', k', y2, y3⟩ := q4 i hi
        exact ⟨Or.inl y1, b', k', iB.keep (fun _ _ => rfl) (fun a ha => Or.inl ha) _ _ _ _ y2 rfl, y3⟩
      · have hz : (Z a ∨ a = u ∨ a = l ∨ a = ed) ∧ M1 a ≠ none := by
          rcases ha with (q | q | q) | q
          · exact ⟨Or.inl q, (q5 a q).1⟩
          · exact ⟨Or.inr (Or.inr (Or.inl q)), by rw [q, cl]; exact fun z => by cases z⟩
          · exact ⟨Or.inr (Or.inr (Or.inr q)), by rw [q, ce]; exact fun z => by cases z⟩
          · exact ⟨Or.inr (Or.inl q), by rw [q, q1]; exact fun z => by cases z⟩
        exact ⟨g6 a hz.1, hz.2⟩
  · have ec : cAll len r = r.1 := if_neg h0
    exact bad (by rw [ec]; exact h0) v M' h1 (by rw [ec]; exact h2) h3
theorem x_gini {b γ : Nat} {M : mM} {x : Int32} {S : bS} {P : mM → Prop} (hI : kI G ic M) (hE : M (G.2.2 0) = some (false, .inl (5, 0, mRs fun _ => none))) (hγ : M γ = some (true, .inr (9, dfsX12))) (hx : vp_in x 36) (hS : S 23 (nn (S 24 0 0 0)) 0 0 = 1 ∧ S 26 (nn (S 24 0 0 0)) 0 0 = x ∧ S 25 0 0 0 = x) (hb : 80 ≤ b)
    (kk : ∀ M' l ed cap, gS G ic M' γ l ed cap S → M l = none → M ed = none → (∀ a, M a ≠ none → a ≠ γ → M' a = M a) → P M') : wp_X12_init G b P M γ x := by
  obtain ⟨s1, s2, s3⟩ := hS
  unfold wp_X12_init
  refine ⟨by omega, fun l hl => ?_⟩
  have fl := hl l (Nat.le_refl _)
  have hne : γ ≠ l := fun z => by rw [z, fl] at hγ; cases hγ
  unfold wp_J2_init wp_J1_init_J2 wp_J0_init_J2
  refine ⟨_, mset_s _ _ _, Nat.le_of_ble_eq_true rfl, ?_⟩
  rw [mset_mset]
  refine ⟨_, mset_s _ _ _, Nat.le_of_ble_eq_true rfl, ?_⟩
  rw [mset_mset]
  refine ⟨_, by rw [mset_n hne]; exact hγ, Nat.le_of_ble_eq_true rfl, ?_⟩
  generalize hM2 : mset (mset M l (.inr (16, List.set (List.set dfsJ2 0 (.int 0)) 1 (va_rf (some (G.2.2 0)))))) γ (.inr (9, List.set dfsX12 0 (va_rf (some l)))) = M2
  have γ2 : M2 γ = some (true, .inr (9, [.ref l])) := by rw [← hM2, mset_s]; rfl
  have l2 : M2 l = some (true, .inr (16, [.int 0, .ref (G.2.2 0), .int 0])) := by rw [← hM2, mset_n (Ne.symm hne), mset_s]; rfl
  have o2 : ∀ a, a ≠ γ → a ≠ l → M2 a = M a := fun a h1 h2 => by rw [← hM2, mset_n h1, mset_n h2]
  have c2 : ∀ a v, M a = some (false, v) → M2 a = M a := fun a v ha => o2 a (fun z => by rw [z, hγ] at ha; cases ha) fun z => by rw [z, fl] at ha; cases ha
  have hI2 : kI G ic M2 := hI.keep c2
  have hE2 : M2 (G.2.2 0) = some (false, .inl (5, 0, mRs fun _ => none)) := (c2 _ _ hE).trans hE
  have hA : aL G M2 l (G.2.2 0) 0 0 0 (fun _ => none) := ⟨l2, Or.inr ⟨rfl, rfl, hE2⟩, ⟨Nat.le_refl _, by omega, by omega⟩, fun _ _ => rfl⟩
  have hx36 := bLn hx
  refine gfa_ γ2 rfl ⟨0, b - (3 + 1), by omega, r_val hI2 hx36 (vp_of hx) ⟨isc_ l2, b - (3 + 1), 0, rfl, r_addB hA (by omega) (fun i hi => absurd hi (Nat.not_lt_zero i)) ⟨false, 19, _, hI2.2 _ (by omega)⟩ (fun _ => ⟨by omega, by show 1 + 1 ≤ b - (3 + 1); omega⟩) fun M' ed' cap' hcap hA' hc0 hed hM' => ?_⟩⟩
  have hc10 : cap' = 10 := by rw [hcap, if_pos rfl, if_pos rfl]
  have fe : M2 ed' = none := hed.resolve_left fun z => z.1 rfl
  have fe0 : M ed' = none := by
    rw [← o2 ed' (fun z => by rw [z, γ2] at fe; cases fe) fun z => by rw [z, l2] at fe; cases fe]
    exact fe
  have n1 : nn (S 23 (nn (S 24 0 0 0)) 0 0) = 1 := by rw [s1]; rfl
  refine kk M' l ed' cap' ⟨?_, ⟨0 + 1, ?_⟩, by rw [hc10]; exact Or.inr (Or.inl rfl), by rw [s1]; decide, by rw [n1]; decide, by rw [n1, s3, s2], fun i hi => ?_⟩ fl fe0 fun a ha w => ?_
  · rw [hM' γ hne fun z => by rw [← z, γ2] at fe; cases fe]
    exact γ2
  · rw [n1]
    have ef : va_up (fun _ => none) 0 (some (ic (nn x + 128))) = fun i => if i < 1 then some (ic (nn (S 26 (nn (S 24 0 0 0)) i 0) + 128)) else none := by
      funext i
      unfold va_up
      by_cases z : i = 0
      · rw [if_pos z, if_pos (by omega), z, s2]
      · rw [if_neg z, if_neg (by omega)]
    rw [ef] at hA'
    exact hA'
  · rw [n1] at hi
    rw [show i = 0 by omega, s2]
    exact hx
  · have h1 : a ≠ l := fun z => ha (z ▸ fl)
    rw [hM' a h1 fun z => ha (z ▸ fe0), o2 a w h1]
theorem x_rin18 {l ed cap n u arr : Nat} {p : Nat → Int32} {P : mM → Prop} (hn : n ≤ 31) (hp : ∀ i, i < n → vp_in (p i) 36) {b : Nat} {M0 : mM} (hI : kI G ic M0) (hL : lstB G M0 l ed cap n (fun i => ic (nn (p i) + 128))) (hfr : M0 arr = none ∨ ∃ f, M0 arr = some (true, .inl (0, n, f))) : ∀ (m i q : Nat) (M : mM) (f : Nat → Int32), i + m = n → m < q → M u = some (true, .inr (11, [.ref arr])) → M arr = some (true, .inl (0, n, mIs f)) → (∀ a, a ≠ u → a ≠ arr → M a = M0 a) → u ≠ l ∧ u ≠ ed ∧ M0 u ≠ none ∧ (∀ x, M0 u ≠ some (false, x)) → (∀ j, j < i → f j = p j) → (∀ M' f', M' u = some (true, .inr (11, [.ref arr])) → M' arr = some (true, .inl (0, n, mIs f')) → (∀ j, j < n → f' j = p j) → (∀ a, a ≠ u → a ≠ arr → M' a = M0 a) → P M') → wl_X14_init_18 G P q b M u l (Int32.ofNat i)
  | _, _, 0, _, _, _, hq, _, _, _, _, _, _ => absurd hq (Nat.not_lt_zero _)
  | 0, i, q + 1, M, f, hi, _, hu, ha, ho, _, hf, kk => by
    have : i = n := by omega
    subst this
    unfold wl_X14_init_18
    exact gfa_ hu rfl (aln_ ha (by decide) ⟨fun _ => kk M f hu ha hf ho, fun z => absurd (Int32.le_refl _) z⟩)
  | m + 1, i, q + 1, M, f, hi, hq, hu, ha, ho, hul, hf, kk => by
    obtain ⟨ul, ue, us, uc⟩ := id hul
    have hpi := hp i (by omega)
    have h36 := bLn hpi
    have ar : ∀ a v, M0 a = some v → (∀ f, v ≠ (true, .inl (0, n, f))) → a ≠ arr := fun a v h1 h2 z => by
      rcases hfr with y | ⟨f', y⟩
      · rw [z, y] at h1; cases h1
      · rw [z, y] at h1
        cases h1
        exact h2 _ rfl
    obtain ⟨⟨fs, cl⟩, ce⟩ := hL.cls
    have hLM : lstB G M l ed cap n (fun i => ic (nn (p i) + 128)) := by
      have edm : ∃ w', M0 ed = some (w', .inl (5, cap, mRs fun j => if j < n then some (ic (nn (p j) + 128)) else none)) := by
        obtain ⟨mc, y⟩ := hL
        obtain ⟨w', y', -⟩ := y.ed
        exact ⟨w', y'⟩
      obtain ⟨w', em⟩ := edm
      exact hL.keep (ho l (Ne.symm ul) (ar l _ cl (by simp))) (ho ed (Ne.symm ue) (ar ed _ em (by simp)))
    have hIM : kI G ic M := hI.keep fun a x hx => ho a (fun z => uc x (z ▸ hx)) (ar a _ hx (by simp))
    have cl' : M l = some (true, .inr (16, fs)) := by rw [ho l (Ne.symm ul) (ar l _ cl (by simp))]; exact cl
    have ei : (Int32.ofNat i).toNatClampNeg = i := i_nn (by omega)
    have uar : u ≠ arr := fun z => by rw [z, ha] at hu; cases hu
    unfold wl_X14_init_18
    refine gfa_ hu rfl (aln_ ha (by decide) ⟨fun z => ?_, fun _ => gfa_ hu rfl ⟨isc_ cl', r_get hLM rfl (by omega) ⟨isc_ (hIM.2 _ (by omega)), isc_ (hIM.2 _ (by omega)), r_int hIM hpi ⟨n, f, ha, i_vp (by omega) (by omega), ?_⟩⟩⟩⟩)
    · have := (i_le (by omega) (by omega)).mp z
      omega
    · rw [ei, i_s]
      refine x_rin18 hn hp hI hL hfr m (i + 1) q _ _ (by omega) (by omega) (by rw [mset_n uar]; exact hu) (mset_s _ _ _) (fun a h1 h2 => by rw [mset_n h2]; exact ho a h1 h2) hul (fun j hj => ?_) kk
      unfold upd
      by_cases z : j = i
      · rw [if_pos z, z]
      · rw [if_neg z]
        exact hf j (by omega)
theorem x_rini {b l ed cap n u : Nat} {p : Nat → Int32} {M : mM} {P : mM → Prop} (hn : n ≤ 31) (hp : ∀ i, i < n → vp_in (p i) 36) (hI : kI G ic M) (hL : lstB G M l ed cap n (fun i => ic (nn (p i) + 128))) (hu : M u = some (true, .inr (11, dfsX14))) (hb : 32 ≤ b)
    (kk : ∀ M' arr f', M arr = none → M' u = some (true, .inr (11, [.ref arr])) → M' arr = some (true, .inl (0, n, mIs f')) → (∀ j, j < n → f' j = p j) → (∀ a, a ≠ u → a ≠ arr → M' a = M a) → P M') : wp_X14_init G b P M u l := by
  obtain ⟨⟨fs, cl⟩, ce⟩ := hL.cls
  have hn31 : (Int32.ofNat n).toNatClampNeg = n := i_nn (by omega)
  unfold wp_X14_init
  refine ⟨isc_ cl, r_size hL ⟨Int32.not_lt.mpr ((i_le (a := 0) (by decide) (by omega)).mpr (Nat.zero_le _)), by rw [hn31]; omega, by rw [hn31]; omega, fun arr harr => ?_⟩⟩
  rw [hn31]
  have fa := harr arr (Nat.le_refl _)
  have ua : u ≠ arr := fun z => by rw [z, fa] at hu; cases hu
  refine ⟨_, by rw [mset_n ua]; exact hu, Nat.le_of_ble_eq_true rfl, n + 1, ?_⟩
  have edm : ∃ w', M ed = some (w', .inl (5, cap, mRs fun j => if j < n then some (ic (nn (p j) + 128)) else none)) := by
    obtain ⟨mc, y⟩ := hL
    obtain ⟨w', y', -⟩ := y.ed
    exact ⟨w', y'⟩
  obtain ⟨w', em⟩ := edm
  refine x_rin18 (M0 := M) (arr := arr) hn hp hI hL (Or.inl fa) n 0 _ _ _ (Nat.zero_add _) (Nat.lt_succ_self _) (by rw [mset_s]; rfl) (by rw [mset_n (Ne.symm ua), mset_s]) (fun a h1 h2 => by rw [mset_n h1, mset_n h2]) ⟨fun z => (by rw [z, cl] at hu; cases hu), fun z => (by rw [z, em] at hu; cases hu), (by rw [hu]; exact fun z => by cases z), fun x => (by rw [hu]; simp)⟩ (fun j hj => absurd hj (Nat.not_lt_zero j)) fun M' f' h1 h2 h3 h4 => kk M' arr f' fa h1 h2 h3 h4
end B987
