/-! THE CLASS's Goer: a tree gone -/
section B985
variable {G : mG} {ic : Nat → Nat} {γ l : Nat}
/-- an iterator over a list, at a place -/
def itR0 (M : mM) (v lx : Nat) (mc : Int32) (j : Nat) : Prop := ∃ lr, M v = some (true, .inr (20, [.int (Int32.ofNat j), .int lr, .int mc, .ref lx]))
theorem r_iter {b u ed cap n : Nat} {mc : Int32} {f : Nat → Option Nat} {M : mM} {K : Nat → mM → Prop} (h : aL G M u ed cap n mc f) (hb : 5 ≤ b) (kk : ∀ v M', M v = none → itR0 M' v u mc 0 → (∀ a, a ≠ v → M' a = M a) → K v M') : wp_J2_iterator G b K M u := by
  unfold wp_J2_iterator wp_J23_init
  refine ⟨hb, fun q hq => ?_⟩
  have fq := hq q (Nat.le_refl _)
  have hne : u ≠ q := fun z => by rw [← z, h.1] at fq; cases fq
  refine ⟨_, mset_s _ _ _, Nat.le_of_ble_eq_true rfl, ?_⟩
  rw [mset_mset]
  refine ⟨_, mset_s _ _ _, Nat.le_of_ble_eq_true rfl, ?_⟩
  rw [mset_mset]
  refine gfa_ (mset_s _ _ _) rfl (gfi_ (by rw [mset_n hne]; exact h.1) rfl ⟨_, mset_s _ _ _, Nat.le_of_ble_eq_true rfl, ?_⟩)
  rw [mset_mset]
  exact kk q _ fq ⟨-1, mset_s _ _ _⟩ fun a ha => mset_n ha
theorem r_hasNext {b u v ed cap n j : Nat} {mc : Int32} {f : Nat → Option Nat} {M : mM} {K : Int32 → mM → Prop} (h : aL G M u ed cap n mc f) (hi : itR0 M v u mc j) (hj : j ≤ n) (yes : j < n → K 1 M) (no : j = n → K 0 M) : wp_J23_hasNext G b K M v := by
  obtain ⟨lr, hv⟩ := hi
  obtain ⟨h1, h2, ⟨h3, h4, h5⟩, h6⟩ := h
  unfold wp_J23_hasNext wb_J23_hasNext_19
  refine gfi_ hv rfl (gfa_ hv rfl (gfi_ h1 rfl ⟨fun z => ⟨rfl, no (i_eq (by omega) (by omega) z)⟩, fun z => ⟨rfl, yes ?_⟩⟩))
  rcases Nat.lt_or_ge j n with y | y
  · exact y
  · exact absurd (by rw [show j = n by omega]) z
theorem r_next {b u v ed cap n j x : Nat} {mc : Int32} {f : Nat → Option Nat} {M : mM} {K : Nat → mM → Prop} (h : aL G M u ed cap n mc f) (hi : itR0 M v u mc j) (hj : j < n) (hf : f j = some x) (kk : ∀ M', itR0 M' v u mc (j + 1) → (∀ a, a ≠ v → M' a = M a) → K x M') : wp_J23_next G b K M v := by
  obtain ⟨lr, hv⟩ := hi
  obtain ⟨h1, h2 | h2, ⟨h3, h4, h5⟩, h6⟩ := h
  · have hev : ed ≠ v := fun z => by rw [← z, h2.2.2] at hv; cases hv
    have l1 : Int32.ofNat j < Int32.ofNat n := (i_lt (by omega) (by omega)).mpr hj
    have l2 : Int32.ofNat j < Int32.ofNat cap := (i_lt (by omega) (by omega)).mpr (by omega)
    unfold wp_J23_next wp_J23_checkForComodification
    refine ⟨isc_ hv, gfa_ hv rfl (gfi_ h1 rfl (gfi_ hv rfl ⟨fun _ => gfi_ hv rfl (gfa_ hv rfl (gfi_ h1 rfl ⟨fun _ => gfa_ hv rfl (gfa_ h1 rfl (aln_ h2.2.2 (by decide) ⟨fun _ => ⟨_, hv, Nat.le_of_ble_eq_true rfl, ⟨_, mset_s _ _ _, Nat.le_of_ble_eq_true rfl, ?_⟩⟩, fun z => absurd l2 z⟩)), fun z => absurd l1 z⟩)), fun z => absurd rfl z⟩))⟩
    rw [mset_mset]
    refine lda_ (v := x) (by rw [mset_n hev]; exact h2.2.2) (i_vp (by omega) (by omega)) (by rw [show (Int32.ofNat j).toNatClampNeg = j from i_nn (by omega)]; exact hf) ?_
    refine kk _ ⟨Int32.ofNat j, ?_⟩ fun a ha => mset_n ha
    rw [mset_s]
    show some (true, Sum.inr (20, [Value.int (Int32.ofNat j + 1), .int (Int32.ofNat j), .int mc, .ref u])) = _
    rw [i_s]
  · omega
theorem repL_ne {b : List (Int32 × Nat)} {k : Nat} (h : b ≠ []) (hk : 0 < k) : repL b k ≠ [] := by
  obtain ⟨k, rfl⟩ : ∃ k', k = k' + 1 := ⟨k - 1, by omega⟩
  show b ++ repL b k ≠ []
  exact fun z => h (List.append_eq_nil_iff.mp z).1
theorem iB.ne {M : mM} {Z : Nat → Prop} : ∀ e x body k, iB G e Z M x body k → body ≠ []
  | 0, x, body, k, h => by
    obtain ⟨-, c, p, -, -, h4⟩ := h
    rw [h4]
    exact fun z => by cases z
  | e + 1, x, body, k, h => by
    obtain ⟨-, h2⟩ := h
    rcases h2 with ⟨c, p, -, -, h4⟩ | ⟨l, ed, cap, n, w, L, -, ⟨-, -, -, n0⟩, -, h6, h7⟩
    · rw [h4]
      exact fun z => by cases z
    · obtain ⟨n, rfl⟩ : ∃ n', n = n' + 1 := ⟨n - 1, by omega⟩
      rw [h7]
      obtain ⟨-, b', k', y2, y3⟩ := h6 n (by omega)
      have := repL_ne (iB.ne e _ _ _ y2) (by cases e with | zero => exact y2.1.1 | succ e => exact y2.1.1)
      show catL L n ++ L n ≠ []
      rw [y3]
      exact fun z => this (List.append_eq_nil_iff.mp z).2
theorem iB.k {M : mM} {Z : Nat → Prop} {e x k : Nat} {body : List (Int32 × Nat)} (h : iB G e Z M x body k) : 0 < k ∧ k < 10 := by
  cases e with
  | zero => exact h.1
  | succ e => exact h.1
/-- an item is gone as often as it says -/
def goI (G : mG) (ic : Nat → Nat) (γ l e m : Nat) : Prop := ∀ (b ed cap k x : Nat) (M : mM) (S : bS) (Z : Nat → Prop) (body : List (Int32 × Nat)) (P : mM → Prop) (Xx : String → Nat → mM → Prop), kI G ic M → gS G ic M γ l ed cap S → iB G e Z M x body k → zO M l ed γ Z x → (75 + 5 * e) * runN (repL body k) S ≤ b →
  (runE (repL body k) S = 0 → ∀ M' ed' cap', gS G ic M' γ l ed' cap' (runL (repL body k) S) → Fr M M' l ed ed' → P M') → (¬ runE (repL body k) S = 0 → ∀ v M' ed', FQ M' v (runL (repL body k) S) → Fr M M' l ed ed' → Xx "Hidecount$StepFault" v M') →
  (isc M x 8 ∧ wp_X7_go_X11 G b P Xx M x γ) ∨ (isc M x 6 ∧ (wR_X7_go_X8_X8_goOnce m).1 G b P Xx M x γ)
theorem go_let {e m b ed cap k x : Nat} {M : mM} {S : bS} {body : List (Int32 × Nat)} {P : mM → Prop} {Xx : String → Nat → mM → Prop} (hI : kI G ic M) (hg : gS G ic M γ l ed cap S) (hk : k < 10) (hx : letB M x k body) (hb : (75 + 5 * e) * runN (repL body k) S ≤ b) (ok : runE (repL body k) S = 0 → ∀ M' ed' cap', gS G ic M' γ l ed' cap' (runL (repL body k) S) → Fr M M' l ed ed' → P M') (bad : ¬ runE (repL body k) S = 0 → ∀ v M' ed', FQ M' v (runL (repL body k) S) → Fr M M' l ed ed' → Xx "Hidecount$StepFault" v M') : (isc M x 8 ∧ wp_X7_go_X11 G b P Xx M x γ) ∨ (isc M x 6 ∧ (wR_X7_go_X8_X8_goOnce m).1 G b P Xx M x γ) := by
  obtain ⟨c, p, h2, h3, rfl⟩ := hx
  refine Or.inl ⟨isc_ h3, k + 1, ?_⟩
  refine x_go11 hk k 0 _ b M S ed cap (Nat.zero_add _) (Nat.lt_succ_self _) ?_ hI hg h3 ok bad
  refine Nat.le_trans (Nat.mul_le_mul_right _ (by omega)) hb
theorem x_once10 {e m N lx edx capx : Nat} {mc : Int32} {w : Nat → Nat} {L : Nat → List (Int32 × Nat)} {Z : Nat → Prop} {P : mM → Prop} {Xx : String → Nat → mM → Prop} (ih : goI G ic γ l e m) : ∀ (n j q b : Nat) (M : mM) (S : bS) (ed cap v : Nat), j + n = N → n < q → (75 + 5 * e) * runN (catF L j n) S ≤ b → kI G ic M → gS G ic M γ l ed cap S → aL G M lx edx capx N mc (fun i => if i < N then some (w i) else none) → Z lx ∧ Z edx → (∀ i, i < N → Z (w i) ∧ ∃ b' k', iB G e Z M (w i) b' k' ∧ L i = repL b' k') → zO M l ed γ Z lx → itR0 M v lx mc j → (∀ a, Z a → a ≠ v) →
    (runE (catF L j n) S = 0 → ∀ M' ed' cap', gS G ic M' γ l ed' cap' (runL (catF L j n) S) → (ed' = ed ∨ M ed' = none) → (∀ a, M a ≠ none → a ≠ l → a ≠ ed → a ≠ v → M' a = M a) → P M') → (¬ runE (catF L j n) S = 0 → ∀ v' M' ed', FQ M' v' (runL (catF L j n) S) → (ed' = ed ∨ M ed' = none) → (∀ a, M a ≠ none → a ≠ l → a ≠ ed → a ≠ v → M' a = M a) → Xx "Hidecount$StepFault" v' M') → wl_X8_goOnce_10 (wR_X7_go_X8_X8_goOnce m).1 G P Xx q b M γ v
  | _, _, 0, _, _, _, _, _, _, _, hq, _, _, _, _, _, _, _, _, _, _, _ => absurd hq (Nat.not_lt_zero _)
  | n, j, q + 1, b, M, S, ed, cap, v, hj, hq, hb, hI, hg, hA, hZ, hL, hO, hv, hZv, ok, bad => by
    obtain ⟨lr, hv0⟩ := id hv
    unfold wl_X8_goOnce_10
    refine ⟨isc_ hv0, r_hasNext hA hv (by omega) (fun z => ⟨fun y => absurd y (by decide), fun _ => ⟨isc_ hv0, r_next hA hv z (if_pos z) fun M1 v1 o1 => ?_⟩⟩) fun z => ⟨fun _ => ?_, fun y => absurd rfl y⟩⟩
    · obtain ⟨n, rfl⟩ : ∃ n', n = n' + 1 := ⟨n - 1, by omega⟩
      obtain ⟨zw, b', k', y2, y3⟩ := hL j z
      have ec : catF L j (n + 1) = L j ++ catF L (j + 1) n := rfl
      have a1 := run_app (L j) (catF L (j + 1) n) S
      have a2 := runN_app (L j) (catF L (j + 1) n) S
      rw [ec, a1.1, a1.2] at ok bad
      rw [ec, a2] at hb
      obtain ⟨-, ⟨fsl, cl⟩, n0, f0, ce⟩ := hg.cap
      obtain ⟨g1, g2, g3⟩ := id hg
      have lv : l ≠ v := fun q' => by rw [q', hv0] at cl; cases cl
      have ev : ed ≠ v := fun q' => by rw [q', hv0] at ce; cases ce
      have γv : γ ≠ v := fun q' => by rw [q', hv0] at g1; cases g1
      have hI1 : kI G ic M1 := hI.keep fun a x hx => o1 a fun q' => by rw [q', hv0] at hx; cases hx
      have hg1 : gS G ic M1 γ l ed cap S := ⟨by rw [o1 γ γv]; exact g1, g2.keep (o1 l lv) (o1 ed ev), g3⟩
      have zk : ∀ a, Z a → M1 a = M a := fun a ha => o1 a (hZv a ha)
      have y2' : iB G e Z M1 (w j) b' k' := iB.keep zk (fun _ q' => q') _ _ _ _ y2 (zk _ zw)
      have hO1 : zO M1 l ed γ Z (w j) := fun a ha => by
        have hz : Z a := ha.elim id fun q' => q' ▸ zw
        obtain ⟨t1, t2⟩ := hO a (Or.inl hz)
        exact ⟨by rw [zk a hz]; exact t1, t2⟩
      have n1 : ∀ a, M1 a = none → M a = none := fun a ha => by
        by_cases q' : a = v
        · obtain ⟨lr', v1'⟩ := v1
          rw [q', v1'] at ha; cases ha
        · rw [← o1 a q']; exact ha
      have lb : (75 + 5 * e) * runN (L j) S ≤ b := by
        refine Nat.le_trans (Nat.mul_le_mul_left _ ?_) hb
        split
        · exact Nat.le_add_right _ _
        · exact Nat.le_refl _
      have disp : ∀ A B : Prop, (isc M1 (w j) 8 ∧ A) ∨ (isc M1 (w j) 6 ∧ B) → (isc M1 (w j) 8 ∨ isc M1 (w j) 6) ∧ ((isc M1 (w j) 8 ∧ A) ∨ (isc M1 (w j) 6 ∧ B)) := fun A B h => ⟨h.imp (fun z => z.1) fun z => z.1, h⟩
      have use := ih ((75 + 5 * e) * runN (L j) S) ed cap k' (w j) M1 S Z b' (fun M2 => wl_X8_goOnce_10 (wR_X7_go_X8_X8_goOnce m).1 G P Xx q (b - (75 + 5 * e) * runN (L j) S) M2 γ v) Xx hI1 hg1 y2' hO1 (by rw [y3]; exact Nat.le_refl _) (fun h0 M2 ed2 cap2 g2' F2 => ?_) fun h0 v' M2 ed2 hf F2 => ?_
      · refine disp _ _ (use.imp (fun z => ⟨z.1, _, b - (75 + 5 * e) * runN (L j) S, by omega, z.2⟩) fun z => ⟨z.1, _, b - (75 + 5 * e) * runN (L j) S, by omega, z.2⟩)
      · rw [← y3] at h0 g2'
        rw [if_pos h0] at hb
        rw [if_pos h0, if_pos h0] at ok bad
        have hO2 : zO M1 l ed γ Z lx := fun a ha => by
          obtain ⟨t1, t2⟩ := hO a ha
          have hz : Z a := ha.elim id fun q' => q' ▸ hZ.1
          exact ⟨by rw [zk a hz]; exact t1, t2⟩
        obtain ⟨hO3, kz⟩ := hO2.fr F2
        have v1l : M1 v ≠ none := by
          obtain ⟨lr', v1'⟩ := v1
          rw [v1']
          exact fun q' => by cases q'
        have v2 : M2 v = M1 v := F2.2 v v1l (Ne.symm lv) (Ne.symm ev)
        have e2 : ed2 = ed ∨ M ed2 = none := F2.1.imp id fun q' => n1 _ q'
        have F2' : ∀ a, M a ≠ none → a ≠ l → a ≠ ed → a ≠ v → M2 a = M a := fun a t1 t2 t3 t4 => by
          rw [F2.2 a (by rw [o1 a t4]; exact t1) t2 t3, o1 a t4]
        have l2 : M2 l ≠ none := by
          obtain ⟨-, ⟨fs, y⟩, -⟩ := g2'.cap
          rw [y]
          exact fun q' => by cases q'
        have e3 : ∀ ed3, (ed3 = ed2 ∨ M2 ed3 = none) → ed3 = ed ∨ M ed3 = none := fun ed3 h3 => by
          rcases h3 with y | y
          · rw [y]; exact e2
          · by_cases q1 : ed3 = ed
            · exact Or.inl q1
            · refine Or.inr ?_
              cases hh : M ed3 with
              | none => rfl
              | some x =>
                rw [F2' ed3 (by rw [hh]; exact fun q' => by cases q') (fun q' => l2 (q' ▸ y)) q1 (fun q' => v1l (by rw [← v2, ← q']; exact y)), hh] at y
                cases y
        have ne2 : ∀ a, M a ≠ none → a ≠ ed → a ≠ ed2 := fun a t1 t2 t3 => by
          rcases e2 with y | y
          · exact t2 (t3.trans y)
          · exact t1 (t3 ▸ y)
        refine x_once10 (N := N) (capx := capx) (mc := mc) (w := w) (edx := edx) ih n (j + 1) q _ M2 (runL (L j) S) ed2 cap2 v (by omega) (by omega) ?_ (hI1.fr hg1 F2) g2' ?_ hZ (fun i hi => ?_) hO3 ?_ hZv (fun h1 M' ed' cap' g3' E3 F3 => ok h1 M' ed' cap' g3' (e3 _ E3) fun a t1 t2 t3 t4 => ?_) fun h1 v' M' ed' hf E3 F3 => bad h1 v' M' ed' hf (e3 _ E3) fun a t1 t2 t3 t4 => ?_
        · rw [Nat.mul_add] at hb
          omega
        · obtain ⟨c1, c2, c3, c4⟩ := hA
          refine ⟨by rw [kz lx (Or.inr rfl), zk lx hZ.1]; exact c1, ?_, c3, c4⟩
          rw [kz edx (Or.inl hZ.2), zk edx hZ.2]
          exact c2
        · obtain ⟨t1, b2, k2, t2, t3⟩ := hL i hi
          exact ⟨t1, b2, k2, iB.keep (fun a ha => by rw [kz a (Or.inl ha), zk a ha]) (fun _ q' => q') _ _ _ _ t2 (by rw [kz _ (Or.inl t1), zk _ t1]), t3⟩
        · obtain ⟨lr', v1'⟩ := v1
          exact ⟨lr', by rw [v2]; exact v1'⟩
        · rw [F3 a (by rw [F2' a t1 t2 t3 t4]; exact t1) t2 (ne2 a t1 t3) t4, F2' a t1 t2 t3 t4]
        · rw [F3 a (by rw [F2' a t1 t2 t3 t4]; exact t1) t2 (ne2 a t1 t3) t4, F2' a t1 t2 t3 t4]
      · rw [← y3] at h0 hf
        rw [if_neg h0, if_neg h0] at bad
        refine bad h0 v' M2 ed2 hf (F2.1.imp id fun q' => n1 _ q') fun a t1 t2 t3 t4 => ?_
        rw [F2.2 a (by rw [o1 a t4]; exact t1) t2 t3, o1 a t4]
    · have : n = 0 := by omega
      subst this
      exact ok rfl M ed cap hg (Or.inl rfl) fun _ _ _ _ _ => rfl
theorem x_rep {e m N x lx edx capx k : Nat} {mc : Int32} {w : Nat → Nat} {L : Nat → List (Int32 × Nat)} {Z : Nat → Prop} {body : List (Int32 × Nat)} {P : mM → Prop} {Xx : String → Nat → mM → Prop} (ih : goI G ic γ l e m) (hk : k < 10) (hbody : body = catL L N) (hne : body ≠ []) : ∀ (n i q b : Nat) (M : mM) (S : bS) (ed cap : Nat), i + n = k → n < q → (75 + 5 * (e + 1)) * runN (repL body n) S ≤ b → kI G ic M → gS G ic M γ l ed cap S → M x = some (true, .inr (6, [.int (Int32.ofNat k), .ref lx])) → aL G M lx edx capx N mc (fun i => if i < N then some (w i) else none) → Z lx ∧ Z edx → (∀ i, i < N → Z (w i) ∧ ∃ b' k', iB G e Z M (w i) b' k' ∧ L i = repL b' k') → zO M l ed γ Z x →
    (runE (repL body n) S = 0 → ∀ M' ed' cap', gS G ic M' γ l ed' cap' (runL (repL body n) S) → Fr M M' l ed ed' → P M') → (¬ runE (repL body n) S = 0 → ∀ v M' ed', FQ M' v (runL (repL body n) S) → Fr M M' l ed ed' → Xx "Hidecount$StepFault" v M') → wl_X7_go_X8_2 (wR_X7_go_X8_X8_goOnce (m + 1)).2 G P Xx q b M x γ (Int32.ofNat i)
  | _, _, 0, _, _, _, _, _, _, hq, _, _, _, _, _, _, _, _, _, _ => absurd hq (Nat.not_lt_zero _)
  | 0, i, q + 1, b, M, S, ed, cap, hi, _, _, hI, hg, hx, _, _, _, _, ok, _ => by
    have : i = k := by omega
    subst this
    unfold wl_X7_go_X8_2
    exact gfi_ hx rfl ⟨fun _ => ok rfl M ed cap hg (Fr.refl _ _ _), fun z => absurd (Int32.le_refl _) z⟩
  | n + 1, i, q + 1, b, M, S, ed, cap, hi, hq, hb, hI, hg, hx, hA, hZ, hL, hO, ok, bad => by
    have ec : repL body (n + 1) = body ++ repL body n := rfl
    have a1 := run_app body (repL body n) S
    have a2 := runN_app body (repL body n) S
    rw [ec, a1.1, a1.2] at ok bad
    rw [ec, a2] at hb
    have p1 := runN_pos hne S
    have lb : (75 + 5 * (e + 1)) * runN body S ≤ b := by
      refine Nat.le_trans (Nat.mul_le_mul_left _ ?_) hb
      split
      · exact Nat.le_add_right _ _
      · exact Nat.le_refl _
    have l5 : 5 + (75 + 5 * e) * runN body S ≤ (75 + 5 * (e + 1)) * runN body S := by
      have : (75 + 5 * (e + 1)) * runN body S = (75 + 5 * e) * runN body S + 5 * runN body S := by
        rw [← Nat.add_mul]
        exact congrArg (· * runN body S) (by omega)
      omega
    obtain ⟨-, ⟨fsl, cl⟩, n0, f0, ce⟩ := hg.cap
    have g1 := hg.1
    unfold wl_X7_go_X8_2
    refine gfi_ hx rfl ⟨fun z => ?_, fun _ => ⟨isc_ hx, 5 + (75 + 5 * e) * runN body S, b - (5 + (75 + 5 * e) * runN body S), by omega, ?_⟩⟩
    · have := (i_le (by omega) (by omega)).mp z
      omega
    show wp_X8_goOnce (wR_X7_go_X8_X8_goOnce m).1 G (5 + (75 + 5 * e) * runN body S) _ Xx M x γ
    unfold wp_X8_goOnce
    refine gfa_ hx rfl ⟨isc_ hA.1, 5, (75 + 5 * e) * runN body S, rfl, r_iter hA (Nat.le_refl _) fun v M1 fv v1 o1 => ⟨N + 1, ?_⟩⟩
    have ne : ∀ {a y}, M a = some y → a ≠ v := fun {a y} ha q' => by rw [q', fv] at ha; cases ha
    have lv := ne cl
    have ev := ne ce
    have γv := ne g1
    obtain ⟨-, g2, g3⟩ := id hg
    have hI1 : kI G ic M1 := hI.keep fun a x hx => o1 a (ne hx)
    have hg1 : gS G ic M1 γ l ed cap S := ⟨by rw [o1 γ γv]; exact g1, g2.keep (o1 l lv) (o1 ed ev), g3⟩
    have zv : ∀ a, Z a ∨ a = x → a ≠ v := fun a ha q' => (hO a ha).1 (q' ▸ fv)
    have zk : ∀ a, Z a ∨ a = x → M1 a = M a := fun a ha => o1 a (zv a ha)
    have hO1 : zO M1 l ed γ Z lx := fun a ha => by
      have hz : Z a := ha.elim id fun q' => q' ▸ hZ.1
      obtain ⟨t1, t2⟩ := hO a (Or.inl hz)
      exact ⟨by rw [zk a (Or.inl hz)]; exact t1, t2⟩
    have hA1 : aL G M1 lx edx capx N mc (fun i => if i < N then some (w i) else none) := by
      obtain ⟨c1, c2, c3, c4⟩ := hA
      exact ⟨by rw [zk lx (Or.inl hZ.1)]; exact c1, by rw [zk edx (Or.inl hZ.2)]; exact c2, c3, c4⟩
    have hL1 : ∀ i, i < N → Z (w i) ∧ ∃ b' k', iB G e Z M1 (w i) b' k' ∧ L i = repL b' k' := fun i hi => by
      obtain ⟨t1, b2, k2, t2, t3⟩ := hL i hi
      exact ⟨t1, b2, k2, iB.keep (fun a ha => zk a (Or.inl ha)) (fun _ q' => q') _ _ _ _ t2 (zk _ (Or.inl t1)), t3⟩
    have hcat : catF L 0 N = body := by
      rw [hbody]
      have := catF_L L N 0
      rw [Nat.zero_add] at this
      exact this
    refine x_once10 (N := N) ih N 0 (N + 1) _ M1 S ed cap v (Nat.zero_add _) (Nat.lt_succ_self _) (by rw [hcat]; exact Nat.le_refl _) hI1 hg1 hA1 hZ hL1 hO1 v1 (fun a ha => zv a (Or.inl ha)) (fun h0 M2 ed2 cap2 g2' e2 F2 => ?_) fun h0 v' M2 ed2 hf e2 F2 => ?_
    · rw [hcat] at h0 g2'
      rw [if_pos h0] at hb
      rw [if_pos h0, if_pos h0] at ok bad
      have n1 : ∀ a, M1 a = none → M a = none := fun a ha => by
        by_cases q' : a = v
        · rw [q']; exact fv
        · rw [← o1 a q']; exact ha
      have Fr2 : Fr M M2 l ed ed2 := ⟨e2.imp id fun q' => n1 _ q', fun a t1 t2 t3 => by
        have t4 : a ≠ v := fun q' => t1 (q' ▸ fv)
        rw [F2 a (by rw [o1 a t4]; exact t1) t2 t3 t4, o1 a t4]⟩
      have l2 : M2 l ≠ none := by
        obtain ⟨-, ⟨fs, y⟩, -⟩ := g2'.cap
        rw [y]
        exact fun q' => by cases q'
      obtain ⟨hO2, kz⟩ := hO.fr Fr2
      rw [i_s]
      refine x_rep (capx := capx) (mc := mc) (w := w) ih hk hbody hne n (i + 1) q _ M2 (runL body S) ed2 cap2 (by omega) (by omega) ?_ (hI.fr hg Fr2) g2' (by rw [kz x (Or.inr rfl)]; exact hx) ?_ hZ (fun i hi => ?_) hO2 (fun h1 M' ed' cap' g3' F3 => ok h1 M' ed' cap' g3' (Fr2.trans F3 l2)) fun h1 v' M' ed' hf F3 => bad h1 v' M' ed' hf (Fr2.trans F3 l2)
      · rw [Nat.mul_add] at hb
        omega
      · obtain ⟨c1, c2, c3, c4⟩ := hA
        exact ⟨by rw [kz lx (Or.inl hZ.1)]; exact c1, by rw [kz edx (Or.inl hZ.2)]; exact c2, c3, c4⟩
      · obtain ⟨t1, b2, k2, t2, t3⟩ := hL i hi
        exact ⟨t1, b2, k2, iB.keep (fun a ha => kz a (Or.inl ha)) (fun _ q' => q') _ _ _ _ t2 (kz _ (Or.inl t1)), t3⟩
    · rw [hcat] at h0 hf
      rw [if_neg h0, if_neg h0] at bad
      have n1 : ∀ a, M1 a = none → M a = none := fun a ha => by
        by_cases q' : a = v
        · rw [q']; exact fv
        · rw [← o1 a q']; exact ha
      refine bad h0 v' M2 ed2 hf ⟨e2.imp id fun q' => n1 _ q', fun a t1 t2 t3 => ?_⟩
      have t4 : a ≠ v := fun q' => t1 (q' ▸ fv)
      rw [F2 a (by rw [o1 a t4]; exact t1) t2 t3 t4, o1 a t4]
theorem goI_s {e m : Nat} (ih : goI G ic γ l e m) : goI G ic γ l (e + 1) (m + 2) := by
  intro b ed cap k x M S Z body P Xx hI hg hx hO hb ok bad
  have hne := hx.ne
  have hk := hx.k
  obtain ⟨-, h2⟩ := hx
  rcases h2 with h2 | ⟨lx, edx, capx, n, w, L, h3, ⟨z1, z2, z3, z4⟩, ⟨mc, h5⟩, h6, h7⟩
  · exact go_let hI hg hk.2 h2 hb ok bad
  · exact Or.inr ⟨isc_ h3, k + 1, x_rep ih hk.2 h7 hne k 0 _ b M S ed cap (Nat.zero_add _) (Nat.lt_succ_self _) hb hI hg h3 h5 ⟨z1, z2⟩ h6 hO ok bad⟩
theorem goI_0 {m : Nat} : goI G ic γ l 0 m := by
  intro b ed cap k x M S Z body P Xx hI hg hx hO hb ok bad
  exact go_let (e := 0) hI hg hx.1.2 hx.2 hb ok bad
/-- the whole way, from the root -/
theorem goI_5 : goI G ic γ l 5 14 := goI_s (goI_s (goI_s (goI_s (goI_s (goI_0 (m := 4))))))
end B985
