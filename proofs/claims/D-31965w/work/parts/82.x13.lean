/-! THE CLASS's days -/
def xgNow (d : Int32) : Int32 := if 0 ≤ d then (if 1 < d then (if d < 3 then 3 else 2) else 1) else 0
def xgDay (X : bS) (c : Nat) (now : Int32) : Int32 := if now = X 60 c 0 0 then (if (1000 : Int32) < X 61 c 0 0 + 1 then (1000 : Int32) else X 61 c 0 0 + 1).toInt16.toInt32 else 1
def xgS1 (X : bS) (c : Nat) (now : Int32) : bS := bU (bU X 61 c 0 0 (xgDay X c now)) 60 c 0 0 now
def xgCov (X : bS) (c : Nat) (now : Int32) : bS :=
  if now = 0 then (if xgDay X c now < 20 then xgS1 X c now else bU (xgS1 X c now) 4 c 0 0 2)
  else if now = 1 then (if xgDay X c now < 10 then xgS1 X c now else bU (xgS1 X c now) 4 c 0 0 1)
  else if now = 2 then (if xgDay X c now < 10 then xgS1 X c now else bU (xgS1 X c now) 4 c 0 0 0) else xgS1 X c now
def xGrow (X : bS) (c : Nat) : bS := xgCov X c (xgNow (gDep X c))
def xfCell (c : Nat) (X : bS) : bS := if X 5 c 0 0 = -1 then X else xGrow X c
def xDay (X : bS) : bS := itN xfCell 36 (itN fFlow (xN X 0) (itN fPond 4 X))
/-- the days of cells are no more than a thousand -/
def bD6 (X : bS) : Prop := ∀ c, c < 36 → 0 ≤ (X 61 c 0 0).toInt ∧ (X 61 c 0 0).toInt ≤ 1000
theorem xgDay_b {X : bS} {c : Nat} {now : Int32} (h : 0 ≤ (X 61 c 0 0).toInt ∧ (X 61 c 0 0).toInt ≤ 1000) : (now = X 60 c 0 0 → (xgDay X c now).toInt = min ((X 61 c 0 0).toInt + 1) 1000) ∧ (¬ now = X 60 c 0 0 → (xgDay X c now).toInt = 1) ∧ 0 ≤ (xgDay X c now).toInt ∧ (xgDay X c now).toInt ≤ 1000 := by
  have e1 : (X 61 c 0 0 + 1).toInt = (X 61 c 0 0).toInt + 1 := by
    rw [Int32.toInt_add]
    show ((X 61 c 0 0).toInt + 1).bmod (2 ^ 32) = _
    exact Int.bmod_eq_of_le (by omega) (by omega)
  have e2 : (if (1000 : Int32) < X 61 c 0 0 + 1 then (1000 : Int32) else X 61 c 0 0 + 1).toInt = min ((X 61 c 0 0).toInt + 1) 1000 := by
    rw [i_min, e1]
    have : (1000 : Int32).toInt = 1000 := rfl
    omega
  have e3 : (if (1000 : Int32) < X 61 c 0 0 + 1 then (1000 : Int32) else X 61 c 0 0 + 1).toInt16.toInt32.toInt = min ((X 61 c 0 0).toInt + 1) 1000 := by
    rw [Int16.toInt_toInt32, Int32.toInt_toInt16, e2]
    exact Int.bmod_eq_of_le (by omega) (by omega)
  unfold xgDay
  by_cases z : now = X 60 c 0 0
  · rw [if_pos z]
    exact ⟨fun _ => e3, fun y => absurd z y, by omega, by omega⟩
  · rw [if_neg z]
    exact ⟨fun y => absurd y z, fun _ => rfl, by decide, by decide⟩
section B82
variable {G : mG} {b : Nat} {κ : xK} {ad : xA}
theorem x_psday {M : mM} {X : bS} (h : rX κ M ad X) {c : Nat} (hc : c < 36) {v : Int32} (hv : 0 ≤ v.toInt ∧ v.toInt ≤ 1000) {K : mM → Prop} (kk : ∀ M', rX κ M' ad (bU X 61 c 0 0 v) → K M') : pfn M (ad 20 c 0) 1 4 .short v K := by
  obtain ⟨fs, h1, h2, h3⟩ := x_pcell h hc (k := 4) (f := 61) (Or.inr (Or.inr (Or.inr (Or.inr ⟨rfl, rfl⟩)))) (v := v) (K := fun M' => rX κ M' ad (bU X 61 c 0 0 v)) fun M' h' _ => h'
  refine ⟨fs, h1, h2, ⟨?_, ?_⟩, kk _ h3⟩
  · show Value.int v.toInt16.toInt32 = .int v
    congr 1
    refine i_ext ?_
    rw [Int16.toInt_toInt32, Int32.toInt_toInt16]
    exact Int.bmod_eq_of_le (by omega) (by omega)
  · have l1 : (-32768 : Int32) ≤ v := Int32.le_iff_toInt_le.mpr (by have : (-32768 : Int32).toInt = -32768 := rfl; omega)
    have l2 : v ≤ (32767 : Int32) := Int32.le_iff_toInt_le.mpr (by have : (32767 : Int32).toInt = 32767 := rfl; omega)
    show (decide ((-32768 : Int32) ≤ v) && decide (v ≤ (32767 : Int32))) = true
    rw [decide_eq_true l1, decide_eq_true l2]; rfl
theorem xgS1_60 {X : bS} {c : Nat} {now : Int32} : xgS1 X c now 60 c 0 0 = now := bU_s _ _ _ _ _ _
theorem xgS1_61 {X : bS} {c : Nat} {now : Int32} : xgS1 X c now 61 c 0 0 = xgDay X c now := by
  unfold xgS1
  rw [bU_f (by decide), bU_s]
theorem x_grow27 {M : mM} {X : bS} (h : rX κ M ad X) {c : Nat} (hc : c < 36) (h6 : 0 ≤ (X 61 c 0 0).toInt ∧ (X 61 c 0 0).toInt ≤ 1000) {now : Int32} {P : mM → Prop} (kk : ∀ M', rX κ M' ad (xgCov X c now) → P M') : wb_X2_endDay_27 G P b M (ad 20 c 0) now := by
  obtain ⟨-, -, d0, d1⟩ := xgDay_b (X := X) (c := c) (now := now) h6
  have go : ∀ v, v = xgDay X c now → wb_X2_endDay_54 G P b M (ad 20 c 0) now (ad 20 c 0) v := by
    intro v hv
    subst hv
    unfold wb_X2_endDay_54
    refine x_psday h hc ⟨d0, d1⟩ fun M1 h1 => x_pcell h1 hc (Or.inr (Or.inr (Or.inr (Or.inl ⟨rfl, rfl⟩)))) fun M2 h2 _ => ?_
    have h2 : rX κ M2 ad (xgS1 X c now) := h2
    have g60 : ∀ {Y : bS} {N : mM} {K : Int32 → Prop}, rX κ N ad Y → Y 60 c 0 0 = now → K now → gfi N (ad 20 c 0) 1 3 K := fun hY e k => gfi_ (hY.at (xl20 hc)) rfl (by rw [e]; exact k)
    have g61 : ∀ {Y : bS} {N : mM} {K : Int32 → Prop}, rX κ N ad Y → Y 61 c 0 0 = xgDay X c now → K (xgDay X c now) → gfi N (ad 20 c 0) 1 4 K := fun hY e k => gfi_ (hY.at (xl20 hc)) rfl (by rw [e]; exact k)
    have k2 := g60 (K := fun v => v = now) h2 xgS1_60 rfl
    unfold xgCov at kk
    unfold wb_X2_endDay_83 wb_X2_endDay_105 wb_X2_endDay_127
    have c1 : ∀ {N : mM} {v : Int32} {K : mM → Prop}, rX κ N ad (xgS1 X c now) → (∀ M', rX κ M' ad (bU (xgS1 X c now) 4 c 0 0 v) → K M') → pfi N (ad 20 c 0) 1 1 v K := fun hN k => x_pcell hN hc (Or.inr (Or.inl ⟨rfl, rfl⟩)) fun M' h' _ => k M' h'
    have u60 : ∀ {v : Int32}, bU (xgS1 X c now) 4 c 0 0 v 60 c 0 0 = now := fun {v} => by rw [bU_f (by decide)]; exact xgS1_60
    refine g60 h2 xgS1_60 ⟨fun z0 => ?_, fun z0 => ?_⟩
    · rw [if_neg z0] at kk
      refine g60 h2 xgS1_60 ⟨fun z1 => ?_, fun z1 => ?_⟩
      · rw [if_neg z1] at kk
        refine g60 h2 xgS1_60 ⟨fun z2 => ?_, fun z2 => ?_⟩
        · rw [if_neg z2] at kk
          exact kk _ h2
        · rw [if_pos z2] at kk
          refine g61 h2 xgS1_61 ⟨fun y => ?_, fun y => ?_⟩
          · rw [if_pos y] at kk; exact kk _ h2
          · rw [if_neg y] at kk; exact c1 h2 kk
      · have z2 : ¬ now = 2 := fun w => by rw [w] at z1; exact absurd z1 (by decide)
        rw [if_pos z1] at kk
        refine g61 h2 xgS1_61 ⟨fun y => ?_, fun y => ?_⟩
        · rw [if_pos y] at kk
          exact g60 h2 xgS1_60 ⟨fun _ => kk _ h2, fun w => absurd w z2⟩
        · rw [if_neg y] at kk
          exact c1 h2 fun M' h' => g60 h' u60 ⟨fun _ => kk _ h', fun w => absurd w z2⟩
    · have z1 : ¬ now = 1 := fun w => by rw [w] at z0; exact absurd z0 (by decide)
      have z2 : ¬ now = 2 := fun w => by rw [w] at z0; exact absurd z0 (by decide)
      rw [if_pos z0] at kk
      refine g61 h2 xgS1_61 ⟨fun y => ?_, fun y => ?_⟩
      · rw [if_pos y] at kk
        exact g60 h2 xgS1_60 ⟨fun _ => g60 h2 xgS1_60 ⟨fun _ => kk _ h2, fun w => absurd w z2⟩, fun w => absurd w z1⟩
      · rw [if_neg y] at kk
        exact c1 h2 fun M' h' => g60 h' u60 ⟨fun _ => g60 h' u60 ⟨fun _ => kk _ h', fun w => absurd w z2⟩, fun w => absurd w z1⟩
  unfold wb_X2_endDay_27
  refine gfi_ (h.at (xl20 hc)) rfl ⟨fun z => go 1 ?_, fun z => gfi_ (h.at (xl20 hc)) rfl ?_⟩
  · unfold xgDay; rw [if_neg z]
  · intro g hg
    subst hg
    refine go _ ?_
    unfold xgDay; rw [if_pos z]
theorem x_endDay {M : mM} {X : bS} (h : rX κ M ad X) {c : Nat} (hc : c < 36) (h6 : 0 ≤ (X 61 c 0 0).toInt ∧ (X 61 c 0 0).toInt ≤ 1000) {d : Int32} {P : mM → Prop} (kk : ∀ M', rX κ M' ad (xgCov X c (xgNow d)) → P M') : wp_X2_endDay G b P M (ad 20 c 0) d := by
  unfold xgNow at kk
  unfold wp_X2_endDay
  refine ⟨fun z => ⟨fun y => ⟨fun w => x_grow27 h hc h6 ?_, fun w => x_grow27 h hc h6 ?_⟩, fun y => x_grow27 h hc h6 ?_⟩, fun z => x_grow27 h hc h6 ?_⟩
  · rw [if_pos z, if_pos y, if_pos w] at kk; exact kk
  · rw [if_pos z, if_pos y, if_neg w] at kk; exact kk
  · rw [if_pos z, if_neg y] at kk; exact kk
  · rw [if_neg z] at kk; exact kk
theorem x_flow {M : mM} {X : bS} (h : rX κ M ad X) {k : Nat} (hk : k < xN X 0) (h14 : vp_in (X 14 k 0 0) 4) (h15 : X 15 k 0 0 = -1 ∨ vp_in (X 15 k 0 0) 4) {P : mM → Prop} (kk : ∀ M', rX κ M' ad (sFlow X k) → P M') : wp_X1_flow G b P M κ.2.2.1 (ad 24 0 k) := by
  have ha := h.at (xl24 (X := X) (c := 0) (j := k) (by omega) hk)
  have lv := h.at (xl0 (X := X) (t := 2) (by decide))
  unfold sFlow at kk
  have f62 : (∀ M', rX κ M' ad (sFl2 X k) → P M') → wb_X1_flow_62 G P b M κ.2.2.1 (ad 24 0 k) := fun kk => by
    unfold wb_X1_flow_62 wb_X1_flow_96
    refine gfa_ h.main rfl (gfi_ ha rfl (ldi_ lv h14 (x_st8 h h14 fun M1 h1 _ => ?_)))
    have h1 : rX κ M1 ad (sFl1 X k) := h1
    have ha1 := h1.at (xl24 (X := sFl1 X k) (c := 0) (j := k) (by omega) hk)
    refine gfi_ ha1 rfl ⟨fun z => kk M1 ?_, fun z => ?_⟩
    · have z2 : X 15 k 0 0 = -1 := z
      unfold sFl2; rw [if_pos z2]; exact h1
    · have z2 : ¬ X 15 k 0 0 = -1 := z
      have v15 : vp_in (X 15 k 0 0) 4 := h15.resolve_left z2
      refine gfa_ h1.main rfl (gfi_ ha1 rfl (ldi_ (h1.at (xl0 (t := 2) (by decide))) v15 (x_st8 h1 v15 fun M2 h2 _ => kk M2 ?_)))
      unfold sFl2; rw [if_neg z2]; exact h2
  unfold wp_X1_flow wb_X1_flow_27 wb_X1_flow_28 wb_X1_flow_96
  refine gfi_ ha rfl ⟨fun z => ⟨fun _ => kk M ?_, fun w => absurd rfl w⟩, fun z => gfa_ h.main rfl (gfi_ ha rfl (ldi_ lv h14 (gfi_ ha rfl ⟨fun y => ⟨fun _ => kk M ?_, fun w => absurd rfl w⟩, fun y => ⟨fun w => absurd w (by decide), fun _ => gfi_ ha rfl ⟨fun w => f62 ?_, fun w => ?_⟩⟩⟩)))⟩
  · have z2 : X 17 k 0 0 = 0 := z
    rw [if_pos z2]; exact h
  · have z2 : ¬ X 17 k 0 0 = 0 := z
    have y2 : X 8 (nn (X 14 k 0 0)) 0 0 ≤ X 16 k 0 0 := y
    rw [if_neg z2, if_pos y2]; exact h
  · have z2 : ¬ X 17 k 0 0 = 0 := z
    have y2 : ¬ X 8 (nn (X 14 k 0 0)) 0 0 ≤ X 16 k 0 0 := y
    have w2 : X 15 k 0 0 = -1 := w
    rw [if_neg z2, if_neg y2, if_pos w2] at kk
    exact kk
  · have z2 : ¬ X 17 k 0 0 = 0 := z
    have y2 : ¬ X 8 (nn (X 14 k 0 0)) 0 0 ≤ X 16 k 0 0 := y
    have w2 : ¬ X 15 k 0 0 = -1 := w
    rw [if_neg z2, if_neg y2, if_neg w2] at kk
    refine gfa_ h.main rfl (gfi_ ha rfl (ldi_ lv h14 (gfa_ h.main rfl (gfi_ ha rfl (ldi_ lv (h15.resolve_left w2) ⟨fun v => ?_, fun v => f62 ?_⟩)))))
    · have v2 : X 8 (nn (X 14 k 0 0)) 0 0 ≤ X 8 (nn (X 15 k 0 0)) 0 0 := v
      rw [if_pos v2] at kk
      exact kk M h
    · have v2 : ¬ X 8 (nn (X 14 k 0 0)) 0 0 ≤ X 8 (nn (X 15 k 0 0)) 0 0 := v
      rw [if_neg v2] at kk
      exact kk
/-- what the days leave alone, in the class's bank -/
def xSm (X X' : bS) : Prop := ∀ f, f ∉ [4, 8, 60, 61] → X' f = X f
theorem xSm.refl (X : bS) : xSm X X := fun _ _ => rfl
theorem xSm.trans {X X' X'' : bS} (h : xSm X X') (h' : xSm X' X'') : xSm X X'' := fun f hf => (h' f hf).trans (h f hf)
theorem xSm.U {X : bS} {f i j k : Nat} {x : Int32} (h : f ∈ [4, 8, 60, 61]) : xSm X (bU X f i j k x) := fun g hg => bU_ff (show g ≠ f from fun z => hg (z ▸ h))
theorem xSm_pond (p : Nat) (X : bS) : xSm X (fPond p X) := xSm.U (by decide)
theorem xSm_flow (k : Nat) (X : bS) : xSm X (fFlow k X) := by
  have h2 : xSm X (sFl2 X k) := by
    unfold sFl2 sFl1
    split
    · exact xSm.U (by decide)
    · exact (xSm.U (by decide)).trans (xSm.U (by decide))
  unfold fFlow sFlow
  repeat (first | exact xSm.refl X | exact h2 | split)
theorem xSm_cell (c : Nat) (X : bS) : xSm X (xfCell c X) := by
  have h1 : ∀ now, xSm X (xgS1 X c now) := fun now => (xSm.U (by decide)).trans (xSm.U (by decide))
  unfold xfCell xGrow xgCov
  generalize hn : xgNow (gDep X c) = now
  have h1 := h1 now
  generalize xgS1 X c now = Y at h1
  repeat (first | exact xSm.refl X | exact h1 | exact h1.trans (xSm.U (by decide)) | split)
theorem xSm_itF {f : Nat → bS → bS} (h : ∀ k X, xSm X (f k X)) : ∀ (n k : Nat) (X : bS), xSm X (itF f k n X)
  | 0, _, X => xSm.refl X
  | n + 1, k, X => (h k X).trans (xSm_itF h n (k + 1) (f k X))
theorem xSm_it {f : Nat → bS → bS} (h : ∀ k X, xSm X (f k X)) (n : Nat) (X : bS) : xSm X (itN f n X) := by
  rw [← itF_it]
  exact xSm_itF h n 0 X
theorem xSm.I {X X' : bS} (h : xSm X X') (hI : xI X) : xI X' := xI_of hI fun f hf => h f (by simp only [List.mem_cons, List.not_mem_nil, or_false] at hf ⊢; omega)
theorem xSm.N {X X' : bS} (h : xSm X X') (L : Nat) : xN X' L = xN X L := xN_of (fun f hf => h f (by simp only [List.mem_cons, List.not_mem_nil, or_false] at hf ⊢; omega)) L
theorem xSm_day (X : bS) : xSm X (xDay X) := ((xSm_it xSm_pond _ _).trans (xSm_it xSm_flow _ _)).trans (xSm_it xSm_cell _ _)
/-- the ponds of cells and sluices are ponds -/
def bW5 (X : bS) : Prop := (∀ c, c < 36 → X 5 c 0 0 = -1 ∨ vp_in (X 5 c 0 0) 4) ∧ (∀ k, k < 8 → vp_in (X 14 k 0 0) 4) ∧ ∀ k, k < 8 → X 15 k 0 0 = -1 ∨ vp_in (X 15 k 0 0) 4
theorem xSm.W {X X' : bS} (h : xSm X X') (hW : bW5 X) : bW5 X' := by
  unfold bW5
  rw [h 5 (by decide), h 14 (by decide), h 15 (by decide)]
  exact hW
theorem bD6_cell {X : bS} {c : Nat} (hc : c < 36) (h : bD6 X) : bD6 (xfCell c X) := by
  intro i hi
  obtain ⟨-, -, d0, d1⟩ := xgDay_b (X := X) (c := c) (now := xgNow (gDep X c)) (h c hc)
  have s1 : ∀ now, now = xgNow (gDep X c) → 0 ≤ (xgS1 X c now 61 i 0 0).toInt ∧ (xgS1 X c now 61 i 0 0).toInt ≤ 1000 := fun now hn => by
    subst hn
    by_cases z : i = c
    · rw [z, xgS1_61]; exact ⟨d0, d1⟩
    · unfold xgS1
      rw [bU_f (by decide), bU_i z]
      exact h i hi
  have s1 := s1 _ rfl
  unfold xfCell
  split
  · exact h i hi
  · unfold xGrow xgCov
    generalize xgNow (gDep X c) = now at s1
    generalize xgS1 X c now = Y at s1
    generalize xgDay X c now = v
    have s2 : ∀ u, 0 ≤ (bU Y 4 c 0 0 u 61 i 0 0).toInt ∧ (bU Y 4 c 0 0 u 61 i 0 0).toInt ≤ 1000 := fun u => by
      rw [bU_f (by decide)]; exact s1
    by_cases z0 : now = 0
    · rw [if_pos z0]
      by_cases y : v < 20
      · rw [if_pos y]; exact s1
      · rw [if_neg y]; exact s2 _
    · rw [if_neg z0]
      by_cases z1 : now = 1
      · rw [if_pos z1]
        by_cases y : v < 10
        · rw [if_pos y]; exact s1
        · rw [if_neg y]; exact s2 _
      · rw [if_neg z1]
        by_cases z2 : now = 2
        · rw [if_pos z2]
          by_cases y : v < 10
          · rw [if_pos y]; exact s1
          · rw [if_neg y]; exact s2 _
        · rw [if_neg z2]; exact s1
theorem x_ed81 {P : mM → Prop} : ∀ (n c q : Nat) (M : mM) (X : bS), c + n = 36 → n < q → rX κ M ad X → bD6 X → bW5 X → (∀ M', rX κ M' ad (itF xfCell c n X) → P M') → wl_X1_endDay_81 G P q b M κ.2.2.1 (Int32.ofNat c)
  | _, _, 0, _, _, _, hq, _, _, _, _ => absurd hq (Nat.not_lt_zero _)
  | 0, c, q + 1, M, X, hc, _, h, _, _, kk => by
    have : c = 36 := by omega
    subst this
    unfold wl_X1_endDay_81
    exact ⟨fun _ => kk M h, fun z => absurd (by decide) z⟩
  | n + 1, c, q + 1, M, X, hc, hq, h, h6, hW, kk => by
    have vc : vp_in (Int32.ofNat c) 36 := i_vp (by omega) (by omega)
    have ec : (Int32.ofNat c).toNatClampNeg = c := i_nn (by omega)
    have hc36 : c < 36 := by omega
    have cl : tb 36 (fun c => ad 20 c 0) (Int32.ofNat c).toNatClampNeg = some (ad 20 c 0) := by rw [ec]; exact if_pos hc36
    have ca := h.at (xl0 (X := X) (t := 0) (by decide))
    have ha := h.at (xl20 (X := X) hc36)
    have ih : ∀ M', rX κ M' ad (xfCell c X) → wl_X1_endDay_81 G P q b M' κ.2.2.1 (Int32.ofNat c + 1) := fun M' hM' => by
      rw [i_s]
      exact x_ed81 n (c + 1) q M' (xfCell c X) (by omega) (by omega) hM' (bD6_cell hc36 h6) ((xSm_cell c X).W hW) kk
    unfold wl_X1_endDay_81 wb_X1_endDay_119
    refine ⟨fun z => absurd z (nlt36 hc36), fun _ => gfa_ h.main rfl (lda_ ca vc cl (gfi_ ha rfl ⟨fun z => ih M ?_, fun z => gfa_ h.main rfl (lda_ ca vc cl (gfa_ h.main rfl (lda_ ca vc cl ⟨h.isc, ?_⟩)))⟩))⟩
    · have z2 : X 5 c 0 0 = -1 := z
      unfold xfCell; rw [if_pos z2]; exact h
    · have z2 : ¬ X 5 c 0 0 = -1 := z
      have vp := (hW.1 c hc36).resolve_left z2
      unfold wp_X1_depthOf
      refine gfa_ h.main rfl (gfi_ ha rfl (ldi_ (h.at (xl0 (X := X) (t := 2) (by decide))) vp (gfi_ ha rfl ⟨isc_ ha, x_endDay h hc36 (h6 c hc36) fun M' h' => ih M' ?_⟩)))
      unfold xfCell; rw [if_neg z2]; exact h'
theorem x_ed43 {P : mM → Prop} {N : Nat} (hN8 : N ≤ 8) : ∀ (n c q : Nat) (M : mM) (X : bS), c + n = N → n < q → rX κ M ad X → xI X → bW5 X → xN X 0 = N → (∀ M', rX κ M' ad (itF fFlow c n X) → ∃ n81, wl_X1_endDay_81 G P n81 b M' κ.2.2.1 0) → wl_X1_endDay_43 G P q b M κ.2.2.1 (Int32.ofNat c)
  | _, _, 0, _, _, _, hq, _, _, _, _, _ => absurd hq (Nat.not_lt_zero _)
  | 0, c, q + 1, M, X, hc, _, h, hI, _, hN, kk => by
    have : c = N := by omega
    subst this
    have hL : 0 < 4 + xN X 3 := by omega
    obtain ⟨e, -⟩ := hI.z hL
    unfold wl_X1_endDay_43
    refine gfa_ h.main rfl ⟨isc_ (h.list hL), x_size h hL ⟨fun _ => kk M h, fun z => absurd (by rw [e, hN]; exact Int32.le_refl _) z⟩⟩
  | n + 1, c, q + 1, M, X, hc, hq, h, hI, hW, hN, kk => by
    have hL : 0 < 4 + xN X 3 := by omega
    obtain ⟨e, -⟩ := hI.z hL
    have hc0 : c < xN X 0 := by omega
    have hlt : ¬ Int32.ofNat N ≤ Int32.ofNat c := fun z => absurd ((i_le (by omega) (by omega)).mp z) (by omega)
    have hs := xSm_flow c X
    unfold wl_X1_endDay_43
    refine gfa_ h.main rfl ⟨isc_ (h.list hL), x_size h hL ?_⟩
    rw [e, hN]
    refine ⟨fun z => absurd z hlt, fun _ => gfa_ h.main rfl ⟨isc_ (h.list hL), x_get h hI hL (i_vp (by omega) hc0) ?_⟩⟩
    rw [i_nn (by omega)]
    refine ⟨isc_ (h.at (xl24 hL hc0)), h.isc, x_flow h hc0 (hW.2.1 c (by omega)) (hW.2.2 c (by omega)) fun M' h' => ?_⟩
    rw [i_s]
    exact x_ed43 hN8 n (c + 1) q M' (fFlow c X) (by omega) (by omega) h' (hs.I hI) (hs.W hW) (by rw [hs.N]; exact hN) kk
theorem x_ed2 {P : mM → Prop} : ∀ (n c q : Nat) (M : mM) (X : bS), c + n = 4 → n < q → rX κ M ad X → (∀ M', rX κ M' ad (itF fPond c n X) → ∃ n43, wl_X1_endDay_43 G P n43 b M' κ.2.2.1 0) → wl_X1_endDay_2 G P q b M κ.2.2.1 (Int32.ofNat c)
  | _, _, 0, _, _, _, hq, _, _ => absurd hq (Nat.not_lt_zero _)
  | 0, c, q + 1, M, X, hc, _, h, kk => by
    have : c = 4 := by omega
    subst this
    unfold wl_X1_endDay_2
    exact ⟨fun _ => kk M h, fun z => absurd (by decide) z⟩
  | n + 1, c, q + 1, M, X, hc, hq, h, kk => by
    have vc : vp_in (Int32.ofNat c) 4 := i_vp (by omega) (by omega)
    have ec : (Int32.ofNat c).toNatClampNeg = c := i_nn (by omega)
    have hlt : ¬ (4 : Int32) ≤ Int32.ofNat c := fun z => absurd ((i_le (a := 4) (by decide) (by omega)).mp z) (by omega)
    unfold wl_X1_endDay_2
    refine ⟨fun z => absurd z hlt, fun _ => gfa_ h.main rfl (gfa_ h.main rfl (ldi_ (h.at (xl0 (X := X) (t := 2) (by decide))) vc (gfa_ h.main rfl (ldi_ (h.at (xl0 (X := X) (t := 3) (by decide))) vc ?_))))⟩
    intro g hg g2 hg2
    refine x_st8 h vc fun M' h' _ => ?_
    rw [i_s]
    refine x_ed2 n (c + 1) q M' (fPond c X) (by omega) (by omega) ?_ kk
    subst hg2
    subst hg
    rw [ec, i_nn (by omega)] at h'
    exact h'
theorem x_day {P : mM → Prop} {M : mM} {X : bS} (h : rX κ M ad X) (hI : xI X) (h6 : bD6 X) (hW : bW5 X) (h8 : xN X 0 ≤ 8) (kk : ∀ M', rX κ M' ad (xDay X) → P M') : wp_X1_endDay G b P M κ.2.2.1 := by
  have s1 : xSm X (itN fPond 4 X) := xSm_it xSm_pond _ _
  have s2 : xSm (itN fPond 4 X) (itN fFlow (xN X 0) (itN fPond 4 X)) := xSm_it xSm_flow _ _
  have d1 : ∀ {f : Nat → bS → bS}, (∀ k X, (f k X) 61 = X 61) → ∀ n X, (itN f n X) 61 = X 61 := fun hf n X => by
    induction n with
    | zero => rfl
    | succ n ih => rw [itN_s, hf, ih]
  have e1 : (itN fFlow (xN X 0) (itN fPond 4 X)) 61 = X 61 := by
    rw [d1 (f := fFlow) (fun k X => ?_), d1 (f := fPond) (fun k X => show (sPond X k) 61 = X 61 from bU_ff (by decide))]
    have h2 : sFl2 X k 61 = X 61 := by
      unfold sFl2 sFl1
      split
      · exact bU_ff (by decide)
      · rw [bU_ff (by decide), bU_ff (by decide)]
    unfold fFlow sFlow
    repeat (first | rfl | exact h2 | split)
  unfold wp_X1_endDay
  refine ⟨5, x_ed2 4 0 5 M X (by omega) (by omega) h fun M1 h1 => ⟨_, x_ed43 h8 (xN X 0) 0 _ M1 _ (Nat.zero_add _) (Nat.lt_succ_self _) h1 (by rw [itF_it]; exact s1.I hI) (by rw [itF_it]; exact s1.W hW) (by rw [itF_it]; exact s1.N 0) fun M2 h2 => ⟨37, x_ed81 36 0 37 M2 _ (by omega) (by omega) h2 ?_ ?_ fun M3 h3 => kk M3 ?_⟩⟩⟩
  · rw [itF_it, itF_it]
    unfold bD6
    rw [e1]
    exact h6
  · rw [itF_it, itF_it]
    exact s2.W (s1.W hW)
  · rw [itF_it, itF_it, itF_it] at h3
    exact h3
theorem bD6_day {X : bS} (h : bD6 X) : bD6 (xDay X) := by
  have d1 : ∀ {f : Nat → bS → bS}, (∀ k X, (f k X) 61 = X 61) → ∀ n X, (itN f n X) 61 = X 61 := fun hf n X => by
    induction n with
    | zero => rfl
    | succ n ih => rw [itN_s, hf, ih]
  have e1 : (itN fFlow (xN X 0) (itN fPond 4 X)) 61 = X 61 := by
    rw [d1 (f := fFlow) (fun k X => ?_), d1 (f := fPond) (fun k X => show (sPond X k) 61 = X 61 from bU_ff (by decide))]
    have h2 : sFl2 X k 61 = X 61 := by
      unfold sFl2 sFl1
      split
      · exact bU_ff (by decide)
      · rw [bU_ff (by decide), bU_ff (by decide)]
    unfold fFlow sFlow
    repeat (first | rfl | exact h2 | split)
  have h0 : bD6 (itN fFlow (xN X 0) (itN fPond 4 X)) := by
    unfold bD6
    rw [e1]
    exact h
  have go : ∀ n, n ≤ 36 → bD6 (itN xfCell n (itN fFlow (xN X 0) (itN fPond 4 X))) := by
    intro n
    induction n with
    | zero => exact fun _ => h0
    | succ n ih => exact fun hn => bD6_cell (by omega) (ih (by omega))
  exact go 36 (by omega)
def xfDay (_ : Nat) (X : bS) : bS := xDay X
theorem x_pass30 {P : Int32 → mM → Prop} {Xx : String → Nat → mM → Prop} {N : Nat} (hN : N < 2 ^ 31) : ∀ (n c q : Nat) (M : mM) (X : bS), c + n = N → n < q → rX κ M ad X → xI X → bD6 X → bW5 X → xN X 0 ≤ 8 → (∀ M', rX κ M' ad (bU (itF xfDay c n X) 1 0 0 0 (itF xfDay c n X 1 0 0 0 + Int32.ofNat N)) → P (itF xfDay c n X 1 0 0 0 + Int32.ofNat N) M') → wl_X1_pass_30 G P Xx q b M κ.2.2.1 (Int32.ofNat N) (Int32.ofNat c)
  | _, _, 0, _, _, _, hq, _, _, _, _, _, _ => absurd hq (Nat.not_lt_zero _)
  | 0, c, q + 1, M, X, hc, _, h, _, _, _, _, kk => by
    have : c = N := by omega
    subst this
    unfold wl_X1_pass_30
    refine ⟨fun _ => gfi_ h.main rfl (x_pmain h (Or.inr (Or.inr (Or.inr (Or.inl ⟨rfl, rfl⟩)))) fun M1 h1 _ => gfi_ h1.main rfl ?_), fun z => absurd (Int32.le_refl _) z⟩
    show P (bU X 1 0 0 0 (X 1 0 0 0 + Int32.ofNat c) 1 0 0 0) M1
    rw [bU_s]
    exact kk M1 h1
  | n + 1, c, q + 1, M, X, hc, hq, h, hI, h6, hW, h8, kk => by
    have hlt : ¬ Int32.ofNat N ≤ Int32.ofNat c := fun z => absurd ((i_le (by omega) (by omega)).mp z) (by omega)
    have hs := xSm_day X
    unfold wl_X1_pass_30
    refine ⟨fun z => absurd z hlt, fun _ => ⟨h.isc, x_day h hI h6 hW h8 fun M' h' => ?_⟩⟩
    rw [i_s]
    exact x_pass30 hN n (c + 1) q M' (xDay X) (by omega) (by omega) h' (hs.I hI) (bD6_day h6) (hs.W hW) (by rw [hs.N]; exact h8) kk
def xPass (X : bS) (d : Int32) : bS := bU (itN xfDay (nn d) X) 1 0 0 0 (itN xfDay (nn d) X 1 0 0 0 + d)
theorem x0_pass {M : mM} {X : bS} (h : rX κ M ad X) (hI : xI X) (h6 : bD6 X) (hW : bW5 X) (h8 : xN X 0 ≤ 8) {d : Int32} {K : Int32 → mM → Prop} (hb : 30 ≤ b) (kk : ∀ M', rX κ M' ad (xs (ePass X d) X (xPass X d)) → (ePass X d = 0 → xOut κ M' (xPass X d 1 0 0 0).toInt64) → K (ePass X d) M') : wp_X0_pass G b K M κ.2.2.1 d κ.2.2.2 := by
  unfold ePass at kk
  unfold wp_X0_pass wp_X1_pass wb_X1_pass_25 wb_X0_pass_12 wb_X0_pass_15
  refine ⟨h.isc, b, 0, rfl, 7, b - 7, by omega, x_crg (by omega) (fun z => ?_) fun z q => Or.inl ⟨rfl, ?_⟩⟩
  · rw [z] at kk
    have d0 : (0 : Int32) ≤ d := Int32.le_trans (by decide) (bIn_t z).1
    refine gfi_ h.main rfl ⟨fun y => ⟨b - 7, 0, rfl, x_cst (by omega) (fun w => absurd rfl w) fun _ q => Or.inr ⟨rfl, ?_⟩⟩, fun y => ⟨b - 7, 0, rfl, x_cst (by omega) (fun _ => ?_) fun w => absurd w (by decide)⟩⟩
    · have y2 : ¬ X 1 0 0 0 + d ≤ 20000 := Int32.not_le.mpr y
      rw [decide_eq_true y2] at kk
      exact kk M h (fun w9 => by first | exact absurd (show (1 : Int32) = 0 from w9) (by decide) | exact absurd (show (2 : Int32) = 0 from w9) (by decide) | exact absurd (show (3 : Int32) = 0 from w9) (by decide))
    · have y2 : ¬ ¬ X 1 0 0 0 + d ≤ 20000 := fun w => y (Int32.not_le.mp w)
      rw [decide_eq_false y2] at kk
      have key := x_pass30 (G := G) (b := 0) (ad := ad) (P := fun v4 M1 => stl M1 4 κ.2.2.2 0 v4.toInt64 fun M5 => K 0 M5) (Xx := fun E9 u6 M7 => (E9 = "java/lang/IllegalArgumentException" ∧ K 1 M7) ∨ (E9 = "java/lang/IllegalStateException" ∧ K 2 M7)) (N := nn d) (nn_lt d) (nn d) 0 (nn d + 1) M X (by omega) (by omega) h hI h6 hW h8 (fun M1 h1 => by
        rw [itF_it, ← i_of d0] at h1 ⊢
        refine x_out h1 fun M' h' ho => kk M' h' fun _ => ?_
        have : xPass X d 1 0 0 0 = itN xfDay (nn d) X 1 0 0 0 + d := bU_s _ _ _ _ _ _
        rw [this]
        exact ho)
      rw [← i_of d0] at key
      exact ⟨_, key⟩
  · rw [z] at kk
    exact kk M h (fun w9 => by first | exact absurd (show (1 : Int32) = 0 from w9) (by decide) | exact absurd (show (2 : Int32) = 0 from w9) (by decide) | exact absurd (show (3 : Int32) = 0 from w9) (by decide))
end B82
