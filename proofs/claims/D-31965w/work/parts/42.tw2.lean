/-! THE TWIN's RESERVE: cells, kinds, ponds, sluices -/
/-- behind a check: the new bank, or the old one with the code of the exception -/
def oS (e : Int32) (S S1 : bS) : bS := if e = 0 then S1 else bU S 0 0 0 0 e
def oA (e a : Int32) : Int32 := if e = 0 then a else 0
theorem oS0 {S S1 : bS} : oS 0 S S1 = S1 := if_pos rfl
theorem oS1 {e : Int32} {S S1 : bS} (h : ¬ e = 0) : oS e S S1 = bU S 0 0 0 0 e := if_neg h
theorem oA0 {a : Int32} : oA 0 a = a := if_pos rfl
theorem oA1 {e a : Int32} (h : ¬ e = 0) : oA e a = 0 := if_neg h
/-- the check's outcome, as the callers use it -/
def bKo (M : mM → Prop) (K : Int32 → mM → Prop) (am : Nat) (ad : bA) (e : Int32) (S S1 : bS) (a : Int32) : Prop := ∀ M', bM M' am ad (oS e S S1) → K (oA e a) M'
abbrev nn (x : Int32) : Nat := x.toNatClampNeg
def z0 (S : bS) : bS := bU S 0 0 0 0 0
def eSetCell (c h v p : Int32) : Int32 := bE (!bIn c 0 35 || (decide (p ≠ -1) && !bIn p 0 3)) (!bIn h 0 9 || !bIn v 0 2) false
def sSetCell (S : bS) (c h v p : Int32) : bS := bU (bU (bU (bU (bU (z0 S) 3 (nn c) 0 0 h) 4 (nn c) 0 0 v) 5 (nn c) 0 0 p) 6 (nn c) 0 0 0) 7 (nn c) 0 0 0
def eSetKind (k l g p : Int32) : Int32 := bE (!bIn k 0 3) (!bIn l (-9) 9 || !bIn g l 9 || !bIn p 0 100) false
def sSetKind (S : bS) (k l g p : Int32) : bS := bU (bU (bU (z0 S) 10 (nn k) 0 0 l) 11 (nn k) 0 0 g) 12 (nn k) 0 0 p
def eSetInflow (p i : Int32) : Int32 := bE (!bIn p 0 3) (!bIn i (-3) 3) false
def sSetInflow (S : bS) (p i : Int32) : bS := bU (z0 S) 9 (nn p) 0 0 i
def eLevel (p : Int32) : Int32 := bE (!bIn p 0 3) false false
def eAddSluice (S : bS) (f t l : Int32) : Int32 := bE (!bIn f 0 3 || (decide (t ≠ -1) && !bIn t 0 3)) (decide (f = t) || !bIn l 0 9) (decide (S 13 0 0 0 = 8))
def sAddSluice (S : bS) (f t l : Int32) : bS := bU (bU (bU (bU (bU (z0 S) 14 (nn (S 13 0 0 0)) 0 0 f) 15 (nn (S 13 0 0 0)) 0 0 t) 16 (nn (S 13 0 0 0)) 0 0 l) 17 (nn (S 13 0 0 0)) 0 0 1) 13 0 0 0 (S 13 0 0 0 + 1)
def eSetSluice (S : bS) (k : Int32) : Int32 := bE (!bIn k 0 (S 13 0 0 0 - 1)) false false
def sSetSluice (S : bS) (k o : Int32) : bS := bU (z0 S) 17 (nn k) 0 0 o
section B42
variable {G : mG} {b : Nat} {M : mM} {am : Nat} {ad : bA} {S : bS}
theorem t_setCell (h : bM M am ad S) {c g v p : Int32} {K : Int32 → mM → Prop} (kk : ∀ M', bM M' am ad (oS (eSetCell c g v p) S (sSetCell S c g v p)) → K (oA (eSetCell c g v p) (S 4 (nn c) 0 0)) M') : wp_X4_setCell G b K M am c g v p := by
  have fin : ∀ u w : Bool, u = (!bIn c 0 35 || (decide (p ≠ -1) && !bIn p 0 3)) → w = (!bIn g 0 9 || !bIn v 0 2) → wb_X4_setCell_51 G K b M am c g v p am (bI u) (bI w) := by
    intro u w hu hw
    have he : eSetCell c g v p = bE u w false := by rw [hu, hw]; rfl
    rw [he] at kk
    unfold wb_X4_setCell_51
    refine ⟨h.isc, b_chk (r := false) h (fun _ _ => rfl) (fun h1 h2 _ M' hM' => ?_) (fun h1 M' hM' => ?_)⟩
    · have hc : vp_in c 36 := bIn_v (c := 35) (by rw [h1] at hu; revert hu; cases bIn c 0 35 <;> simp) (by decide)
      rw [h1, h2] at kk
      repeat (first
    | exact And.intro rfl (by assumption)
    | (refine ⟨bM.isc (by assumption), ?_⟩)
    | refine b_gfi (by assumption) (by decide) ?_
    | refine b_gfa (by assumption) (by decide) ?_
    | refine b_pfi (by assumption) (by decide) (fun M' hM' => ?_)
    | refine b_ld1 (by assumption) (by decide) (by first | assumption | fail) ?_
    | refine b_lda (by assumption) (by decide) (by first | assumption | fail) ?_
    | refine b_ld2 (by assumption) (by decide) (by first | assumption | exact bLt (by first | assumption | fail)) (by first | assumption | fail) ?_
    | refine b_lda2 (by assumption) (by decide) (by first | assumption | exact bLt (by first | assumption | fail)) (by first | assumption | fail) ?_
    | refine b_ld3 (by assumption) (by decide) (by first | assumption | exact bLt (by first | assumption | fail)) (by first | assumption | exact bLt (by first | assumption | fail)) (by first | assumption | fail) ?_
    | refine b_st1 (by assumption) (by decide) (by first | assumption | fail) (fun M' hM' => ?_)
    | refine b_st2 (by assumption) (by decide) (by first | assumption | exact bLt (by first | assumption | fail)) (by first | assumption | fail) (fun M' hM' => ?_)
    | refine b_st3 (by assumption) (by decide) (by first | assumption | exact bLt (by first | assumption | fail)) (by first | assumption | exact bLt (by first | assumption | fail)) (by first | assumption | fail) (fun M' hM' => ?_))
      exact kk _ (by assumption)
    · rw [oS1 h1, oA1 h1] at kk
      exact kk M' hM'
  have mid : ∀ u : Bool, u = (!bIn c 0 35 || (decide (p ≠ -1) && !bIn p 0 3)) → wb_X4_setCell_27 G K b M am c g v p am (bI u) := by
    intro u hu
    unfold wb_X4_setCell_27 wb_X4_setCell_46
    refine b_isIn ⟨fun h1 => fin u true hu (by rw [bI0.mp h1]; rfl), fun h1 => b_isIn ⟨fun h2 => fin u false hu (by rw [bI1.mp h1, bI1.mp h2]; rfl), fun h2 => fin u true hu (by rw [bI0.mp h2]; simp)⟩⟩
  unfold wp_X4_setCell wb_X4_setCell_22 wb_X4_setCell_26
  refine b_noCell ⟨fun h1 => mid true (by rw [bI1.mp h1]; rfl), fun h1 => ⟨fun h2 => mid false (by rw [bI0.mp h1, h2]; rfl), fun h2 => b_noPond ⟨fun h3 => mid false (by rw [bI0.mp h1, bI0.mp h3]; simp), fun h3 => mid true (by rw [bI1.mp h3]; simp [h2])⟩⟩⟩
theorem t_setKind (h : bM M am ad S) {c g v p : Int32} {K : Int32 → mM → Prop} (kk : ∀ M', bM M' am ad (oS (eSetKind c g v p) S (sSetKind S c g v p)) → K (oA (eSetKind c g v p) (S 12 (nn c) 0 0)) M') : wp_X4_setKind G b K M am c g v p := by
  have fin : ∀ u w : Bool, u = (!bIn c 0 3) → w = (!bIn g (-9) 9 || !bIn v g 9 || !bIn p 0 100) → wb_X4_setKind_42 G K b M am c g v p am (bI u) (bI w) := by
    intro u w hu hw
    have he : eSetKind c g v p = bE u w false := by rw [hu, hw]; rfl
    rw [he] at kk
    unfold wb_X4_setKind_42
    refine ⟨h.isc, b_chk (r := false) h (fun _ _ => rfl) (fun h1 h2 _ M' hM' => ?_) (fun h1 M' hM' => ?_)⟩
    · have hc : vp_in c 4 := bIn_v (c := 3) (by rw [h1] at hu; revert hu; cases bIn c 0 3 <;> simp) (by decide)
      rw [h1, h2] at kk
      repeat (first
    | exact And.intro rfl (by assumption)
    | (refine ⟨bM.isc (by assumption), ?_⟩)
    | refine b_gfi (by assumption) (by decide) ?_
    | refine b_gfa (by assumption) (by decide) ?_
    | refine b_pfi (by assumption) (by decide) (fun M' hM' => ?_)
    | refine b_ld1 (by assumption) (by decide) (by first | assumption | fail) ?_
    | refine b_lda (by assumption) (by decide) (by first | assumption | fail) ?_
    | refine b_ld2 (by assumption) (by decide) (by first | assumption | exact bLt (by first | assumption | fail)) (by first | assumption | fail) ?_
    | refine b_lda2 (by assumption) (by decide) (by first | assumption | exact bLt (by first | assumption | fail)) (by first | assumption | fail) ?_
    | refine b_ld3 (by assumption) (by decide) (by first | assumption | exact bLt (by first | assumption | fail)) (by first | assumption | exact bLt (by first | assumption | fail)) (by first | assumption | fail) ?_
    | refine b_st1 (by assumption) (by decide) (by first | assumption | fail) (fun M' hM' => ?_)
    | refine b_st2 (by assumption) (by decide) (by first | assumption | exact bLt (by first | assumption | fail)) (by first | assumption | fail) (fun M' hM' => ?_)
    | refine b_st3 (by assumption) (by decide) (by first | assumption | exact bLt (by first | assumption | fail)) (by first | assumption | exact bLt (by first | assumption | fail)) (by first | assumption | fail) (fun M' hM' => ?_))
      exact kk _ (by assumption)
    · rw [oS1 h1, oA1 h1] at kk
      exact kk M' hM'
  unfold wp_X4_setKind wb_X4_setKind_37
  refine b_noKind (b_isIn ⟨fun h1 => fin _ true rfl (by rw [bI0.mp h1]; rfl), fun h1 => b_isIn ⟨fun h2 => fin _ true rfl (by rw [bI0.mp h2]; simp), fun h2 => b_isIn ⟨fun h3 => fin _ false rfl (by rw [bI1.mp h1, bI1.mp h2, bI1.mp h3]; rfl), fun h3 => fin _ true rfl (by rw [bI0.mp h3]; simp)⟩⟩⟩)
theorem t_setInflow (h : bM M am ad S) {c g : Int32} {K : Int32 → mM → Prop} (kk : ∀ M', bM M' am ad (oS (eSetInflow c g) S (sSetInflow S c g)) → K (oA (eSetInflow c g) (S 9 (nn c) 0 0)) M') : wp_X4_setInflow G b K M am c g := by
  have fin : ∀ u w : Bool, u = (!bIn c 0 3) → w = (!bIn g (-3) 3) → wb_X4_setInflow_20 G K b M am c g am (bI u) (bI w) := by
    intro u w hu hw
    have he : eSetInflow c g = bE u w false := by rw [hu, hw]; rfl
    rw [he] at kk
    unfold wb_X4_setInflow_20
    refine ⟨h.isc, b_chk (r := false) h (fun _ _ => rfl) (fun h1 h2 _ M' hM' => ?_) (fun h1 M' hM' => ?_)⟩
    · have hc : vp_in c 4 := bIn_v (c := 3) (by rw [h1] at hu; revert hu; cases bIn c 0 3 <;> simp) (by decide)
      rw [h1, h2] at kk
      repeat (first
    | exact And.intro rfl (by assumption)
    | (refine ⟨bM.isc (by assumption), ?_⟩)
    | refine b_gfi (by assumption) (by decide) ?_
    | refine b_gfa (by assumption) (by decide) ?_
    | refine b_pfi (by assumption) (by decide) (fun M' hM' => ?_)
    | refine b_ld1 (by assumption) (by decide) (by first | assumption | fail) ?_
    | refine b_lda (by assumption) (by decide) (by first | assumption | fail) ?_
    | refine b_ld2 (by assumption) (by decide) (by first | assumption | exact bLt (by first | assumption | fail)) (by first | assumption | fail) ?_
    | refine b_lda2 (by assumption) (by decide) (by first | assumption | exact bLt (by first | assumption | fail)) (by first | assumption | fail) ?_
    | refine b_ld3 (by assumption) (by decide) (by first | assumption | exact bLt (by first | assumption | fail)) (by first | assumption | exact bLt (by first | assumption | fail)) (by first | assumption | fail) ?_
    | refine b_st1 (by assumption) (by decide) (by first | assumption | fail) (fun M' hM' => ?_)
    | refine b_st2 (by assumption) (by decide) (by first | assumption | exact bLt (by first | assumption | fail)) (by first | assumption | fail) (fun M' hM' => ?_)
    | refine b_st3 (by assumption) (by decide) (by first | assumption | exact bLt (by first | assumption | fail)) (by first | assumption | exact bLt (by first | assumption | fail)) (by first | assumption | fail) (fun M' hM' => ?_))
      exact kk _ (by assumption)
    · rw [oS1 h1, oA1 h1] at kk
      exact kk M' hM'
  unfold wp_X4_setInflow
  exact b_noPond (b_isIn ⟨fun h1 => fin _ false rfl (by rw [bI1.mp h1]; rfl), fun h1 => fin _ true rfl (by rw [bI0.mp h1]; rfl)⟩)
theorem t_level (h : bM M am ad S) {c : Int32} {K : Int32 → mM → Prop} (kk : ∀ M', bM M' am ad (oS (eLevel c) S (z0 S)) → K (oA (eLevel c) (S 8 (nn c) 0 0)) M') : wp_X4_level G b K M am c := by
  have he : eLevel c = bE (!bIn c 0 3) false false := rfl
  rw [he] at kk
  unfold wp_X4_level wb_X4_level_23
  refine b_noPond ⟨h.isc, b_chk (q := false) (r := false) h (fun _ _ => rfl) (fun h1 _ _ M' hM' => ?_) (fun h1 M' hM' => ?_)⟩
  · have hc : vp_in c 4 := bIn_v (c := 3) (by revert h1; cases bIn c 0 3 <;> simp) (by decide)
    rw [h1] at kk
    repeat (first
    | exact And.intro rfl (by assumption)
    | (refine ⟨bM.isc (by assumption), ?_⟩)
    | refine b_gfi (by assumption) (by decide) ?_
    | refine b_gfa (by assumption) (by decide) ?_
    | refine b_pfi (by assumption) (by decide) (fun M' hM' => ?_)
    | refine b_ld1 (by assumption) (by decide) (by first | assumption | fail) ?_
    | refine b_lda (by assumption) (by decide) (by first | assumption | fail) ?_
    | refine b_ld2 (by assumption) (by decide) (by first | assumption | exact bLt (by first | assumption | fail)) (by first | assumption | fail) ?_
    | refine b_lda2 (by assumption) (by decide) (by first | assumption | exact bLt (by first | assumption | fail)) (by first | assumption | fail) ?_
    | refine b_ld3 (by assumption) (by decide) (by first | assumption | exact bLt (by first | assumption | fail)) (by first | assumption | exact bLt (by first | assumption | fail)) (by first | assumption | fail) ?_
    | refine b_st1 (by assumption) (by decide) (by first | assumption | fail) (fun M' hM' => ?_)
    | refine b_st2 (by assumption) (by decide) (by first | assumption | exact bLt (by first | assumption | fail)) (by first | assumption | fail) (fun M' hM' => ?_)
    | refine b_st3 (by assumption) (by decide) (by first | assumption | exact bLt (by first | assumption | fail)) (by first | assumption | exact bLt (by first | assumption | fail)) (by first | assumption | fail) (fun M' hM' => ?_))
    exact kk _ (by assumption)
  · rw [oS1 h1, oA1 h1] at kk
    exact kk M' hM'
theorem t_addSluice (h : bM M am ad S) (hn : bIn (S 13 0 0 0) 0 8 = true) {c g v : Int32} {K : Int32 → mM → Prop} (kk : ∀ M', bM M' am ad (oS (eAddSluice S c g v) S (sAddSluice S c g v)) → K (oA (eAddSluice S c g v) (S 13 0 0 0)) M') : wp_X4_addSluice G b K M am c g v := by
  have fin : ∀ u w r : Bool, u = (!bIn c 0 3 || (decide (g ≠ -1) && !bIn g 0 3)) → w = (decide (c = g) || !bIn v 0 9) → r = decide (S 13 0 0 0 = 8) → wb_X4_addSluice_59 G K b M am c g v am (bI u) (bI w) (bI r) := by
    intro u w r hu hw hr
    have he : eAddSluice S c g v = bE u w r := by rw [hu, hw, hr]; rfl
    rw [he] at kk
    unfold wb_X4_addSluice_59
    refine ⟨h.isc, b_chk h (fun _ _ => rfl) (fun h1 h2 h3 M' hM' => ?_) (fun h1 M' hM' => ?_)⟩
    · have hne : ¬ S 13 0 0 0 = 8 := by rw [h3] at hr; simpa using hr
      have hc : vp_in (S 13 0 0 0) 8 := by
        obtain ⟨a1, a2⟩ := bIn_t hn
        refine b_in (a := 7) a1 ?_ (by decide)
        have a3 := Int32.le_iff_toInt_le.mp a2
        have a4 : ¬ (S 13 0 0 0).toInt = 8 := fun z => hne (Int32.toInt_inj.mp z)
        exact Int32.le_iff_toInt_le.mpr (by show (S 13 0 0 0).toInt ≤ 7; have : (S 13 0 0 0).toInt ≤ 8 := a3; omega)
      rw [h1, h2, h3] at kk
      repeat (first
    | exact And.intro rfl (by assumption)
    | (refine ⟨bM.isc (by assumption), ?_⟩)
    | refine b_gfi (by assumption) (by decide) ?_
    | refine b_gfa (by assumption) (by decide) ?_
    | refine b_pfi (by assumption) (by decide) (fun M' hM' => ?_)
    | refine b_ld1 (by assumption) (by decide) (by first | assumption | fail) ?_
    | refine b_lda (by assumption) (by decide) (by first | assumption | fail) ?_
    | refine b_ld2 (by assumption) (by decide) (by first | assumption | exact bLt (by first | assumption | fail)) (by first | assumption | fail) ?_
    | refine b_lda2 (by assumption) (by decide) (by first | assumption | exact bLt (by first | assumption | fail)) (by first | assumption | fail) ?_
    | refine b_ld3 (by assumption) (by decide) (by first | assumption | exact bLt (by first | assumption | fail)) (by first | assumption | exact bLt (by first | assumption | fail)) (by first | assumption | fail) ?_
    | refine b_st1 (by assumption) (by decide) (by first | assumption | fail) (fun M' hM' => ?_)
    | refine b_st2 (by assumption) (by decide) (by first | assumption | exact bLt (by first | assumption | fail)) (by first | assumption | fail) (fun M' hM' => ?_)
    | refine b_st3 (by assumption) (by decide) (by first | assumption | exact bLt (by first | assumption | fail)) (by first | assumption | exact bLt (by first | assumption | fail)) (by first | assumption | fail) (fun M' hM' => ?_))
      refine b_stn (by assumption) (by decide) rfl hc (fun M' hM' => ?_)
      repeat (first
    | exact And.intro rfl (by assumption)
    | (refine ⟨bM.isc (by assumption), ?_⟩)
    | refine b_gfi (by assumption) (by decide) ?_
    | refine b_gfa (by assumption) (by decide) ?_
    | refine b_pfi (by assumption) (by decide) (fun M' hM' => ?_)
    | refine b_ld1 (by assumption) (by decide) (by first | assumption | fail) ?_
    | refine b_lda (by assumption) (by decide) (by first | assumption | fail) ?_
    | refine b_ld2 (by assumption) (by decide) (by first | assumption | exact bLt (by first | assumption | fail)) (by first | assumption | fail) ?_
    | refine b_lda2 (by assumption) (by decide) (by first | assumption | exact bLt (by first | assumption | fail)) (by first | assumption | fail) ?_
    | refine b_ld3 (by assumption) (by decide) (by first | assumption | exact bLt (by first | assumption | fail)) (by first | assumption | exact bLt (by first | assumption | fail)) (by first | assumption | fail) ?_
    | refine b_st1 (by assumption) (by decide) (by first | assumption | fail) (fun M' hM' => ?_)
    | refine b_st2 (by assumption) (by decide) (by first | assumption | exact bLt (by first | assumption | fail)) (by first | assumption | fail) (fun M' hM' => ?_)
    | refine b_st3 (by assumption) (by decide) (by first | assumption | exact bLt (by first | assumption | fail)) (by first | assumption | exact bLt (by first | assumption | fail)) (by first | assumption | fail) (fun M' hM' => ?_))
      exact kk _ (by assumption)
    · rw [oS1 h1, oA1 h1] at kk
      exact kk M' hM'
  have mid : ∀ u w : Bool, u = (!bIn c 0 3 || (decide (g ≠ -1) && !bIn g 0 3)) → w = (decide (c = g) || !bIn v 0 9) → wb_X4_addSluice_45 G K b M am c g v am (bI u) (bI w) := by
    intro u w hu hw
    unfold wb_X4_addSluice_45
    refine b_gfi h (by decide) ⟨fun h1 => fin u w false hu hw (by simp [h1]), fun h1 => fin u w true hu hw (by simp [h1])⟩
  have mid2 : ∀ u : Bool, u = (!bIn c 0 3 || (decide (g ≠ -1) && !bIn g 0 3)) → wb_X4_addSluice_25 G K b M am c g v am (bI u) := by
    intro u hu
    unfold wb_X4_addSluice_25 wb_X4_addSluice_40
    refine ⟨fun h1 => mid u true hu (by simp [h1]), fun h1 => b_isIn ⟨fun h2 => mid u false hu (by rw [bI1.mp h2]; simp [h1]), fun h2 => mid u true hu (by rw [bI0.mp h2]; simp)⟩⟩
  unfold wp_X4_addSluice wb_X4_addSluice_20 wb_X4_addSluice_24
  refine b_noPond ⟨fun h1 => mid2 true (by rw [bI1.mp h1]; rfl), fun h1 => ⟨fun h2 => mid2 false (by rw [bI0.mp h1, h2]; rfl), fun h2 => b_noPond ⟨fun h3 => mid2 false (by rw [bI0.mp h1, bI0.mp h3]; simp), fun h3 => mid2 true (by rw [bI1.mp h3]; simp [h2])⟩⟩⟩
end B42
