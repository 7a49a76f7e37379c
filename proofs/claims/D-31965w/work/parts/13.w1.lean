/-! J0_init_J2: level 10 -/
def wp_J0_init_J2 (G : mG) (b : Nat) (P : mM → Prop) (M : mM) (a0 : Nat) : Prop :=
  P M
set_option maxHeartbeats 4000000 in
set_option maxRecDepth 100000 in
theorem wk_J0_init_J2 {l : Launch} (hst0 : l.stackTraces = false) {G : mG} {b : Nat} {P : mM → Prop} {M : mM} {a0 : Nat} (h : wp_J0_init_J2 G b P M a0) : mMet l yJ0_init (ws_ yJ0_init cJ0_init 1 (Option.none : Option Jvm.ClassFile.FieldType)) 10 b G [.ref a0] M (mRv P) (fun _ _ _ => False) := by
  refine mm_met hst0 (by decide) (Nat.le_of_ble_eq_true rfl) ?_
  intro p e s m args below meth c ls C hr hnt hnm hl S
  have hl : lv_has ls 1 [(0, .ref a0)] := hl
  generalize mA M s.heap.size = A at C S ⊢
  have hx := C.hx
  have hb := C.hb
  have hk : 0 + b ≤ b := Nat.le_of_eq (Nat.zero_add b)
  unfold wp_J0_init_J2 at h
  refine lv_aload_n hx hb dJ0_init_0 rfl (lv_at hl 0 rfl) ?_
  refine mm_init C hl.1 q117 q100 q101 dJ0_init_1 (Nat.le_of_ble_eq_true rfl) (Nat.le_of_ble_eq_true rfl) ?_
  exact mm_vret C S hr (Nat.le_trans (Nat.le_add_right _ _) hk) dJ0_init_4 h
/-! J14_hugeLength: level 10 -/
def wp_J14_hugeLength (G : mG) (b : Nat) (P : Int32 → mM → Prop) (M : mM) (x0 : Int32) (x1 : Int32) : Prop :=
  (0 ≤ (x0 + x1) → (2147483639 < (x0 + x1) → P (x0 + x1) M) ∧ (¬ 2147483639 < (x0 + x1) → P 2147483639 M)) ∧ (¬ 0 ≤ (x0 + x1) → False)
set_option maxHeartbeats 4000000 in
set_option maxRecDepth 100000 in
theorem wk_J14_hugeLength {l : Launch} (hst0 : l.stackTraces = false) {G : mG} {b : Nat} {P : Int32 → mM → Prop} {M : mM} {x0 : Int32} {x1 : Int32} (h : wp_J14_hugeLength G b P M x0 x1) : mMet l yJ14_hugeLength (ws_ yJ14_hugeLength cJ14_hugeLength 3 (Option.some Jvm.ClassFile.FieldType.int)) 10 b G [.int x0, .int x1] M (mRi P) (fun _ _ _ => False) := by
  refine mm_met hst0 (by decide) (Nat.le_of_ble_eq_true rfl) ?_
  intro p e s m args below meth c ls C hr hnt hnm hl S
  have hl : lv_has ls 3 [(0, .int x0), (1, .int x1)] := hl
  generalize mA M s.heap.size = A at C S ⊢
  have hx := C.hx
  have hb := C.hb
  have hk : 0 + b ≤ b := Nat.le_of_eq (Nat.zero_add b)
  unfold wp_J14_hugeLength at h
  refine lv_iload_n hx hb dJ14_hugeLength_0 rfl (lv_at hl 0 rfl) ?_
  refine lv_iload_n hx hb dJ14_hugeLength_1 rfl (lv_at hl 1 rfl) ?_
  refine lv_iadd hx hb dJ14_hugeLength_2 ?_
  refine lv_istore_n (lv' := [(2, .int (x0 + x1)), (0, .int x0), (1, .int x1)]) hx hb dJ14_hugeLength_3 rfl hl (by decide) rfl (fun ls hl => ?_)
  refine lv_iload_n hx hb dJ14_hugeLength_4 rfl (lv_at hl 0 rfl) ?_
  refine lv_if_ge (tgt := 49) hx hb dJ14_hugeLength_5 (by decide) (fun c9 => ?_) (fun c9 => ?_)
  · have h := h.1 c9
    refine lv_iload_n hx hb dJ14_hugeLength_49 rfl (lv_at hl 0 rfl) ?_
    refine lv_ldc hx hb C.hown (C.ts _ q672) dJ14_hugeLength_50 ?_
    refine lv_icmp_gt (tgt := 58) hx hb dJ14_hugeLength_52 (by decide) (fun c9 => ?_) (fun c9 => ?_)
    · have h := h.1 c9
      refine lv_iload_n hx hb dJ14_hugeLength_58 rfl (lv_at hl 0 rfl) ?_
      exact mm_iret C S hr (Nat.le_trans (Nat.le_add_right _ _) hk) dJ14_hugeLength_59 h
    · have h := h.2 c9
      refine lv_ldc hx hb C.hown (C.ts _ q672) dJ14_hugeLength_55 ?_
      exact mm_iret C S hr (Nat.le_trans (Nat.le_add_right _ _) hk) dJ14_hugeLength_57 h
  · have h := h.2 c9
    exact h.elim
/-! J14_newLength: level 11 -/
def wb_J14_newLength_21 (G : mG) (P : Int32 → mM → Prop) (r : Nat) (M : mM) (x0 : Int32) (x1 : Int32) : Prop :=
  wp_J14_hugeLength G 0 (fun v3 M2 => P v3 M2) M x0 x1
def wp_J14_newLength (G : mG) (b : Nat) (P : Int32 → mM → Prop) (M : mM) (x0 : Int32) (x1 : Int32) (x2 : Int32) : Prop :=
  ∀ g1 : Int32, g1 = (if x1 < x2 then x2 else x1) → ((x0 + g1) ≤ 0 → wb_J14_newLength_21 G P b M x0 x1) ∧ (¬ (x0 + g1) ≤ 0 → (2147483639 < (x0 + g1) → wb_J14_newLength_21 G P b M x0 x1) ∧ (¬ 2147483639 < (x0 + g1) → P (x0 + g1) M))
set_option maxHeartbeats 4000000 in
set_option maxRecDepth 100000 in
theorem wk_J14_newLength {l : Launch} (hst0 : l.stackTraces = false) {G : mG} {b : Nat} {P : Int32 → mM → Prop} {M : mM} {x0 : Int32} {x1 : Int32} {x2 : Int32} (h : wp_J14_newLength G b P M x0 x1 x2) : mMet l yJ14_newLength (ws_ yJ14_newLength cJ14_newLength 4 (Option.some Jvm.ClassFile.FieldType.int)) 11 b G [.int x0, .int x1, .int x2] M (mRi P) (fun _ _ _ => False) := by
  refine mm_met hst0 (by decide) (Nat.le_of_ble_eq_true rfl) ?_
  intro p e s m args below meth c ls C hr hnt hnm hl S
  have hl : lv_has ls 4 [(0, .int x0), (1, .int x1), (2, .int x2)] := hl
  generalize mA M s.heap.size = A at C S ⊢
  have hx := C.hx
  have hb := C.hb
  have hk : 0 + b ≤ b := Nat.le_of_eq (Nat.zero_add b)
  have j21 : ∀ (k r : Nat) (M : mM) (H : Heap) (locs : List Loc) (ls : Array Slot) (x0 : Int32) (x1 : Int32), k + r ≤ b → mW G A s M H locs → lv_has ls 4 [(0, .int x0), (1, .int x1)] → wb_J14_newLength_21 G P r M x0 x1 → W p l e (mRm 11 b) s m args below meth c H locs k k (vx_MQ below (mQ G A (mRi P)) (mXC G A (fun _ _ _ => False)) args s b b A) (F0 m 21 ls []) := by
    intro k r M H locs ls x0 x1 hk S hl h
    unfold wb_J14_newLength_21 at h
    refine lv_iload_n hx hb dJ14_newLength_21 rfl (lv_at hl 0 rfl) ?_
    refine lv_iload_n hx hb dJ14_newLength_22 rfl (lv_at hl 1 rfl) ?_
    refine mm_S (As := [.int x0, .int x1]) (rest := []) C S hl.1 (wk_J14_hugeLength hst0 h) (lw_S q673 q674 q67 q675) pd_J14_hugeLength ⟨Nat.le_of_ble_eq_true rfl, Nat.le_of_ble_eq_true rfl⟩ rfl rfl (Nat.le_of_ble_eq_true rfl) dJ14_newLength_23 rfl rfl hk (Nat.zero_add _) (fun v9 M2 H locs hP S hk => ?_) (fun E q ce M9 H9 locs9 hX => hX.elim)
    obtain ⟨v3, rfl, h⟩ := hP
    refine W.eq (g2 := F0 m 26 ls [.int v3]) rfl ?_
    exact mm_iret C S hr (Nat.le_trans (Nat.le_add_right _ _) hk) dJ14_newLength_26 h
  unfold wp_J14_newLength at h
  refine lv_iload_n hx hb dJ14_newLength_0 rfl (lv_at hl 0 rfl) ?_
  refine lv_iload_n hx hb dJ14_newLength_1 rfl (lv_at hl 1 rfl) ?_
  refine lv_iload_n hx hb dJ14_newLength_2 rfl (lv_at hl 2 rfl) ?_
  refine mm_max C hl.1 q671 q328 q68 q329 (Nat.le_of_ble_eq_true rfl) (Nat.le_of_ble_eq_true rfl) (Nat.le_trans (Nat.le_add_right _ _) hk) (Nat.le_trans (Nat.le_add_right _ _) hk) dJ14_newLength_3 ?_
  refine lv_topi (fun g1 eg1 => ?_)
  have h := h g1 eg1
  refine lv_iadd hx hb dJ14_newLength_6 ?_
  refine lv_istore_n (lv' := [(3, .int (x0 + g1)), (0, .int x0), (1, .int x1), (2, .int x2)]) hx hb dJ14_newLength_7 rfl hl (by decide) rfl (fun ls hl => ?_)
  refine lv_iconst (v := 0) hx hb dJ14_newLength_8 (by decide) ?_
  refine lv_iload_n hx hb dJ14_newLength_9 rfl (lv_at hl 0 rfl) ?_
  refine lv_icmp_ge (tgt := 21) hx hb dJ14_newLength_10 (by decide) (fun c9 => ?_) (fun c9 => ?_)
  · have h := h.1 c9
    exact j21 _ _ _ _ _ _ _ _ hk S (lv_sub hl [1, 2] rfl) h
  · have h := h.2 c9
    refine lv_iload_n hx hb dJ14_newLength_13 rfl (lv_at hl 0 rfl) ?_
    refine lv_ldc hx hb C.hown (C.ts _ q672) dJ14_newLength_14 ?_
    refine lv_icmp_gt (tgt := 21) hx hb dJ14_newLength_16 (by decide) (fun c9 => ?_) (fun c9 => ?_)
    · have h := h.1 c9
      exact j21 _ _ _ _ _ _ _ _ hk S (lv_sub hl [1, 2] rfl) h
    · have h := h.2 c9
      refine lv_iload_n hx hb dJ14_newLength_19 rfl (lv_at hl 0 rfl) ?_
      exact mm_iret C S hr (Nat.le_trans (Nat.le_add_right _ _) hk) dJ14_newLength_20 h
/-! J16_checkLength: level 10 -/
def wp_J16_checkLength (G : mG) (b : Nat) (P : mM → Prop) (M : mM) (x0 : Int32) (x1 : Int32) : Prop :=
  (x0 ≤ x1 → P M) ∧ (¬ x0 ≤ x1 → False)
set_option maxHeartbeats 4000000 in
set_option maxRecDepth 100000 in
theorem wk_J16_checkLength {l : Launch} (hst0 : l.stackTraces = false) {G : mG} {b : Nat} {P : mM → Prop} {M : mM} {x0 : Int32} {x1 : Int32} (h : wp_J16_checkLength G b P M x0 x1) : mMet l yJ16_checkLength (ws_ yJ16_checkLength cJ16_checkLength 2 (Option.none : Option Jvm.ClassFile.FieldType)) 10 b G [.int x0, .int x1] M (mRv P) (fun _ _ _ => False) := by
  refine mm_met hst0 (by decide) (Nat.le_of_ble_eq_true rfl) ?_
  intro p e s m args below meth c ls C hr hnt hnm hl S
  have hl : lv_has ls 2 [(0, .int x0), (1, .int x1)] := hl
  generalize mA M s.heap.size = A at C S ⊢
  have hx := C.hx
  have hb := C.hb
  have hk : 0 + b ≤ b := Nat.le_of_eq (Nat.zero_add b)
  unfold wp_J16_checkLength at h
  refine lv_iload_n hx hb dJ16_checkLength_0 rfl (lv_at hl 1 rfl) ?_
  refine lv_iload_n hx hb dJ16_checkLength_1 rfl (lv_at hl 0 rfl) ?_
  refine lv_icmp_ge (tgt := 37) hx hb dJ16_checkLength_2 (by decide) (fun c9 => ?_) (fun c9 => ?_)
  · have h := h.1 c9
    exact mm_vret C S hr (Nat.le_trans (Nat.le_add_right _ _) hk) dJ16_checkLength_37 h
  · have h := h.2 c9
    exact h.elim
/-! J16_copyOf_2: level 10, alloc -/
def wp_J16_copyOf_2 (G : mG) (b : Nat) (P : Nat → mM → Prop) (M : mM) (a0 : Nat) (x1 : Int32) (a2 : Nat) : Prop :=
  (¬ a2 = (G.2.2 3) → False) ∧ (a2 = (G.2.2 3) → nwa M b 5 x1 (.inr (.inr (.inr (.inr fun _ => none)))) fun u1 M2 r3 => aln M2 a0 fun v4 => ∀ g5 : Int32, g5 = (if x1 < v4 then x1 else v4) → cpq M2 a0 0 u1 0 g5 fun M6 => P u1 M6)
set_option maxHeartbeats 4000000 in
set_option maxRecDepth 100000 in
theorem wk_J16_copyOf_2 {l : Launch} (hst0 : l.stackTraces = false) {G : mG} {b : Nat} {P : Nat → mM → Prop} {M : mM} {a0 : Nat} {x1 : Int32} {a2 : Nat} (h : wp_J16_copyOf_2 G b P M a0 x1 a2) : mMet l yJ16_copyOf_2 (ws_ yJ16_copyOf_2 cJ16_copyOf_2 4 (Option.some (Jvm.ClassFile.FieldType.array (Jvm.ClassFile.FieldType.object "java/lang/Object")))) 10 b G [.ref a0, .int x1, .ref a2] M (mRa P) (fun _ _ _ => False) := by
  refine mm_met hst0 (by decide) (Nat.le_of_ble_eq_true rfl) ?_
  intro p e s m args below meth c ls C hr hnt hnm hl S
  have hl : lv_has ls 4 [(0, .ref a0), (1, .int x1), (2, .ref a2)] := hl
  generalize mA M s.heap.size = A at C S ⊢
  have hx := C.hx
  have hb := C.hb
  have hk : 0 + b ≤ b := Nat.le_of_eq (Nat.zero_add b)
  unfold wp_J16_copyOf_2 at h
  refine lv_aload_n hx hb dJ16_copyOf_2_0 rfl (lv_at hl 2 rfl) ?_
  refine va_ldcM C.hx C.hb C.hown (C.ts _ q712) C.kt.2.2.2.2.2.2.2 dJ16_copyOf_2_1 ?_
  refine lv_acmp_ne (rx := some a2) (ry := some (G.2.2 3)) (tgt := 13) hx hb dJ16_copyOf_2_3 (by decide) (fun c9 => ?_) (fun c9 => ?_)
  · have h := h.1 (fun z => c9 (congrArg some z))
    refine lv_aload_n hx hb dJ16_copyOf_2_13 rfl (lv_at hl 2 rfl) ?_
    exact h.elim
  · have h := h.2 (Option.some.inj c9)
    refine lv_iload_n hx hb dJ16_copyOf_2_6 rfl (lv_at hl 1 rfl) ?_
    refine mm_anew C S (t := 5) rfl (by decide) q714 (by decide) dJ16_copyOf_2_7 rfl rfl hk h (fun u1 M2 r3 k H h S hk => ?_)
    refine lv_goto (tgt := 24) hx hb dJ16_copyOf_2_10 (by decide) ?_
    refine lv_astore_n (lv' := [(3, .ref u1), (0, .ref a0), (1, .int x1), (2, .ref a2)]) hx hb dJ16_copyOf_2_24 rfl hl (by decide) rfl (fun ls hl => ?_)
    refine lv_aload_n hx hb dJ16_copyOf_2_25 rfl (lv_at hl 1 rfl) ?_
    refine lv_iconst (v := 0) hx hb dJ16_copyOf_2_26 (by decide) ?_
    refine lv_aload_n hx hb dJ16_copyOf_2_27 rfl (lv_at hl 0 rfl) ?_
    refine lv_iconst (v := 0) hx hb dJ16_copyOf_2_28 (by decide) ?_
    refine lv_aload_n hx hb dJ16_copyOf_2_29 rfl (lv_at hl 1 rfl) ?_
    refine mm_alen C S h dJ16_copyOf_2_30 (fun v4 h => ?_)
    refine lv_iload_n hx hb dJ16_copyOf_2_31 rfl (lv_at hl 2 rfl) ?_
    refine mm_min C hl.1 q715 q331 q68 q332 (Nat.le_of_ble_eq_true rfl) (Nat.le_of_ble_eq_true rfl) (Nat.le_trans (Nat.le_add_right _ _) hk) (Nat.le_trans (Nat.le_add_right _ _) hk) dJ16_copyOf_2_32 ?_
    refine lv_topi (fun g5 eg5 => ?_)
    have h := h g5 eg5
    refine mm_cpq C S (C.hml.trans hl.1.symm) q716 h (Nat.le_of_ble_eq_true rfl) (Nat.le_of_ble_eq_true rfl) dJ16_copyOf_2_35 (fun M6 H locs h S => ?_)
    refine lv_aload_n hx hb dJ16_copyOf_2_38 rfl (lv_at hl 0 rfl) ?_
    exact mm_aret C S hr (Or.inr ⟨_, rfl⟩) (Nat.le_trans (Nat.le_add_right _ _) hk) dJ16_copyOf_2_39 h
/-! J16_copyOf: level 11, alloc -/
def wp_J16_copyOf (G : mG) (b : Nat) (P : Nat → mM → Prop) (M : mM) (a0 : Nat) (x1 : Int32) : Prop :=
  (∃ (w9 : Bool) (n9 : Nat) (x9 : mX5), M a0 = some (w9, .inl (5, n9, x9))) ∧ (∃ b2 r3 : Nat, b2 + r3 = b ∧ wp_J16_copyOf_2 G b2 (fun u4 M1 => P u4 M1) M a0 x1 (G.2.2 3))
set_option maxHeartbeats 4000000 in
set_option maxRecDepth 100000 in
theorem wk_J16_copyOf {l : Launch} (hst0 : l.stackTraces = false) {G : mG} {b : Nat} {P : Nat → mM → Prop} {M : mM} {a0 : Nat} {x1 : Int32} (h : wp_J16_copyOf G b P M a0 x1) : mMet l yJ16_copyOf (ws_ yJ16_copyOf cJ16_copyOf 2 (Option.some (Jvm.ClassFile.FieldType.array (Jvm.ClassFile.FieldType.object "java/lang/Object")))) 11 b G [.ref a0, .int x1] M (mRa P) (fun _ _ _ => False) := by
  refine mm_met hst0 (by decide) (Nat.le_of_ble_eq_true rfl) ?_
  intro p e s m args below meth c ls C hr hnt hnm hl S
  have hl : lv_has ls 2 [(0, .ref a0), (1, .int x1)] := hl
  generalize mA M s.heap.size = A at C S ⊢
  have hx := C.hx
  have hb := C.hb
  have hk : 0 + b ≤ b := Nat.le_of_eq (Nat.zero_add b)
  unfold wp_J16_copyOf at h
  refine lv_aload_n hx hb dJ16_copyOf_0 rfl (lv_at hl 0 rfl) ?_
  refine lv_iload_n hx hb dJ16_copyOf_1 rfl (lv_at hl 1 rfl) ?_
  refine lv_aload_n hx hb dJ16_copyOf_2 rfl (lv_at hl 0 rfl) ?_
  refine mm_getC C S (C.hml.trans hl.1.symm) q679 C.kt.2.2.2.2.2.2.2 h.1 (Nat.le_of_ble_eq_true rfl) (Nat.le_of_ble_eq_true rfl) dJ16_copyOf_3 ?_
  have h := h.2
  obtain ⟨b2, r3, hb9, h⟩ := h
  refine mm_S (As := [.ref a0, .int x1, .ref (G.2.2 3)]) (rest := []) C S hl.1 (wk_J16_copyOf_2 hst0 h) (lw_S q709 q710 q69 q711) pd_J16_copyOf_2 ⟨Nat.le_of_ble_eq_true rfl, Nat.le_of_ble_eq_true rfl⟩ rfl rfl (Nat.le_of_ble_eq_true rfl) dJ16_copyOf_6 rfl rfl hk hb9 (fun v9 M1 H locs hP S hk => ?_) (fun E q ce M9 H9 locs9 hX => hX.elim)
  obtain ⟨u4, rfl, h⟩ := hP
  refine W.eq (g2 := F0 m 9 ls [.ref u4]) rfl ?_
  exact mm_aret C S hr (Or.inr ⟨_, rfl⟩) (Nat.le_trans (Nat.le_add_right _ _) hk) dJ16_copyOf_9 h
/-! J16_copyOfRangeByte: level 11, alloc -/
def wp_J16_copyOfRangeByte (G : mG) (b : Nat) (P : Nat → mM → Prop) (M : mM) (a0 : Nat) (x1 : Int32) (x2 : Int32) : Prop :=
  wp_J16_checkLength G 0 (fun M1 => nwa M1 b 3 (x2 - x1) (.inl fun _ => 0) fun u2 M3 r4 => aln M3 a0 fun v5 => ∀ g6 : Int32, g6 = (if (x2 - x1) < (v5 - x1) then (x2 - x1) else (v5 - x1)) → cpb M3 a0 x1 u2 0 g6 fun M7 => P u2 M7) M x1 x2
set_option maxHeartbeats 4000000 in
set_option maxRecDepth 100000 in
theorem wk_J16_copyOfRangeByte {l : Launch} (hst0 : l.stackTraces = false) {G : mG} {b : Nat} {P : Nat → mM → Prop} {M : mM} {a0 : Nat} {x1 : Int32} {x2 : Int32} (h : wp_J16_copyOfRangeByte G b P M a0 x1 x2) : mMet l yJ16_copyOfRangeByte (ws_ yJ16_copyOfRangeByte cJ16_copyOfRangeByte 5 (Option.some (Jvm.ClassFile.FieldType.array Jvm.ClassFile.FieldType.byte))) 11 b G [.ref a0, .int x1, .int x2] M (mRa P) (fun _ _ _ => False) := by
  refine mm_met hst0 (by decide) (Nat.le_of_ble_eq_true rfl) ?_
  intro p e s m args below meth c ls C hr hnt hnm hl S
  have hl : lv_has ls 5 [(0, .ref a0), (1, .int x1), (2, .int x2)] := hl
  generalize mA M s.heap.size = A at C S ⊢
  have hx := C.hx
  have hb := C.hb
  have hk : 0 + b ≤ b := Nat.le_of_eq (Nat.zero_add b)
  unfold wp_J16_copyOfRangeByte at h
  refine lv_iload_n hx hb dJ16_copyOfRangeByte_0 rfl (lv_at hl 1 rfl) ?_
  refine lv_iload_n hx hb dJ16_copyOfRangeByte_1 rfl (lv_at hl 2 rfl) ?_
  refine mm_S (As := [.int x1, .int x2]) (rest := []) C S hl.1 (wk_J16_checkLength hst0 h) (lw_S q1049 q1050 q69 q1051) pd_J16_checkLength ⟨Nat.le_of_ble_eq_true rfl, Nat.le_of_ble_eq_true rfl⟩ rfl rfl (Nat.le_of_ble_eq_true rfl) dJ16_copyOfRangeByte_2 rfl rfl hk (Nat.zero_add _) (fun v9 M1 H locs hP S hk => ?_) (fun E q ce M9 H9 locs9 hX => hX.elim)
  obtain ⟨rfl, h⟩ := hP
  refine W.eq (g2 := F0 m 5 ls []) rfl ?_
  refine lv_iload_n hx hb dJ16_copyOfRangeByte_5 rfl (lv_at hl 2 rfl) ?_
  refine lv_iload_n hx hb dJ16_copyOfRangeByte_6 rfl (lv_at hl 1 rfl) ?_
  refine lv_isub hx hb dJ16_copyOfRangeByte_7 ?_
  refine lv_istore_n (lv' := [(3, .int (x2 - x1)), (0, .ref a0), (1, .int x1), (2, .int x2)]) hx hb dJ16_copyOfRangeByte_8 rfl hl (by decide) rfl (fun ls hl => ?_)
  refine lv_iload_n hx hb dJ16_copyOfRangeByte_9 rfl (lv_at hl 0 rfl) ?_
  refine mm_newa C S (t := 3) (ty := .byte) (atype := .byte) rfl rfl (by decide) q170 (fun _ h9 => h9) (fun _ => rfl) (by decide) dJ16_copyOfRangeByte_10 rfl rfl hk h (fun u2 M3 r4 k H h S hk => ?_)
  refine lv_astore (lv' := [(4, .ref u2), (3, .int (x2 - x1)), (0, .ref a0), (1, .int x1), (2, .int x2)]) hx hb dJ16_copyOfRangeByte_12 hl (by decide) rfl (fun ls hl => ?_)
  refine lv_aload_n hx hb dJ16_copyOfRangeByte_14 rfl (lv_at hl 2 rfl) ?_
  refine lv_iload_n hx hb dJ16_copyOfRangeByte_15 rfl (lv_at hl 3 rfl) ?_
  refine lv_aload hx hb dJ16_copyOfRangeByte_16 (lv_at hl 0 rfl) ?_
  refine lv_iconst (v := 0) hx hb dJ16_copyOfRangeByte_18 (by decide) ?_
  refine lv_aload_n hx hb dJ16_copyOfRangeByte_19 rfl (lv_at hl 2 rfl) ?_
  refine mm_alen C S h dJ16_copyOfRangeByte_20 (fun v5 h => ?_)
  refine lv_iload_n hx hb dJ16_copyOfRangeByte_21 rfl (lv_at hl 3 rfl) ?_
  refine lv_isub hx hb dJ16_copyOfRangeByte_22 ?_
  refine lv_iload_n hx hb dJ16_copyOfRangeByte_23 rfl (lv_at hl 1 rfl) ?_
  refine mm_min C hl.1 q715 q331 q68 q332 (Nat.le_of_ble_eq_true rfl) (Nat.le_of_ble_eq_true rfl) (Nat.le_trans (Nat.le_add_right _ _) hk) (Nat.le_trans (Nat.le_add_right _ _) hk) dJ16_copyOfRangeByte_24 ?_
  refine lv_topi (fun g6 eg6 => ?_)
  have h := h g6 eg6
  refine mm_cpb C S (C.hml.trans hl.1.symm) q716 h (Nat.le_of_ble_eq_true rfl) (Nat.le_of_ble_eq_true rfl) dJ16_copyOfRangeByte_27 (fun M7 H locs h S => ?_)
  refine lv_aload hx hb dJ16_copyOfRangeByte_30 (lv_at hl 0 rfl) ?_
  exact mm_aret C S hr (Or.inr ⟨_, rfl⟩) (Nat.le_trans (Nat.le_add_right _ _) hk) dJ16_copyOfRangeByte_32 h
/-! J16_copyOfRange: level 12, alloc -/
def wb_J16_copyOfRange_10 (G : mG) (P : Nat → mM → Prop) (r : Nat) (M : mM) (a0 : Nat) (x1 : Int32) (x2 : Int32) : Prop :=
  ∃ b6 r7 : Nat, b6 + r7 = r ∧ wp_J16_copyOfRangeByte G b6 (fun u8 M5 => P u8 M5) M a0 x1 x2
def wp_J16_copyOfRange (G : mG) (b : Nat) (P : Nat → mM → Prop) (M : mM) (a0 : Nat) (x1 : Int32) (x2 : Int32) : Prop :=
  (¬ x1 = 0 → wb_J16_copyOfRange_10 G P b M a0 x1 x2) ∧ (x1 = 0 → aln M a0 fun v1 => (x2 = v1 → clb M b a0 fun u2 M3 r4 => (∃ (w9 : Bool) (n9 : Nat) (x9 : mX5), M3 u2 = some (w9, .inl (3, n9, x9))) ∧ (P u2 M3)) ∧ (¬ x2 = v1 → wb_J16_copyOfRange_10 G P b M a0 x1 x2))
set_option maxHeartbeats 4000000 in
set_option maxRecDepth 100000 in
theorem wk_J16_copyOfRange {l : Launch} (hst0 : l.stackTraces = false) {G : mG} {b : Nat} {P : Nat → mM → Prop} {M : mM} {a0 : Nat} {x1 : Int32} {x2 : Int32} (h : wp_J16_copyOfRange G b P M a0 x1 x2) : mMet l yJ16_copyOfRange (ws_ yJ16_copyOfRange cJ16_copyOfRange 3 (Option.some (Jvm.ClassFile.FieldType.array Jvm.ClassFile.FieldType.byte))) 12 b G [.ref a0, .int x1, .int x2] M (mRa P) (fun _ _ _ => False) := by
  refine mm_met hst0 (by decide) (Nat.le_of_ble_eq_true rfl) ?_
  intro p e s m args below meth c ls C hr hnt hnm hl S
  have hl : lv_has ls 3 [(0, .ref a0), (1, .int x1), (2, .int x2)] := hl
  generalize mA M s.heap.size = A at C S ⊢
  have hx := C.hx
  have hb := C.hb
  have hk : 0 + b ≤ b := Nat.le_of_eq (Nat.zero_add b)
  have j10 : ∀ (k r : Nat) (M : mM) (H : Heap) (locs : List Loc) (ls : Array Slot) (a0 : Nat) (x1 : Int32) (x2 : Int32), k + r ≤ b → mW G A s M H locs → lv_has ls 3 [(0, .ref a0), (1, .int x1), (2, .int x2)] → wb_J16_copyOfRange_10 G P r M a0 x1 x2 → W p l e (mRm 12 b) s m args below meth c H locs k k (vx_MQ below (mQ G A (mRa P)) (mXC G A (fun _ _ _ => False)) args s b b A) (F0 m 10 ls []) := by
    intro k r M H locs ls a0 x1 x2 hk S hl h
    unfold wb_J16_copyOfRange_10 at h
    refine lv_aload_n hx hb dJ16_copyOfRange_10 rfl (lv_at hl 0 rfl) ?_
    refine lv_iload_n hx hb dJ16_copyOfRange_11 rfl (lv_at hl 1 rfl) ?_
    refine lv_iload_n hx hb dJ16_copyOfRange_12 rfl (lv_at hl 2 rfl) ?_
    obtain ⟨b6, r7, hb9, h⟩ := h
    refine mm_S (As := [.ref a0, .int x1, .int x2]) (rest := []) C S hl.1 (wk_J16_copyOfRangeByte hst0 h) (lw_S q1046 q1047 q69 q1048) pd_J16_copyOfRangeByte ⟨Nat.le_of_ble_eq_true rfl, Nat.le_of_ble_eq_true rfl⟩ rfl rfl (Nat.le_of_ble_eq_true rfl) dJ16_copyOfRange_13 rfl rfl hk hb9 (fun v9 M5 H locs hP S hk => ?_) (fun E q ce M9 H9 locs9 hX => hX.elim)
    obtain ⟨u8, rfl, h⟩ := hP
    refine W.eq (g2 := F0 m 16 ls [.ref u8]) rfl ?_
    exact mm_aret C S hr (Or.inr ⟨_, rfl⟩) (Nat.le_trans (Nat.le_add_right _ _) hk) dJ16_copyOfRange_16 h
  unfold wp_J16_copyOfRange at h
  refine lv_iload_n hx hb dJ16_copyOfRange_0 rfl (lv_at hl 1 rfl) ?_
  refine lv_if_ne (tgt := 10) hx hb dJ16_copyOfRange_1 (by decide) (fun c9 => ?_) (fun c9 => ?_)
  · have h := h.1 c9
    exact j10 _ _ _ _ _ _ _ _ _ hk S hl h
  · have h := h.2 c9
    refine lv_iload_n hx hb dJ16_copyOfRange_4 rfl (lv_at hl 2 rfl) ?_
    refine lv_aload_n hx hb dJ16_copyOfRange_5 rfl (lv_at hl 0 rfl) ?_
    refine mm_alen C S h dJ16_copyOfRange_6 (fun v1 h => ?_)
    refine lv_icmp_eq (tgt := 17) hx hb dJ16_copyOfRange_7 (by decide) (fun c9 => ?_) (fun c9 => ?_)
    · have h := h.1 c9
      refine lv_aload_n hx hb dJ16_copyOfRange_17 rfl (lv_at hl 0 rfl) ?_
      refine mm_clb C S (C.hml.trans hl.1.symm) q779 rfl rfl hk h (Nat.le_of_ble_eq_true rfl) (Nat.le_of_ble_eq_true rfl) dJ16_copyOfRange_18 (fun u2 M3 r4 k H h S hk => ?_)
      refine mm_castB C S q785 h.1 dJ16_copyOfRange_21 ?_
      have h := h.2
      exact mm_aret C S hr (Or.inr ⟨_, rfl⟩) (Nat.le_trans (Nat.le_add_right _ _) hk) dJ16_copyOfRange_24 h
    · have h := h.2 c9
      exact j10 _ _ _ _ _ _ _ _ _ hk S hl h
/-! J16_copyOf_3: level 10, alloc -/
def wp_J16_copyOf_3 (G : mG) (b : Nat) (P : Nat → mM → Prop) (M : mM) (a0 : Nat) (x1 : Int32) : Prop :=
  aln M a0 fun v1 => (¬ x1 = v1 → nwa M b 3 x1 (.inl fun _ => 0) fun u2 M3 r4 => aln M3 a0 fun v5 => ∀ g6 : Int32, g6 = (if x1 < v5 then x1 else v5) → cpb M3 a0 0 u2 0 g6 fun M7 => P u2 M7) ∧ (x1 = v1 → clb M b a0 fun u8 M9 r10 => (∃ (w9 : Bool) (n9 : Nat) (x9 : mX5), M9 u8 = some (w9, .inl (3, n9, x9))) ∧ (P u8 M9))
set_option maxHeartbeats 4000000 in
set_option maxRecDepth 100000 in
theorem wk_J16_copyOf_3 {l : Launch} (hst0 : l.stackTraces = false) {G : mG} {b : Nat} {P : Nat → mM → Prop} {M : mM} {a0 : Nat} {x1 : Int32} (h : wp_J16_copyOf_3 G b P M a0 x1) : mMet l yJ16_copyOf_3 (ws_ yJ16_copyOf_3 cJ16_copyOf_3 3 (Option.some (Jvm.ClassFile.FieldType.array Jvm.ClassFile.FieldType.byte))) 10 b G [.ref a0, .int x1] M (mRa P) (fun _ _ _ => False) := by
  refine mm_met hst0 (by decide) (Nat.le_of_ble_eq_true rfl) ?_
  intro p e s m args below meth c ls C hr hnt hnm hl S
  have hl : lv_has ls 3 [(0, .ref a0), (1, .int x1)] := hl
  generalize mA M s.heap.size = A at C S ⊢
  have hx := C.hx
  have hb := C.hb
  have hk : 0 + b ≤ b := Nat.le_of_eq (Nat.zero_add b)
  unfold wp_J16_copyOf_3 at h
  refine lv_iload_n hx hb dJ16_copyOf_3_0 rfl (lv_at hl 1 rfl) ?_
  refine lv_aload_n hx hb dJ16_copyOf_3_1 rfl (lv_at hl 0 rfl) ?_
  refine mm_alen C S h dJ16_copyOf_3_2 (fun v1 h => ?_)
  refine lv_icmp_ne (tgt := 14) hx hb dJ16_copyOf_3_3 (by decide) (fun c9 => ?_) (fun c9 => ?_)
  · have h := h.1 c9
    refine lv_iload_n hx hb dJ16_copyOf_3_14 rfl (lv_at hl 1 rfl) ?_
    refine mm_newa C S (t := 3) (ty := .byte) (atype := .byte) rfl rfl (by decide) q170 (fun _ h9 => h9) (fun _ => rfl) (by decide) dJ16_copyOf_3_15 rfl rfl hk h (fun u2 M3 r4 k H h S hk => ?_)
    refine lv_astore_n (lv' := [(2, .ref u2), (0, .ref a0), (1, .int x1)]) hx hb dJ16_copyOf_3_17 rfl hl (by decide) rfl (fun ls hl => ?_)
    refine lv_aload_n hx hb dJ16_copyOf_3_18 rfl (lv_at hl 1 rfl) ?_
    refine lv_iconst (v := 0) hx hb dJ16_copyOf_3_19 (by decide) ?_
    refine lv_aload_n hx hb dJ16_copyOf_3_20 rfl (lv_at hl 0 rfl) ?_
    refine lv_iconst (v := 0) hx hb dJ16_copyOf_3_21 (by decide) ?_
    refine lv_aload_n hx hb dJ16_copyOf_3_22 rfl (lv_at hl 1 rfl) ?_
    refine mm_alen C S h dJ16_copyOf_3_23 (fun v5 h => ?_)
    refine lv_iload_n hx hb dJ16_copyOf_3_24 rfl (lv_at hl 2 rfl) ?_
    refine mm_min C hl.1 q715 q331 q68 q332 (Nat.le_of_ble_eq_true rfl) (Nat.le_of_ble_eq_true rfl) (Nat.le_trans (Nat.le_add_right _ _) hk) (Nat.le_trans (Nat.le_add_right _ _) hk) dJ16_copyOf_3_25 ?_
    refine lv_topi (fun g6 eg6 => ?_)
    have h := h g6 eg6
    refine mm_cpb C S (C.hml.trans hl.1.symm) q716 h (Nat.le_of_ble_eq_true rfl) (Nat.le_of_ble_eq_true rfl) dJ16_copyOf_3_28 (fun M7 H locs h S => ?_)
    refine lv_aload_n hx hb dJ16_copyOf_3_31 rfl (lv_at hl 0 rfl) ?_
    exact mm_aret C S hr (Or.inr ⟨_, rfl⟩) (Nat.le_trans (Nat.le_add_right _ _) hk) dJ16_copyOf_3_32 h
  · have h := h.2 c9
    refine lv_aload_n hx hb dJ16_copyOf_3_6 rfl (lv_at hl 0 rfl) ?_
    refine mm_clb C S (C.hml.trans hl.1.symm) q779 rfl rfl hk h (Nat.le_of_ble_eq_true rfl) (Nat.le_of_ble_eq_true rfl) dJ16_copyOf_3_7 (fun u8 M9 r10 k H h S hk => ?_)
    refine mm_castB C S q785 h.1 dJ16_copyOf_3_10 ?_
    have h := h.2
    exact mm_aret C S hr (Or.inr ⟨_, rfl⟩) (Nat.le_trans (Nat.le_add_right _ _) hk) dJ16_copyOf_3_13 h
/-! J16_rangeCheck: level 10 -/
def wp_J16_rangeCheck (G : mG) (b : Nat) (P : mM → Prop) (M : mM) (x0 : Int32) (x1 : Int32) (x2 : Int32) : Prop :=
  (x1 ≤ x2 → (0 ≤ x1 → (x2 ≤ x0 → P M) ∧ (¬ x2 ≤ x0 → False)) ∧ (¬ 0 ≤ x1 → False)) ∧ (¬ x1 ≤ x2 → False)
set_option maxHeartbeats 4000000 in
set_option maxRecDepth 100000 in
theorem wk_J16_rangeCheck {l : Launch} (hst0 : l.stackTraces = false) {G : mG} {b : Nat} {P : mM → Prop} {M : mM} {x0 : Int32} {x1 : Int32} {x2 : Int32} (h : wp_J16_rangeCheck G b P M x0 x1 x2) : mMet l yJ16_rangeCheck (ws_ yJ16_rangeCheck cJ16_rangeCheck 3 (Option.none : Option Jvm.ClassFile.FieldType)) 10 b G [.int x0, .int x1, .int x2] M (mRv P) (fun _ _ _ => False) := by
  refine mm_met hst0 (by decide) (Nat.le_of_ble_eq_true rfl) ?_
  intro p e s m args below meth c ls C hr hnt hnm hl S
  have hl : lv_has ls 3 [(0, .int x0), (1, .int x1), (2, .int x2)] := hl
  generalize mA M s.heap.size = A at C S ⊢
  have hx := C.hx
  have hb := C.hb
  have hk : 0 + b ≤ b := Nat.le_of_eq (Nat.zero_add b)
  unfold wp_J16_rangeCheck at h
  refine lv_iload_n hx hb dJ16_rangeCheck_0 rfl (lv_at hl 1 rfl) ?_
  refine lv_iload_n hx hb dJ16_rangeCheck_1 rfl (lv_at hl 2 rfl) ?_
  refine lv_icmp_le (tgt := 46) hx hb dJ16_rangeCheck_2 (by decide) (fun c9 => ?_) (fun c9 => ?_)
  · have h := h.1 c9
    refine lv_iload_n hx hb dJ16_rangeCheck_46 rfl (lv_at hl 1 rfl) ?_
    refine lv_if_ge (tgt := 59) hx hb dJ16_rangeCheck_47 (by decide) (fun c9 => ?_) (fun c9 => ?_)
    · have h := h.1 c9
      refine lv_iload_n hx hb dJ16_rangeCheck_59 rfl (lv_at hl 2 rfl) ?_
      refine lv_iload_n hx hb dJ16_rangeCheck_60 rfl (lv_at hl 0 rfl) ?_
      refine lv_icmp_le (tgt := 73) hx hb dJ16_rangeCheck_61 (by decide) (fun c9 => ?_) (fun c9 => ?_)
      · have h := h.1 c9
        exact mm_vret C S hr (Nat.le_trans (Nat.le_add_right _ _) hk) dJ16_rangeCheck_73 h
      · have h := h.2 c9
        exact h.elim
    · have h := h.2 c9
      exact h.elim
  · have h := h.2 c9
    exact h.elim
/-! J16_fill: level 11 -/
def wl_J16_fill_10 (G : mG) (P : mM → Prop) : Nat → Nat → mM → Nat → Int32 → Int32 → Int32 → Prop
  | 0, _, _, _, _, _, _ => False
  | n + 1, r, M, a0, x2, x3, x4 => (x2 ≤ x4 → P M) ∧ (¬ x2 ≤ x4 → stn M 3 a0 .byte x4 x3 fun M3 => (wl_J16_fill_10 G P n) r M3 a0 x2 x3 (x4 + 1))
def wp_J16_fill (G : mG) (b : Nat) (P : mM → Prop) (M : mM) (a0 : Nat) (x1 : Int32) (x2 : Int32) (x3 : Int32) : Prop :=
  aln M a0 fun v1 => wp_J16_rangeCheck G 0 (fun M2 => ∃ n10, wl_J16_fill_10 G P n10 b M2 a0 x2 x3 x1) M v1 x1 x2
set_option maxHeartbeats 4000000 in
set_option maxRecDepth 100000 in
theorem wk_J16_fill {l : Launch} (hst0 : l.stackTraces = false) {G : mG} {b : Nat} {P : mM → Prop} {M : mM} {a0 : Nat} {x1 : Int32} {x2 : Int32} {x3 : Int32} (h : wp_J16_fill G b P M a0 x1 x2 x3) : mMet l yJ16_fill (ws_ yJ16_fill cJ16_fill 5 (Option.none : Option Jvm.ClassFile.FieldType)) 11 b G [.ref a0, .int x1, .int x2, .int x3] M (mRv P) (fun _ _ _ => False) := by
  refine mm_met hst0 (by decide) (Nat.le_of_ble_eq_true rfl) ?_
  intro p e s m args below meth c ls C hr hnt hnm hl S
  have hl : lv_has ls 5 [(0, .ref a0), (1, .int x1), (2, .int x2), (3, .int x3)] := hl
  generalize mA M s.heap.size = A at C S ⊢
  have hx := C.hx
  have hb := C.hb
  have hk : 0 + b ≤ b := Nat.le_of_eq (Nat.zero_add b)
  have j10 : ∀ (nf : Nat) (k r : Nat) (M : mM) (H : Heap) (locs : List Loc) (ls : Array Slot) (a0 : Nat) (x2 : Int32) (x3 : Int32) (x4 : Int32), k + r ≤ b → mW G A s M H locs → lv_has ls 5 [(0, .ref a0), (2, .int x2), (3, .int x3), (4, .int x4)] → wl_J16_fill_10 G P nf r M a0 x2 x3 x4 → W p l e (mRm 11 b) s m args below meth c H locs k k (vx_MQ below (mQ G A (mRv P)) (mXC G A (fun _ _ _ => False)) args s b b A) (F0 m 10 ls []) := by
    intro nf
    induction nf with
    | zero =>
      intro k r M H locs ls a0 x2 x3 x4 hk S hl h
      rw [wl_J16_fill_10] at h
      exact h.elim
    | succ n10 ih10 =>
      intro k r M H locs ls a0 x2 x3 x4 hk S hl h
      rw [wl_J16_fill_10] at h
      refine lv_iload hx hb dJ16_fill_10 (lv_at hl 3 rfl) ?_
      refine lv_iload_n hx hb dJ16_fill_12 rfl (lv_at hl 1 rfl) ?_
      refine lv_icmp_ge (tgt := 27) hx hb dJ16_fill_13 (by decide) (fun c9 => ?_) (fun c9 => ?_)
      · have h := h.1 c9
        exact mm_vret C S hr (Nat.le_trans (Nat.le_add_right _ _) hk) dJ16_fill_27 h
      · have h := h.2 c9
        refine lv_aload_n hx hb dJ16_fill_16 rfl (lv_at hl 0 rfl) ?_
        refine lv_iload hx hb dJ16_fill_17 (lv_at hl 3 rfl) ?_
        refine lv_iload_n hx hb dJ16_fill_19 rfl (lv_at hl 2 rfl) ?_
        refine mm_bast C S h dJ16_fill_20 (fun M3 H locs h S => ?_)
        refine lv_iinc (v := (x4 + 1)) (lv' := [(4, .int (x4 + 1)), (0, .ref a0), (2, .int x2), (3, .int x3)]) hx hb dJ16_fill_21 hl (k := 3) rfl rfl (by decide) rfl (fun ls hl => ?_)
        refine lv_goto (tgt := 10) hx hb dJ16_fill_24 (by decide) ?_
        exact ih10 _ _ _ _ _ _ _ _ _ _ hk S (lv_sub hl [1, 2, 3, 0] rfl) h
  unfold wp_J16_fill at h
  refine lv_aload_n hx hb dJ16_fill_0 rfl (lv_at hl 0 rfl) ?_
  refine mm_alen C S h dJ16_fill_1 (fun v1 h => ?_)
  refine lv_iload_n hx hb dJ16_fill_2 rfl (lv_at hl 1 rfl) ?_
  refine lv_iload_n hx hb dJ16_fill_3 rfl (lv_at hl 2 rfl) ?_
  refine mm_S (As := [.int v1, .int x1, .int x2]) (rest := []) C S hl.1 (wk_J16_rangeCheck hst0 h) (lw_S q1395 q1396 q69 q1397) pd_J16_rangeCheck ⟨Nat.le_of_ble_eq_true rfl, Nat.le_of_ble_eq_true rfl⟩ rfl rfl (Nat.le_of_ble_eq_true rfl) dJ16_fill_4 rfl rfl hk (Nat.zero_add _) (fun v9 M2 H locs hP S hk => ?_) (fun E q ce M9 H9 locs9 hX => hX.elim)
  obtain ⟨rfl, h⟩ := hP
  refine W.eq (g2 := F0 m 7 ls []) rfl ?_
  refine lv_iload_n hx hb dJ16_fill_7 rfl (lv_at hl 1 rfl) ?_
  refine lv_istore (lv' := [(4, .int x1), (0, .ref a0), (1, .int x1), (2, .int x2), (3, .int x3)]) hx hb dJ16_fill_8 hl (by decide) rfl (fun ls hl => ?_)
  obtain ⟨nf, h⟩ := h
  exact j10 nf _ _ _ _ _ _ _ _ _ _ hk S (lv_sub hl [1, 3, 4, 0] rfl) h
/-! J18_checkIndex: level 10 -/
def wb_J18_checkIndex_9 (G : mG) (P : Int32 → mM → Prop) (r : Nat) (M : mM) : Prop :=
  False
def wp_J18_checkIndex (G : mG) (b : Nat) (P : Int32 → mM → Prop) (M : mM) (x0 : Int32) (x1 : Int32) (o2 : Option Nat) : Prop :=
  (x0 < 0 → wb_J18_checkIndex_9 G P b M) ∧ (¬ x0 < 0 → (x0 < x1 → P x0 M) ∧ (¬ x0 < x1 → wb_J18_checkIndex_9 G P b M))
set_option maxHeartbeats 4000000 in
set_option maxRecDepth 100000 in
theorem wk_J18_checkIndex {l : Launch} (hst0 : l.stackTraces = false) {G : mG} {b : Nat} {P : Int32 → mM → Prop} {M : mM} {x0 : Int32} {x1 : Int32} {o2 : Option Nat} (h : wp_J18_checkIndex G b P M x0 x1 o2) : mMet l yJ18_checkIndex (ws_ yJ18_checkIndex cJ18_checkIndex 3 (Option.some Jvm.ClassFile.FieldType.int)) 10 b G [.int x0, .int x1, (va_rf o2)] M (mRi P) (fun _ _ _ => False) := by
  rcases o2 with _ | o2
  · refine mm_met hst0 (by decide) (Nat.le_of_ble_eq_true rfl) ?_
    intro p e s m args below meth c ls C hr hnt hnm hl S
    have hl : lv_has ls 3 [(0, .int x0), (1, .int x1), (2, .null)] := hl
    generalize mA M s.heap.size = A at C S ⊢
    have hx := C.hx
    have hb := C.hb
    have hk : 0 + b ≤ b := Nat.le_of_eq (Nat.zero_add b)
    have j9 : ∀ (k r : Nat) (M : mM) (H : Heap) (locs : List Loc) (ls : Array Slot), k + r ≤ b → mW G A s M H locs → lv_has ls 3 [] → wb_J18_checkIndex_9 G P r M → W p l e (mRm 10 b) s m args below meth c H locs k k (vx_MQ below (mQ G A (mRi P)) (mXC G A (fun _ _ _ => False)) args s b b A) (F0 m 9 ls []) := by
      intro k r M H locs ls  hk S hl h
      unfold wb_J18_checkIndex_9 at h
      exact h.elim
    unfold wp_J18_checkIndex at h
    refine lv_iload_n hx hb dJ18_checkIndex_0 rfl (lv_at hl 0 rfl) ?_
    refine lv_if_lt (tgt := 9) hx hb dJ18_checkIndex_1 (by decide) (fun c9 => ?_) (fun c9 => ?_)
    · have h := h.1 c9
      exact j9 _ _ _ _ _ _ hk S (lv_sub hl [] rfl) h
    · have h := h.2 c9
      refine lv_iload_n hx hb dJ18_checkIndex_4 rfl (lv_at hl 0 rfl) ?_
      refine lv_iload_n hx hb dJ18_checkIndex_5 rfl (lv_at hl 1 rfl) ?_
      refine lv_icmp_lt (tgt := 16) hx hb dJ18_checkIndex_6 (by decide) (fun c9 => ?_) (fun c9 => ?_)
      · have h := h.1 c9
        refine lv_iload_n hx hb dJ18_checkIndex_16 rfl (lv_at hl 0 rfl) ?_
        exact mm_iret C S hr (Nat.le_trans (Nat.le_add_right _ _) hk) dJ18_checkIndex_17 h
      · have h := h.2 c9
        exact j9 _ _ _ _ _ _ hk S (lv_sub hl [] rfl) h
  · refine mm_met hst0 (by decide) (Nat.le_of_ble_eq_true rfl) ?_
    intro p e s m args below meth c ls C hr hnt hnm hl S
    have hl : lv_has ls 3 [(0, .int x0), (1, .int x1), (2, .ref o2)] := hl
    generalize mA M s.heap.size = A at C S ⊢
    have hx := C.hx
    have hb := C.hb
    have hk : 0 + b ≤ b := Nat.le_of_eq (Nat.zero_add b)
    have j9 : ∀ (k r : Nat) (M : mM) (H : Heap) (locs : List Loc) (ls : Array Slot), k + r ≤ b → mW G A s M H locs → lv_has ls 3 [] → wb_J18_checkIndex_9 G P r M → W p l e (mRm 10 b) s m args below meth c H locs k k (vx_MQ below (mQ G A (mRi P)) (mXC G A (fun _ _ _ => False)) args s b b A) (F0 m 9 ls []) := by
      intro k r M H locs ls  hk S hl h
      unfold wb_J18_checkIndex_9 at h
      exact h.elim
    unfold wp_J18_checkIndex at h
    refine lv_iload_n hx hb dJ18_checkIndex_0 rfl (lv_at hl 0 rfl) ?_
    refine lv_if_lt (tgt := 9) hx hb dJ18_checkIndex_1 (by decide) (fun c9 => ?_) (fun c9 => ?_)
    · have h := h.1 c9
      exact j9 _ _ _ _ _ _ hk S (lv_sub hl [] rfl) h
    · have h := h.2 c9
      refine lv_iload_n hx hb dJ18_checkIndex_4 rfl (lv_at hl 0 rfl) ?_
      refine lv_iload_n hx hb dJ18_checkIndex_5 rfl (lv_at hl 1 rfl) ?_
      refine lv_icmp_lt (tgt := 16) hx hb dJ18_checkIndex_6 (by decide) (fun c9 => ?_) (fun c9 => ?_)
      · have h := h.1 c9
        refine lv_iload_n hx hb dJ18_checkIndex_16 rfl (lv_at hl 0 rfl) ?_
        exact mm_iret C S hr (Nat.le_trans (Nat.le_add_right _ _) hk) dJ18_checkIndex_17 h
      · have h := h.2 c9
        exact j9 _ _ _ _ _ _ hk S (lv_sub hl [] rfl) h
/-! J17_checkIndex: level 11 -/
def wp_J17_checkIndex (G : mG) (b : Nat) (P : Int32 → mM → Prop) (M : mM) (x0 : Int32) (x1 : Int32) : Prop :=
  wp_J18_checkIndex G 0 (fun v2 M1 => P v2 M1) M x0 x1 none
set_option maxHeartbeats 4000000 in
set_option maxRecDepth 100000 in
theorem wk_J17_checkIndex {l : Launch} (hst0 : l.stackTraces = false) {G : mG} {b : Nat} {P : Int32 → mM → Prop} {M : mM} {x0 : Int32} {x1 : Int32} (h : wp_J17_checkIndex G b P M x0 x1) : mMet l yJ17_checkIndex (ws_ yJ17_checkIndex cJ17_checkIndex 2 (Option.some Jvm.ClassFile.FieldType.int)) 11 b G [.int x0, .int x1] M (mRi P) (fun _ _ _ => False) := by
  refine mm_met hst0 (by decide) (Nat.le_of_ble_eq_true rfl) ?_
  intro p e s m args below meth c ls C hr hnt hnm hl S
  have hl : lv_has ls 2 [(0, .int x0), (1, .int x1)] := hl
  generalize mA M s.heap.size = A at C S ⊢
  have hx := C.hx
  have hb := C.hb
  have hk : 0 + b ≤ b := Nat.le_of_eq (Nat.zero_add b)
  unfold wp_J17_checkIndex at h
  refine lv_iload_n hx hb dJ17_checkIndex_0 rfl (lv_at hl 0 rfl) ?_
  refine lv_iload_n hx hb dJ17_checkIndex_1 rfl (lv_at hl 1 rfl) ?_
  refine lv_null hx hb dJ17_checkIndex_2 ?_
  refine mm_S (As := [.int x0, .int x1, .null]) (rest := []) C S hl.1 (wk_J18_checkIndex hst0 h) (lw_S q305 q306 q72 q307) pd_J18_checkIndex ⟨Nat.le_of_ble_eq_true rfl, Nat.le_of_ble_eq_true rfl⟩ rfl rfl (Nat.le_of_ble_eq_true rfl) dJ17_checkIndex_3 rfl rfl hk (Nat.zero_add _) (fun v9 M1 H locs hP S hk => ?_) (fun E q ce M9 H9 locs9 hX => hX.elim)
  obtain ⟨v2, rfl, h⟩ := hP
  refine W.eq (g2 := F0 m 6 ls [.int v2]) rfl ?_
  exact mm_iret C S hr (Nat.le_trans (Nat.le_add_right _ _) hk) dJ17_checkIndex_6 h
/-! J18_checkFromIndexSize: level 10 -/
def wb_J18_checkFromIndexSize_15 (G : mG) (P : Int32 → mM → Prop) (r : Nat) (M : mM) : Prop :=
  False
def wp_J18_checkFromIndexSize (G : mG) (b : Nat) (P : Int32 → mM → Prop) (M : mM) (x0 : Int32) (x1 : Int32) (x2 : Int32) (o3 : Option Nat) : Prop :=
  (((x2 ||| x0) ||| x1) < 0 → wb_J18_checkFromIndexSize_15 G P b M) ∧ (¬ ((x2 ||| x0) ||| x1) < 0 → (x1 ≤ (x2 - x0) → P x0 M) ∧ (¬ x1 ≤ (x2 - x0) → wb_J18_checkFromIndexSize_15 G P b M))
set_option maxHeartbeats 4000000 in
set_option maxRecDepth 100000 in
theorem wk_J18_checkFromIndexSize {l : Launch} (hst0 : l.stackTraces = false) {G : mG} {b : Nat} {P : Int32 → mM → Prop} {M : mM} {x0 : Int32} {x1 : Int32} {x2 : Int32} {o3 : Option Nat} (h : wp_J18_checkFromIndexSize G b P M x0 x1 x2 o3) : mMet l yJ18_checkFromIndexSize (ws_ yJ18_checkFromIndexSize cJ18_checkFromIndexSize 4 (Option.some Jvm.ClassFile.FieldType.int)) 10 b G [.int x0, .int x1, .int x2, (va_rf o3)] M (mRi P) (fun _ _ _ => False) := by
  rcases o3 with _ | o3
  · refine mm_met hst0 (by decide) (Nat.le_of_ble_eq_true rfl) ?_
    intro p e s m args below meth c ls C hr hnt hnm hl S
    have hl : lv_has ls 4 [(0, .int x0), (1, .int x1), (2, .int x2), (3, .null)] := hl
    generalize mA M s.heap.size = A at C S ⊢
    have hx := C.hx
    have hb := C.hb
    have hk : 0 + b ≤ b := Nat.le_of_eq (Nat.zero_add b)
    have j15 : ∀ (k r : Nat) (M : mM) (H : Heap) (locs : List Loc) (ls : Array Slot), k + r ≤ b → mW G A s M H locs → lv_has ls 4 [] → wb_J18_checkFromIndexSize_15 G P r M → W p l e (mRm 10 b) s m args below meth c H locs k k (vx_MQ below (mQ G A (mRi P)) (mXC G A (fun _ _ _ => False)) args s b b A) (F0 m 15 ls []) := by
      intro k r M H locs ls  hk S hl h
      unfold wb_J18_checkFromIndexSize_15 at h
      exact h.elim
    unfold wp_J18_checkFromIndexSize at h
    refine lv_iload_n hx hb dJ18_checkFromIndexSize_0 rfl (lv_at hl 2 rfl) ?_
    refine lv_iload_n hx hb dJ18_checkFromIndexSize_1 rfl (lv_at hl 0 rfl) ?_
    refine lv_ior hx hb dJ18_checkFromIndexSize_2 ?_
    refine lv_iload_n hx hb dJ18_checkFromIndexSize_3 rfl (lv_at hl 1 rfl) ?_
    refine lv_ior hx hb dJ18_checkFromIndexSize_4 ?_
    refine lv_if_lt (tgt := 15) hx hb dJ18_checkFromIndexSize_5 (by decide) (fun c9 => ?_) (fun c9 => ?_)
    · have h := h.1 c9
      exact j15 _ _ _ _ _ _ hk S (lv_sub hl [] rfl) h
    · have h := h.2 c9
      refine lv_iload_n hx hb dJ18_checkFromIndexSize_8 rfl (lv_at hl 1 rfl) ?_
      refine lv_iload_n hx hb dJ18_checkFromIndexSize_9 rfl (lv_at hl 2 rfl) ?_
      refine lv_iload_n hx hb dJ18_checkFromIndexSize_10 rfl (lv_at hl 0 rfl) ?_
      refine lv_isub hx hb dJ18_checkFromIndexSize_11 ?_
      refine lv_icmp_le (tgt := 23) hx hb dJ18_checkFromIndexSize_12 (by decide) (fun c9 => ?_) (fun c9 => ?_)
      · have h := h.1 c9
        refine lv_iload_n hx hb dJ18_checkFromIndexSize_23 rfl (lv_at hl 0 rfl) ?_
        exact mm_iret C S hr (Nat.le_trans (Nat.le_add_right _ _) hk) dJ18_checkFromIndexSize_24 h
      · have h := h.2 c9
        exact j15 _ _ _ _ _ _ hk S (lv_sub hl [] rfl) h
  · refine mm_met hst0 (by decide) (Nat.le_of_ble_eq_true rfl) ?_
    intro p e s m args below meth c ls C hr hnt hnm hl S
    have hl : lv_has ls 4 [(0, .int x0), (1, .int x1), (2, .int x2), (3, .ref o3)] := hl
    generalize mA M s.heap.size = A at C S ⊢
    have hx := C.hx
    have hb := C.hb
    have hk : 0 + b ≤ b := Nat.le_of_eq (Nat.zero_add b)
    have j15 : ∀ (k r : Nat) (M : mM) (H : Heap) (locs : List Loc) (ls : Array Slot), k + r ≤ b → mW G A s M H locs → lv_has ls 4 [] → wb_J18_checkFromIndexSize_15 G P r M → W p l e (mRm 10 b) s m args below meth c H locs k k (vx_MQ below (mQ G A (mRi P)) (mXC G A (fun _ _ _ => False)) args s b b A) (F0 m 15 ls []) := by
      intro k r M H locs ls  hk S hl h
      unfold wb_J18_checkFromIndexSize_15 at h
      exact h.elim
    unfold wp_J18_checkFromIndexSize at h
    refine lv_iload_n hx hb dJ18_checkFromIndexSize_0 rfl (lv_at hl 2 rfl) ?_
    refine lv_iload_n hx hb dJ18_checkFromIndexSize_1 rfl (lv_at hl 0 rfl) ?_
    refine lv_ior hx hb dJ18_checkFromIndexSize_2 ?_
    refine lv_iload_n hx hb dJ18_checkFromIndexSize_3 rfl (lv_at hl 1 rfl) ?_
    refine lv_ior hx hb dJ18_checkFromIndexSize_4 ?_
    refine lv_if_lt (tgt := 15) hx hb dJ18_checkFromIndexSize_5 (by decide) (fun c9 => ?_) (fun c9 => ?_)
    · have h := h.1 c9
      exact j15 _ _ _ _ _ _ hk S (lv_sub hl [] rfl) h
    · have h := h.2 c9
      refine lv_iload_n hx hb dJ18_checkFromIndexSize_8 rfl (lv_at hl 1 rfl) ?_
      refine lv_iload_n hx hb dJ18_checkFromIndexSize_9 rfl (lv_at hl 2 rfl) ?_
      refine lv_iload_n hx hb dJ18_checkFromIndexSize_10 rfl (lv_at hl 0 rfl) ?_
      refine lv_isub hx hb dJ18_checkFromIndexSize_11 ?_
      refine lv_icmp_le (tgt := 23) hx hb dJ18_checkFromIndexSize_12 (by decide) (fun c9 => ?_) (fun c9 => ?_)
      · have h := h.1 c9
        refine lv_iload_n hx hb dJ18_checkFromIndexSize_23 rfl (lv_at hl 0 rfl) ?_
        exact mm_iret C S hr (Nat.le_trans (Nat.le_add_right _ _) hk) dJ18_checkFromIndexSize_24 h
      · have h := h.2 c9
        exact j15 _ _ _ _ _ _ hk S (lv_sub hl [] rfl) h
/-! J18_checkFromToIndex: level 10 -/
def wb_J18_checkFromToIndex_14 (G : mG) (P : Int32 → mM → Prop) (r : Nat) (M : mM) : Prop :=
  False
def wp_J18_checkFromToIndex (G : mG) (b : Nat) (P : Int32 → mM → Prop) (M : mM) (x0 : Int32) (x1 : Int32) (x2 : Int32) (o3 : Option Nat) : Prop :=
  (x0 < 0 → wb_J18_checkFromToIndex_14 G P b M) ∧ (¬ x0 < 0 → (x1 < x0 → wb_J18_checkFromToIndex_14 G P b M) ∧ (¬ x1 < x0 → (x1 ≤ x2 → P x0 M) ∧ (¬ x1 ≤ x2 → wb_J18_checkFromToIndex_14 G P b M)))
set_option maxHeartbeats 4000000 in
set_option maxRecDepth 100000 in
theorem wk_J18_checkFromToIndex {l : Launch} (hst0 : l.stackTraces = false) {G : mG} {b : Nat} {P : Int32 → mM → Prop} {M : mM} {x0 : Int32} {x1 : Int32} {x2 : Int32} {o3 : Option Nat} (h : wp_J18_checkFromToIndex G b P M x0 x1 x2 o3) : mMet l yJ18_checkFromToIndex (ws_ yJ18_checkFromToIndex cJ18_checkFromToIndex 4 (Option.some Jvm.ClassFile.FieldType.int)) 10 b G [.int x0, .int x1, .int x2, (va_rf o3)] M (mRi P) (fun _ _ _ => False) := by
  rcases o3 with _ | o3
  · refine mm_met hst0 (by decide) (Nat.le_of_ble_eq_true rfl) ?_
    intro p e s m args below meth c ls C hr hnt hnm hl S
    have hl : lv_has ls 4 [(0, .int x0), (1, .int x1), (2, .int x2), (3, .null)] := hl
    generalize mA M s.heap.size = A at C S ⊢
    have hx := C.hx
    have hb := C.hb
    have hk : 0 + b ≤ b := Nat.le_of_eq (Nat.zero_add b)
    have j14 : ∀ (k r : Nat) (M : mM) (H : Heap) (locs : List Loc) (ls : Array Slot), k + r ≤ b → mW G A s M H locs → lv_has ls 4 [] → wb_J18_checkFromToIndex_14 G P r M → W p l e (mRm 10 b) s m args below meth c H locs k k (vx_MQ below (mQ G A (mRi P)) (mXC G A (fun _ _ _ => False)) args s b b A) (F0 m 14 ls []) := by
      intro k r M H locs ls  hk S hl h
      unfold wb_J18_checkFromToIndex_14 at h
      exact h.elim
    unfold wp_J18_checkFromToIndex at h
    refine lv_iload_n hx hb dJ18_checkFromToIndex_0 rfl (lv_at hl 0 rfl) ?_
    refine lv_if_lt (tgt := 14) hx hb dJ18_checkFromToIndex_1 (by decide) (fun c9 => ?_) (fun c9 => ?_)
    · have h := h.1 c9
      exact j14 _ _ _ _ _ _ hk S (lv_sub hl [] rfl) h
    · have h := h.2 c9
      refine lv_iload_n hx hb dJ18_checkFromToIndex_4 rfl (lv_at hl 0 rfl) ?_
      refine lv_iload_n hx hb dJ18_checkFromToIndex_5 rfl (lv_at hl 1 rfl) ?_
      refine lv_icmp_gt (tgt := 14) hx hb dJ18_checkFromToIndex_6 (by decide) (fun c9 => ?_) (fun c9 => ?_)
      · have h := h.1 c9
        exact j14 _ _ _ _ _ _ hk S (lv_sub hl [] rfl) h
      · have h := h.2 c9
        refine lv_iload_n hx hb dJ18_checkFromToIndex_9 rfl (lv_at hl 1 rfl) ?_
        refine lv_iload_n hx hb dJ18_checkFromToIndex_10 rfl (lv_at hl 2 rfl) ?_
        refine lv_icmp_le (tgt := 22) hx hb dJ18_checkFromToIndex_11 (by decide) (fun c9 => ?_) (fun c9 => ?_)
        · have h := h.1 c9
          refine lv_iload_n hx hb dJ18_checkFromToIndex_22 rfl (lv_at hl 0 rfl) ?_
          exact mm_iret C S hr (Nat.le_trans (Nat.le_add_right _ _) hk) dJ18_checkFromToIndex_23 h
        · have h := h.2 c9
          exact j14 _ _ _ _ _ _ hk S (lv_sub hl [] rfl) h
  · refine mm_met hst0 (by decide) (Nat.le_of_ble_eq_true rfl) ?_
    intro p e s m args below meth c ls C hr hnt hnm hl S
    have hl : lv_has ls 4 [(0, .int x0), (1, .int x1), (2, .int x2), (3, .ref o3)] := hl
    generalize mA M s.heap.size = A at C S ⊢
    have hx := C.hx
    have hb := C.hb
    have hk : 0 + b ≤ b := Nat.le_of_eq (Nat.zero_add b)
    have j14 : ∀ (k r : Nat) (M : mM) (H : Heap) (locs : List Loc) (ls : Array Slot), k + r ≤ b → mW G A s M H locs → lv_has ls 4 [] → wb_J18_checkFromToIndex_14 G P r M → W p l e (mRm 10 b) s m args below meth c H locs k k (vx_MQ below (mQ G A (mRi P)) (mXC G A (fun _ _ _ => False)) args s b b A) (F0 m 14 ls []) := by
      intro k r M H locs ls  hk S hl h
      unfold wb_J18_checkFromToIndex_14 at h
      exact h.elim
    unfold wp_J18_checkFromToIndex at h
    refine lv_iload_n hx hb dJ18_checkFromToIndex_0 rfl (lv_at hl 0 rfl) ?_
    refine lv_if_lt (tgt := 14) hx hb dJ18_checkFromToIndex_1 (by decide) (fun c9 => ?_) (fun c9 => ?_)
    · have h := h.1 c9
      exact j14 _ _ _ _ _ _ hk S (lv_sub hl [] rfl) h
    · have h := h.2 c9
      refine lv_iload_n hx hb dJ18_checkFromToIndex_4 rfl (lv_at hl 0 rfl) ?_
      refine lv_iload_n hx hb dJ18_checkFromToIndex_5 rfl (lv_at hl 1 rfl) ?_
      refine lv_icmp_gt (tgt := 14) hx hb dJ18_checkFromToIndex_6 (by decide) (fun c9 => ?_) (fun c9 => ?_)
      · have h := h.1 c9
        exact j14 _ _ _ _ _ _ hk S (lv_sub hl [] rfl) h
      · have h := h.2 c9
        refine lv_iload_n hx hb dJ18_checkFromToIndex_9 rfl (lv_at hl 1 rfl) ?_
        refine lv_iload_n hx hb dJ18_checkFromToIndex_10 rfl (lv_at hl 2 rfl) ?_
        refine lv_icmp_le (tgt := 22) hx hb dJ18_checkFromToIndex_11 (by decide) (fun c9 => ?_) (fun c9 => ?_)
        · have h := h.1 c9
          refine lv_iload_n hx hb dJ18_checkFromToIndex_22 rfl (lv_at hl 0 rfl) ?_
          exact mm_iret C S hr (Nat.le_trans (Nat.le_add_right _ _) hk) dJ18_checkFromToIndex_23 h
        · have h := h.2 c9
          exact j14 _ _ _ _ _ _ hk S (lv_sub hl [] rfl) h
/-! J19_canEncode: level 10 -/
def wb_J19_canEncode_12 (G : mG) (P : Int32 → mM → Prop) (r : Nat) (M : mM) (s0 : Int32) : Prop :=
  narrow .boolean (.int s0) = .int s0 ∧ P s0 M
def wp_J19_canEncode (G : mG) (b : Nat) (P : Int32 → mM → Prop) (M : mM) (x0 : Int32) : Prop :=
  (255 < x0 → wb_J19_canEncode_12 G P b M 0) ∧ (¬ 255 < x0 → wb_J19_canEncode_12 G P b M 1)
set_option maxHeartbeats 4000000 in
set_option maxRecDepth 100000 in
theorem wk_J19_canEncode {l : Launch} (hst0 : l.stackTraces = false) {G : mG} {b : Nat} {P : Int32 → mM → Prop} {M : mM} {x0 : Int32} (h : wp_J19_canEncode G b P M x0) : mMet l yJ19_canEncode (ws_ yJ19_canEncode cJ19_canEncode 1 (Option.some Jvm.ClassFile.FieldType.boolean)) 10 b G [.int x0] M (mRi P) (fun _ _ _ => False) := by
  refine mm_met hst0 (by decide) (Nat.le_of_ble_eq_true rfl) ?_
  intro p e s m args below meth c ls C hr hnt hnm hl S
  have hl : lv_has ls 1 [(0, .int x0)] := hl
  generalize mA M s.heap.size = A at C S ⊢
  have hx := C.hx
  have hb := C.hb
  have hk : 0 + b ≤ b := Nat.le_of_eq (Nat.zero_add b)
  have j12 : ∀ (k r : Nat) (M : mM) (H : Heap) (locs : List Loc) (ls : Array Slot) (s0 : Int32), k + r ≤ b → mW G A s M H locs → lv_has ls 1 [] → wb_J19_canEncode_12 G P r M s0 → W p l e (mRm 10 b) s m args below meth c H locs k k (vx_MQ below (mQ G A (mRi P)) (mXC G A (fun _ _ _ => False)) args s b b A) (F0 m 12 ls [.int s0]) := by
    intro k r M H locs ls s0 hk S hl h
    unfold wb_J19_canEncode_12 at h
    exact mm_zret C S hr (Nat.le_trans (Nat.le_add_right _ _) hk) dJ19_canEncode_12 h
  unfold wp_J19_canEncode at h
  refine lv_iload_n hx hb dJ19_canEncode_0 rfl (lv_at hl 0 rfl) ?_
  refine lv_sipush (v := 255) hx hb dJ19_canEncode_1 (by decide) ?_
  refine lv_icmp_gt (tgt := 11) hx hb dJ19_canEncode_4 (by decide) (fun c9 => ?_) (fun c9 => ?_)
  · have h := h.1 c9
    refine lv_iconst (v := 0) hx hb dJ19_canEncode_11 (by decide) ?_
    exact j12 _ _ _ _ _ _ _ hk S (lv_sub hl [] rfl) h
  · have h := h.2 c9
    refine lv_iconst (v := 1) hx hb dJ19_canEncode_7 (by decide) ?_
    refine lv_goto (tgt := 12) hx hb dJ19_canEncode_8 (by decide) ?_
    exact j12 _ _ _ _ _ _ _ hk S (lv_sub hl [] rfl) h
/-! J19_canEncode_2: level 10 -/
def wb_J19_canEncode_2_16 (G : mG) (P : Int32 → mM → Prop) (r : Nat) (M : mM) (s0 : Int32) : Prop :=
  narrow .boolean (.int s0) = .int s0 ∧ P s0 M
def wb_J19_canEncode_2_15 (G : mG) (P : Int32 → mM → Prop) (r : Nat) (M : mM) : Prop :=
  wb_J19_canEncode_2_16 G P r M 0
def wp_J19_canEncode_2 (G : mG) (b : Nat) (P : Int32 → mM → Prop) (M : mM) (x0 : Int32) : Prop :=
  (x0 < 0 → wb_J19_canEncode_2_15 G P b M) ∧ (¬ x0 < 0 → (255 < x0 → wb_J19_canEncode_2_15 G P b M) ∧ (¬ 255 < x0 → wb_J19_canEncode_2_16 G P b M 1))
set_option maxHeartbeats 4000000 in
set_option maxRecDepth 100000 in
theorem wk_J19_canEncode_2 {l : Launch} (hst0 : l.stackTraces = false) {G : mG} {b : Nat} {P : Int32 → mM → Prop} {M : mM} {x0 : Int32} (h : wp_J19_canEncode_2 G b P M x0) : mMet l yJ19_canEncode_2 (ws_ yJ19_canEncode_2 cJ19_canEncode_2 1 (Option.some Jvm.ClassFile.FieldType.boolean)) 10 b G [.int x0] M (mRi P) (fun _ _ _ => False) := by
  refine mm_met hst0 (by decide) (Nat.le_of_ble_eq_true rfl) ?_
  intro p e s m args below meth c ls C hr hnt hnm hl S
  have hl : lv_has ls 1 [(0, .int x0)] := hl
  generalize mA M s.heap.size = A at C S ⊢
  have hx := C.hx
  have hb := C.hb
  have hk : 0 + b ≤ b := Nat.le_of_eq (Nat.zero_add b)
  have j16 : ∀ (k r : Nat) (M : mM) (H : Heap) (locs : List Loc) (ls : Array Slot) (s0 : Int32), k + r ≤ b → mW G A s M H locs → lv_has ls 1 [] → wb_J19_canEncode_2_16 G P r M s0 → W p l e (mRm 10 b) s m args below meth c H locs k k (vx_MQ below (mQ G A (mRi P)) (mXC G A (fun _ _ _ => False)) args s b b A) (F0 m 16 ls [.int s0]) := by
    intro k r M H locs ls s0 hk S hl h
    unfold wb_J19_canEncode_2_16 at h
    exact mm_zret C S hr (Nat.le_trans (Nat.le_add_right _ _) hk) dJ19_canEncode_2_16 h
  have j15 : ∀ (k r : Nat) (M : mM) (H : Heap) (locs : List Loc) (ls : Array Slot), k + r ≤ b → mW G A s M H locs → lv_has ls 1 [] → wb_J19_canEncode_2_15 G P r M → W p l e (mRm 10 b) s m args below meth c H locs k k (vx_MQ below (mQ G A (mRi P)) (mXC G A (fun _ _ _ => False)) args s b b A) (F0 m 15 ls []) := by
    intro k r M H locs ls  hk S hl h
    unfold wb_J19_canEncode_2_15 at h
    refine lv_iconst (v := 0) hx hb dJ19_canEncode_2_15 (by decide) ?_
    exact j16 _ _ _ _ _ _ _ hk S hl h
  unfold wp_J19_canEncode_2 at h
  refine lv_iload_n hx hb dJ19_canEncode_2_0 rfl (lv_at hl 0 rfl) ?_
  refine lv_if_lt (tgt := 15) hx hb dJ19_canEncode_2_1 (by decide) (fun c9 => ?_) (fun c9 => ?_)
  · have h := h.1 c9
    exact j15 _ _ _ _ _ _ hk S (lv_sub hl [] rfl) h
  · have h := h.2 c9
    refine lv_iload_n hx hb dJ19_canEncode_2_4 rfl (lv_at hl 0 rfl) ?_
    refine lv_sipush (v := 255) hx hb dJ19_canEncode_2_5 (by decide) ?_
    refine lv_icmp_gt (tgt := 15) hx hb dJ19_canEncode_2_8 (by decide) (fun c9 => ?_) (fun c9 => ?_)
    · have h := h.1 c9
      exact j15 _ _ _ _ _ _ hk S (lv_sub hl [] rfl) h
    · have h := h.2 c9
      refine lv_iconst (v := 1) hx hb dJ19_canEncode_2_11 (by decide) ?_
      refine lv_goto (tgt := 16) hx hb dJ19_canEncode_2_12 (by decide) ?_
      exact j16 _ _ _ _ _ _ _ hk S (lv_sub hl [] rfl) h
/-! J5_checkIndex: level 11 -/
def wp_J5_checkIndex (G : mG) (b : Nat) (P : mM → Prop) (M : mM) (x0 : Int32) (x1 : Int32) : Prop :=
  ∀ o1 : Option Nat, wp_J18_checkIndex G 0 (fun v3 M2 => P M2) M x0 x1 o1
set_option maxHeartbeats 4000000 in
set_option maxRecDepth 100000 in
theorem wk_J5_checkIndex {l : Launch} (hst0 : l.stackTraces = false) {G : mG} {b : Nat} {P : mM → Prop} {M : mM} {x0 : Int32} {x1 : Int32} (h : wp_J5_checkIndex G b P M x0 x1) : mMet l yJ5_checkIndex (ws_ yJ5_checkIndex cJ5_checkIndex 2 (Option.none : Option Jvm.ClassFile.FieldType)) 11 b G [.int x0, .int x1] M (mRv P) (fun _ _ _ => False) := by
  refine mm_met hst0 (by decide) (Nat.le_of_ble_eq_true rfl) ?_
  intro p e s m args below meth c ls C hr hnt hnm hl S
  have hl : lv_has ls 2 [(0, .int x0), (1, .int x1)] := hl
  generalize mA M s.heap.size = A at C S ⊢
  have hx := C.hx
  have hb := C.hb
  have hk : 0 + b ≤ b := Nat.le_of_eq (Nat.zero_add b)
  unfold wp_J5_checkIndex at h
  refine lv_iload_n hx hb dJ5_checkIndex_0 rfl (lv_at hl 0 rfl) ?_
  refine lv_iload_n hx hb dJ5_checkIndex_1 rfl (lv_at hl 1 rfl) ?_
  refine mm_getsQ C S C.ks.2.2.2.2.2.2 q813 (fun _ h9 => h9) dJ5_checkIndex_2 h (fun o1 h => ?_)
  refine mm_S (As := [.int x0, .int x1, (va_rf o1)]) (rest := []) C S hl.1 (wk_J18_checkIndex hst0 h) (lw_S q836 q306 q72 q307) pd_J18_checkIndex ⟨Nat.le_of_ble_eq_true rfl, Nat.le_of_ble_eq_true rfl⟩ rfl rfl (Nat.le_of_ble_eq_true rfl) dJ5_checkIndex_5 rfl rfl hk (Nat.zero_add _) (fun v9 M2 H locs hP S hk => ?_) (fun E q ce M9 H9 locs9 hX => hX.elim)
  obtain ⟨v3, rfl, h⟩ := hP
  refine W.eq (g2 := F0 m 8 ls [.int v3]) rfl ?_
  refine lv_pop hx hb dJ5_checkIndex_8 rfl ?_
  exact mm_vret C S hr (Nat.le_trans (Nat.le_add_right _ _) hk) dJ5_checkIndex_9 h
/-! J19_charAt: level 12 -/
def wp_J19_charAt (G : mG) (b : Nat) (P : Int32 → mM → Prop) (M : mM) (a0 : Nat) (x1 : Int32) : Prop :=
  aln M a0 fun v1 => wp_J5_checkIndex G 0 (fun M2 => ldi M2 3 a0 x1 fun v3 => narrow .char (.int (((v3 &&& 255).toUInt32 % 65536).toInt32)) = .int (((v3 &&& 255).toUInt32 % 65536).toInt32) ∧ P (((v3 &&& 255).toUInt32 % 65536).toInt32) M2) M x1 v1
set_option maxHeartbeats 4000000 in
set_option maxRecDepth 100000 in
theorem wk_J19_charAt {l : Launch} (hst0 : l.stackTraces = false) {G : mG} {b : Nat} {P : Int32 → mM → Prop} {M : mM} {a0 : Nat} {x1 : Int32} (h : wp_J19_charAt G b P M a0 x1) : mMet l yJ19_charAt (ws_ yJ19_charAt cJ19_charAt 2 (Option.some Jvm.ClassFile.FieldType.char)) 12 b G [.ref a0, .int x1] M (mRi P) (fun _ _ _ => False) := by
  refine mm_met hst0 (by decide) (Nat.le_of_ble_eq_true rfl) ?_
  intro p e s m args below meth c ls C hr hnt hnm hl S
  have hl : lv_has ls 2 [(0, .ref a0), (1, .int x1)] := hl
  generalize mA M s.heap.size = A at C S ⊢
  have hx := C.hx
  have hb := C.hb
  have hk : 0 + b ≤ b := Nat.le_of_eq (Nat.zero_add b)
  unfold wp_J19_charAt at h
  refine lv_iload_n hx hb dJ19_charAt_0 rfl (lv_at hl 1 rfl) ?_
  refine lv_aload_n hx hb dJ19_charAt_1 rfl (lv_at hl 0 rfl) ?_
  refine mm_alen C S h dJ19_charAt_2 (fun v1 h => ?_)
  refine mm_S (As := [.int x1, .int v1]) (rest := []) C S hl.1 (wk_J5_checkIndex hst0 h) (lw_S q974 q834 q54 q835) pd_J5_checkIndex ⟨Nat.le_of_ble_eq_true rfl, Nat.le_of_ble_eq_true rfl⟩ rfl rfl (Nat.le_of_ble_eq_true rfl) dJ19_charAt_3 rfl rfl hk (Nat.zero_add _) (fun v9 M2 H locs hP S hk => ?_) (fun E q ce M9 H9 locs9 hX => hX.elim)
  obtain ⟨rfl, h⟩ := hP
  refine W.eq (g2 := F0 m 6 ls []) rfl ?_
  refine lv_aload_n hx hb dJ19_charAt_6 rfl (lv_at hl 0 rfl) ?_
  refine lv_iload_n hx hb dJ19_charAt_7 rfl (lv_at hl 1 rfl) ?_
  refine mm_bald C S h dJ19_charAt_8 (fun v3 h => ?_)
  refine lv_sipush (v := 255) hx hb dJ19_charAt_9 (by decide) ?_
  refine lv_iand hx hb dJ19_charAt_12 ?_
  refine lv_i2c hx hb dJ19_charAt_13 rfl ?_
  exact mm_zret C S hr (Nat.le_trans (Nat.le_add_right _ _) hk) dJ19_charAt_14 h
/-! J19_fillNull: level 12 -/
def wp_J19_fillNull (G : mG) (b : Nat) (P : mM → Prop) (M : mM) (a0 : Nat) (x1 : Int32) (x2 : Int32) : Prop :=
  wp_J16_fill G 0 (fun M1 => P M1) M a0 x1 x2 0
set_option maxHeartbeats 4000000 in
set_option maxRecDepth 100000 in
theorem wk_J19_fillNull {l : Launch} (hst0 : l.stackTraces = false) {G : mG} {b : Nat} {P : mM → Prop} {M : mM} {a0 : Nat} {x1 : Int32} {x2 : Int32} (h : wp_J19_fillNull G b P M a0 x1 x2) : mMet l yJ19_fillNull (ws_ yJ19_fillNull cJ19_fillNull 3 (Option.none : Option Jvm.ClassFile.FieldType)) 12 b G [.ref a0, .int x1, .int x2] M (mRv P) (fun _ _ _ => False) := by
  refine mm_met hst0 (by decide) (Nat.le_of_ble_eq_true rfl) ?_
  intro p e s m args below meth c ls C hr hnt hnm hl S
  have hl : lv_has ls 3 [(0, .ref a0), (1, .int x1), (2, .int x2)] := hl
  generalize mA M s.heap.size = A at C S ⊢
  have hx := C.hx
  have hb := C.hb
  have hk : 0 + b ≤ b := Nat.le_of_eq (Nat.zero_add b)
  unfold wp_J19_fillNull at h
  refine lv_aload_n hx hb dJ19_fillNull_0 rfl (lv_at hl 0 rfl) ?_
  refine lv_iload_n hx hb dJ19_fillNull_1 rfl (lv_at hl 1 rfl) ?_
  refine lv_iload_n hx hb dJ19_fillNull_2 rfl (lv_at hl 2 rfl) ?_
  refine lv_iconst (v := 0) hx hb dJ19_fillNull_3 (by decide) ?_
  refine mm_S (As := [.ref a0, .int x1, .int x2, .int 0]) (rest := []) C S hl.1 (wk_J16_fill hst0 h) (lw_S q1392 q1393 q69 q1394) pd_J16_fill ⟨Nat.le_of_ble_eq_true rfl, Nat.le_of_ble_eq_true rfl⟩ rfl rfl (Nat.le_of_ble_eq_true rfl) dJ19_fillNull_4 rfl rfl hk (Nat.zero_add _) (fun v9 M1 H locs hP S hk => ?_) (fun E q ce M9 H9 locs9 hX => hX.elim)
  obtain ⟨rfl, h⟩ := hP
  refine W.eq (g2 := F0 m 7 ls []) rfl ?_
  exact mm_vret C S hr (Nat.le_trans (Nat.le_add_right _ _) hk) dJ19_fillNull_7 h
/-! J19_indexOfChar: level 10 -/
def wl_J19_indexOfChar_7 (G : mG) (P : Int32 → mM → Prop) : Nat → Nat → mM → Nat → Int32 → Int32 → Int32 → Prop
  | 0, _, _, _, _, _, _ => False
  | n + 1, r, M, a0, x3, x4, x5 => (x3 ≤ x5 → P (-1) M) ∧ (¬ x3 ≤ x5 → ldi M 3 a0 x5 fun v1 => (¬ v1 = x4 → (wl_J19_indexOfChar_7 G P n) r M a0 x3 x4 (x5 + 1)) ∧ (v1 = x4 → P x5 M))
def wp_J19_indexOfChar (G : mG) (b : Nat) (P : Int32 → mM → Prop) (M : mM) (a0 : Nat) (x1 : Int32) (x2 : Int32) (x3 : Int32) : Prop :=
  ∃ n7, wl_J19_indexOfChar_7 G P n7 b M a0 x3 x1.toInt8.toInt32 x2
set_option maxHeartbeats 4000000 in
set_option maxRecDepth 100000 in
theorem wk_J19_indexOfChar {l : Launch} (hst0 : l.stackTraces = false) {G : mG} {b : Nat} {P : Int32 → mM → Prop} {M : mM} {a0 : Nat} {x1 : Int32} {x2 : Int32} {x3 : Int32} (h : wp_J19_indexOfChar G b P M a0 x1 x2 x3) : mMet l yJ19_indexOfChar (ws_ yJ19_indexOfChar cJ19_indexOfChar 6 (Option.some Jvm.ClassFile.FieldType.int)) 10 b G [.ref a0, .int x1, .int x2, .int x3] M (mRi P) (fun _ _ _ => False) := by
  refine mm_met hst0 (by decide) (Nat.le_of_ble_eq_true rfl) ?_
  intro p e s m args below meth c ls C hr hnt hnm hl S
  have hl : lv_has ls 6 [(0, .ref a0), (1, .int x1), (2, .int x2), (3, .int x3)] := hl
  generalize mA M s.heap.size = A at C S ⊢
  have hx := C.hx
  have hb := C.hb
  have hk : 0 + b ≤ b := Nat.le_of_eq (Nat.zero_add b)
  have j7 : ∀ (nf : Nat) (k r : Nat) (M : mM) (H : Heap) (locs : List Loc) (ls : Array Slot) (a0 : Nat) (x3 : Int32) (x4 : Int32) (x5 : Int32), k + r ≤ b → mW G A s M H locs → lv_has ls 6 [(0, .ref a0), (3, .int x3), (4, .int x4), (5, .int x5)] → wl_J19_indexOfChar_7 G P nf r M a0 x3 x4 x5 → W p l e (mRm 10 b) s m args below meth c H locs k k (vx_MQ below (mQ G A (mRi P)) (mXC G A (fun _ _ _ => False)) args s b b A) (F0 m 7 ls []) := by
    intro nf
    induction nf with
    | zero =>
      intro k r M H locs ls a0 x3 x4 x5 hk S hl h
      rw [wl_J19_indexOfChar_7] at h
      exact h.elim
    | succ n7 ih7 =>
      intro k r M H locs ls a0 x3 x4 x5 hk S hl h
      rw [wl_J19_indexOfChar_7] at h
      refine lv_iload hx hb dJ19_indexOfChar_7 (lv_at hl 3 rfl) ?_
      refine lv_iload_n hx hb dJ19_indexOfChar_9 rfl (lv_at hl 1 rfl) ?_
      refine lv_icmp_ge (tgt := 31) hx hb dJ19_indexOfChar_10 (by decide) (fun c9 => ?_) (fun c9 => ?_)
      · have h := h.1 c9
        refine lv_iconst (v := (-1)) hx hb dJ19_indexOfChar_31 (by decide) ?_
        exact mm_iret C S hr (Nat.le_trans (Nat.le_add_right _ _) hk) dJ19_indexOfChar_32 h
      · have h := h.2 c9
        refine lv_aload_n hx hb dJ19_indexOfChar_13 rfl (lv_at hl 0 rfl) ?_
        refine lv_iload hx hb dJ19_indexOfChar_14 (lv_at hl 3 rfl) ?_
        refine mm_bald C S h dJ19_indexOfChar_16 (fun v1 h => ?_)
        refine lv_iload hx hb dJ19_indexOfChar_17 (lv_at hl 2 rfl) ?_
        refine lv_icmp_ne (tgt := 25) hx hb dJ19_indexOfChar_19 (by decide) (fun c9 => ?_) (fun c9 => ?_)
        · have h := h.1 c9
          refine lv_iinc (v := (x5 + 1)) (lv' := [(5, .int (x5 + 1)), (0, .ref a0), (3, .int x3), (4, .int x4)]) hx hb dJ19_indexOfChar_25 hl (k := 3) rfl rfl (by decide) rfl (fun ls hl => ?_)
          refine lv_goto (tgt := 7) hx hb dJ19_indexOfChar_28 (by decide) ?_
          exact ih7 _ _ _ _ _ _ _ _ _ _ hk S (lv_sub hl [1, 2, 3, 0] rfl) h
        · have h := h.2 c9
          refine lv_iload hx hb dJ19_indexOfChar_22 (lv_at hl 3 rfl) ?_
          exact mm_iret C S hr (Nat.le_trans (Nat.le_add_right _ _) hk) dJ19_indexOfChar_24 h
  unfold wp_J19_indexOfChar at h
  refine lv_iload_n hx hb dJ19_indexOfChar_0 rfl (lv_at hl 1 rfl) ?_
  refine lv_i2b hx hb dJ19_indexOfChar_1 rfl ?_
  refine lv_istore (lv' := [(4, .int x1.toInt8.toInt32), (0, .ref a0), (1, .int x1), (2, .int x2), (3, .int x3)]) hx hb dJ19_indexOfChar_2 hl (by decide) rfl (fun ls hl => ?_)
  refine lv_iload_n hx hb dJ19_indexOfChar_4 rfl (lv_at hl 3 rfl) ?_
  refine lv_istore (lv' := [(5, .int x2), (4, .int x1.toInt8.toInt32), (0, .ref a0), (1, .int x1), (2, .int x2), (3, .int x3)]) hx hb dJ19_indexOfChar_5 hl (by decide) rfl (fun ls hl => ?_)
  obtain ⟨nf, h⟩ := h
  exact j7 nf _ _ _ _ _ _ _ _ _ _ hk S (lv_sub hl [2, 5, 1, 0] rfl) h
/-! J19_indexOf: level 11 -/
def wp_J19_indexOf (G : mG) (b : Nat) (P : Int32 → mM → Prop) (M : mM) (a0 : Nat) (x1 : Int32) (x2 : Int32) (x3 : Int32) : Prop :=
  wp_J19_canEncode_2 G 0 (fun v2 M1 => (¬ v2 = 0 → ∀ g3 : Int32, g3 = (if x2 < 0 then 0 else x2) → aln M1 a0 fun v4 => ∀ g5 : Int32, g5 = (if v4 < x3 then v4 else x3) → (g3 < g5 → wp_J19_indexOfChar G 0 (fun v7 M6 => P v7 M6) M1 a0 x1 g3 g5) ∧ (¬ g3 < g5 → P (-1) M1)) ∧ (v2 = 0 → P (-1) M1)) M x1
set_option maxHeartbeats 4000000 in
set_option maxRecDepth 100000 in
theorem wk_J19_indexOf {l : Launch} (hst0 : l.stackTraces = false) {G : mG} {b : Nat} {P : Int32 → mM → Prop} {M : mM} {a0 : Nat} {x1 : Int32} {x2 : Int32} {x3 : Int32} (h : wp_J19_indexOf G b P M a0 x1 x2 x3) : mMet l yJ19_indexOf (ws_ yJ19_indexOf cJ19_indexOf 4 (Option.some Jvm.ClassFile.FieldType.int)) 11 b G [.ref a0, .int x1, .int x2, .int x3] M (mRi P) (fun _ _ _ => False) := by
  refine mm_met hst0 (by decide) (Nat.le_of_ble_eq_true rfl) ?_
  intro p e s m args below meth c ls C hr hnt hnm hl S
  have hl : lv_has ls 4 [(0, .ref a0), (1, .int x1), (2, .int x2), (3, .int x3)] := hl
  generalize mA M s.heap.size = A at C S ⊢
  have hx := C.hx
  have hb := C.hb
  have hk : 0 + b ≤ b := Nat.le_of_eq (Nat.zero_add b)
  unfold wp_J19_indexOf at h
  refine lv_iload_n hx hb dJ19_indexOf_0 rfl (lv_at hl 1 rfl) ?_
  refine mm_S (As := [.int x1]) (rest := []) C S hl.1 (wk_J19_canEncode_2 hst0 h) (lw_S q1166 q1167 q73 q1168) pd_J19_canEncode_2 ⟨Nat.le_of_ble_eq_true rfl, Nat.le_of_ble_eq_true rfl⟩ rfl rfl (Nat.le_of_ble_eq_true rfl) dJ19_indexOf_1 rfl rfl hk (Nat.zero_add _) (fun v9 M1 H locs hP S hk => ?_) (fun E q ce M9 H9 locs9 hX => hX.elim)
  obtain ⟨v2, rfl, h⟩ := hP
  refine W.eq (g2 := F0 m 4 ls [.int v2]) rfl ?_
  refine lv_if_ne (tgt := 9) hx hb dJ19_indexOf_4 (by decide) (fun c9 => ?_) (fun c9 => ?_)
  · have h := h.1 c9
    refine lv_iload_n hx hb dJ19_indexOf_9 rfl (lv_at hl 2 rfl) ?_
    refine lv_iconst (v := 0) hx hb dJ19_indexOf_10 (by decide) ?_
    refine mm_max C hl.1 q1169 q328 q68 q329 (Nat.le_of_ble_eq_true rfl) (Nat.le_of_ble_eq_true rfl) (Nat.le_trans (Nat.le_add_right _ _) hk) (Nat.le_trans (Nat.le_add_right _ _) hk) dJ19_indexOf_11 ?_
    refine lv_topi (fun g3 eg3 => ?_)
    have h := h g3 eg3
    refine lv_istore_n (lv' := [(2, .int g3), (0, .ref a0), (1, .int x1), (3, .int x3)]) hx hb dJ19_indexOf_14 rfl hl (by decide) rfl (fun ls hl => ?_)
    refine lv_iload_n hx hb dJ19_indexOf_15 rfl (lv_at hl 3 rfl) ?_
    refine lv_aload_n hx hb dJ19_indexOf_16 rfl (lv_at hl 1 rfl) ?_
    refine mm_alen C S h dJ19_indexOf_17 (fun v4 h => ?_)
    refine mm_min C hl.1 q1170 q331 q68 q332 (Nat.le_of_ble_eq_true rfl) (Nat.le_of_ble_eq_true rfl) (Nat.le_trans (Nat.le_add_right _ _) hk) (Nat.le_trans (Nat.le_add_right _ _) hk) dJ19_indexOf_18 ?_
    refine lv_topi (fun g5 eg5 => ?_)
    have h := h g5 eg5
    refine lv_istore_n (lv' := [(3, .int g5), (2, .int g3), (0, .ref a0), (1, .int x1)]) hx hb dJ19_indexOf_21 rfl hl (by decide) rfl (fun ls hl => ?_)
    refine lv_iload_n hx hb dJ19_indexOf_22 rfl (lv_at hl 1 rfl) ?_
    refine lv_iload_n hx hb dJ19_indexOf_23 rfl (lv_at hl 0 rfl) ?_
    refine lv_icmp_lt (tgt := 29) hx hb dJ19_indexOf_24 (by decide) (fun c9 => ?_) (fun c9 => ?_)
    · have h := h.1 c9
      refine lv_aload_n hx hb dJ19_indexOf_29 rfl (lv_at hl 2 rfl) ?_
      refine lv_iload_n hx hb dJ19_indexOf_30 rfl (lv_at hl 3 rfl) ?_
      refine lv_iload_n hx hb dJ19_indexOf_31 rfl (lv_at hl 1 rfl) ?_
      refine lv_iload_n hx hb dJ19_indexOf_32 rfl (lv_at hl 0 rfl) ?_
      refine mm_S (As := [.ref a0, .int x1, .int g3, .int g5]) (rest := []) C S hl.1 (wk_J19_indexOfChar hst0 h) (lw_S q1171 q1172 q73 q1173) pd_J19_indexOfChar ⟨Nat.le_of_ble_eq_true rfl, Nat.le_of_ble_eq_true rfl⟩ rfl rfl (Nat.le_of_ble_eq_true rfl) dJ19_indexOf_33 rfl rfl hk (Nat.zero_add _) (fun v9 M6 H locs hP S hk => ?_) (fun E q ce M9 H9 locs9 hX => hX.elim)
      obtain ⟨v7, rfl, h⟩ := hP
      refine W.eq (g2 := F0 m 36 ls [.int v7]) rfl ?_
      exact mm_iret C S hr (Nat.le_trans (Nat.le_add_right _ _) hk) dJ19_indexOf_36 h
    · have h := h.2 c9
      refine lv_iconst (v := (-1)) hx hb dJ19_indexOf_27 (by decide) ?_
      exact mm_iret C S hr (Nat.le_trans (Nat.le_add_right _ _) hk) dJ19_indexOf_28 h
  · have h := h.2 c9
    refine lv_iconst (v := (-1)) hx hb dJ19_indexOf_7 (by decide) ?_
    exact mm_iret C S hr (Nat.le_trans (Nat.le_add_right _ _) hk) dJ19_indexOf_8 h
/-! J19_inflate: level 10 -/
def wp_J19_inflate (G : mG) (b : Nat) (P : mM → Prop) (M : mM) (a0 : Nat) (x1 : Int32) (a2 : Nat) (x3 : Int32) (x4 : Int32) : Prop :=
  False
set_option maxHeartbeats 4000000 in
set_option maxRecDepth 100000 in
theorem wk_J19_inflate {l : Launch} (hst0 : l.stackTraces = false) {G : mG} {b : Nat} {P : mM → Prop} {M : mM} {a0 : Nat} {x1 : Int32} {a2 : Nat} {x3 : Int32} {x4 : Int32} (h : wp_J19_inflate G b P M a0 x1 a2 x3 x4) : mMet l yJ19_inflate (ws_ yJ19_inflate cJ19_inflate 5 (Option.none : Option Jvm.ClassFile.FieldType)) 10 b G [.ref a0, .int x1, .ref a2, .int x3, .int x4] M (mRv P) (fun _ _ _ => False) := by
  refine mm_met hst0 (by decide) (Nat.le_of_ble_eq_true rfl) ?_
  intro p e s m args below meth c ls C hr hnt hnm hl S
  have hl : lv_has ls 5 [(0, .ref a0), (1, .int x1), (2, .ref a2), (3, .int x3), (4, .int x4)] := hl
  generalize mA M s.heap.size = A at C S ⊢
  have hx := C.hx
  have hb := C.hb
  have hk : 0 + b ≤ b := Nat.le_of_eq (Nat.zero_add b)
  unfold wp_J19_inflate at h
  refine lv_aload_n hx hb dJ19_inflate_0 rfl (lv_at hl 0 rfl) ?_
  refine lv_iload_n hx hb dJ19_inflate_1 rfl (lv_at hl 1 rfl) ?_
  refine lv_aload_n hx hb dJ19_inflate_2 rfl (lv_at hl 2 rfl) ?_
  refine lv_iload_n hx hb dJ19_inflate_3 rfl (lv_at hl 3 rfl) ?_
  refine lv_iload hx hb dJ19_inflate_4 (lv_at hl 4 rfl) ?_
  exact h.elim
/-! J1_init_J2: level 11 -/
def wp_J1_init_J2 (G : mG) (b : Nat) (P : mM → Prop) (M : mM) (a0 : Nat) : Prop :=
  wp_J0_init_J2 G 0 (fun M1 => pfi M1 a0 16 0 0 fun M2 => P M2) M a0
set_option maxHeartbeats 4000000 in
set_option maxRecDepth 100000 in
theorem wk_J1_init_J2 {l : Launch} (hst0 : l.stackTraces = false) {G : mG} {b : Nat} {P : mM → Prop} {M : mM} {a0 : Nat} (h : wp_J1_init_J2 G b P M a0) : mMet l yJ1_init (ws_ yJ1_init cJ1_init 1 (Option.none : Option Jvm.ClassFile.FieldType)) 11 b G [.ref a0] M (mRv P) (fun _ _ _ => False) := by
  refine mm_met hst0 (by decide) (Nat.le_of_ble_eq_true rfl) ?_
  intro p e s m args below meth c ls C hr hnt hnm hl S
  have hl : lv_has ls 1 [(0, .ref a0)] := hl
  generalize mA M s.heap.size = A at C S ⊢
  have hx := C.hx
  have hb := C.hb
  have hk : 0 + b ≤ b := Nat.le_of_eq (Nat.zero_add b)
  unfold wp_J1_init_J2 at h
  refine lv_aload_n hx hb dJ1_init_0 rfl (lv_at hl 0 rfl) ?_
  refine mm_I (As := []) (rest := []) C S hl.1 (wk_J0_init_J2 hst0 h) q116 q49 q114 q115 rfl pd_J0_init ⟨Nat.le_of_ble_eq_true rfl, Nat.le_of_ble_eq_true rfl⟩ rfl rfl (Nat.le_of_ble_eq_true rfl) dJ1_init_1 rfl rfl hk (Nat.zero_add _) (fun v9 M1 H locs hP S hk => ?_) (fun E q ce M9 H9 locs9 hX => hX.elim)
  obtain ⟨rfl, h⟩ := hP
  refine W.eq (g2 := F0 m 4 ls []) rfl ?_
  refine lv_aload_n hx hb dJ1_init_4 rfl (lv_at hl 0 rfl) ?_
  refine lv_iconst (v := 0) hx hb dJ1_init_5 (by decide) ?_
  refine mm_pfi C S (ci := 16) (k := 0) rfl in_J2 tyJ2_ok nmJ2 (by decide) q124 (fun _ h9 => h9) rfl dJ1_init_6 rfl h (fun M2 H locs h S => ?_)
  exact mm_vret C S hr (Nat.le_trans (Nat.le_add_right _ _) hk) dJ1_init_9 h
