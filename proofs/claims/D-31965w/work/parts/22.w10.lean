/-! X0_routeAt: level 15, alloc -/
def wb_X0_routeAt_13 (G : mG) (P : Int32 → mM → Prop) (r : Nat) (M : mM) (s0 : Nat) : Prop :=
  P 1 M
def wp_X0_routeAt (G : mG) (b : Nat) (P : Int32 → mM → Prop) (M : mM) (a0 : Nat) (x1 : Int32) (x2 : Int32) (a3 : Nat) : Prop :=
  isc M a0 0 ∧ (∃ b2 r3 : Nat, b2 + r3 = b ∧ wp_X1_routeAt G b2 (fun v4 M1 => stl M1 4 a3 0 v4.toInt64 fun M5 => P 0 M5) (fun E9 u6 M7 => (E9 = "java/lang/IndexOutOfBoundsException" ∧ wb_X0_routeAt_13 G P r3 M7 u6)) M a0 x1 x2)
set_option maxHeartbeats 4000000 in
set_option maxRecDepth 100000 in
theorem wk_X0_routeAt {l : Launch} (hst0 : l.stackTraces = false) {G : mG} {b : Nat} {P : Int32 → mM → Prop} {M : mM} {a0 : Nat} {x1 : Int32} {x2 : Int32} {a3 : Nat} (h : wp_X0_routeAt G b P M a0 x1 x2 a3) : mMet l yX0_routeAt (wsW_ yX0_routeAt cX0_routeAt 5 (Option.some Jvm.ClassFile.FieldType.int) [((0 : Nat), (10 : Nat), (13 : Nat), (13 : Nat))]) 15 b G [.ref a0, .int x1, .int x2, .ref a3] M (mRi P) (fun _ _ _ => False) := by
  refine mm_metW hst0 (by decide) (Nat.le_of_ble_eq_true rfl) ?_
  intro p e s m args below meth c ls C hr htab hnm hl S
  have hl : lv_has ls 5 [(0, .ref a0), (1, .int x1), (2, .int x2), (3, .ref a3)] := hl
  generalize mA M s.heap.size = A at C S ⊢
  have hx := C.hx
  have hb := C.hb
  have hk : 0 + b ≤ b := Nat.le_of_eq (Nat.zero_add b)
  have j13 : ∀ (k r : Nat) (M : mM) (H : Heap) (locs : List Loc) (ls : Array Slot) (s0 : Nat), k + r ≤ b → mW G A s M H locs → lv_has ls 5 [] → wb_X0_routeAt_13 G P r M s0 → W p l e (mRm 15 b) s m args below meth c H locs k k (vx_MQ below (mQ G A (mRi P)) (mXC G A (fun _ _ _ => False)) args s b b A) (F0 m 13 ls [.ref s0]) := by
    intro k r M H locs ls s0 hk S hl h
    unfold wb_X0_routeAt_13 at h
    refine lv_astore (lv' := [(4, .ref s0)]) hx hb dX0_routeAt_13 hl (by decide) rfl (fun ls hl => ?_)
    refine lv_iconst (v := 1) hx hb dX0_routeAt_15 (by decide) ?_
    exact mm_iret C S hr (Nat.le_trans (Nat.le_add_right _ _) hk) dX0_routeAt_16 h
  unfold wp_X0_routeAt at h
  refine lv_aload_n hx hb dX0_routeAt_0 rfl (lv_at hl 3 rfl) ?_
  refine lv_iconst (v := 0) hx hb dX0_routeAt_1 (by decide) ?_
  refine lv_aload_n hx hb dX0_routeAt_2 rfl (lv_at hl 0 rfl) ?_
  refine lv_iload_n hx hb dX0_routeAt_3 rfl (lv_at hl 1 rfl) ?_
  refine lv_iload_n hx hb dX0_routeAt_4 rfl (lv_at hl 2 rfl) ?_
  obtain ⟨hI, h⟩ := h
  obtain ⟨b2, r3, hb9, h⟩ := h
  refine mm_V (As := [.int x1, .int x2]) (rest := [.int 0, .ref a3]) C S hl.1 (wk_X1_routeAt hst0 h) (T := TX1) rfl hI (lw_V q1443 q1444 q1445 q48 q1446) rfl pd_X1_routeAt ⟨Nat.le_of_ble_eq_true rfl, Nat.le_of_ble_eq_true rfl⟩ rfl rfl (Nat.le_of_ble_eq_true rfl) dX0_routeAt_5 rfl rfl hk hb9 (fun v9 M1 H locs hP S hk => ?_) (fun E u6 ce M7 H locs hX S hk hc9 hv9 hf9 => ?_)
  · obtain ⟨v4, rfl, h⟩ := hP
    refine W.eq (g2 := F0 m 8 ls [.int v4, .int 0, .ref a3]) rfl ?_
    refine lv_i2l hx hb dX0_routeAt_8 rfl ?_
    refine mm_last C S h dX0_routeAt_9 (fun M5 H locs h S => ?_)
    refine lv_goto (tgt := 17) hx hb dX0_routeAt_10 (by decide) ?_
    refine lv_iconst (v := 0) hx hb dX0_routeAt_17 (by decide) ?_
    exact mm_iret C S hr (Nat.le_trans (Nat.le_add_right _ _) hk) dX0_routeAt_18 h
  · rcases hX with ⟨rfl, h⟩
    · refine vx_catch (pc := 5) (name := "java/lang/IndexOutOfBoundsException") C.hown [] (⟨0, 10, 13, 13⟩ : ExceptionTableEntry) [] htab mm_pass0 (by decide) (by decide) (C.ts _ q431) (va_Nw.use rfl (C.nw q521 rfl)) hc9 hv9 hf9 ?_
      exact j13 _ _ _ _ _ _ _ hk S (lv_sub hl [] rfl) h
/-! X1_routeLength: level 14, alloc, throws java/lang/IndexOutOfBoundsException -/
def wp_X1_routeLength (G : mG) (b : Nat) (P : Int32 → mM → Prop) (X : String → Nat → mM → Prop) (M : mM) (a0 : Nat) (x1 : Int32) : Prop :=
  gfa M a0 0 5 fun u1 => ∃ b3 r4 : Nat, b3 + r4 = b ∧ wp_X1_at G b3 (fun u5 M2 => isc M2 u5 11 ∧ (gfa M2 u5 11 0 fun u6 => aln M2 u6 fun v7 => P v7 M2)) X M u1 x1
set_option maxHeartbeats 4000000 in
set_option maxRecDepth 100000 in
theorem wk_X1_routeLength {l : Launch} (hst0 : l.stackTraces = false) {G : mG} {b : Nat} {P : Int32 → mM → Prop} {X : String → Nat → mM → Prop} {M : mM} {a0 : Nat} {x1 : Int32} (h : wp_X1_routeLength G b P X M a0 x1) : mMet l yX1_routeLength (ws_ yX1_routeLength cX1_routeLength 2 (Option.some Jvm.ClassFile.FieldType.int)) 14 b G [.ref a0, .int x1] M (mRi P) X := by
  refine mm_met hst0 (by decide) (Nat.le_of_ble_eq_true rfl) ?_
  intro p e s m args below meth c ls C hr hnt hnm hl S
  have hl : lv_has ls 2 [(0, .ref a0), (1, .int x1)] := hl
  generalize mA M s.heap.size = A at C S ⊢
  have hx := C.hx
  have hb := C.hb
  have hk : 0 + b ≤ b := Nat.le_of_eq (Nat.zero_add b)
  unfold wp_X1_routeLength at h
  refine lv_aload_n hx hb dX1_routeLength_0 rfl (lv_at hl 0 rfl) ?_
  refine mm_gfa C S (ci := 0) (k := 5) rfl in_X1 (by decide) q220 (fun _ h9 => h9) dX1_routeLength_1 h (fun u1 h => ?_)
  refine lv_iload_n hx hb dX1_routeLength_4 rfl (lv_at hl 1 rfl) ?_
  obtain ⟨b3, r4, hb9, h⟩ := h
  refine mm_S (As := [.ref u1, .int x1]) (rest := []) C S hl.1 (wk_X1_at hst0 h) (lw_S q728 q729 q48 q730) pd_X1_at ⟨Nat.le_of_ble_eq_true rfl, Nat.le_of_ble_eq_true rfl⟩ rfl rfl (Nat.le_of_ble_eq_true rfl) dX1_routeLength_5 rfl rfl hk hb9 (fun v9 M2 H locs hP S hk => ?_) (fun E q ce M9 H9 locs9 hX S9 hk9 hc9 hv9 hf9 => mm_out C S9 (fun x hx => (hnt x hx).elim) (Nat.le_trans (Nat.le_add_right _ _) hk9) hc9 hv9 hf9 hX)
  obtain ⟨u5, rfl, h⟩ := hP
  refine W.eq (g2 := F0 m 8 ls [.ref u5]) rfl ?_
  refine mm_castS C S (ci := 11) (T := TX14) rfl rfl q312 h.1 dX1_routeLength_8 ?_
  have h := h.2
  refine mm_gfaN C S (ci := 11) (k := 0) rfl in_X14 (by decide) q1359 (fun _ h9 => h9) dX1_routeLength_11 h (fun u6 h => ?_)
  refine mm_alen C S h dX1_routeLength_14 (fun v7 h => ?_)
  exact mm_iret C S hr (Nat.le_trans (Nat.le_add_right _ _) hk) dX1_routeLength_15 h
/-! X0_routeLength: level 15, alloc -/
def wb_X0_routeLength_12 (G : mG) (P : Int32 → mM → Prop) (r : Nat) (M : mM) (s0 : Nat) : Prop :=
  P 1 M
def wp_X0_routeLength (G : mG) (b : Nat) (P : Int32 → mM → Prop) (M : mM) (a0 : Nat) (x1 : Int32) (a2 : Nat) : Prop :=
  isc M a0 0 ∧ (∃ b2 r3 : Nat, b2 + r3 = b ∧ wp_X1_routeLength G b2 (fun v4 M1 => stl M1 4 a2 0 v4.toInt64 fun M5 => P 0 M5) (fun E9 u6 M7 => (E9 = "java/lang/IndexOutOfBoundsException" ∧ wb_X0_routeLength_12 G P r3 M7 u6)) M a0 x1)
set_option maxHeartbeats 4000000 in
set_option maxRecDepth 100000 in
theorem wk_X0_routeLength {l : Launch} (hst0 : l.stackTraces = false) {G : mG} {b : Nat} {P : Int32 → mM → Prop} {M : mM} {a0 : Nat} {x1 : Int32} {a2 : Nat} (h : wp_X0_routeLength G b P M a0 x1 a2) : mMet l yX0_routeLength (wsW_ yX0_routeLength cX0_routeLength 4 (Option.some Jvm.ClassFile.FieldType.int) [((0 : Nat), (9 : Nat), (12 : Nat), (13 : Nat))]) 15 b G [.ref a0, .int x1, .ref a2] M (mRi P) (fun _ _ _ => False) := by
  refine mm_metW hst0 (by decide) (Nat.le_of_ble_eq_true rfl) ?_
  intro p e s m args below meth c ls C hr htab hnm hl S
  have hl : lv_has ls 4 [(0, .ref a0), (1, .int x1), (2, .ref a2)] := hl
  generalize mA M s.heap.size = A at C S ⊢
  have hx := C.hx
  have hb := C.hb
  have hk : 0 + b ≤ b := Nat.le_of_eq (Nat.zero_add b)
  have j12 : ∀ (k r : Nat) (M : mM) (H : Heap) (locs : List Loc) (ls : Array Slot) (s0 : Nat), k + r ≤ b → mW G A s M H locs → lv_has ls 4 [] → wb_X0_routeLength_12 G P r M s0 → W p l e (mRm 15 b) s m args below meth c H locs k k (vx_MQ below (mQ G A (mRi P)) (mXC G A (fun _ _ _ => False)) args s b b A) (F0 m 12 ls [.ref s0]) := by
    intro k r M H locs ls s0 hk S hl h
    unfold wb_X0_routeLength_12 at h
    refine lv_astore_n (lv' := [(3, .ref s0)]) hx hb dX0_routeLength_12 rfl hl (by decide) rfl (fun ls hl => ?_)
    refine lv_iconst (v := 1) hx hb dX0_routeLength_13 (by decide) ?_
    exact mm_iret C S hr (Nat.le_trans (Nat.le_add_right _ _) hk) dX0_routeLength_14 h
  unfold wp_X0_routeLength at h
  refine lv_aload_n hx hb dX0_routeLength_0 rfl (lv_at hl 2 rfl) ?_
  refine lv_iconst (v := 0) hx hb dX0_routeLength_1 (by decide) ?_
  refine lv_aload_n hx hb dX0_routeLength_2 rfl (lv_at hl 0 rfl) ?_
  refine lv_iload_n hx hb dX0_routeLength_3 rfl (lv_at hl 1 rfl) ?_
  obtain ⟨hI, h⟩ := h
  obtain ⟨b2, r3, hb9, h⟩ := h
  refine mm_V (As := [.int x1]) (rest := [.int 0, .ref a2]) C S hl.1 (wk_X1_routeLength hst0 h) (T := TX1) rfl hI (lw_V q1450 q1451 q1452 q48 q1453) rfl pd_X1_routeLength ⟨Nat.le_of_ble_eq_true rfl, Nat.le_of_ble_eq_true rfl⟩ rfl rfl (Nat.le_of_ble_eq_true rfl) dX0_routeLength_4 rfl rfl hk hb9 (fun v9 M1 H locs hP S hk => ?_) (fun E u6 ce M7 H locs hX S hk hc9 hv9 hf9 => ?_)
  · obtain ⟨v4, rfl, h⟩ := hP
    refine W.eq (g2 := F0 m 7 ls [.int v4, .int 0, .ref a2]) rfl ?_
    refine lv_i2l hx hb dX0_routeLength_7 rfl ?_
    refine mm_last C S h dX0_routeLength_8 (fun M5 H locs h S => ?_)
    refine lv_goto (tgt := 15) hx hb dX0_routeLength_9 (by decide) ?_
    refine lv_iconst (v := 0) hx hb dX0_routeLength_15 (by decide) ?_
    exact mm_iret C S hr (Nat.le_trans (Nat.le_add_right _ _) hk) dX0_routeLength_16 h
  · rcases hX with ⟨rfl, h⟩
    · refine vx_catch (pc := 4) (name := "java/lang/IndexOutOfBoundsException") C.hown [] (⟨0, 9, 12, 13⟩ : ExceptionTableEntry) [] htab mm_pass0 (by decide) (by decide) (C.ts _ q431) (va_Nw.use rfl (C.nw q521 rfl)) hc9 hv9 hf9 ?_
      exact j12 _ _ _ _ _ _ _ hk S (lv_sub hl [] rfl) h
/-! X2_init_2: level 10 -/
def wp_X2_init_2 (G : mG) (b : Nat) (P : mM → Prop) (M : mM) (a0 : Nat) (x1 : Int32) (x2 : Int32) (x3 : Int32) : Prop :=
  pfi M a0 1 0 x1 fun M1 => pfi M1 a0 1 1 x2 fun M2 => pfi M2 a0 1 2 x3 fun M3 => pfi M3 a0 1 3 3 fun M4 => P M4
set_option maxHeartbeats 4000000 in
set_option maxRecDepth 100000 in
theorem wk_X2_init_2 {l : Launch} (hst0 : l.stackTraces = false) {G : mG} {b : Nat} {P : mM → Prop} {M : mM} {a0 : Nat} {x1 : Int32} {x2 : Int32} {x3 : Int32} (h : wp_X2_init_2 G b P M a0 x1 x2 x3) : mMet l yX2_init_2 (ws_ yX2_init_2 cX2_init_2 4 (Option.none : Option Jvm.ClassFile.FieldType)) 10 b G [.ref a0, .int x1, .int x2, .int x3] M (mRv P) (fun _ _ _ => False) := by
  refine mm_met hst0 (by decide) (Nat.le_of_ble_eq_true rfl) ?_
  intro p e s m args below meth c ls C hr hnt hnm hl S
  have hl : lv_has ls 4 [(0, .ref a0), (1, .int x1), (2, .int x2), (3, .int x3)] := hl
  generalize mA M s.heap.size = A at C S ⊢
  have hx := C.hx
  have hb := C.hb
  have hk : 0 + b ≤ b := Nat.le_of_eq (Nat.zero_add b)
  unfold wp_X2_init_2 at h
  refine lv_aload_n hx hb dX2_init_2_0 rfl (lv_at hl 0 rfl) ?_
  refine mm_init C hl.1 q178 q100 q101 dX2_init_2_1 (Nat.le_of_ble_eq_true rfl) (Nat.le_of_ble_eq_true rfl) ?_
  refine lv_aload_n hx hb dX2_init_2_4 rfl (lv_at hl 0 rfl) ?_
  refine lv_iload_n hx hb dX2_init_2_5 rfl (lv_at hl 1 rfl) ?_
  refine mm_pfi C S (ci := 1) (k := 0) rfl in_X2 tyX2_ok nmX2 (by decide) q179 (fun _ h9 => h9) rfl dX2_init_2_6 rfl h (fun M1 H locs h S => ?_)
  refine lv_aload_n hx hb dX2_init_2_9 rfl (lv_at hl 0 rfl) ?_
  refine lv_iload_n hx hb dX2_init_2_10 rfl (lv_at hl 2 rfl) ?_
  refine mm_pfi C S (ci := 1) (k := 1) rfl in_X2 tyX2_ok nmX2 (by decide) q181 (fun _ h9 => h9) rfl dX2_init_2_11 rfl h (fun M2 H locs h S => ?_)
  refine lv_aload_n hx hb dX2_init_2_14 rfl (lv_at hl 0 rfl) ?_
  refine lv_iload_n hx hb dX2_init_2_15 rfl (lv_at hl 3 rfl) ?_
  refine mm_pfi C S (ci := 1) (k := 2) rfl in_X2 tyX2_ok nmX2 (by decide) q183 (fun _ h9 => h9) rfl dX2_init_2_16 rfl h (fun M3 H locs h S => ?_)
  refine lv_aload_n hx hb dX2_init_2_19 rfl (lv_at hl 0 rfl) ?_
  refine lv_iconst (v := 3) hx hb dX2_init_2_20 (by decide) ?_
  refine mm_pfi C S (ci := 1) (k := 3) rfl in_X2 tyX2_ok nmX2 (by decide) q185 (fun _ h9 => h9) rfl dX2_init_2_21 rfl h (fun M4 H locs h S => ?_)
  exact mm_vret C S hr (Nat.le_trans (Nat.le_add_right _ _) hk) dX2_init_2_24 h
/-! X1_setCell: level 12, alloc, throws java/lang/IllegalArgumentException,java/lang/IndexOutOfBoundsException -/
def wp_X1_setCell (G : mG) (b : Nat) (P : Int32 → mM → Prop) (X : String → Nat → mM → Prop) (M : mM) (a0 : Nat) (x1 : Int32) (x2 : Int32) (x3 : Int32) (x4 : Int32) : Prop :=
  ∃ b2 r3 : Nat, b2 + r3 = b ∧ wp_X1_checkIndex G b2 (fun M1 => ∃ b5 r6 : Nat, b5 + r6 = r3 ∧ wp_X1_checkIndex G b5 (fun M4 => ∃ b8 r9 : Nat, b8 + r9 = r6 ∧ wp_X1_checkRange G b8 (fun M7 => ∃ b11 r12 : Nat, b11 + r12 = r9 ∧ wp_X1_checkRange G b11 (fun M10 => gfa M10 a0 0 0 fun u13 => lda M10 6 u13 x1 fun u14 => gfi M10 u14 1 1 fun v15 => gfa M10 a0 0 0 fun u16 => nwo M10 r12 1 5 dfsX2 fun u17 M18 r19 => wp_X2_init_2 G 0 (fun M20 => isc M20 u17 1 ∧ sta M20 6 u16 x1 u17 fun M21 => P v15 M21) M18 u17 x2 x3 x4) X M7 x3 0 2) X M4 x2 0 9) X M1 (x4 - (-1)) 5) X M x1 36
set_option maxHeartbeats 4000000 in
set_option maxRecDepth 100000 in
theorem wk_X1_setCell {l : Launch} (hst0 : l.stackTraces = false) {G : mG} {b : Nat} {P : Int32 → mM → Prop} {X : String → Nat → mM → Prop} {M : mM} {a0 : Nat} {x1 : Int32} {x2 : Int32} {x3 : Int32} {x4 : Int32} (h : wp_X1_setCell G b P X M a0 x1 x2 x3 x4) : mMet l yX1_setCell (ws_ yX1_setCell cX1_setCell 6 (Option.some Jvm.ClassFile.FieldType.int)) 12 b G [.ref a0, .int x1, .int x2, .int x3, .int x4] M (mRi P) X := by
  refine mm_met hst0 (by decide) (Nat.le_of_ble_eq_true rfl) ?_
  intro p e s m args below meth c ls C hr hnt hnm hl S
  have hl : lv_has ls 6 [(0, .ref a0), (1, .int x1), (2, .int x2), (3, .int x3), (4, .int x4)] := hl
  generalize mA M s.heap.size = A at C S ⊢
  have hx := C.hx
  have hb := C.hb
  have hk : 0 + b ≤ b := Nat.le_of_eq (Nat.zero_add b)
  unfold wp_X1_setCell at h
  refine lv_iload_n hx hb dX1_setCell_0 rfl (lv_at hl 1 rfl) ?_
  refine lv_bipush (v := 36) hx hb dX1_setCell_1 (by decide) ?_
  obtain ⟨b2, r3, hb9, h⟩ := h
  refine mm_S (As := [.int x1, .int 36]) (rest := []) C S hl.1 (wk_X1_checkIndex hst0 h) (lw_S q516 q517 q48 q518) pd_X1_checkIndex ⟨Nat.le_of_ble_eq_true rfl, Nat.le_of_ble_eq_true rfl⟩ rfl rfl (Nat.le_of_ble_eq_true rfl) dX1_setCell_3 rfl rfl hk hb9 (fun v9 M1 H locs hP S hk => ?_) (fun E q ce M9 H9 locs9 hX S9 hk9 hc9 hv9 hf9 => mm_out C S9 (fun x hx => (hnt x hx).elim) (Nat.le_trans (Nat.le_add_right _ _) hk9) hc9 hv9 hf9 hX)
  obtain ⟨rfl, h⟩ := hP
  refine W.eq (g2 := F0 m 6 ls []) rfl ?_
  refine lv_iload hx hb dX1_setCell_6 (lv_at hl 4 rfl) ?_
  refine lv_iconst (v := (-1)) hx hb dX1_setCell_8 (by decide) ?_
  refine lv_isub hx hb dX1_setCell_9 ?_
  refine lv_iconst (v := 5) hx hb dX1_setCell_10 (by decide) ?_
  obtain ⟨b5, r6, hb9, h⟩ := h
  refine mm_S (As := [.int (x4 - (-1)), .int 5]) (rest := []) C S hl.1 (wk_X1_checkIndex hst0 h) (lw_S q516 q517 q48 q518) pd_X1_checkIndex ⟨Nat.le_of_ble_eq_true rfl, Nat.le_of_ble_eq_true rfl⟩ rfl rfl (Nat.le_of_ble_eq_true rfl) dX1_setCell_11 rfl rfl hk hb9 (fun v9 M4 H locs hP S hk => ?_) (fun E q ce M9 H9 locs9 hX S9 hk9 hc9 hv9 hf9 => mm_out C S9 (fun x hx => (hnt x hx).elim) (Nat.le_trans (Nat.le_add_right _ _) hk9) hc9 hv9 hf9 hX)
  obtain ⟨rfl, h⟩ := hP
  refine W.eq (g2 := F0 m 14 ls []) rfl ?_
  refine lv_iload_n hx hb dX1_setCell_14 rfl (lv_at hl 2 rfl) ?_
  refine lv_iconst (v := 0) hx hb dX1_setCell_15 (by decide) ?_
  refine lv_bipush (v := 9) hx hb dX1_setCell_16 (by decide) ?_
  obtain ⟨b8, r9, hb9, h⟩ := h
  refine mm_S (As := [.int x2, .int 0, .int 9]) (rest := []) C S hl.1 (wk_X1_checkRange hst0 h) (lw_S q540 q541 q48 q542) pd_X1_checkRange ⟨Nat.le_of_ble_eq_true rfl, Nat.le_of_ble_eq_true rfl⟩ rfl rfl (Nat.le_of_ble_eq_true rfl) dX1_setCell_18 rfl rfl hk hb9 (fun v9 M7 H locs hP S hk => ?_) (fun E q ce M9 H9 locs9 hX S9 hk9 hc9 hv9 hf9 => mm_out C S9 (fun x hx => (hnt x hx).elim) (Nat.le_trans (Nat.le_add_right _ _) hk9) hc9 hv9 hf9 hX)
  obtain ⟨rfl, h⟩ := hP
  refine W.eq (g2 := F0 m 21 ls []) rfl ?_
  refine lv_iload_n hx hb dX1_setCell_21 rfl (lv_at hl 3 rfl) ?_
  refine lv_iconst (v := 0) hx hb dX1_setCell_22 (by decide) ?_
  refine lv_iconst (v := 2) hx hb dX1_setCell_23 (by decide) ?_
  obtain ⟨b11, r12, hb9, h⟩ := h
  refine mm_S (As := [.int x3, .int 0, .int 2]) (rest := []) C S hl.1 (wk_X1_checkRange hst0 h) (lw_S q540 q541 q48 q542) pd_X1_checkRange ⟨Nat.le_of_ble_eq_true rfl, Nat.le_of_ble_eq_true rfl⟩ rfl rfl (Nat.le_of_ble_eq_true rfl) dX1_setCell_24 rfl rfl hk hb9 (fun v9 M10 H locs hP S hk => ?_) (fun E q ce M9 H9 locs9 hX S9 hk9 hc9 hv9 hf9 => mm_out C S9 (fun x hx => (hnt x hx).elim) (Nat.le_trans (Nat.le_add_right _ _) hk9) hc9 hv9 hf9 hX)
  obtain ⟨rfl, h⟩ := hP
  refine W.eq (g2 := F0 m 27 ls []) rfl ?_
  refine lv_aload_n hx hb dX1_setCell_27 rfl (lv_at hl 0 rfl) ?_
  refine mm_gfa C S (ci := 0) (k := 0) rfl in_X1 (by decide) q215 (fun _ h9 => h9) dX1_setCell_28 h (fun u13 h => ?_)
  refine lv_iload_n hx hb dX1_setCell_31 rfl (lv_at hl 1 rfl) ?_
  refine mm_aald C S (t := 6) rfl rfl h dX1_setCell_32 (fun u14 h => ?_)
  refine mm_gfiN C S (ci := 1) (k := 1) rfl in_X2 (by decide) q182 (fun _ h9 => h9) dX1_setCell_33 h (fun v15 h => ?_)
  refine lv_istore (lv' := [(5, .int v15), (0, .ref a0), (1, .int x1), (2, .int x2), (3, .int x3), (4, .int x4)]) hx hb dX1_setCell_36 hl (by decide) rfl (fun ls hl => ?_)
  refine lv_aload_n hx hb dX1_setCell_38 rfl (lv_at hl 1 rfl) ?_
  refine mm_gfa C S (ci := 0) (k := 0) rfl in_X1 (by decide) q215 (fun _ h9 => h9) dX1_setCell_39 h (fun u16 h => ?_)
  refine lv_iload_n hx hb dX1_setCell_42 rfl (lv_at hl 2 rfl) ?_
  refine mm_new C S (ci := 1) (T := TX2) rfl in_X2 tyX2_ok q102 q171 q56 dfX2 (by decide) dX1_setCell_43 rfl rfl hk h (fun u17 M18 r19 H h S hk => ?_)
  refine lv_dup hx hb dX1_setCell_46 rfl ?_
  refine lv_iload_n hx hb dX1_setCell_47 rfl (lv_at hl 3 rfl) ?_
  refine lv_iload_n hx hb dX1_setCell_48 rfl (lv_at hl 4 rfl) ?_
  refine lv_iload hx hb dX1_setCell_49 (lv_at hl 5 rfl) ?_
  refine mm_I (As := [.int x2, .int x3, .int x4]) (rest := [.ref u17, .int x1, .ref u16]) C S hl.1 (wk_X2_init_2 hst0 h) q177 q56 q561 q176 rfl pd_X2_init_2 ⟨Nat.le_of_ble_eq_true rfl, Nat.le_of_ble_eq_true rfl⟩ rfl rfl (Nat.le_of_ble_eq_true rfl) dX1_setCell_51 rfl rfl hk (Nat.zero_add _) (fun v9 M20 H locs hP S hk => ?_) (fun E q ce M9 H9 locs9 hX => hX.elim)
  obtain ⟨rfl, h⟩ := hP
  refine W.eq (g2 := F0 m 54 ls [.ref u17, .int x1, .ref u16]) rfl ?_
  refine mm_aastC C S (t := 6) (ci := 1) rfl (by decide) rfl h dX1_setCell_54 (fun M21 H locs h S => ?_)
  refine lv_iload hx hb dX1_setCell_55 (lv_at hl 0 rfl) ?_
  exact mm_iret C S hr (Nat.le_trans (Nat.le_add_right _ _) hk) dX1_setCell_57 h
/-! X0_setCell: level 13, alloc -/
def wb_X0_setCell_17 (G : mG) (P : Int32 → mM → Prop) (r : Nat) (M : mM) (s0 : Nat) : Prop :=
  P 1 M
def wb_X0_setCell_21 (G : mG) (P : Int32 → mM → Prop) (r : Nat) (M : mM) (s0 : Nat) : Prop :=
  P 2 M
def wp_X0_setCell (G : mG) (b : Nat) (P : Int32 → mM → Prop) (M : mM) (a0 : Nat) (x1 : Int32) (x2 : Int32) (x3 : Int32) (x4 : Int32) (a5 : Nat) : Prop :=
  isc M a0 0 ∧ (∃ b2 r3 : Nat, b2 + r3 = b ∧ wp_X1_setCell G b2 (fun v4 M1 => stl M1 4 a5 0 v4.toInt64 fun M5 => P 0 M5) (fun E9 u6 M7 => (E9 = "java/lang/IllegalArgumentException" ∧ wb_X0_setCell_21 G P r3 M7 u6) ∨ (E9 = "java/lang/IndexOutOfBoundsException" ∧ wb_X0_setCell_17 G P r3 M7 u6)) M a0 x1 x2 x3 x4)
set_option maxHeartbeats 4000000 in
set_option maxRecDepth 100000 in
theorem wk_X0_setCell {l : Launch} (hst0 : l.stackTraces = false) {G : mG} {b : Nat} {P : Int32 → mM → Prop} {M : mM} {a0 : Nat} {x1 : Int32} {x2 : Int32} {x3 : Int32} {x4 : Int32} {a5 : Nat} (h : wp_X0_setCell G b P M a0 x1 x2 x3 x4 a5) : mMet l yX0_setCell (wsW_ yX0_setCell cX0_setCell 7 (Option.some Jvm.ClassFile.FieldType.int) [((0 : Nat), (14 : Nat), (17 : Nat), (13 : Nat)), ((0 : Nat), (14 : Nat), (21 : Nat), (15 : Nat))]) 13 b G [.ref a0, .int x1, .int x2, .int x3, .int x4, .ref a5] M (mRi P) (fun _ _ _ => False) := by
  refine mm_metW hst0 (by decide) (Nat.le_of_ble_eq_true rfl) ?_
  intro p e s m args below meth c ls C hr htab hnm hl S
  have hl : lv_has ls 7 [(0, .ref a0), (1, .int x1), (2, .int x2), (3, .int x3), (4, .int x4), (5, .ref a5)] := hl
  generalize mA M s.heap.size = A at C S ⊢
  have hx := C.hx
  have hb := C.hb
  have hk : 0 + b ≤ b := Nat.le_of_eq (Nat.zero_add b)
  have j17 : ∀ (k r : Nat) (M : mM) (H : Heap) (locs : List Loc) (ls : Array Slot) (s0 : Nat), k + r ≤ b → mW G A s M H locs → lv_has ls 7 [] → wb_X0_setCell_17 G P r M s0 → W p l e (mRm 13 b) s m args below meth c H locs k k (vx_MQ below (mQ G A (mRi P)) (mXC G A (fun _ _ _ => False)) args s b b A) (F0 m 17 ls [.ref s0]) := by
    intro k r M H locs ls s0 hk S hl h
    unfold wb_X0_setCell_17 at h
    refine lv_astore (lv' := [(6, .ref s0)]) hx hb dX0_setCell_17 hl (by decide) rfl (fun ls hl => ?_)
    refine lv_iconst (v := 1) hx hb dX0_setCell_19 (by decide) ?_
    exact mm_iret C S hr (Nat.le_trans (Nat.le_add_right _ _) hk) dX0_setCell_20 h
  have j21 : ∀ (k r : Nat) (M : mM) (H : Heap) (locs : List Loc) (ls : Array Slot) (s0 : Nat), k + r ≤ b → mW G A s M H locs → lv_has ls 7 [] → wb_X0_setCell_21 G P r M s0 → W p l e (mRm 13 b) s m args below meth c H locs k k (vx_MQ below (mQ G A (mRi P)) (mXC G A (fun _ _ _ => False)) args s b b A) (F0 m 21 ls [.ref s0]) := by
    intro k r M H locs ls s0 hk S hl h
    unfold wb_X0_setCell_21 at h
    refine lv_astore (lv' := [(6, .ref s0)]) hx hb dX0_setCell_21 hl (by decide) rfl (fun ls hl => ?_)
    refine lv_iconst (v := 2) hx hb dX0_setCell_23 (by decide) ?_
    exact mm_iret C S hr (Nat.le_trans (Nat.le_add_right _ _) hk) dX0_setCell_24 h
  unfold wp_X0_setCell at h
  refine lv_aload hx hb dX0_setCell_0 (lv_at hl 5 rfl) ?_
  refine lv_iconst (v := 0) hx hb dX0_setCell_2 (by decide) ?_
  refine lv_aload_n hx hb dX0_setCell_3 rfl (lv_at hl 0 rfl) ?_
  refine lv_iload_n hx hb dX0_setCell_4 rfl (lv_at hl 1 rfl) ?_
  refine lv_iload_n hx hb dX0_setCell_5 rfl (lv_at hl 2 rfl) ?_
  refine lv_iload_n hx hb dX0_setCell_6 rfl (lv_at hl 3 rfl) ?_
  refine lv_iload hx hb dX0_setCell_7 (lv_at hl 4 rfl) ?_
  obtain ⟨hI, h⟩ := h
  obtain ⟨b2, r3, hb9, h⟩ := h
  refine mm_V (As := [.int x1, .int x2, .int x3, .int x4]) (rest := [.int 0, .ref a5]) C S hl.1 (wk_X1_setCell hst0 h) (T := TX1) rfl hI (lw_V q512 q513 q514 q48 q515) rfl pd_X1_setCell ⟨Nat.le_of_ble_eq_true rfl, Nat.le_of_ble_eq_true rfl⟩ rfl rfl (Nat.le_of_ble_eq_true rfl) dX0_setCell_9 rfl rfl hk hb9 (fun v9 M1 H locs hP S hk => ?_) (fun E u6 ce M7 H locs hX S hk hc9 hv9 hf9 => ?_)
  · obtain ⟨v4, rfl, h⟩ := hP
    refine W.eq (g2 := F0 m 12 ls [.int v4, .int 0, .ref a5]) rfl ?_
    refine lv_i2l hx hb dX0_setCell_12 rfl ?_
    refine mm_last C S h dX0_setCell_13 (fun M5 H locs h S => ?_)
    refine lv_goto (tgt := 25) hx hb dX0_setCell_14 (by decide) ?_
    refine lv_iconst (v := 0) hx hb dX0_setCell_25 (by decide) ?_
    exact mm_iret C S hr (Nat.le_trans (Nat.le_add_right _ _) hk) dX0_setCell_26 h
  · rcases hX with ⟨rfl, h⟩ | ⟨rfl, h⟩
    · refine vx_catch (pc := 9) (name := "java/lang/IllegalArgumentException") C.hown [(⟨0, 14, 17, 13⟩ : ExceptionTableEntry)] (⟨0, 14, 21, 15⟩ : ExceptionTableEntry) [] htab (mm_pass1 C (nm := "java/lang/IndexOutOfBoundsException") (by decide) q431 (by decide) mm_pass0) (by decide) (by decide) (C.ts _ q511) (va_Nw.use rfl (C.nw q548 rfl)) hc9 hv9 hf9 ?_
      exact j21 _ _ _ _ _ _ _ hk S (lv_sub hl [] rfl) h
    · refine vx_catch (pc := 9) (name := "java/lang/IndexOutOfBoundsException") C.hown [] (⟨0, 14, 17, 13⟩ : ExceptionTableEntry) [(⟨0, 14, 21, 15⟩ : ExceptionTableEntry)] htab mm_pass0 (by decide) (by decide) (C.ts _ q431) (va_Nw.use rfl (C.nw q521 rfl)) hc9 hv9 hf9 ?_
      exact j17 _ _ _ _ _ _ _ hk S (lv_sub hl [] rfl) h
/-! X1_setInflow: level 12, alloc, throws java/lang/IllegalArgumentException,java/lang/IndexOutOfBoundsException -/
def wp_X1_setInflow (G : mG) (b : Nat) (P : Int32 → mM → Prop) (X : String → Nat → mM → Prop) (M : mM) (a0 : Nat) (x1 : Int32) (x2 : Int32) : Prop :=
  ∃ b2 r3 : Nat, b2 + r3 = b ∧ wp_X1_checkIndex G b2 (fun M1 => ∃ b5 r6 : Nat, b5 + r6 = r3 ∧ wp_X1_checkRange G b5 (fun M4 => gfa M4 a0 0 3 fun u7 => ldi M4 0 u7 x1 fun v8 => gfa M4 a0 0 3 fun u9 => sti M4 0 u9 x1 x2 fun M10 => P v8 M10) X M1 x2 (-3) 3) X M x1 4
set_option maxHeartbeats 4000000 in
set_option maxRecDepth 100000 in
theorem wk_X1_setInflow {l : Launch} (hst0 : l.stackTraces = false) {G : mG} {b : Nat} {P : Int32 → mM → Prop} {X : String → Nat → mM → Prop} {M : mM} {a0 : Nat} {x1 : Int32} {x2 : Int32} (h : wp_X1_setInflow G b P X M a0 x1 x2) : mMet l yX1_setInflow (ws_ yX1_setInflow cX1_setInflow 4 (Option.some Jvm.ClassFile.FieldType.int)) 12 b G [.ref a0, .int x1, .int x2] M (mRi P) X := by
  refine mm_met hst0 (by decide) (Nat.le_of_ble_eq_true rfl) ?_
  intro p e s m args below meth c ls C hr hnt hnm hl S
  have hl : lv_has ls 4 [(0, .ref a0), (1, .int x1), (2, .int x2)] := hl
  generalize mA M s.heap.size = A at C S ⊢
  have hx := C.hx
  have hb := C.hb
  have hk : 0 + b ≤ b := Nat.le_of_eq (Nat.zero_add b)
  unfold wp_X1_setInflow at h
  refine lv_iload_n hx hb dX1_setInflow_0 rfl (lv_at hl 1 rfl) ?_
  refine lv_iconst (v := 4) hx hb dX1_setInflow_1 (by decide) ?_
  obtain ⟨b2, r3, hb9, h⟩ := h
  refine mm_S (As := [.int x1, .int 4]) (rest := []) C S hl.1 (wk_X1_checkIndex hst0 h) (lw_S q516 q517 q48 q518) pd_X1_checkIndex ⟨Nat.le_of_ble_eq_true rfl, Nat.le_of_ble_eq_true rfl⟩ rfl rfl (Nat.le_of_ble_eq_true rfl) dX1_setInflow_2 rfl rfl hk hb9 (fun v9 M1 H locs hP S hk => ?_) (fun E q ce M9 H9 locs9 hX S9 hk9 hc9 hv9 hf9 => mm_out C S9 (fun x hx => (hnt x hx).elim) (Nat.le_trans (Nat.le_add_right _ _) hk9) hc9 hv9 hf9 hX)
  obtain ⟨rfl, h⟩ := hP
  refine W.eq (g2 := F0 m 5 ls []) rfl ?_
  refine lv_iload_n hx hb dX1_setInflow_5 rfl (lv_at hl 2 rfl) ?_
  refine lv_bipush (v := (-3)) hx hb dX1_setInflow_6 (by decide) ?_
  refine lv_iconst (v := 3) hx hb dX1_setInflow_8 (by decide) ?_
  obtain ⟨b5, r6, hb9, h⟩ := h
  refine mm_S (As := [.int x2, .int (-3), .int 3]) (rest := []) C S hl.1 (wk_X1_checkRange hst0 h) (lw_S q540 q541 q48 q542) pd_X1_checkRange ⟨Nat.le_of_ble_eq_true rfl, Nat.le_of_ble_eq_true rfl⟩ rfl rfl (Nat.le_of_ble_eq_true rfl) dX1_setInflow_9 rfl rfl hk hb9 (fun v9 M4 H locs hP S hk => ?_) (fun E q ce M9 H9 locs9 hX S9 hk9 hc9 hv9 hf9 => mm_out C S9 (fun x hx => (hnt x hx).elim) (Nat.le_trans (Nat.le_add_right _ _) hk9) hc9 hv9 hf9 hX)
  obtain ⟨rfl, h⟩ := hP
  refine W.eq (g2 := F0 m 12 ls []) rfl ?_
  refine lv_aload_n hx hb dX1_setInflow_12 rfl (lv_at hl 0 rfl) ?_
  refine mm_gfa C S (ci := 0) (k := 3) rfl in_X1 (by decide) q218 (fun _ h9 => h9) dX1_setInflow_13 h (fun u7 h => ?_)
  refine lv_iload_n hx hb dX1_setInflow_16 rfl (lv_at hl 1 rfl) ?_
  refine mm_iald C S h dX1_setInflow_17 (fun v8 h => ?_)
  refine lv_istore_n (lv' := [(3, .int v8), (0, .ref a0), (1, .int x1), (2, .int x2)]) hx hb dX1_setInflow_18 rfl hl (by decide) rfl (fun ls hl => ?_)
  refine lv_aload_n hx hb dX1_setInflow_19 rfl (lv_at hl 1 rfl) ?_
  refine mm_gfa C S (ci := 0) (k := 3) rfl in_X1 (by decide) q218 (fun _ h9 => h9) dX1_setInflow_20 h (fun u9 h => ?_)
  refine lv_iload_n hx hb dX1_setInflow_23 rfl (lv_at hl 2 rfl) ?_
  refine lv_iload_n hx hb dX1_setInflow_24 rfl (lv_at hl 3 rfl) ?_
  refine mm_iast C S h dX1_setInflow_25 (fun M10 H locs h S => ?_)
  refine lv_iload_n hx hb dX1_setInflow_26 rfl (lv_at hl 0 rfl) ?_
  exact mm_iret C S hr (Nat.le_trans (Nat.le_add_right _ _) hk) dX1_setInflow_27 h
/-! X0_setInflow: level 13, alloc -/
def wb_X0_setInflow_13 (G : mG) (P : Int32 → mM → Prop) (r : Nat) (M : mM) (s0 : Nat) : Prop :=
  P 1 M
def wb_X0_setInflow_17 (G : mG) (P : Int32 → mM → Prop) (r : Nat) (M : mM) (s0 : Nat) : Prop :=
  P 2 M
def wp_X0_setInflow (G : mG) (b : Nat) (P : Int32 → mM → Prop) (M : mM) (a0 : Nat) (x1 : Int32) (x2 : Int32) (a3 : Nat) : Prop :=
  isc M a0 0 ∧ (∃ b2 r3 : Nat, b2 + r3 = b ∧ wp_X1_setInflow G b2 (fun v4 M1 => stl M1 4 a3 0 v4.toInt64 fun M5 => P 0 M5) (fun E9 u6 M7 => (E9 = "java/lang/IllegalArgumentException" ∧ wb_X0_setInflow_17 G P r3 M7 u6) ∨ (E9 = "java/lang/IndexOutOfBoundsException" ∧ wb_X0_setInflow_13 G P r3 M7 u6)) M a0 x1 x2)
set_option maxHeartbeats 4000000 in
set_option maxRecDepth 100000 in
theorem wk_X0_setInflow {l : Launch} (hst0 : l.stackTraces = false) {G : mG} {b : Nat} {P : Int32 → mM → Prop} {M : mM} {a0 : Nat} {x1 : Int32} {x2 : Int32} {a3 : Nat} (h : wp_X0_setInflow G b P M a0 x1 x2 a3) : mMet l yX0_setInflow (wsW_ yX0_setInflow cX0_setInflow 5 (Option.some Jvm.ClassFile.FieldType.int) [((0 : Nat), (10 : Nat), (13 : Nat), (13 : Nat)), ((0 : Nat), (10 : Nat), (17 : Nat), (15 : Nat))]) 13 b G [.ref a0, .int x1, .int x2, .ref a3] M (mRi P) (fun _ _ _ => False) := by
  refine mm_metW hst0 (by decide) (Nat.le_of_ble_eq_true rfl) ?_
  intro p e s m args below meth c ls C hr htab hnm hl S
  have hl : lv_has ls 5 [(0, .ref a0), (1, .int x1), (2, .int x2), (3, .ref a3)] := hl
  generalize mA M s.heap.size = A at C S ⊢
  have hx := C.hx
  have hb := C.hb
  have hk : 0 + b ≤ b := Nat.le_of_eq (Nat.zero_add b)
  have j13 : ∀ (k r : Nat) (M : mM) (H : Heap) (locs : List Loc) (ls : Array Slot) (s0 : Nat), k + r ≤ b → mW G A s M H locs → lv_has ls 5 [] → wb_X0_setInflow_13 G P r M s0 → W p l e (mRm 13 b) s m args below meth c H locs k k (vx_MQ below (mQ G A (mRi P)) (mXC G A (fun _ _ _ => False)) args s b b A) (F0 m 13 ls [.ref s0]) := by
    intro k r M H locs ls s0 hk S hl h
    unfold wb_X0_setInflow_13 at h
    refine lv_astore (lv' := [(4, .ref s0)]) hx hb dX0_setInflow_13 hl (by decide) rfl (fun ls hl => ?_)
    refine lv_iconst (v := 1) hx hb dX0_setInflow_15 (by decide) ?_
    exact mm_iret C S hr (Nat.le_trans (Nat.le_add_right _ _) hk) dX0_setInflow_16 h
  have j17 : ∀ (k r : Nat) (M : mM) (H : Heap) (locs : List Loc) (ls : Array Slot) (s0 : Nat), k + r ≤ b → mW G A s M H locs → lv_has ls 5 [] → wb_X0_setInflow_17 G P r M s0 → W p l e (mRm 13 b) s m args below meth c H locs k k (vx_MQ below (mQ G A (mRi P)) (mXC G A (fun _ _ _ => False)) args s b b A) (F0 m 17 ls [.ref s0]) := by
    intro k r M H locs ls s0 hk S hl h
    unfold wb_X0_setInflow_17 at h
    refine lv_astore (lv' := [(4, .ref s0)]) hx hb dX0_setInflow_17 hl (by decide) rfl (fun ls hl => ?_)
    refine lv_iconst (v := 2) hx hb dX0_setInflow_19 (by decide) ?_
    exact mm_iret C S hr (Nat.le_trans (Nat.le_add_right _ _) hk) dX0_setInflow_20 h
  unfold wp_X0_setInflow at h
  refine lv_aload_n hx hb dX0_setInflow_0 rfl (lv_at hl 3 rfl) ?_
  refine lv_iconst (v := 0) hx hb dX0_setInflow_1 (by decide) ?_
  refine lv_aload_n hx hb dX0_setInflow_2 rfl (lv_at hl 0 rfl) ?_
  refine lv_iload_n hx hb dX0_setInflow_3 rfl (lv_at hl 1 rfl) ?_
  refine lv_iload_n hx hb dX0_setInflow_4 rfl (lv_at hl 2 rfl) ?_
  obtain ⟨hI, h⟩ := h
  obtain ⟨b2, r3, hb9, h⟩ := h
  refine mm_V (As := [.int x1, .int x2]) (rest := [.int 0, .ref a3]) C S hl.1 (wk_X1_setInflow hst0 h) (T := TX1) rfl hI (lw_V q587 q588 q589 q48 q590) rfl pd_X1_setInflow ⟨Nat.le_of_ble_eq_true rfl, Nat.le_of_ble_eq_true rfl⟩ rfl rfl (Nat.le_of_ble_eq_true rfl) dX0_setInflow_5 rfl rfl hk hb9 (fun v9 M1 H locs hP S hk => ?_) (fun E u6 ce M7 H locs hX S hk hc9 hv9 hf9 => ?_)
  · obtain ⟨v4, rfl, h⟩ := hP
    refine W.eq (g2 := F0 m 8 ls [.int v4, .int 0, .ref a3]) rfl ?_
    refine lv_i2l hx hb dX0_setInflow_8 rfl ?_
    refine mm_last C S h dX0_setInflow_9 (fun M5 H locs h S => ?_)
    refine lv_goto (tgt := 21) hx hb dX0_setInflow_10 (by decide) ?_
    refine lv_iconst (v := 0) hx hb dX0_setInflow_21 (by decide) ?_
    exact mm_iret C S hr (Nat.le_trans (Nat.le_add_right _ _) hk) dX0_setInflow_22 h
  · rcases hX with ⟨rfl, h⟩ | ⟨rfl, h⟩
    · refine vx_catch (pc := 5) (name := "java/lang/IllegalArgumentException") C.hown [(⟨0, 10, 13, 13⟩ : ExceptionTableEntry)] (⟨0, 10, 17, 15⟩ : ExceptionTableEntry) [] htab (mm_pass1 C (nm := "java/lang/IndexOutOfBoundsException") (by decide) q431 (by decide) mm_pass0) (by decide) (by decide) (C.ts _ q511) (va_Nw.use rfl (C.nw q548 rfl)) hc9 hv9 hf9 ?_
      exact j17 _ _ _ _ _ _ _ hk S (lv_sub hl [] rfl) h
    · refine vx_catch (pc := 5) (name := "java/lang/IndexOutOfBoundsException") C.hown [] (⟨0, 10, 13, 13⟩ : ExceptionTableEntry) [(⟨0, 10, 17, 15⟩ : ExceptionTableEntry)] htab mm_pass0 (by decide) (by decide) (C.ts _ q431) (va_Nw.use rfl (C.nw q521 rfl)) hc9 hv9 hf9 ?_
      exact j13 _ _ _ _ _ _ _ hk S (lv_sub hl [] rfl) h
/-! X1_setKind: level 12, alloc, throws java/lang/IllegalArgumentException,java/lang/IndexOutOfBoundsException -/
def wp_X1_setKind (G : mG) (b : Nat) (P : Int32 → mM → Prop) (X : String → Nat → mM → Prop) (M : mM) (a0 : Nat) (x1 : Int32) (x2 : Int32) (x3 : Int32) (x4 : Int32) : Prop :=
  ∃ b2 r3 : Nat, b2 + r3 = b ∧ wp_X1_checkIndex G b2 (fun M1 => ∃ b5 r6 : Nat, b5 + r6 = r3 ∧ wp_X1_checkRange G b5 (fun M4 => ∃ b8 r9 : Nat, b8 + r9 = r6 ∧ wp_X1_checkRange G b8 (fun M7 => ∃ b11 r12 : Nat, b11 + r12 = r9 ∧ wp_X1_checkRange G b11 (fun M10 => gfa M10 a0 0 1 fun u13 => lda M10 7 u13 x1 fun u14 => gfi M10 u14 2 2 fun v15 => pfi M10 u14 2 0 x2 fun M16 => pfi M16 u14 2 1 x3 fun M17 => pfi M17 u14 2 2 x4 fun M18 => P v15 M18) X M7 x4 0 100) X M4 x3 x2 9) X M1 x2 (-9) 9) X M x1 4
set_option maxHeartbeats 4000000 in
set_option maxRecDepth 100000 in
theorem wk_X1_setKind {l : Launch} (hst0 : l.stackTraces = false) {G : mG} {b : Nat} {P : Int32 → mM → Prop} {X : String → Nat → mM → Prop} {M : mM} {a0 : Nat} {x1 : Int32} {x2 : Int32} {x3 : Int32} {x4 : Int32} (h : wp_X1_setKind G b P X M a0 x1 x2 x3 x4) : mMet l yX1_setKind (ws_ yX1_setKind cX1_setKind 7 (Option.some Jvm.ClassFile.FieldType.int)) 12 b G [.ref a0, .int x1, .int x2, .int x3, .int x4] M (mRi P) X := by
  refine mm_met hst0 (by decide) (Nat.le_of_ble_eq_true rfl) ?_
  intro p e s m args below meth c ls C hr hnt hnm hl S
  have hl : lv_has ls 7 [(0, .ref a0), (1, .int x1), (2, .int x2), (3, .int x3), (4, .int x4)] := hl
  generalize mA M s.heap.size = A at C S ⊢
  have hx := C.hx
  have hb := C.hb
  have hk : 0 + b ≤ b := Nat.le_of_eq (Nat.zero_add b)
  unfold wp_X1_setKind at h
  refine lv_iload_n hx hb dX1_setKind_0 rfl (lv_at hl 1 rfl) ?_
  refine lv_iconst (v := 4) hx hb dX1_setKind_1 (by decide) ?_
  obtain ⟨b2, r3, hb9, h⟩ := h
  refine mm_S (As := [.int x1, .int 4]) (rest := []) C S hl.1 (wk_X1_checkIndex hst0 h) (lw_S q516 q517 q48 q518) pd_X1_checkIndex ⟨Nat.le_of_ble_eq_true rfl, Nat.le_of_ble_eq_true rfl⟩ rfl rfl (Nat.le_of_ble_eq_true rfl) dX1_setKind_2 rfl rfl hk hb9 (fun v9 M1 H locs hP S hk => ?_) (fun E q ce M9 H9 locs9 hX S9 hk9 hc9 hv9 hf9 => mm_out C S9 (fun x hx => (hnt x hx).elim) (Nat.le_trans (Nat.le_add_right _ _) hk9) hc9 hv9 hf9 hX)
  obtain ⟨rfl, h⟩ := hP
  refine W.eq (g2 := F0 m 5 ls []) rfl ?_
  refine lv_iload_n hx hb dX1_setKind_5 rfl (lv_at hl 2 rfl) ?_
  refine lv_bipush (v := (-9)) hx hb dX1_setKind_6 (by decide) ?_
  refine lv_bipush (v := 9) hx hb dX1_setKind_8 (by decide) ?_
  obtain ⟨b5, r6, hb9, h⟩ := h
  refine mm_S (As := [.int x2, .int (-9), .int 9]) (rest := []) C S hl.1 (wk_X1_checkRange hst0 h) (lw_S q540 q541 q48 q542) pd_X1_checkRange ⟨Nat.le_of_ble_eq_true rfl, Nat.le_of_ble_eq_true rfl⟩ rfl rfl (Nat.le_of_ble_eq_true rfl) dX1_setKind_10 rfl rfl hk hb9 (fun v9 M4 H locs hP S hk => ?_) (fun E q ce M9 H9 locs9 hX S9 hk9 hc9 hv9 hf9 => mm_out C S9 (fun x hx => (hnt x hx).elim) (Nat.le_trans (Nat.le_add_right _ _) hk9) hc9 hv9 hf9 hX)
  obtain ⟨rfl, h⟩ := hP
  refine W.eq (g2 := F0 m 13 ls []) rfl ?_
  refine lv_iload_n hx hb dX1_setKind_13 rfl (lv_at hl 3 rfl) ?_
  refine lv_iload_n hx hb dX1_setKind_14 rfl (lv_at hl 2 rfl) ?_
  refine lv_bipush (v := 9) hx hb dX1_setKind_15 (by decide) ?_
  obtain ⟨b8, r9, hb9, h⟩ := h
  refine mm_S (As := [.int x3, .int x2, .int 9]) (rest := []) C S hl.1 (wk_X1_checkRange hst0 h) (lw_S q540 q541 q48 q542) pd_X1_checkRange ⟨Nat.le_of_ble_eq_true rfl, Nat.le_of_ble_eq_true rfl⟩ rfl rfl (Nat.le_of_ble_eq_true rfl) dX1_setKind_17 rfl rfl hk hb9 (fun v9 M7 H locs hP S hk => ?_) (fun E q ce M9 H9 locs9 hX S9 hk9 hc9 hv9 hf9 => mm_out C S9 (fun x hx => (hnt x hx).elim) (Nat.le_trans (Nat.le_add_right _ _) hk9) hc9 hv9 hf9 hX)
  obtain ⟨rfl, h⟩ := hP
  refine W.eq (g2 := F0 m 20 ls []) rfl ?_
  refine lv_iload hx hb dX1_setKind_20 (lv_at hl 4 rfl) ?_
  refine lv_iconst (v := 0) hx hb dX1_setKind_22 (by decide) ?_
  refine lv_bipush (v := 100) hx hb dX1_setKind_23 (by decide) ?_
  obtain ⟨b11, r12, hb9, h⟩ := h
  refine mm_S (As := [.int x4, .int 0, .int 100]) (rest := []) C S hl.1 (wk_X1_checkRange hst0 h) (lw_S q540 q541 q48 q542) pd_X1_checkRange ⟨Nat.le_of_ble_eq_true rfl, Nat.le_of_ble_eq_true rfl⟩ rfl rfl (Nat.le_of_ble_eq_true rfl) dX1_setKind_25 rfl rfl hk hb9 (fun v9 M10 H locs hP S hk => ?_) (fun E q ce M9 H9 locs9 hX S9 hk9 hc9 hv9 hf9 => mm_out C S9 (fun x hx => (hnt x hx).elim) (Nat.le_trans (Nat.le_add_right _ _) hk9) hc9 hv9 hf9 hX)
  obtain ⟨rfl, h⟩ := hP
  refine W.eq (g2 := F0 m 28 ls []) rfl ?_
  refine lv_aload_n hx hb dX1_setKind_28 rfl (lv_at hl 0 rfl) ?_
  refine mm_gfa C S (ci := 0) (k := 1) rfl in_X1 (by decide) q216 (fun _ h9 => h9) dX1_setKind_29 h (fun u13 h => ?_)
  refine lv_iload_n hx hb dX1_setKind_32 rfl (lv_at hl 1 rfl) ?_
  refine mm_aald C S (t := 7) rfl rfl h dX1_setKind_33 (fun u14 h => ?_)
  refine lv_astore (lv' := [(5, .ref u14), (0, .ref a0), (1, .int x1), (2, .int x2), (3, .int x3), (4, .int x4)]) hx hb dX1_setKind_34 hl (by decide) rfl (fun ls hl => ?_)
  refine lv_aload hx hb dX1_setKind_36 (lv_at hl 0 rfl) ?_
  refine mm_gfiN C S (ci := 2) (k := 2) rfl in_X3 (by decide) q207 (fun _ h9 => h9) dX1_setKind_38 h (fun v15 h => ?_)
  refine lv_istore (lv' := [(6, .int v15), (5, .ref u14), (0, .ref a0), (1, .int x1), (2, .int x2), (3, .int x3), (4, .int x4)]) hx hb dX1_setKind_41 hl (by decide) rfl (fun ls hl => ?_)
  refine lv_aload hx hb dX1_setKind_43 (lv_at hl 1 rfl) ?_
  refine lv_iload_n hx hb dX1_setKind_45 rfl (lv_at hl 4 rfl) ?_
  refine mm_pfiN C S (ci := 2) (k := 0) rfl in_X3 tyX3_ok nmX3 (by decide) q203 (fun _ h9 => h9) rfl dX1_setKind_46 rfl h (fun M16 H locs h S => ?_)
  refine lv_aload hx hb dX1_setKind_49 (lv_at hl 1 rfl) ?_
  refine lv_iload_n hx hb dX1_setKind_51 rfl (lv_at hl 5 rfl) ?_
  refine mm_pfiN C S (ci := 2) (k := 1) rfl in_X3 tyX3_ok nmX3 (by decide) q205 (fun _ h9 => h9) rfl dX1_setKind_52 rfl h (fun M17 H locs h S => ?_)
  refine lv_aload hx hb dX1_setKind_55 (lv_at hl 1 rfl) ?_
  refine lv_iload hx hb dX1_setKind_57 (lv_at hl 6 rfl) ?_
  refine mm_pfiN C S (ci := 2) (k := 2) rfl in_X3 tyX3_ok nmX3 (by decide) q207 (fun _ h9 => h9) rfl dX1_setKind_59 rfl h (fun M18 H locs h S => ?_)
  refine lv_iload hx hb dX1_setKind_62 (lv_at hl 0 rfl) ?_
  exact mm_iret C S hr (Nat.le_trans (Nat.le_add_right _ _) hk) dX1_setKind_64 h
/-! X0_setKind: level 13, alloc -/
def wb_X0_setKind_17 (G : mG) (P : Int32 → mM → Prop) (r : Nat) (M : mM) (s0 : Nat) : Prop :=
  P 1 M
def wb_X0_setKind_21 (G : mG) (P : Int32 → mM → Prop) (r : Nat) (M : mM) (s0 : Nat) : Prop :=
  P 2 M
def wp_X0_setKind (G : mG) (b : Nat) (P : Int32 → mM → Prop) (M : mM) (a0 : Nat) (x1 : Int32) (x2 : Int32) (x3 : Int32) (x4 : Int32) (a5 : Nat) : Prop :=
  isc M a0 0 ∧ (∃ b2 r3 : Nat, b2 + r3 = b ∧ wp_X1_setKind G b2 (fun v4 M1 => stl M1 4 a5 0 v4.toInt64 fun M5 => P 0 M5) (fun E9 u6 M7 => (E9 = "java/lang/IllegalArgumentException" ∧ wb_X0_setKind_21 G P r3 M7 u6) ∨ (E9 = "java/lang/IndexOutOfBoundsException" ∧ wb_X0_setKind_17 G P r3 M7 u6)) M a0 x1 x2 x3 x4)
set_option maxHeartbeats 4000000 in
set_option maxRecDepth 100000 in
theorem wk_X0_setKind {l : Launch} (hst0 : l.stackTraces = false) {G : mG} {b : Nat} {P : Int32 → mM → Prop} {M : mM} {a0 : Nat} {x1 : Int32} {x2 : Int32} {x3 : Int32} {x4 : Int32} {a5 : Nat} (h : wp_X0_setKind G b P M a0 x1 x2 x3 x4 a5) : mMet l yX0_setKind (wsW_ yX0_setKind cX0_setKind 7 (Option.some Jvm.ClassFile.FieldType.int) [((0 : Nat), (14 : Nat), (17 : Nat), (13 : Nat)), ((0 : Nat), (14 : Nat), (21 : Nat), (15 : Nat))]) 13 b G [.ref a0, .int x1, .int x2, .int x3, .int x4, .ref a5] M (mRi P) (fun _ _ _ => False) := by
  refine mm_metW hst0 (by decide) (Nat.le_of_ble_eq_true rfl) ?_
  intro p e s m args below meth c ls C hr htab hnm hl S
  have hl : lv_has ls 7 [(0, .ref a0), (1, .int x1), (2, .int x2), (3, .int x3), (4, .int x4), (5, .ref a5)] := hl
  generalize mA M s.heap.size = A at C S ⊢
  have hx := C.hx
  have hb := C.hb
  have hk : 0 + b ≤ b := Nat.le_of_eq (Nat.zero_add b)
  have j17 : ∀ (k r : Nat) (M : mM) (H : Heap) (locs : List Loc) (ls : Array Slot) (s0 : Nat), k + r ≤ b → mW G A s M H locs → lv_has ls 7 [] → wb_X0_setKind_17 G P r M s0 → W p l e (mRm 13 b) s m args below meth c H locs k k (vx_MQ below (mQ G A (mRi P)) (mXC G A (fun _ _ _ => False)) args s b b A) (F0 m 17 ls [.ref s0]) := by
    intro k r M H locs ls s0 hk S hl h
    unfold wb_X0_setKind_17 at h
    refine lv_astore (lv' := [(6, .ref s0)]) hx hb dX0_setKind_17 hl (by decide) rfl (fun ls hl => ?_)
    refine lv_iconst (v := 1) hx hb dX0_setKind_19 (by decide) ?_
    exact mm_iret C S hr (Nat.le_trans (Nat.le_add_right _ _) hk) dX0_setKind_20 h
  have j21 : ∀ (k r : Nat) (M : mM) (H : Heap) (locs : List Loc) (ls : Array Slot) (s0 : Nat), k + r ≤ b → mW G A s M H locs → lv_has ls 7 [] → wb_X0_setKind_21 G P r M s0 → W p l e (mRm 13 b) s m args below meth c H locs k k (vx_MQ below (mQ G A (mRi P)) (mXC G A (fun _ _ _ => False)) args s b b A) (F0 m 21 ls [.ref s0]) := by
    intro k r M H locs ls s0 hk S hl h
    unfold wb_X0_setKind_21 at h
    refine lv_astore (lv' := [(6, .ref s0)]) hx hb dX0_setKind_21 hl (by decide) rfl (fun ls hl => ?_)
    refine lv_iconst (v := 2) hx hb dX0_setKind_23 (by decide) ?_
    exact mm_iret C S hr (Nat.le_trans (Nat.le_add_right _ _) hk) dX0_setKind_24 h
  unfold wp_X0_setKind at h
  refine lv_aload hx hb dX0_setKind_0 (lv_at hl 5 rfl) ?_
  refine lv_iconst (v := 0) hx hb dX0_setKind_2 (by decide) ?_
  refine lv_aload_n hx hb dX0_setKind_3 rfl (lv_at hl 0 rfl) ?_
  refine lv_iload_n hx hb dX0_setKind_4 rfl (lv_at hl 1 rfl) ?_
  refine lv_iload_n hx hb dX0_setKind_5 rfl (lv_at hl 2 rfl) ?_
  refine lv_iload_n hx hb dX0_setKind_6 rfl (lv_at hl 3 rfl) ?_
  refine lv_iload hx hb dX0_setKind_7 (lv_at hl 4 rfl) ?_
  obtain ⟨hI, h⟩ := h
  obtain ⟨b2, r3, hb9, h⟩ := h
  refine mm_V (As := [.int x1, .int x2, .int x3, .int x4]) (rest := [.int 0, .ref a5]) C S hl.1 (wk_X1_setKind hst0 h) (T := TX1) rfl hI (lw_V q580 q581 q582 q48 q583) rfl pd_X1_setKind ⟨Nat.le_of_ble_eq_true rfl, Nat.le_of_ble_eq_true rfl⟩ rfl rfl (Nat.le_of_ble_eq_true rfl) dX0_setKind_9 rfl rfl hk hb9 (fun v9 M1 H locs hP S hk => ?_) (fun E u6 ce M7 H locs hX S hk hc9 hv9 hf9 => ?_)
  · obtain ⟨v4, rfl, h⟩ := hP
    refine W.eq (g2 := F0 m 12 ls [.int v4, .int 0, .ref a5]) rfl ?_
    refine lv_i2l hx hb dX0_setKind_12 rfl ?_
    refine mm_last C S h dX0_setKind_13 (fun M5 H locs h S => ?_)
    refine lv_goto (tgt := 25) hx hb dX0_setKind_14 (by decide) ?_
    refine lv_iconst (v := 0) hx hb dX0_setKind_25 (by decide) ?_
    exact mm_iret C S hr (Nat.le_trans (Nat.le_add_right _ _) hk) dX0_setKind_26 h
  · rcases hX with ⟨rfl, h⟩ | ⟨rfl, h⟩
    · refine vx_catch (pc := 9) (name := "java/lang/IllegalArgumentException") C.hown [(⟨0, 14, 17, 13⟩ : ExceptionTableEntry)] (⟨0, 14, 21, 15⟩ : ExceptionTableEntry) [] htab (mm_pass1 C (nm := "java/lang/IndexOutOfBoundsException") (by decide) q431 (by decide) mm_pass0) (by decide) (by decide) (C.ts _ q511) (va_Nw.use rfl (C.nw q548 rfl)) hc9 hv9 hf9 ?_
      exact j21 _ _ _ _ _ _ _ hk S (lv_sub hl [] rfl) h
    · refine vx_catch (pc := 9) (name := "java/lang/IndexOutOfBoundsException") C.hown [] (⟨0, 14, 17, 13⟩ : ExceptionTableEntry) [(⟨0, 14, 21, 15⟩ : ExceptionTableEntry)] htab mm_pass0 (by decide) (by decide) (C.ts _ q431) (va_Nw.use rfl (C.nw q521 rfl)) hc9 hv9 hf9 ?_
      exact j17 _ _ _ _ _ _ _ hk S (lv_sub hl [] rfl) h
/-! X1_setSluice: level 14, alloc, throws java/lang/IndexOutOfBoundsException -/
def wp_X1_setSluice (G : mG) (b : Nat) (P : Int32 → mM → Prop) (X : String → Nat → mM → Prop) (M : mM) (a0 : Nat) (x1 : Int32) (x2 : Int32) : Prop :=
  gfa M a0 0 4 fun u1 => ∃ b3 r4 : Nat, b3 + r4 = b ∧ wp_X1_at G b3 (fun u5 M2 => isc M2 u5 4 ∧ (gfi M2 u5 4 3 fun v6 => pfn M2 u5 4 3 .boolean x2 fun M7 => narrow .boolean (.int v6) = .int v6 ∧ P v6 M7)) X M u1 x1
set_option maxHeartbeats 4000000 in
set_option maxRecDepth 100000 in
theorem wk_X1_setSluice {l : Launch} (hst0 : l.stackTraces = false) {G : mG} {b : Nat} {P : Int32 → mM → Prop} {X : String → Nat → mM → Prop} {M : mM} {a0 : Nat} {x1 : Int32} {x2 : Int32} (h : wp_X1_setSluice G b P X M a0 x1 x2) : mMet l yX1_setSluice (ws_ yX1_setSluice cX1_setSluice 5 (Option.some Jvm.ClassFile.FieldType.boolean)) 14 b G [.ref a0, .int x1, .int x2] M (mRi P) X := by
  refine mm_met hst0 (by decide) (Nat.le_of_ble_eq_true rfl) ?_
  intro p e s m args below meth c ls C hr hnt hnm hl S
  have hl : lv_has ls 5 [(0, .ref a0), (1, .int x1), (2, .int x2)] := hl
  generalize mA M s.heap.size = A at C S ⊢
  have hx := C.hx
  have hb := C.hb
  have hk : 0 + b ≤ b := Nat.le_of_eq (Nat.zero_add b)
  unfold wp_X1_setSluice at h
  refine lv_aload_n hx hb dX1_setSluice_0 rfl (lv_at hl 0 rfl) ?_
  refine mm_gfa C S (ci := 0) (k := 4) rfl in_X1 (by decide) q219 (fun _ h9 => h9) dX1_setSluice_1 h (fun u1 h => ?_)
  refine lv_iload_n hx hb dX1_setSluice_4 rfl (lv_at hl 1 rfl) ?_
  obtain ⟨b3, r4, hb9, h⟩ := h
  refine mm_S (As := [.ref u1, .int x1]) (rest := []) C S hl.1 (wk_X1_at hst0 h) (lw_S q728 q729 q48 q730) pd_X1_at ⟨Nat.le_of_ble_eq_true rfl, Nat.le_of_ble_eq_true rfl⟩ rfl rfl (Nat.le_of_ble_eq_true rfl) dX1_setSluice_5 rfl rfl hk hb9 (fun v9 M2 H locs hP S hk => ?_) (fun E q ce M9 H9 locs9 hX S9 hk9 hc9 hv9 hf9 => mm_out C S9 (fun x hx => (hnt x hx).elim) (Nat.le_trans (Nat.le_add_right _ _) hk9) hc9 hv9 hf9 hX)
  obtain ⟨u5, rfl, h⟩ := hP
  refine W.eq (g2 := F0 m 8 ls [.ref u5]) rfl ?_
  refine mm_castS C S (ci := 4) (T := TX5) rfl rfl q624 h.1 dX1_setSluice_8 ?_
  have h := h.2
  refine lv_astore_n (lv' := [(3, .ref u5), (0, .ref a0), (1, .int x1), (2, .int x2)]) hx hb dX1_setSluice_11 rfl hl (by decide) rfl (fun ls hl => ?_)
  refine lv_aload_n hx hb dX1_setSluice_12 rfl (lv_at hl 0 rfl) ?_
  refine mm_gfiN C S (ci := 4) (k := 3) rfl in_X5 (by decide) q637 (fun _ h9 => h9) dX1_setSluice_13 h (fun v6 h => ?_)
  refine lv_istore (lv' := [(4, .int v6), (3, .ref u5), (0, .ref a0), (1, .int x1), (2, .int x2)]) hx hb dX1_setSluice_16 hl (by decide) rfl (fun ls hl => ?_)
  refine lv_aload_n hx hb dX1_setSluice_18 rfl (lv_at hl 1 rfl) ?_
  refine lv_iload_n hx hb dX1_setSluice_19 rfl (lv_at hl 4 rfl) ?_
  refine mm_pfnN C S (ci := 4) (k := 3) rfl in_X5 tyX5_ok nmX5 (by decide) q637 (fun _ h9 => h9) rfl dX1_setSluice_20 rfl h (fun M7 H locs h S => ?_)
  refine lv_iload hx hb dX1_setSluice_23 (lv_at hl 0 rfl) ?_
  exact mm_zret C S hr (Nat.le_trans (Nat.le_add_right _ _) hk) dX1_setSluice_25 h
/-! X0_setSluice: level 15, alloc -/
def wb_X0_setSluice_16 (G : mG) (P : Int32 → mM → Prop) (r : Nat) (M : mM) (s0 : Nat) (s1 : Int32) (s2 : Int64) : Prop :=
  stl M 4 s0 s1 s2 fun M7 => P 0 M7
def wb_X0_setSluice_20 (G : mG) (P : Int32 → mM → Prop) (r : Nat) (M : mM) (s0 : Nat) : Prop :=
  P 1 M
def wp_X0_setSluice (G : mG) (b : Nat) (P : Int32 → mM → Prop) (M : mM) (a0 : Nat) (x1 : Int32) (x2 : Int32) (a3 : Nat) : Prop :=
  isc M a0 0 ∧ (∃ b2 r3 : Nat, b2 + r3 = b ∧ wp_X1_setSluice G b2 (fun v4 M1 => (v4 = 0 → wb_X0_setSluice_16 G P r3 M1 a3 0 0) ∧ (¬ v4 = 0 → wb_X0_setSluice_16 G P r3 M1 a3 0 1)) (fun E9 u5 M6 => (E9 = "java/lang/IndexOutOfBoundsException" ∧ wb_X0_setSluice_20 G P r3 M6 u5)) M a0 x1 x2)
set_option maxHeartbeats 4000000 in
set_option maxRecDepth 100000 in
theorem wk_X0_setSluice {l : Launch} (hst0 : l.stackTraces = false) {G : mG} {b : Nat} {P : Int32 → mM → Prop} {M : mM} {a0 : Nat} {x1 : Int32} {x2 : Int32} {a3 : Nat} (h : wp_X0_setSluice G b P M a0 x1 x2 a3) : mMet l yX0_setSluice (wsW_ yX0_setSluice cX0_setSluice 5 (Option.some Jvm.ClassFile.FieldType.int) [((0 : Nat), (17 : Nat), (20 : Nat), (13 : Nat))]) 15 b G [.ref a0, .int x1, .int x2, .ref a3] M (mRi P) (fun _ _ _ => False) := by
  refine mm_metW hst0 (by decide) (Nat.le_of_ble_eq_true rfl) ?_
  intro p e s m args below meth c ls C hr htab hnm hl S
  have hl : lv_has ls 5 [(0, .ref a0), (1, .int x1), (2, .int x2), (3, .ref a3)] := hl
  generalize mA M s.heap.size = A at C S ⊢
  have hx := C.hx
  have hb := C.hb
  have hk : 0 + b ≤ b := Nat.le_of_eq (Nat.zero_add b)
  have j16 : ∀ (k r : Nat) (M : mM) (H : Heap) (locs : List Loc) (ls : Array Slot) (s0 : Nat) (s1 : Int32) (s2 : Int64), k + r ≤ b → mW G A s M H locs → lv_has ls 5 [] → wb_X0_setSluice_16 G P r M s0 s1 s2 → W p l e (mRm 15 b) s m args below meth c H locs k k (vx_MQ below (mQ G A (mRi P)) (mXC G A (fun _ _ _ => False)) args s b b A) (F0 m 16 ls [.long s2, .int s1, .ref s0]) := by
    intro k r M H locs ls s0 s1 s2 hk S hl h
    unfold wb_X0_setSluice_16 at h
    refine mm_last C S h dX0_setSluice_16 (fun M7 H locs h S => ?_)
    refine lv_goto (tgt := 24) hx hb dX0_setSluice_17 (by decide) ?_
    refine lv_iconst (v := 0) hx hb dX0_setSluice_24 (by decide) ?_
    exact mm_iret C S hr (Nat.le_trans (Nat.le_add_right _ _) hk) dX0_setSluice_25 h
  have j20 : ∀ (k r : Nat) (M : mM) (H : Heap) (locs : List Loc) (ls : Array Slot) (s0 : Nat), k + r ≤ b → mW G A s M H locs → lv_has ls 5 [] → wb_X0_setSluice_20 G P r M s0 → W p l e (mRm 15 b) s m args below meth c H locs k k (vx_MQ below (mQ G A (mRi P)) (mXC G A (fun _ _ _ => False)) args s b b A) (F0 m 20 ls [.ref s0]) := by
    intro k r M H locs ls s0 hk S hl h
    unfold wb_X0_setSluice_20 at h
    refine lv_astore (lv' := [(4, .ref s0)]) hx hb dX0_setSluice_20 hl (by decide) rfl (fun ls hl => ?_)
    refine lv_iconst (v := 1) hx hb dX0_setSluice_22 (by decide) ?_
    exact mm_iret C S hr (Nat.le_trans (Nat.le_add_right _ _) hk) dX0_setSluice_23 h
  unfold wp_X0_setSluice at h
  refine lv_aload_n hx hb dX0_setSluice_0 rfl (lv_at hl 3 rfl) ?_
  refine lv_iconst (v := 0) hx hb dX0_setSluice_1 (by decide) ?_
  refine lv_aload_n hx hb dX0_setSluice_2 rfl (lv_at hl 0 rfl) ?_
  refine lv_iload_n hx hb dX0_setSluice_3 rfl (lv_at hl 1 rfl) ?_
  refine lv_iload_n hx hb dX0_setSluice_4 rfl (lv_at hl 2 rfl) ?_
  obtain ⟨hI, h⟩ := h
  obtain ⟨b2, r3, hb9, h⟩ := h
  refine mm_V (As := [.int x1, .int x2]) (rest := [.int 0, .ref a3]) C S hl.1 (wk_X1_setSluice hst0 h) (T := TX1) rfl hI (lw_V q724 q725 q726 q48 q727) rfl pd_X1_setSluice ⟨Nat.le_of_ble_eq_true rfl, Nat.le_of_ble_eq_true rfl⟩ rfl rfl (Nat.le_of_ble_eq_true rfl) dX0_setSluice_5 rfl rfl hk hb9 (fun v9 M1 H locs hP S hk => ?_) (fun E u5 ce M6 H locs hX S hk hc9 hv9 hf9 => ?_)
  · obtain ⟨v4, rfl, h⟩ := hP
    refine W.eq (g2 := F0 m 8 ls [.int v4, .int 0, .ref a3]) rfl ?_
    refine lv_if_eq (tgt := 15) hx hb dX0_setSluice_8 (by decide) (fun c9 => ?_) (fun c9 => ?_)
    · have h := h.1 c9
      refine lv_lconst (v := 0) hx hb dX0_setSluice_15 (by decide) ?_
      exact j16 _ _ _ _ _ _ _ _ _ hk S (lv_sub hl [] rfl) h
    · have h := h.2 c9
      refine lv_lconst (v := 1) hx hb dX0_setSluice_11 (by decide) ?_
      refine lv_goto (tgt := 16) hx hb dX0_setSluice_12 (by decide) ?_
      exact j16 _ _ _ _ _ _ _ _ _ hk S (lv_sub hl [] rfl) h
  · rcases hX with ⟨rfl, h⟩
    · refine vx_catch (pc := 5) (name := "java/lang/IndexOutOfBoundsException") C.hown [] (⟨0, 17, 20, 13⟩ : ExceptionTableEntry) [] htab mm_pass0 (by decide) (by decide) (C.ts _ q431) (va_Nw.use rfl (C.nw q521 rfl)) hc9 hv9 hf9 ?_
      exact j20 _ _ _ _ _ _ _ hk S (lv_sub hl [] rfl) h
/-! X1_share: level 14, alloc, throws java/lang/IndexOutOfBoundsException -/
def wp_X1_share (G : mG) (b : Nat) (P : Int32 → mM → Prop) (X : String → Nat → mM → Prop) (M : mM) (a0 : Nat) (x1 : Int32) : Prop :=
  gfa M a0 0 6 fun u1 => isc M u1 16 ∧ (wp_J2_size G 0 (fun v3 M2 => ∃ b5 r6 : Nat, b5 + r6 = b ∧ wp_X1_checkIndex G b5 (fun M4 => isc M4 a0 0 ∧ (∃ b8 r9 : Nat, b8 + r9 = r6 ∧ wp_X1_shareOf G b8 (fun v10 M7 => P v10 M7) M4 a0 x1)) X M2 x1 v3) M u1)
set_option maxHeartbeats 4000000 in
set_option maxRecDepth 100000 in
theorem wk_X1_share {l : Launch} (hst0 : l.stackTraces = false) {G : mG} {b : Nat} {P : Int32 → mM → Prop} {X : String → Nat → mM → Prop} {M : mM} {a0 : Nat} {x1 : Int32} (h : wp_X1_share G b P X M a0 x1) : mMet l yX1_share (ws_ yX1_share cX1_share 2 (Option.some Jvm.ClassFile.FieldType.int)) 14 b G [.ref a0, .int x1] M (mRi P) X := by
  refine mm_met hst0 (by decide) (Nat.le_of_ble_eq_true rfl) ?_
  intro p e s m args below meth c ls C hr hnt hnm hl S
  have hl : lv_has ls 2 [(0, .ref a0), (1, .int x1)] := hl
  generalize mA M s.heap.size = A at C S ⊢
  have hx := C.hx
  have hb := C.hb
  have hk : 0 + b ≤ b := Nat.le_of_eq (Nat.zero_add b)
  unfold wp_X1_share at h
  refine lv_iload_n hx hb dX1_share_0 rfl (lv_at hl 1 rfl) ?_
  refine lv_aload_n hx hb dX1_share_1 rfl (lv_at hl 0 rfl) ?_
  refine mm_gfa C S (ci := 0) (k := 6) rfl in_X1 (by decide) q221 (fun _ h9 => h9) dX1_share_2 h (fun u1 h => ?_)
  obtain ⟨hI, h⟩ := h
  refine mm_F (As := []) (rest := [.int x1]) C S hl.1 (x := ⟨"java/util/List", "size", "()I"⟩) (wk_J2_size hst0 h) (T := TJ2) rfl hI (mWsF q284 q288 q290 q51 (lw_meth q292)) (by decide +kernel) pdi_2 ⟨Nat.le_of_ble_eq_true rfl, Nat.le_of_ble_eq_true rfl⟩ rfl rfl (Nat.le_of_ble_eq_true rfl) dX1_share_5 rfl rfl hk (Nat.zero_add _) (fun v9 M2 H locs hP S hk => ?_) (fun E q ce M9 H9 locs9 hX => hX.elim)
  obtain ⟨v3, rfl, h⟩ := hP
  refine W.eq (g2 := F0 m 10 ls [.int v3, .int x1]) rfl ?_
  obtain ⟨b5, r6, hb9, h⟩ := h
  refine mm_S (As := [.int x1, .int v3]) (rest := []) C S hl.1 (wk_X1_checkIndex hst0 h) (lw_S q516 q517 q48 q518) pd_X1_checkIndex ⟨Nat.le_of_ble_eq_true rfl, Nat.le_of_ble_eq_true rfl⟩ rfl rfl (Nat.le_of_ble_eq_true rfl) dX1_share_10 rfl rfl hk hb9 (fun v9 M4 H locs hP S hk => ?_) (fun E q ce M9 H9 locs9 hX S9 hk9 hc9 hv9 hf9 => mm_out C S9 (fun x hx => (hnt x hx).elim) (Nat.le_trans (Nat.le_add_right _ _) hk9) hc9 hv9 hf9 hX)
  obtain ⟨rfl, h⟩ := hP
  refine W.eq (g2 := F0 m 13 ls []) rfl ?_
  refine lv_aload_n hx hb dX1_share_13 rfl (lv_at hl 0 rfl) ?_
  refine lv_iload_n hx hb dX1_share_14 rfl (lv_at hl 1 rfl) ?_
  obtain ⟨hI, h⟩ := h
  obtain ⟨b8, r9, hb9, h⟩ := h
  refine mm_V (As := [.int x1]) (rest := []) C S hl.1 (wk_X1_shareOf hst0 h) (T := TX1) rfl hI (lw_V q1561 q1563 qs18 q48 q1564) rfl pd_X1_shareOf ⟨Nat.le_of_ble_eq_true rfl, Nat.le_of_ble_eq_true rfl⟩ rfl rfl (Nat.le_of_ble_eq_true rfl) dX1_share_15 rfl rfl hk hb9 (fun v9 M7 H locs hP S hk => ?_) (fun E q ce M9 H9 locs9 hX => hX.elim)
  obtain ⟨v10, rfl, h⟩ := hP
  refine W.eq (g2 := F0 m 18 ls [.int v10]) rfl ?_
  exact mm_iret C S hr (Nat.le_trans (Nat.le_add_right _ _) hk) dX1_share_18 h
/-! X0_share: level 15, alloc -/
def wb_X0_share_12 (G : mG) (P : Int32 → mM → Prop) (r : Nat) (M : mM) (s0 : Nat) : Prop :=
  P 1 M
def wp_X0_share (G : mG) (b : Nat) (P : Int32 → mM → Prop) (M : mM) (a0 : Nat) (x1 : Int32) (a2 : Nat) : Prop :=
  isc M a0 0 ∧ (∃ b2 r3 : Nat, b2 + r3 = b ∧ wp_X1_share G b2 (fun v4 M1 => stl M1 4 a2 0 v4.toInt64 fun M5 => P 0 M5) (fun E9 u6 M7 => (E9 = "java/lang/IndexOutOfBoundsException" ∧ wb_X0_share_12 G P r3 M7 u6)) M a0 x1)
set_option maxHeartbeats 4000000 in
set_option maxRecDepth 100000 in
theorem wk_X0_share {l : Launch} (hst0 : l.stackTraces = false) {G : mG} {b : Nat} {P : Int32 → mM → Prop} {M : mM} {a0 : Nat} {x1 : Int32} {a2 : Nat} (h : wp_X0_share G b P M a0 x1 a2) : mMet l yX0_share (wsW_ yX0_share cX0_share 4 (Option.some Jvm.ClassFile.FieldType.int) [((0 : Nat), (9 : Nat), (12 : Nat), (13 : Nat))]) 15 b G [.ref a0, .int x1, .ref a2] M (mRi P) (fun _ _ _ => False) := by
  refine mm_metW hst0 (by decide) (Nat.le_of_ble_eq_true rfl) ?_
  intro p e s m args below meth c ls C hr htab hnm hl S
  have hl : lv_has ls 4 [(0, .ref a0), (1, .int x1), (2, .ref a2)] := hl
  generalize mA M s.heap.size = A at C S ⊢
  have hx := C.hx
  have hb := C.hb
  have hk : 0 + b ≤ b := Nat.le_of_eq (Nat.zero_add b)
  have j12 : ∀ (k r : Nat) (M : mM) (H : Heap) (locs : List Loc) (ls : Array Slot) (s0 : Nat), k + r ≤ b → mW G A s M H locs → lv_has ls 4 [] → wb_X0_share_12 G P r M s0 → W p l e (mRm 15 b) s m args below meth c H locs k k (vx_MQ below (mQ G A (mRi P)) (mXC G A (fun _ _ _ => False)) args s b b A) (F0 m 12 ls [.ref s0]) := by
    intro k r M H locs ls s0 hk S hl h
    unfold wb_X0_share_12 at h
    refine lv_astore_n (lv' := [(3, .ref s0)]) hx hb dX0_share_12 rfl hl (by decide) rfl (fun ls hl => ?_)
    refine lv_iconst (v := 1) hx hb dX0_share_13 (by decide) ?_
    exact mm_iret C S hr (Nat.le_trans (Nat.le_add_right _ _) hk) dX0_share_14 h
  unfold wp_X0_share at h
  refine lv_aload_n hx hb dX0_share_0 rfl (lv_at hl 2 rfl) ?_
  refine lv_iconst (v := 0) hx hb dX0_share_1 (by decide) ?_
  refine lv_aload_n hx hb dX0_share_2 rfl (lv_at hl 0 rfl) ?_
  refine lv_iload_n hx hb dX0_share_3 rfl (lv_at hl 1 rfl) ?_
  obtain ⟨hI, h⟩ := h
  obtain ⟨b2, r3, hb9, h⟩ := h
  refine mm_V (As := [.int x1]) (rest := [.int 0, .ref a2]) C S hl.1 (wk_X1_share hst0 h) (T := TX1) rfl hI (lw_V q1634 q1635 q1636 q48 q1637) rfl pd_X1_share ⟨Nat.le_of_ble_eq_true rfl, Nat.le_of_ble_eq_true rfl⟩ rfl rfl (Nat.le_of_ble_eq_true rfl) dX0_share_4 rfl rfl hk hb9 (fun v9 M1 H locs hP S hk => ?_) (fun E u6 ce M7 H locs hX S hk hc9 hv9 hf9 => ?_)
  · obtain ⟨v4, rfl, h⟩ := hP
    refine W.eq (g2 := F0 m 7 ls [.int v4, .int 0, .ref a2]) rfl ?_
    refine lv_i2l hx hb dX0_share_7 rfl ?_
    refine mm_last C S h dX0_share_8 (fun M5 H locs h S => ?_)
    refine lv_goto (tgt := 15) hx hb dX0_share_9 (by decide) ?_
    refine lv_iconst (v := 0) hx hb dX0_share_15 (by decide) ?_
    exact mm_iret C S hr (Nat.le_trans (Nat.le_add_right _ _) hk) dX0_share_16 h
  · rcases hX with ⟨rfl, h⟩
    · refine vx_catch (pc := 4) (name := "java/lang/IndexOutOfBoundsException") C.hown [] (⟨0, 9, 12, 13⟩ : ExceptionTableEntry) [] htab mm_pass0 (by decide) (by decide) (C.ts _ q431) (va_Nw.use rfl (C.nw q521 rfl)) hc9 hv9 hf9 ?_
      exact j12 _ _ _ _ _ _ _ hk S (lv_sub hl [] rfl) h
/-! X1_total: level 11, alloc, throws java/lang/IndexOutOfBoundsException -/
def wl_X1_total_10 (G : mG) (P : Int64 → mM → Prop) (X : String → Nat → mM → Prop) : Nat → Nat → mM → Nat → Int32 → Int32 → Int64 → Int32 → Prop
  | 0, _, _, _, _, _, _, _ => False
  | n + 1, r, M, a0, x1, x2, y3, x5 => (36 ≤ x5 → P y3 M) ∧ (¬ 36 ≤ x5 → gfi M a0 0 17 fun v4 => isc M a0 0 ∧ (wp_X1_joined G 0 (fun v6 M5 => ∀ g7 : Int32, g7 = (if (0 : Int32) < v6 then v6 else (0 : Int32)) → (wl_X1_total_10 G P X n) r M5 a0 x1 x2 (y3 + g7.toInt64) (x5 + 1)) M a0 x5 x1 v4 x2))
def wp_X1_total (G : mG) (b : Nat) (P : Int64 → mM → Prop) (X : String → Nat → mM → Prop) (M : mM) (a0 : Nat) (x1 : Int32) (x2 : Int32) : Prop :=
  ∃ b2 r3 : Nat, b2 + r3 = b ∧ wp_X1_checkIndex G b2 (fun M1 => ∃ n10, wl_X1_total_10 G P X n10 r3 M1 a0 x1 x2 0 0) X M x1 4
set_option maxHeartbeats 4000000 in
set_option maxRecDepth 100000 in
theorem wk_X1_total {l : Launch} (hst0 : l.stackTraces = false) {G : mG} {b : Nat} {P : Int64 → mM → Prop} {X : String → Nat → mM → Prop} {M : mM} {a0 : Nat} {x1 : Int32} {x2 : Int32} (h : wp_X1_total G b P X M a0 x1 x2) : mMet l yX1_total (ws_ yX1_total cX1_total 6 (Option.some Jvm.ClassFile.FieldType.long)) 11 b G [.ref a0, .int x1, .int x2] M (mRl P) X := by
  refine mm_met hst0 (by decide) (Nat.le_of_ble_eq_true rfl) ?_
  intro p e s m args below meth c ls C hr hnt hnm hl S
  have hl : lv_has ls 6 [(0, .ref a0), (1, .int x1), (2, .int x2)] := hl
  generalize mA M s.heap.size = A at C S ⊢
  have hx := C.hx
  have hb := C.hb
  have hk : 0 + b ≤ b := Nat.le_of_eq (Nat.zero_add b)
  have j10 : ∀ (nf : Nat) (k r : Nat) (M : mM) (H : Heap) (locs : List Loc) (ls : Array Slot) (a0 : Nat) (x1 : Int32) (x2 : Int32) (y3 : Int64) (x5 : Int32), k + r ≤ b → mW G A s M H locs → lv_has ls 6 [(0, .ref a0), (1, .int x1), (2, .int x2), (3, .long y3), (5, .int x5)] → wl_X1_total_10 G P X nf r M a0 x1 x2 y3 x5 → W p l e (mRm 11 b) s m args below meth c H locs k k (vx_MQ below (mQ G A (mRl P)) (mXC G A X) args s b b A) (F0 m 10 ls []) := by
    intro nf
    induction nf with
    | zero =>
      intro k r M H locs ls a0 x1 x2 y3 x5 hk S hl h
      rw [wl_X1_total_10] at h
      exact h.elim
    | succ n10 ih10 =>
      intro k r M H locs ls a0 x1 x2 y3 x5 hk S hl h
      rw [wl_X1_total_10] at h
      refine lv_iload hx hb dX1_total_10 (lv_at hl 4 rfl) ?_
      refine lv_bipush (v := 36) hx hb dX1_total_12 (by decide) ?_
      refine lv_icmp_ge (tgt := 43) hx hb dX1_total_14 (by decide) (fun c9 => ?_) (fun c9 => ?_)
      · have h := h.1 c9
        refine lv_lload_n hx hb dX1_total_43 rfl (lv_at hl 3 rfl) ?_
        exact mm_lret C S hr (Nat.le_trans (Nat.le_add_right _ _) hk) dX1_total_44 h
      · have h := h.2 c9
        refine lv_lload_n hx hb dX1_total_17 rfl (lv_at hl 3 rfl) ?_
        refine lv_iconst (v := 0) hx hb dX1_total_18 (by decide) ?_
        refine lv_aload_n hx hb dX1_total_19 rfl (lv_at hl 0 rfl) ?_
        refine lv_iload hx hb dX1_total_20 (lv_at hl 4 rfl) ?_
        refine lv_iload_n hx hb dX1_total_22 rfl (lv_at hl 1 rfl) ?_
        refine lv_aload_n hx hb dX1_total_23 rfl (lv_at hl 0 rfl) ?_
        refine mm_gfi C S (ci := 0) (k := 17) rfl in_X1 (by decide) q232 (fun _ h9 => h9) dX1_total_24 h (fun v4 h => ?_)
        refine lv_iload_n hx hb dX1_total_27 rfl (lv_at hl 2 rfl) ?_
        obtain ⟨hI, h⟩ := h
        refine mm_V (As := [.int x5, .int x1, .int v4, .int x2]) (rest := [.int 0, .long y3]) C S hl.1 (wk_X1_joined hst0 h) (T := TX1) rfl hI (lw_V q337 q339 qs2 q48 q340) rfl pd_X1_joined ⟨Nat.le_of_ble_eq_true rfl, Nat.le_of_ble_eq_true rfl⟩ rfl rfl (Nat.le_of_ble_eq_true rfl) dX1_total_28 rfl rfl hk (Nat.zero_add _) (fun v9 M5 H locs hP S hk => ?_) (fun E q ce M9 H9 locs9 hX => hX.elim)
        obtain ⟨v6, rfl, h⟩ := hP
        refine W.eq (g2 := F0 m 31 ls [.int v6, .int 0, .long y3]) rfl ?_
        refine mm_max C hl.1 q327 q328 q68 q329 (Nat.le_of_ble_eq_true rfl) (Nat.le_of_ble_eq_true rfl) (Nat.le_trans (Nat.le_add_right _ _) hk) (Nat.le_trans (Nat.le_add_right _ _) hk) dX1_total_31 ?_
        refine lv_topi (fun g7 eg7 => ?_)
        have h := h g7 eg7
        refine lv_i2l hx hb dX1_total_34 rfl ?_
        refine lv_ladd hx hb dX1_total_35 ?_
        refine lv_lstore_n (lv' := [(3, .long (y3 + g7.toInt64)), (0, .ref a0), (1, .int x1), (2, .int x2), (5, .int x5)]) hx hb dX1_total_36 rfl hl (by decide) rfl (fun ls hl => ?_)
        refine lv_iinc (v := (x5 + 1)) (lv' := [(5, .int (x5 + 1)), (3, .long (y3 + g7.toInt64)), (0, .ref a0), (1, .int x1), (2, .int x2)]) hx hb dX1_total_37 hl (k := 4) rfl rfl (by decide) rfl (fun ls hl => ?_)
        refine lv_goto (tgt := 10) hx hb dX1_total_40 (by decide) ?_
        exact ih10 _ _ _ _ _ _ _ _ _ _ _ hk S (lv_sub hl [2, 3, 4, 1, 0] rfl) h
  unfold wp_X1_total at h
  refine lv_iload_n hx hb dX1_total_0 rfl (lv_at hl 1 rfl) ?_
  refine lv_iconst (v := 4) hx hb dX1_total_1 (by decide) ?_
  obtain ⟨b2, r3, hb9, h⟩ := h
  refine mm_S (As := [.int x1, .int 4]) (rest := []) C S hl.1 (wk_X1_checkIndex hst0 h) (lw_S q516 q517 q48 q518) pd_X1_checkIndex ⟨Nat.le_of_ble_eq_true rfl, Nat.le_of_ble_eq_true rfl⟩ rfl rfl (Nat.le_of_ble_eq_true rfl) dX1_total_2 rfl rfl hk hb9 (fun v9 M1 H locs hP S hk => ?_) (fun E q ce M9 H9 locs9 hX S9 hk9 hc9 hv9 hf9 => mm_out C S9 (fun x hx => (hnt x hx).elim) (Nat.le_trans (Nat.le_add_right _ _) hk9) hc9 hv9 hf9 hX)
  obtain ⟨rfl, h⟩ := hP
  refine W.eq (g2 := F0 m 5 ls []) rfl ?_
  refine lv_lconst (v := 0) hx hb dX1_total_5 (by decide) ?_
  refine lv_lstore_n (lv' := [(3, .long 0), (0, .ref a0), (1, .int x1), (2, .int x2)]) hx hb dX1_total_6 rfl hl (by decide) rfl (fun ls hl => ?_)
  refine lv_iconst (v := 0) hx hb dX1_total_7 (by decide) ?_
  refine lv_istore (lv' := [(5, .int 0), (3, .long 0), (0, .ref a0), (1, .int x1), (2, .int x2)]) hx hb dX1_total_8 hl (by decide) rfl (fun ls hl => ?_)
  obtain ⟨nf, h⟩ := h
  exact j10 nf _ _ _ _ _ _ _ _ _ _ _ hk S (lv_sub hl [2, 3, 4, 1, 0] rfl) h
/-! X0_total: level 12, alloc -/
def wb_X0_total_12 (G : mG) (P : Int32 → mM → Prop) (r : Nat) (M : mM) (s0 : Nat) : Prop :=
  P 1 M
def wp_X0_total (G : mG) (b : Nat) (P : Int32 → mM → Prop) (M : mM) (a0 : Nat) (x1 : Int32) (x2 : Int32) (a3 : Nat) : Prop :=
  isc M a0 0 ∧ (∃ b2 r3 : Nat, b2 + r3 = b ∧ wp_X1_total G b2 (fun g4 M1 => stl M1 4 a3 0 g4 fun M5 => P 0 M5) (fun E9 u6 M7 => (E9 = "java/lang/IndexOutOfBoundsException" ∧ wb_X0_total_12 G P r3 M7 u6)) M a0 x1 x2)
set_option maxHeartbeats 4000000 in
set_option maxRecDepth 100000 in
theorem wk_X0_total {l : Launch} (hst0 : l.stackTraces = false) {G : mG} {b : Nat} {P : Int32 → mM → Prop} {M : mM} {a0 : Nat} {x1 : Int32} {x2 : Int32} {a3 : Nat} (h : wp_X0_total G b P M a0 x1 x2 a3) : mMet l yX0_total (wsW_ yX0_total cX0_total 5 (Option.some Jvm.ClassFile.FieldType.int) [((0 : Nat), (9 : Nat), (12 : Nat), (13 : Nat))]) 12 b G [.ref a0, .int x1, .int x2, .ref a3] M (mRi P) (fun _ _ _ => False) := by
  refine mm_metW hst0 (by decide) (Nat.le_of_ble_eq_true rfl) ?_
  intro p e s m args below meth c ls C hr htab hnm hl S
  have hl : lv_has ls 5 [(0, .ref a0), (1, .int x1), (2, .int x2), (3, .ref a3)] := hl
  generalize mA M s.heap.size = A at C S ⊢
  have hx := C.hx
  have hb := C.hb
  have hk : 0 + b ≤ b := Nat.le_of_eq (Nat.zero_add b)
  have j12 : ∀ (k r : Nat) (M : mM) (H : Heap) (locs : List Loc) (ls : Array Slot) (s0 : Nat), k + r ≤ b → mW G A s M H locs → lv_has ls 5 [] → wb_X0_total_12 G P r M s0 → W p l e (mRm 12 b) s m args below meth c H locs k k (vx_MQ below (mQ G A (mRi P)) (mXC G A (fun _ _ _ => False)) args s b b A) (F0 m 12 ls [.ref s0]) := by
    intro k r M H locs ls s0 hk S hl h
    unfold wb_X0_total_12 at h
    refine lv_astore (lv' := [(4, .ref s0)]) hx hb dX0_total_12 hl (by decide) rfl (fun ls hl => ?_)
    refine lv_iconst (v := 1) hx hb dX0_total_14 (by decide) ?_
    exact mm_iret C S hr (Nat.le_trans (Nat.le_add_right _ _) hk) dX0_total_15 h
  unfold wp_X0_total at h
  refine lv_aload_n hx hb dX0_total_0 rfl (lv_at hl 3 rfl) ?_
  refine lv_iconst (v := 0) hx hb dX0_total_1 (by decide) ?_
  refine lv_aload_n hx hb dX0_total_2 rfl (lv_at hl 0 rfl) ?_
  refine lv_iload_n hx hb dX0_total_3 rfl (lv_at hl 1 rfl) ?_
  refine lv_iload_n hx hb dX0_total_4 rfl (lv_at hl 2 rfl) ?_
  obtain ⟨hI, h⟩ := h
  obtain ⟨b2, r3, hb9, h⟩ := h
  refine mm_V (As := [.int x1, .int x2]) (rest := [.int 0, .ref a3]) C S hl.1 (wk_X1_total hst0 h) (T := TX1) rfl hI (lw_V q1648 q1649 q1650 q48 q1651) rfl pd_X1_total ⟨Nat.le_of_ble_eq_true rfl, Nat.le_of_ble_eq_true rfl⟩ rfl rfl (Nat.le_of_ble_eq_true rfl) dX0_total_5 rfl rfl hk hb9 (fun v9 M1 H locs hP S hk => ?_) (fun E u6 ce M7 H locs hX S hk hc9 hv9 hf9 => ?_)
  · obtain ⟨g4, rfl, h⟩ := hP
    refine W.eq (g2 := F0 m 8 ls [.long g4, .int 0, .ref a3]) rfl ?_
    refine mm_last C S h dX0_total_8 (fun M5 H locs h S => ?_)
    refine lv_goto (tgt := 16) hx hb dX0_total_9 (by decide) ?_
    refine lv_iconst (v := 0) hx hb dX0_total_16 (by decide) ?_
    exact mm_iret C S hr (Nat.le_trans (Nat.le_add_right _ _) hk) dX0_total_17 h
  · rcases hX with ⟨rfl, h⟩
    · refine vx_catch (pc := 5) (name := "java/lang/IndexOutOfBoundsException") C.hown [] (⟨0, 9, 12, 13⟩ : ExceptionTableEntry) [] htab mm_pass0 (by decide) (by decide) (C.ts _ q431) (va_Nw.use rfl (C.nw q521 rfl)) hc9 hv9 hf9 ?_
      exact j12 _ _ _ _ _ _ _ hk S (lv_sub hl [] rfl) h
/-! X1_type: level 17, alloc, throws java/lang/IllegalStateException -/
def wb_X1_type_69 (G : mG) (P : Int32 → mM → Prop) (X : String → Nat → mM → Prop) (r : Nat) (M : mM) (a0 : Nat) (a3 : Nat) (s0 : Int32) : Prop :=
  ∃ b18 r19 : Nat, b18 + r19 = r ∧ wp_X1_checkState G b18 (fun M17 => gfa M17 a0 0 12 fun u20 => isc M17 u20 17 ∧ (∃ b22 r23 : Nat, b22 + r23 = r19 ∧ wp_J4_append_2 G b22 (fun u24 M21 => gfa M21 a0 0 12 fun u25 => isc M21 u25 17 ∧ (wp_J4_length G 0 (fun v27 M26 => P v27 M26) M21 u25)) M17 u20 a3)) X M s0
def wb_X1_type_41 (G : mG) (P : Int32 → mM → Prop) (X : String → Nat → mM → Prop) (K12 : Nat → mM → Nat → Int64 → Nat → Int32 → Prop) (r : Nat) (M : mM) (a0 : Nat) (y1 : Int64) (a3 : Nat) (x4 : Int32) : Prop :=
  K12 r M a0 y1 a3 (x4 + (-8))
def wl_X1_type_12 (G : mG) (P : Int32 → mM → Prop) (X : String → Nat → mM → Prop) : Nat → Nat → mM → Nat → Int64 → Nat → Int32 → Prop
  | 0, _, _, _, _, _, _ => False
  | n + 1, r, M, a0, y1, a3, x4 => (x4 < 0 → gfa M a0 0 12 fun u7 => isc M u7 17 ∧ (wp_J4_length G 0 (fun v9 M8 => isc M8 a3 17 ∧ (wp_J4_length G 0 (fun v11 M10 => (60 < (v9 + v11) → wb_X1_type_69 G P X r M10 a0 a3 0) ∧ (¬ 60 < (v9 + v11) → wb_X1_type_69 G P X r M10 a0 a3 1)) M8 a3)) M u7)) ∧ (¬ x4 < 0 → ∀ g12 : Int64, g12 = ((y1.toUInt64 >>> (x4.toInt64.toUInt64 &&& Int64.toUInt64 63)).toInt64) → (((g12 &&& 255).toInt32) = 0 → wb_X1_type_41 G P X (wl_X1_type_12 G P X n) r M a0 y1 a3 x4) ∧ (¬ ((g12 &&& 255).toInt32) = 0 → isc M a3 17 ∧ (∃ b14 r15 : Nat, b14 + r15 = r ∧ wp_J4_append G b14 (fun u16 M13 => wb_X1_type_41 G P X (wl_X1_type_12 G P X n) r15 M13 a0 y1 a3 x4) M a3 ((((g12 &&& 255).toInt32).toUInt32 % 65536).toInt32))))
def wp_X1_type (G : mG) (b : Nat) (P : Int32 → mM → Prop) (X : String → Nat → mM → Prop) (M : mM) (a0 : Nat) (y1 : Int64) : Prop :=
  nwo M b 17 4 dfsJ4 fun u1 M2 r3 => ∃ b5 r6 : Nat, b5 + r6 = r3 ∧ wp_J4_init G b5 (fun M4 => ∃ n12, wl_X1_type_12 G P X n12 r6 M4 a0 y1 u1 56) M2 u1
set_option maxHeartbeats 4000000 in
set_option maxRecDepth 100000 in
theorem wk_X1_type {l : Launch} (hst0 : l.stackTraces = false) {G : mG} {b : Nat} {P : Int32 → mM → Prop} {X : String → Nat → mM → Prop} {M : mM} {a0 : Nat} {y1 : Int64} (h : wp_X1_type G b P X M a0 y1) : mMet l yX1_type (ws_ yX1_type cX1_type 6 (Option.some Jvm.ClassFile.FieldType.int)) 17 b G [.ref a0, .long y1] M (mRi P) X := by
  refine mm_met hst0 (by decide) (Nat.le_of_ble_eq_true rfl) ?_
  intro p e s m args below meth c ls C hr hnt hnm hl S
  have hl : lv_has ls 6 [(0, .ref a0), (1, .long y1)] := hl
  generalize mA M s.heap.size = A at C S ⊢
  have hx := C.hx
  have hb := C.hb
  have hk : 0 + b ≤ b := Nat.le_of_eq (Nat.zero_add b)
  have j69 : ∀ (k r : Nat) (M : mM) (H : Heap) (locs : List Loc) (ls : Array Slot) (a0 : Nat) (a3 : Nat) (s0 : Int32), k + r ≤ b → mW G A s M H locs → lv_has ls 6 [(0, .ref a0), (3, .ref a3)] → wb_X1_type_69 G P X r M a0 a3 s0 → W p l e (mRm 17 b) s m args below meth c H locs k k (vx_MQ below (mQ G A (mRi P)) (mXC G A X) args s b b A) (F0 m 69 ls [.int s0]) := by
    intro k r M H locs ls a0 a3 s0 hk S hl h
    unfold wb_X1_type_69 at h
    obtain ⟨b18, r19, hb9, h⟩ := h
    refine mm_S (As := [.int s0]) (rest := []) C S hl.1 (wk_X1_checkState hst0 h) (lw_S q606 q607 q48 q608) pd_X1_checkState ⟨Nat.le_of_ble_eq_true rfl, Nat.le_of_ble_eq_true rfl⟩ rfl rfl (Nat.le_of_ble_eq_true rfl) dX1_type_69 rfl rfl hk hb9 (fun v9 M17 H locs hP S hk => ?_) (fun E q ce M9 H9 locs9 hX S9 hk9 hc9 hv9 hf9 => mm_out C S9 (fun x hx => (hnt x hx).elim) (Nat.le_trans (Nat.le_add_right _ _) hk9) hc9 hv9 hf9 hX)
    obtain ⟨rfl, h⟩ := hP
    refine W.eq (g2 := F0 m 72 ls []) rfl ?_
    refine lv_aload_n hx hb dX1_type_72 rfl (lv_at hl 0 rfl) ?_
    refine mm_gfa C S (ci := 0) (k := 12) rfl in_X1 (by decide) q227 (fun _ h9 => h9) dX1_type_73 h (fun u20 h => ?_)
    refine lv_aload_n hx hb dX1_type_76 rfl (lv_at hl 1 rfl) ?_
    obtain ⟨hI, h⟩ := h
    obtain ⟨b22, r23, hb9, h⟩ := h
    refine mm_V (As := [.ref a3]) (rest := []) C S hl.1 (wk_J4_append_2 hst0 h) (T := TJ4) rfl hI (lw_V q844 q845 q846 q53 q847) rfl pd_J4_append_2 ⟨Nat.le_of_ble_eq_true rfl, Nat.le_of_ble_eq_true rfl⟩ rfl rfl (Nat.le_of_ble_eq_true rfl) dX1_type_77 rfl rfl hk hb9 (fun v9 M21 H locs hP S hk => ?_) (fun E q ce M9 H9 locs9 hX => hX.elim)
    obtain ⟨u24, rfl, h⟩ := hP
    refine W.eq (g2 := F0 m 80 ls [.ref u24]) rfl ?_
    refine lv_pop hx hb dX1_type_80 rfl ?_
    refine lv_aload_n hx hb dX1_type_81 rfl (lv_at hl 0 rfl) ?_
    refine mm_gfa C S (ci := 0) (k := 12) rfl in_X1 (by decide) q227 (fun _ h9 => h9) dX1_type_82 h (fun u25 h => ?_)
    obtain ⟨hI, h⟩ := h
    refine mm_V (As := []) (rest := []) C S hl.1 (wk_J4_length hst0 h) (T := TJ4) rfl hI (lw_V q837 q838 q839 q53 q840) rfl pd_J4_length ⟨Nat.le_of_ble_eq_true rfl, Nat.le_of_ble_eq_true rfl⟩ rfl rfl (Nat.le_of_ble_eq_true rfl) dX1_type_85 rfl rfl hk (Nat.zero_add _) (fun v9 M26 H locs hP S hk => ?_) (fun E q ce M9 H9 locs9 hX => hX.elim)
    obtain ⟨v27, rfl, h⟩ := hP
    refine W.eq (g2 := F0 m 88 ls [.int v27]) rfl ?_
    exact mm_iret C S hr (Nat.le_trans (Nat.le_add_right _ _) hk) dX1_type_88 h
  have j12 : ∀ (nf : Nat) (k r : Nat) (M : mM) (H : Heap) (locs : List Loc) (ls : Array Slot) (a0 : Nat) (y1 : Int64) (a3 : Nat) (x4 : Int32), k + r ≤ b → mW G A s M H locs → lv_has ls 6 [(0, .ref a0), (1, .long y1), (3, .ref a3), (4, .int x4)] → wl_X1_type_12 G P X nf r M a0 y1 a3 x4 → W p l e (mRm 17 b) s m args below meth c H locs k k (vx_MQ below (mQ G A (mRi P)) (mXC G A X) args s b b A) (F0 m 12 ls []) := by
    intro nf
    induction nf with
    | zero =>
      intro k r M H locs ls a0 y1 a3 x4 hk S hl h
      rw [wl_X1_type_12] at h
      exact h.elim
    | succ n12 ih12 =>
      have j41 : ∀ (k r : Nat) (M : mM) (H : Heap) (locs : List Loc) (ls : Array Slot) (a0 : Nat) (y1 : Int64) (a3 : Nat) (x4 : Int32), k + r ≤ b → mW G A s M H locs → lv_has ls 6 [(0, .ref a0), (1, .long y1), (3, .ref a3), (4, .int x4)] → wb_X1_type_41 G P X (wl_X1_type_12 G P X n12) r M a0 y1 a3 x4 → W p l e (mRm 17 b) s m args below meth c H locs k k (vx_MQ below (mQ G A (mRi P)) (mXC G A X) args s b b A) (F0 m 41 ls []) := by
        intro k r M H locs ls a0 y1 a3 x4 hk S hl h
        unfold wb_X1_type_41 at h
        refine lv_iinc (v := (x4 + (-8))) (lv' := [(4, .int (x4 + (-8))), (0, .ref a0), (1, .long y1), (3, .ref a3)]) hx hb dX1_type_41 hl (k := 3) rfl rfl (by decide) rfl (fun ls hl => ?_)
        refine lv_goto (tgt := 12) hx hb dX1_type_44 (by decide) ?_
        exact ih12 _ _ _ _ _ _ _ _ _ _ hk S (lv_sub hl [1, 2, 3, 0] rfl) h
      intro k r M H locs ls a0 y1 a3 x4 hk S hl h
      rw [wl_X1_type_12] at h
      refine lv_iload hx hb dX1_type_12 (lv_at hl 3 rfl) ?_
      refine lv_if_lt (tgt := 47) hx hb dX1_type_14 (by decide) (fun c9 => ?_) (fun c9 => ?_)
      · have h := h.1 c9
        refine lv_aload_n hx hb dX1_type_47 rfl (lv_at hl 0 rfl) ?_
        refine mm_gfa C S (ci := 0) (k := 12) rfl in_X1 (by decide) q227 (fun _ h9 => h9) dX1_type_48 h (fun u7 h => ?_)
        obtain ⟨hI, h⟩ := h
        refine mm_V (As := []) (rest := []) C S hl.1 (wk_J4_length hst0 h) (T := TJ4) rfl hI (lw_V q837 q838 q839 q53 q840) rfl pd_J4_length ⟨Nat.le_of_ble_eq_true rfl, Nat.le_of_ble_eq_true rfl⟩ rfl rfl (Nat.le_of_ble_eq_true rfl) dX1_type_51 rfl rfl hk (Nat.zero_add _) (fun v9 M8 H locs hP S hk => ?_) (fun E q ce M9 H9 locs9 hX => hX.elim)
        obtain ⟨v9, rfl, h⟩ := hP
        refine W.eq (g2 := F0 m 54 ls [.int v9]) rfl ?_
        refine lv_aload_n hx hb dX1_type_54 rfl (lv_at hl 2 rfl) ?_
        obtain ⟨hI, h⟩ := h
        refine mm_V (As := []) (rest := [.int v9]) C S hl.1 (wk_J4_length hst0 h) (T := TJ4) rfl hI (lw_V q837 q838 q839 q53 q840) rfl pd_J4_length ⟨Nat.le_of_ble_eq_true rfl, Nat.le_of_ble_eq_true rfl⟩ rfl rfl (Nat.le_of_ble_eq_true rfl) dX1_type_55 rfl rfl hk (Nat.zero_add _) (fun v9 M10 H locs hP S hk => ?_) (fun E q ce M9 H9 locs9 hX => hX.elim)
        obtain ⟨v11, rfl, h⟩ := hP
        refine W.eq (g2 := F0 m 58 ls [.int v11, .int v9]) rfl ?_
        refine lv_iadd hx hb dX1_type_58 ?_
        refine lv_bipush (v := 60) hx hb dX1_type_59 (by decide) ?_
        refine lv_icmp_gt (tgt := 68) hx hb dX1_type_61 (by decide) (fun c9 => ?_) (fun c9 => ?_)
        · have h := h.1 c9
          refine lv_iconst (v := 0) hx hb dX1_type_68 (by decide) ?_
          exact j69 _ _ _ _ _ _ _ _ _ hk S (lv_sub hl [0, 2] rfl) h
        · have h := h.2 c9
          refine lv_iconst (v := 1) hx hb dX1_type_64 (by decide) ?_
          refine lv_goto (tgt := 69) hx hb dX1_type_65 (by decide) ?_
          exact j69 _ _ _ _ _ _ _ _ _ hk S (lv_sub hl [0, 2] rfl) h
      · have h := h.2 c9
        refine lv_lload_n hx hb dX1_type_17 rfl (lv_at hl 1 rfl) ?_
        refine lv_iload hx hb dX1_type_18 (lv_at hl 3 rfl) ?_
        refine lv_lushr hx hb dX1_type_20 rfl ?_
        refine lv_topl (fun g12 eg12 => ?_)
        have h := h g12 eg12
        refine lv_ldc2 hx hb C.hown (C.ts _ q758) dX1_type_21 ?_
        refine lv_land hx hb dX1_type_24 ?_
        refine lv_l2i hx hb dX1_type_25 rfl ?_
        refine lv_istore (lv' := [(5, .int ((g12 &&& 255).toInt32)), (0, .ref a0), (1, .long y1), (3, .ref a3), (4, .int x4)]) hx hb dX1_type_26 hl (by decide) rfl (fun ls hl => ?_)
        refine lv_iload hx hb dX1_type_28 (lv_at hl 0 rfl) ?_
        refine lv_if_eq (tgt := 41) hx hb dX1_type_30 (by decide) (fun c9 => ?_) (fun c9 => ?_)
        · have h := h.1 c9
          exact j41 _ _ _ _ _ _ _ _ _ _ hk S (lv_sub hl [1, 2, 3, 4] rfl) h
        · have h := h.2 c9
          refine lv_aload_n hx hb dX1_type_33 rfl (lv_at hl 3 rfl) ?_
          refine lv_iload hx hb dX1_type_34 (lv_at hl 0 rfl) ?_
          refine lv_i2c hx hb dX1_type_36 rfl ?_
          obtain ⟨hI, h⟩ := h
          obtain ⟨b14, r15, hb9, h⟩ := h
          refine mm_V (As := [.int ((((g12 &&& 255).toInt32).toUInt32 % 65536).toInt32)]) (rest := []) C S hl.1 (wk_J4_append hst0 h) (T := TJ4) rfl hI (lw_V q759 q760 q761 q53 q762) rfl pd_J4_append ⟨Nat.le_of_ble_eq_true rfl, Nat.le_of_ble_eq_true rfl⟩ rfl rfl (Nat.le_of_ble_eq_true rfl) dX1_type_37 rfl rfl hk hb9 (fun v9 M13 H locs hP S hk => ?_) (fun E q ce M9 H9 locs9 hX => hX.elim)
          obtain ⟨u16, rfl, h⟩ := hP
          refine W.eq (g2 := F0 m 40 ls [.ref u16]) rfl ?_
          refine lv_pop hx hb dX1_type_40 rfl ?_
          exact j41 _ _ _ _ _ _ _ _ _ _ hk S (lv_sub hl [1, 2, 3, 4] rfl) h
  unfold wp_X1_type at h
  refine mm_new C S (ci := 17) (T := TJ4) rfl in_J4 tyJ4_ok q138 q139 q53 dfJ4 (by decide) dX1_type_0 rfl rfl hk h (fun u1 M2 r3 H h S hk => ?_)
  refine lv_dup hx hb dX1_type_3 rfl ?_
  obtain ⟨b5, r6, hb9, h⟩ := h
  refine mm_I (As := []) (rest := [.ref u1]) C S hl.1 (wk_J4_init hst0 h) q142 q53 q140 q141 rfl pd_J4_init ⟨Nat.le_of_ble_eq_true rfl, Nat.le_of_ble_eq_true rfl⟩ rfl rfl (Nat.le_of_ble_eq_true rfl) dX1_type_4 rfl rfl hk hb9 (fun v9 M4 H locs hP S hk => ?_) (fun E q ce M9 H9 locs9 hX => hX.elim)
  obtain ⟨rfl, h⟩ := hP
  refine W.eq (g2 := F0 m 7 ls [.ref u1]) rfl ?_
  refine lv_astore_n (lv' := [(3, .ref u1), (0, .ref a0), (1, .long y1)]) hx hb dX1_type_7 rfl hl (by decide) rfl (fun ls hl => ?_)
  refine lv_bipush (v := 56) hx hb dX1_type_8 (by decide) ?_
  refine lv_istore (lv' := [(4, .int 56), (3, .ref u1), (0, .ref a0), (1, .long y1)]) hx hb dX1_type_10 hl (by decide) rfl (fun ls hl => ?_)
  obtain ⟨nf, h⟩ := h
  exact j12 nf _ _ _ _ _ _ _ _ _ _ hk S (lv_sub hl [2, 3, 1, 0] rfl) h
/-! X0_type: level 18, alloc -/
def wb_X0_type_12 (G : mG) (P : Int32 → mM → Prop) (r : Nat) (M : mM) (s0 : Nat) : Prop :=
  P 1 M
def wp_X0_type (G : mG) (b : Nat) (P : Int32 → mM → Prop) (M : mM) (a0 : Nat) (y1 : Int64) (a3 : Nat) : Prop :=
  isc M a0 0 ∧ (∃ b2 r3 : Nat, b2 + r3 = b ∧ wp_X1_type G b2 (fun v4 M1 => stl M1 4 a3 0 v4.toInt64 fun M5 => P 0 M5) (fun E9 u6 M7 => (E9 = "java/lang/IllegalStateException" ∧ wb_X0_type_12 G P r3 M7 u6)) M a0 y1)
set_option maxHeartbeats 4000000 in
set_option maxRecDepth 100000 in
theorem wk_X0_type {l : Launch} (hst0 : l.stackTraces = false) {G : mG} {b : Nat} {P : Int32 → mM → Prop} {M : mM} {a0 : Nat} {y1 : Int64} {a3 : Nat} (h : wp_X0_type G b P M a0 y1 a3) : mMet l yX0_type (wsW_ yX0_type cX0_type 5 (Option.some Jvm.ClassFile.FieldType.int) [((0 : Nat), (9 : Nat), (12 : Nat), (35 : Nat))]) 18 b G [.ref a0, .long y1, .ref a3] M (mRi P) (fun _ _ _ => False) := by
  refine mm_metW hst0 (by decide) (Nat.le_of_ble_eq_true rfl) ?_
  intro p e s m args below meth c ls C hr htab hnm hl S
  have hl : lv_has ls 5 [(0, .ref a0), (1, .long y1), (3, .ref a3)] := hl
  generalize mA M s.heap.size = A at C S ⊢
  have hx := C.hx
  have hb := C.hb
  have hk : 0 + b ≤ b := Nat.le_of_eq (Nat.zero_add b)
  have j12 : ∀ (k r : Nat) (M : mM) (H : Heap) (locs : List Loc) (ls : Array Slot) (s0 : Nat), k + r ≤ b → mW G A s M H locs → lv_has ls 5 [] → wb_X0_type_12 G P r M s0 → W p l e (mRm 18 b) s m args below meth c H locs k k (vx_MQ below (mQ G A (mRi P)) (mXC G A (fun _ _ _ => False)) args s b b A) (F0 m 12 ls [.ref s0]) := by
    intro k r M H locs ls s0 hk S hl h
    unfold wb_X0_type_12 at h
    refine lv_astore (lv' := [(4, .ref s0)]) hx hb dX0_type_12 hl (by decide) rfl (fun ls hl => ?_)
    refine lv_iconst (v := 1) hx hb dX0_type_14 (by decide) ?_
    exact mm_iret C S hr (Nat.le_trans (Nat.le_add_right _ _) hk) dX0_type_15 h
  unfold wp_X0_type at h
  refine lv_aload_n hx hb dX0_type_0 rfl (lv_at hl 2 rfl) ?_
  refine lv_iconst (v := 0) hx hb dX0_type_1 (by decide) ?_
  refine lv_aload_n hx hb dX0_type_2 rfl (lv_at hl 0 rfl) ?_
  refine lv_lload_n hx hb dX0_type_3 rfl (lv_at hl 1 rfl) ?_
  obtain ⟨hI, h⟩ := h
  obtain ⟨b2, r3, hb9, h⟩ := h
  refine mm_V (As := [.long y1]) (rest := [.int 0, .ref a3]) C S hl.1 (wk_X1_type hst0 h) (T := TX1) rfl hI (lw_V q754 q755 q756 q48 q757) rfl pd_X1_type ⟨Nat.le_of_ble_eq_true rfl, Nat.le_of_ble_eq_true rfl⟩ rfl rfl (Nat.le_of_ble_eq_true rfl) dX0_type_4 rfl rfl hk hb9 (fun v9 M1 H locs hP S hk => ?_) (fun E u6 ce M7 H locs hX S hk hc9 hv9 hf9 => ?_)
  · obtain ⟨v4, rfl, h⟩ := hP
    refine W.eq (g2 := F0 m 7 ls [.int v4, .int 0, .ref a3]) rfl ?_
    refine lv_i2l hx hb dX0_type_7 rfl ?_
    refine mm_last C S h dX0_type_8 (fun M5 H locs h S => ?_)
    refine lv_goto (tgt := 16) hx hb dX0_type_9 (by decide) ?_
    refine lv_iconst (v := 0) hx hb dX0_type_16 (by decide) ?_
    exact mm_iret C S hr (Nat.le_trans (Nat.le_add_right _ _) hk) dX0_type_17 h
  · rcases hX with ⟨rfl, h⟩
    · refine vx_catch (pc := 4) (name := "java/lang/IllegalStateException") C.hown [] (⟨0, 9, 12, 35⟩ : ExceptionTableEntry) [] htab mm_pass0 (by decide) (by decide) (C.ts _ q601) (va_Nw.use rfl (C.nw q611 rfl)) hc9 hv9 hf9 ?_
      exact j12 _ _ _ _ _ _ _ hk S (lv_sub hl [] rfl) h
/-! X17_init: level 13, alloc -/
def wp_X17_init (G : mG) (b : Nat) (P : mM → Prop) (M : mM) (a0 : Nat) (x1 : Int32) (x2 : Int32) (x3 : Int32) (x4 : Int32) : Prop :=
  pfi M a0 14 4 0 fun M1 => nwo M1 b 16 3 dfsJ2 fun u2 M3 r4 => wp_J2_init G 0 (fun M5 => pfq M5 a0 14 5 (some u2) fun M6 => pfi M6 a0 14 0 x1 fun M7 => pfi M7 a0 14 1 x2 fun M8 => pfi M8 a0 14 2 x3 fun M9 => pfi M9 a0 14 3 x4 fun M10 => P M10) M3 u2
set_option maxHeartbeats 4000000 in
set_option maxRecDepth 100000 in
theorem wk_X17_init {l : Launch} (hst0 : l.stackTraces = false) {G : mG} {b : Nat} {P : mM → Prop} {M : mM} {a0 : Nat} {x1 : Int32} {x2 : Int32} {x3 : Int32} {x4 : Int32} (h : wp_X17_init G b P M a0 x1 x2 x3 x4) : mMet l yX17_init (ws_ yX17_init cX17_init 5 (Option.none : Option Jvm.ClassFile.FieldType)) 13 b G [.ref a0, .int x1, .int x2, .int x3, .int x4] M (mRv P) (fun _ _ _ => False) := by
  refine mm_met hst0 (by decide) (Nat.le_of_ble_eq_true rfl) ?_
  intro p e s m args below meth c ls C hr hnt hnm hl S
  have hl : lv_has ls 5 [(0, .ref a0), (1, .int x1), (2, .int x2), (3, .int x3), (4, .int x4)] := hl
  generalize mA M s.heap.size = A at C S ⊢
  have hx := C.hx
  have hb := C.hb
  have hk : 0 + b ≤ b := Nat.le_of_eq (Nat.zero_add b)
  unfold wp_X17_init at h
  refine lv_aload_n hx hb dX17_init_0 rfl (lv_at hl 0 rfl) ?_
  refine mm_init C hl.1 q1493 q100 q101 dX17_init_1 (Nat.le_of_ble_eq_true rfl) (Nat.le_of_ble_eq_true rfl) ?_
  refine lv_aload_n hx hb dX17_init_4 rfl (lv_at hl 0 rfl) ?_
  refine lv_iconst (v := 0) hx hb dX17_init_5 (by decide) ?_
  refine mm_pfi C S (ci := 14) (k := 4) rfl in_X17 tyX17_ok nmX17 (by decide) q1504 (fun _ h9 => h9) rfl dX17_init_6 rfl h (fun M1 H locs h S => ?_)
  refine lv_aload_n hx hb dX17_init_9 rfl (lv_at hl 0 rfl) ?_
  refine mm_new C S (ci := 16) (T := TJ2) rfl in_J2 tyJ2_ok q1494 q107 q51 dfJ2 (by decide) dX17_init_10 rfl rfl hk h (fun u2 M3 r4 H h S hk => ?_)
  refine lv_dup hx hb dX17_init_13 rfl ?_
  refine mm_I (As := []) (rest := [.ref u2, .ref a0]) C S hl.1 (wk_J2_init hst0 h) q110 q51 q1495 q109 rfl pd_J2_init ⟨Nat.le_of_ble_eq_true rfl, Nat.le_of_ble_eq_true rfl⟩ rfl rfl (Nat.le_of_ble_eq_true rfl) dX17_init_14 rfl rfl hk (Nat.zero_add _) (fun v9 M5 H locs hP S hk => ?_) (fun E q ce M9 H9 locs9 hX => hX.elim)
  obtain ⟨rfl, h⟩ := hP
  refine W.eq (g2 := F0 m 17 ls [.ref u2, .ref a0]) rfl ?_
  refine mm_pfqF C S (ci := 14) (k := 5) (v := (some u2)) rfl in_X17 tyX17_ok nmX17 (by decide) q1506 (fun _ h9 => h9) rfl (hnm.trans rfl) rfl dX17_init_17 rfl h (fun M6 H locs h S => ?_)
  refine lv_aload_n hx hb dX17_init_20 rfl (lv_at hl 0 rfl) ?_
  refine lv_iload_n hx hb dX17_init_21 rfl (lv_at hl 1 rfl) ?_
  refine mm_pfiF C S (ci := 14) (k := 0) rfl in_X17 tyX17_ok nmX17 (by decide) q1496 (fun _ h9 => h9) rfl (hnm.trans rfl) rfl dX17_init_22 rfl h (fun M7 H locs h S => ?_)
  refine lv_aload_n hx hb dX17_init_25 rfl (lv_at hl 0 rfl) ?_
  refine lv_iload_n hx hb dX17_init_26 rfl (lv_at hl 2 rfl) ?_
  refine mm_pfiF C S (ci := 14) (k := 1) rfl in_X17 tyX17_ok nmX17 (by decide) q1498 (fun _ h9 => h9) rfl (hnm.trans rfl) rfl dX17_init_27 rfl h (fun M8 H locs h S => ?_)
  refine lv_aload_n hx hb dX17_init_30 rfl (lv_at hl 0 rfl) ?_
  refine lv_iload_n hx hb dX17_init_31 rfl (lv_at hl 3 rfl) ?_
  refine mm_pfiF C S (ci := 14) (k := 2) rfl in_X17 tyX17_ok nmX17 (by decide) q1500 (fun _ h9 => h9) rfl (hnm.trans rfl) rfl dX17_init_32 rfl h (fun M9 H locs h S => ?_)
  refine lv_aload_n hx hb dX17_init_35 rfl (lv_at hl 0 rfl) ?_
  refine lv_iload hx hb dX17_init_36 (lv_at hl 4 rfl) ?_
  refine mm_pfiF C S (ci := 14) (k := 3) rfl in_X17 tyX17_ok nmX17 (by decide) q1502 (fun _ h9 => h9) rfl (hnm.trans rfl) rfl dX17_init_38 rfl h (fun M10 H locs h S => ?_)
  exact mm_vret C S hr (Nat.le_trans (Nat.le_add_right _ _) hk) dX17_init_41 h
/-! X1_walk: level 16, alloc, throws java/lang/IllegalArgumentException,java/lang/IllegalStateException,java/lang/IndexOutOfBoundsException -/
def wb_X1_walk_117 (G : mG) (P : Int32 → mM → Prop) (X : String → Nat → mM → Prop) (K57 : Nat → mM → Nat → Int32 → Int32 → Int32 → Int32 → Prop) (r : Nat) (M : mM) (a0 : Nat) (x1 : Int32) (x2 : Int32) (x3 : Int32) (x4 : Int32) (s0 : Int32) : Prop :=
  ∃ b49 r50 : Nat, b49 + r50 = r ∧ wp_X1_checkState G b49 (fun M48 => K57 r50 M48 a0 x1 x2 x3 (x4 + 1)) X M s0
def wb_X1_walk_112 (G : mG) (P : Int32 → mM → Prop) (X : String → Nat → mM → Prop) (K57 : Nat → mM → Nat → Int32 → Int32 → Int32 → Int32 → Prop) (r : Nat) (M : mM) (a0 : Nat) (x1 : Int32) (x2 : Int32) (x3 : Int32) (x4 : Int32) : Prop :=
  wb_X1_walk_117 G P X K57 r M a0 x1 x2 x3 x4 1
def wl_X1_walk_57 (G : mG) (P : Int32 → mM → Prop) (X : String → Nat → mM → Prop) : Nat → Nat → mM → Nat → Int32 → Int32 → Int32 → Int32 → Prop
  | 0, _, _, _, _, _, _, _ => False
  | n + 1, r, M, a0, x1, x2, x3, x4 => gfa M a0 0 7 fun u22 => isc M u22 16 ∧ (wp_J2_size G 0 (fun v24 M23 => (v24 ≤ x4 → gfa M23 a0 0 7 fun u25 => nwo M23 r 14 6 dfsX17 fun u26 M27 r28 => gfi M27 a0 0 17 fun v29 => ∃ b31 r32 : Nat, b31 + r32 = r28 ∧ wp_X17_init G b31 (fun M30 => isc M30 u25 16 ∧ (∃ b34 r35 : Nat, b34 + r35 = r32 ∧ wp_J2_add G b34 (fun v36 M33 => gfa M33 a0 0 7 fun u37 => isc M33 u37 16 ∧ (wp_J2_size G 0 (fun v39 M38 => P (v39 - 1) M38) M33 u37)) M30 u25 u26)) M27 u26 x1 x2 x3 v29) ∧ (¬ v24 ≤ x4 → gfa M23 a0 0 7 fun u40 => isc M23 u40 16 ∧ (wp_J2_get G 0 (fun u42 M41 => isc M41 u42 14 ∧ (gfi M41 u42 14 0 fun v43 => (¬ v43 = x1 → wb_X1_walk_112 G P X (wl_X1_walk_57 G P X n) r M41 a0 x1 x2 x3 x4) ∧ (v43 = x1 → gfa M41 a0 0 7 fun u44 => isc M41 u44 16 ∧ (wp_J2_get G 0 (fun u46 M45 => isc M45 u46 14 ∧ (gfi M45 u46 14 4 fun v47 => (v47 = 0 → wb_X1_walk_117 G P X (wl_X1_walk_57 G P X n) r M45 a0 x1 x2 x3 x4 0) ∧ (¬ v47 = 0 → wb_X1_walk_112 G P X (wl_X1_walk_57 G P X n) r M45 a0 x1 x2 x3 x4))) M41 u44 x4)))) M23 u40 x4))) M u22)
def wb_X1_walk_51 (G : mG) (P : Int32 → mM → Prop) (X : String → Nat → mM → Prop) (r : Nat) (M : mM) (a0 : Nat) (x1 : Int32) (x2 : Int32) (x3 : Int32) (s0 : Int32) : Prop :=
  ∃ b20 r21 : Nat, b20 + r21 = r ∧ wp_X1_checkState G b20 (fun M19 => ∃ n57, wl_X1_walk_57 G P X n57 r21 M19 a0 x1 x2 x3 0) X M s0
def wp_X1_walk (G : mG) (b : Nat) (P : Int32 → mM → Prop) (X : String → Nat → mM → Prop) (M : mM) (a0 : Nat) (x1 : Int32) (x2 : Int32) (x3 : Int32) : Prop :=
  gfa M a0 0 6 fun u1 => isc M u1 16 ∧ (wp_J2_size G 0 (fun v3 M2 => ∃ b5 r6 : Nat, b5 + r6 = b ∧ wp_X1_checkIndex G b5 (fun M4 => gfa M4 a0 0 5 fun u7 => isc M4 u7 16 ∧ (wp_J2_size G 0 (fun v9 M8 => ∃ b11 r12 : Nat, b11 + r12 = r6 ∧ wp_X1_checkIndex G b11 (fun M10 => ∃ b14 r15 : Nat, b14 + r15 = r12 ∧ wp_X1_checkRange G b14 (fun M13 => gfa M13 a0 0 7 fun u16 => isc M13 u16 16 ∧ (wp_J2_size G 0 (fun v18 M17 => (40 ≤ v18 → wb_X1_walk_51 G P X r15 M17 a0 x1 x2 x3 0) ∧ (¬ 40 ≤ v18 → wb_X1_walk_51 G P X r15 M17 a0 x1 x2 x3 1)) M13 u16)) X M10 x3 0 3) X M8 x2 v9) M4 u7)) X M2 x1 v3) M u1)
set_option maxHeartbeats 4000000 in
set_option maxRecDepth 100000 in
theorem wk_X1_walk {l : Launch} (hst0 : l.stackTraces = false) {G : mG} {b : Nat} {P : Int32 → mM → Prop} {X : String → Nat → mM → Prop} {M : mM} {a0 : Nat} {x1 : Int32} {x2 : Int32} {x3 : Int32} (h : wp_X1_walk G b P X M a0 x1 x2 x3) : mMet l yX1_walk (ws_ yX1_walk cX1_walk 5 (Option.some Jvm.ClassFile.FieldType.int)) 16 b G [.ref a0, .int x1, .int x2, .int x3] M (mRi P) X := by
  refine mm_met hst0 (by decide) (Nat.le_of_ble_eq_true rfl) ?_
  intro p e s m args below meth c ls C hr hnt hnm hl S
  have hl : lv_has ls 5 [(0, .ref a0), (1, .int x1), (2, .int x2), (3, .int x3)] := hl
  generalize mA M s.heap.size = A at C S ⊢
  have hx := C.hx
  have hb := C.hb
  have hk : 0 + b ≤ b := Nat.le_of_eq (Nat.zero_add b)
  have j57 : ∀ (nf : Nat) (k r : Nat) (M : mM) (H : Heap) (locs : List Loc) (ls : Array Slot) (a0 : Nat) (x1 : Int32) (x2 : Int32) (x3 : Int32) (x4 : Int32), k + r ≤ b → mW G A s M H locs → lv_has ls 5 [(0, .ref a0), (1, .int x1), (2, .int x2), (3, .int x3), (4, .int x4)] → wl_X1_walk_57 G P X nf r M a0 x1 x2 x3 x4 → W p l e (mRm 16 b) s m args below meth c H locs k k (vx_MQ below (mQ G A (mRi P)) (mXC G A X) args s b b A) (F0 m 57 ls []) := by
    intro nf
    induction nf with
    | zero =>
      intro k r M H locs ls a0 x1 x2 x3 x4 hk S hl h
      rw [wl_X1_walk_57] at h
      exact h.elim
    | succ n57 ih57 =>
      have j117 : ∀ (k r : Nat) (M : mM) (H : Heap) (locs : List Loc) (ls : Array Slot) (a0 : Nat) (x1 : Int32) (x2 : Int32) (x3 : Int32) (x4 : Int32) (s0 : Int32), k + r ≤ b → mW G A s M H locs → lv_has ls 5 [(0, .ref a0), (1, .int x1), (2, .int x2), (3, .int x3), (4, .int x4)] → wb_X1_walk_117 G P X (wl_X1_walk_57 G P X n57) r M a0 x1 x2 x3 x4 s0 → W p l e (mRm 16 b) s m args below meth c H locs k k (vx_MQ below (mQ G A (mRi P)) (mXC G A X) args s b b A) (F0 m 117 ls [.int s0]) := by
        intro k r M H locs ls a0 x1 x2 x3 x4 s0 hk S hl h
        unfold wb_X1_walk_117 at h
        obtain ⟨b49, r50, hb9, h⟩ := h
        refine mm_S (As := [.int s0]) (rest := []) C S hl.1 (wk_X1_checkState hst0 h) (lw_S q606 q607 q48 q608) pd_X1_checkState ⟨Nat.le_of_ble_eq_true rfl, Nat.le_of_ble_eq_true rfl⟩ rfl rfl (Nat.le_of_ble_eq_true rfl) dX1_walk_117 rfl rfl hk hb9 (fun v9 M48 H locs hP S hk => ?_) (fun E q ce M9 H9 locs9 hX S9 hk9 hc9 hv9 hf9 => mm_out C S9 (fun x hx => (hnt x hx).elim) (Nat.le_trans (Nat.le_add_right _ _) hk9) hc9 hv9 hf9 hX)
        obtain ⟨rfl, h⟩ := hP
        refine W.eq (g2 := F0 m 120 ls []) rfl ?_
        refine lv_iinc (v := (x4 + 1)) (lv' := [(4, .int (x4 + 1)), (0, .ref a0), (1, .int x1), (2, .int x2), (3, .int x3)]) hx hb dX1_walk_120 hl (k := 4) rfl rfl (by decide) rfl (fun ls hl => ?_)
        refine lv_goto (tgt := 57) hx hb dX1_walk_123 (by decide) ?_
        exact ih57 _ _ _ _ _ _ _ _ _ _ _ hk S (lv_sub hl [1, 2, 3, 4, 0] rfl) h
      have j112 : ∀ (k r : Nat) (M : mM) (H : Heap) (locs : List Loc) (ls : Array Slot) (a0 : Nat) (x1 : Int32) (x2 : Int32) (x3 : Int32) (x4 : Int32), k + r ≤ b → mW G A s M H locs → lv_has ls 5 [(0, .ref a0), (1, .int x1), (2, .int x2), (3, .int x3), (4, .int x4)] → wb_X1_walk_112 G P X (wl_X1_walk_57 G P X n57) r M a0 x1 x2 x3 x4 → W p l e (mRm 16 b) s m args below meth c H locs k k (vx_MQ below (mQ G A (mRi P)) (mXC G A X) args s b b A) (F0 m 112 ls []) := by
        intro k r M H locs ls a0 x1 x2 x3 x4 hk S hl h
        unfold wb_X1_walk_112 at h
        refine lv_iconst (v := 1) hx hb dX1_walk_112 (by decide) ?_
        refine lv_goto (tgt := 117) hx hb dX1_walk_113 (by decide) ?_
        exact j117 _ _ _ _ _ _ _ _ _ _ _ _ hk S hl h
      intro k r M H locs ls a0 x1 x2 x3 x4 hk S hl h
      rw [wl_X1_walk_57] at h
      refine lv_iload hx hb dX1_walk_57 (lv_at hl 4 rfl) ?_
      refine lv_aload_n hx hb dX1_walk_59 rfl (lv_at hl 0 rfl) ?_
      refine mm_gfa C S (ci := 0) (k := 7) rfl in_X1 (by decide) q222 (fun _ h9 => h9) dX1_walk_60 h (fun u22 h => ?_)
      obtain ⟨hI, h⟩ := h
      refine mm_F (As := []) (rest := [.int x4]) C S hl.1 (x := ⟨"java/util/List", "size", "()I"⟩) (wk_J2_size hst0 h) (T := TJ2) rfl hI (mWsF q284 q288 q290 q51 (lw_meth q292)) (by decide +kernel) pdi_2 ⟨Nat.le_of_ble_eq_true rfl, Nat.le_of_ble_eq_true rfl⟩ rfl rfl (Nat.le_of_ble_eq_true rfl) dX1_walk_63 rfl rfl hk (Nat.zero_add _) (fun v9 M23 H locs hP S hk => ?_) (fun E q ce M9 H9 locs9 hX => hX.elim)
      obtain ⟨v24, rfl, h⟩ := hP
      refine W.eq (g2 := F0 m 68 ls [.int v24, .int x4]) rfl ?_
      refine lv_icmp_ge (tgt := 126) hx hb dX1_walk_68 (by decide) (fun c9 => ?_) (fun c9 => ?_)
      · have h := h.1 c9
        refine lv_aload_n hx hb dX1_walk_126 rfl (lv_at hl 0 rfl) ?_
        refine mm_gfa C S (ci := 0) (k := 7) rfl in_X1 (by decide) q222 (fun _ h9 => h9) dX1_walk_127 h (fun u25 h => ?_)
        refine mm_new C S (ci := 14) (T := TX17) rfl in_X17 tyX17_ok q349 q1489 q91 dfX17 (by decide) dX1_walk_130 rfl rfl hk h (fun u26 M27 r28 H h S hk => ?_)
        refine lv_dup hx hb dX1_walk_133 rfl ?_
        refine lv_iload_n hx hb dX1_walk_134 rfl (lv_at hl 1 rfl) ?_
        refine lv_iload_n hx hb dX1_walk_135 rfl (lv_at hl 2 rfl) ?_
        refine lv_iload_n hx hb dX1_walk_136 rfl (lv_at hl 3 rfl) ?_
        refine lv_aload_n hx hb dX1_walk_137 rfl (lv_at hl 0 rfl) ?_
        refine mm_gfi C S (ci := 0) (k := 17) rfl in_X1 (by decide) q232 (fun _ h9 => h9) dX1_walk_138 h (fun v29 h => ?_)
        obtain ⟨b31, r32, hb9, h⟩ := h
        refine mm_I (As := [.int x1, .int x2, .int x3, .int v29]) (rest := [.ref u26, .ref u25]) C S hl.1 (wk_X17_init hst0 h) q1492 q91 q1490 q1491 rfl pd_X17_init ⟨Nat.le_of_ble_eq_true rfl, Nat.le_of_ble_eq_true rfl⟩ rfl rfl (Nat.le_of_ble_eq_true rfl) dX1_walk_141 rfl rfl hk hb9 (fun v9 M30 H locs hP S hk => ?_) (fun E q ce M9 H9 locs9 hX => hX.elim)
        obtain ⟨rfl, h⟩ := hP
        refine W.eq (g2 := F0 m 144 ls [.ref u26, .ref u25]) rfl ?_
        obtain ⟨hI, h⟩ := h
        obtain ⟨b34, r35, hb9, h⟩ := h
        refine mm_F (As := [.ref u26]) (rest := []) C S hl.1 (x := ⟨"java/util/List", "add", "(Ljava/lang/Object;)Z"⟩) (wk_J2_add hst0 h) (T := TJ2) rfl hI (mWsF q648 q651 q653 q51 (lw_meth q655)) (by decide +kernel) pdi_3 ⟨Nat.le_of_ble_eq_true rfl, Nat.le_of_ble_eq_true rfl⟩ rfl rfl (Nat.le_of_ble_eq_true rfl) dX1_walk_144 rfl rfl hk hb9 (fun v9 M33 H locs hP S hk => ?_) (fun E q ce M9 H9 locs9 hX => hX.elim)
        obtain ⟨v36, rfl, h⟩ := hP
        refine W.eq (g2 := F0 m 149 ls [.int v36]) rfl ?_
        refine lv_pop hx hb dX1_walk_149 rfl ?_
        refine lv_aload_n hx hb dX1_walk_150 rfl (lv_at hl 0 rfl) ?_
        refine mm_gfa C S (ci := 0) (k := 7) rfl in_X1 (by decide) q222 (fun _ h9 => h9) dX1_walk_151 h (fun u37 h => ?_)
        obtain ⟨hI, h⟩ := h
        refine mm_F (As := []) (rest := []) C S hl.1 (x := ⟨"java/util/List", "size", "()I"⟩) (wk_J2_size hst0 h) (T := TJ2) rfl hI (mWsF q284 q288 q290 q51 (lw_meth q292)) (by decide +kernel) pdi_2 ⟨Nat.le_of_ble_eq_true rfl, Nat.le_of_ble_eq_true rfl⟩ rfl rfl (Nat.le_of_ble_eq_true rfl) dX1_walk_154 rfl rfl hk (Nat.zero_add _) (fun v9 M38 H locs hP S hk => ?_) (fun E q ce M9 H9 locs9 hX => hX.elim)
        obtain ⟨v39, rfl, h⟩ := hP
        refine W.eq (g2 := F0 m 159 ls [.int v39]) rfl ?_
        refine lv_iconst (v := 1) hx hb dX1_walk_159 (by decide) ?_
        refine lv_isub hx hb dX1_walk_160 ?_
        exact mm_iret C S hr (Nat.le_trans (Nat.le_add_right _ _) hk) dX1_walk_161 h
      · have h := h.2 c9
        refine lv_aload_n hx hb dX1_walk_71 rfl (lv_at hl 0 rfl) ?_
        refine mm_gfa C S (ci := 0) (k := 7) rfl in_X1 (by decide) q222 (fun _ h9 => h9) dX1_walk_72 h (fun u40 h => ?_)
        refine lv_iload hx hb dX1_walk_75 (lv_at hl 4 rfl) ?_
        obtain ⟨hI, h⟩ := h
        refine mm_F (As := [.int x4]) (rest := []) C S hl.1 (x := ⟨"java/util/List", "get", "(I)Ljava/lang/Object;"⟩) (wk_J2_get hst0 h) (T := TJ2) rfl hI (mWsF q294 q297 q299 q51 (lw_meth q301)) (by decide +kernel) pdi_4 ⟨Nat.le_of_ble_eq_true rfl, Nat.le_of_ble_eq_true rfl⟩ rfl rfl (Nat.le_of_ble_eq_true rfl) dX1_walk_77 rfl rfl hk (Nat.zero_add _) (fun v9 M41 H locs hP S hk => ?_) (fun E q ce M9 H9 locs9 hX => hX.elim)
        obtain ⟨u42, rfl, h⟩ := hP
        refine W.eq (g2 := F0 m 82 ls [.ref u42]) rfl ?_
        refine mm_castS C S (ci := 14) (T := TX17) rfl rfl q349 h.1 dX1_walk_82 ?_
        have h := h.2
        refine mm_gfiN C S (ci := 14) (k := 0) rfl in_X17 (by decide) q1497 (fun _ h9 => h9) dX1_walk_85 h (fun v43 h => ?_)
        refine lv_iload_n hx hb dX1_walk_88 rfl (lv_at hl 1 rfl) ?_
        refine lv_icmp_ne (tgt := 112) hx hb dX1_walk_89 (by decide) (fun c9 => ?_) (fun c9 => ?_)
        · have h := h.1 c9
          exact j112 _ _ _ _ _ _ _ _ _ _ _ hk S hl h
        · have h := h.2 c9
          refine lv_aload_n hx hb dX1_walk_92 rfl (lv_at hl 0 rfl) ?_
          refine mm_gfa C S (ci := 0) (k := 7) rfl in_X1 (by decide) q222 (fun _ h9 => h9) dX1_walk_93 h (fun u44 h => ?_)
          refine lv_iload hx hb dX1_walk_96 (lv_at hl 4 rfl) ?_
          obtain ⟨hI, h⟩ := h
          refine mm_F (As := [.int x4]) (rest := []) C S hl.1 (x := ⟨"java/util/List", "get", "(I)Ljava/lang/Object;"⟩) (wk_J2_get hst0 h) (T := TJ2) rfl hI (mWsF q294 q297 q299 q51 (lw_meth q301)) (by decide +kernel) pdi_4 ⟨Nat.le_of_ble_eq_true rfl, Nat.le_of_ble_eq_true rfl⟩ rfl rfl (Nat.le_of_ble_eq_true rfl) dX1_walk_98 rfl rfl hk (Nat.zero_add _) (fun v9 M45 H locs hP S hk => ?_) (fun E q ce M9 H9 locs9 hX => hX.elim)
          obtain ⟨u46, rfl, h⟩ := hP
          refine W.eq (g2 := F0 m 103 ls [.ref u46]) rfl ?_
          refine mm_castS C S (ci := 14) (T := TX17) rfl rfl q349 h.1 dX1_walk_103 ?_
          have h := h.2
          refine mm_gfiN C S (ci := 14) (k := 4) rfl in_X17 (by decide) q1505 (fun _ h9 => h9) dX1_walk_106 h (fun v47 h => ?_)
          refine lv_if_eq (tgt := 116) hx hb dX1_walk_109 (by decide) (fun c9 => ?_) (fun c9 => ?_)
          · have h := h.1 c9
            refine lv_iconst (v := 0) hx hb dX1_walk_116 (by decide) ?_
            exact j117 _ _ _ _ _ _ _ _ _ _ _ _ hk S hl h
          · have h := h.2 c9
            exact j112 _ _ _ _ _ _ _ _ _ _ _ hk S hl h
  have j51 : ∀ (k r : Nat) (M : mM) (H : Heap) (locs : List Loc) (ls : Array Slot) (a0 : Nat) (x1 : Int32) (x2 : Int32) (x3 : Int32) (s0 : Int32), k + r ≤ b → mW G A s M H locs → lv_has ls 5 [(0, .ref a0), (1, .int x1), (2, .int x2), (3, .int x3)] → wb_X1_walk_51 G P X r M a0 x1 x2 x3 s0 → W p l e (mRm 16 b) s m args below meth c H locs k k (vx_MQ below (mQ G A (mRi P)) (mXC G A X) args s b b A) (F0 m 51 ls [.int s0]) := by
    intro k r M H locs ls a0 x1 x2 x3 s0 hk S hl h
    unfold wb_X1_walk_51 at h
    obtain ⟨b20, r21, hb9, h⟩ := h
    refine mm_S (As := [.int s0]) (rest := []) C S hl.1 (wk_X1_checkState hst0 h) (lw_S q606 q607 q48 q608) pd_X1_checkState ⟨Nat.le_of_ble_eq_true rfl, Nat.le_of_ble_eq_true rfl⟩ rfl rfl (Nat.le_of_ble_eq_true rfl) dX1_walk_51 rfl rfl hk hb9 (fun v9 M19 H locs hP S hk => ?_) (fun E q ce M9 H9 locs9 hX S9 hk9 hc9 hv9 hf9 => mm_out C S9 (fun x hx => (hnt x hx).elim) (Nat.le_trans (Nat.le_add_right _ _) hk9) hc9 hv9 hf9 hX)
    obtain ⟨rfl, h⟩ := hP
    refine W.eq (g2 := F0 m 54 ls []) rfl ?_
    refine lv_iconst (v := 0) hx hb dX1_walk_54 (by decide) ?_
    refine lv_istore (lv' := [(4, .int 0), (0, .ref a0), (1, .int x1), (2, .int x2), (3, .int x3)]) hx hb dX1_walk_55 hl (by decide) rfl (fun ls hl => ?_)
    obtain ⟨nf, h⟩ := h
    exact j57 nf _ _ _ _ _ _ _ _ _ _ _ hk S (lv_sub hl [1, 2, 3, 4, 0] rfl) h
  unfold wp_X1_walk at h
  refine lv_iload_n hx hb dX1_walk_0 rfl (lv_at hl 1 rfl) ?_
  refine lv_aload_n hx hb dX1_walk_1 rfl (lv_at hl 0 rfl) ?_
  refine mm_gfa C S (ci := 0) (k := 6) rfl in_X1 (by decide) q221 (fun _ h9 => h9) dX1_walk_2 h (fun u1 h => ?_)
  obtain ⟨hI, h⟩ := h
  refine mm_F (As := []) (rest := [.int x1]) C S hl.1 (x := ⟨"java/util/List", "size", "()I"⟩) (wk_J2_size hst0 h) (T := TJ2) rfl hI (mWsF q284 q288 q290 q51 (lw_meth q292)) (by decide +kernel) pdi_2 ⟨Nat.le_of_ble_eq_true rfl, Nat.le_of_ble_eq_true rfl⟩ rfl rfl (Nat.le_of_ble_eq_true rfl) dX1_walk_5 rfl rfl hk (Nat.zero_add _) (fun v9 M2 H locs hP S hk => ?_) (fun E q ce M9 H9 locs9 hX => hX.elim)
  obtain ⟨v3, rfl, h⟩ := hP
  refine W.eq (g2 := F0 m 10 ls [.int v3, .int x1]) rfl ?_
  obtain ⟨b5, r6, hb9, h⟩ := h
  refine mm_S (As := [.int x1, .int v3]) (rest := []) C S hl.1 (wk_X1_checkIndex hst0 h) (lw_S q516 q517 q48 q518) pd_X1_checkIndex ⟨Nat.le_of_ble_eq_true rfl, Nat.le_of_ble_eq_true rfl⟩ rfl rfl (Nat.le_of_ble_eq_true rfl) dX1_walk_10 rfl rfl hk hb9 (fun v9 M4 H locs hP S hk => ?_) (fun E q ce M9 H9 locs9 hX S9 hk9 hc9 hv9 hf9 => mm_out C S9 (fun x hx => (hnt x hx).elim) (Nat.le_trans (Nat.le_add_right _ _) hk9) hc9 hv9 hf9 hX)
  obtain ⟨rfl, h⟩ := hP
  refine W.eq (g2 := F0 m 13 ls []) rfl ?_
  refine lv_iload_n hx hb dX1_walk_13 rfl (lv_at hl 2 rfl) ?_
  refine lv_aload_n hx hb dX1_walk_14 rfl (lv_at hl 0 rfl) ?_
  refine mm_gfa C S (ci := 0) (k := 5) rfl in_X1 (by decide) q220 (fun _ h9 => h9) dX1_walk_15 h (fun u7 h => ?_)
  obtain ⟨hI, h⟩ := h
  refine mm_F (As := []) (rest := [.int x2]) C S hl.1 (x := ⟨"java/util/List", "size", "()I"⟩) (wk_J2_size hst0 h) (T := TJ2) rfl hI (mWsF q284 q288 q290 q51 (lw_meth q292)) (by decide +kernel) pdi_2 ⟨Nat.le_of_ble_eq_true rfl, Nat.le_of_ble_eq_true rfl⟩ rfl rfl (Nat.le_of_ble_eq_true rfl) dX1_walk_18 rfl rfl hk (Nat.zero_add _) (fun v9 M8 H locs hP S hk => ?_) (fun E q ce M9 H9 locs9 hX => hX.elim)
  obtain ⟨v9, rfl, h⟩ := hP
  refine W.eq (g2 := F0 m 23 ls [.int v9, .int x2]) rfl ?_
  obtain ⟨b11, r12, hb9, h⟩ := h
  refine mm_S (As := [.int x2, .int v9]) (rest := []) C S hl.1 (wk_X1_checkIndex hst0 h) (lw_S q516 q517 q48 q518) pd_X1_checkIndex ⟨Nat.le_of_ble_eq_true rfl, Nat.le_of_ble_eq_true rfl⟩ rfl rfl (Nat.le_of_ble_eq_true rfl) dX1_walk_23 rfl rfl hk hb9 (fun v9 M10 H locs hP S hk => ?_) (fun E q ce M9 H9 locs9 hX S9 hk9 hc9 hv9 hf9 => mm_out C S9 (fun x hx => (hnt x hx).elim) (Nat.le_trans (Nat.le_add_right _ _) hk9) hc9 hv9 hf9 hX)
  obtain ⟨rfl, h⟩ := hP
  refine W.eq (g2 := F0 m 26 ls []) rfl ?_
  refine lv_iload_n hx hb dX1_walk_26 rfl (lv_at hl 3 rfl) ?_
  refine lv_iconst (v := 0) hx hb dX1_walk_27 (by decide) ?_
  refine lv_iconst (v := 3) hx hb dX1_walk_28 (by decide) ?_
  obtain ⟨b14, r15, hb9, h⟩ := h
  refine mm_S (As := [.int x3, .int 0, .int 3]) (rest := []) C S hl.1 (wk_X1_checkRange hst0 h) (lw_S q540 q541 q48 q542) pd_X1_checkRange ⟨Nat.le_of_ble_eq_true rfl, Nat.le_of_ble_eq_true rfl⟩ rfl rfl (Nat.le_of_ble_eq_true rfl) dX1_walk_29 rfl rfl hk hb9 (fun v9 M13 H locs hP S hk => ?_) (fun E q ce M9 H9 locs9 hX S9 hk9 hc9 hv9 hf9 => mm_out C S9 (fun x hx => (hnt x hx).elim) (Nat.le_trans (Nat.le_add_right _ _) hk9) hc9 hv9 hf9 hX)
  obtain ⟨rfl, h⟩ := hP
  refine W.eq (g2 := F0 m 32 ls []) rfl ?_
  refine lv_aload_n hx hb dX1_walk_32 rfl (lv_at hl 0 rfl) ?_
  refine mm_gfa C S (ci := 0) (k := 7) rfl in_X1 (by decide) q222 (fun _ h9 => h9) dX1_walk_33 h (fun u16 h => ?_)
  obtain ⟨hI, h⟩ := h
  refine mm_F (As := []) (rest := []) C S hl.1 (x := ⟨"java/util/List", "size", "()I"⟩) (wk_J2_size hst0 h) (T := TJ2) rfl hI (mWsF q284 q288 q290 q51 (lw_meth q292)) (by decide +kernel) pdi_2 ⟨Nat.le_of_ble_eq_true rfl, Nat.le_of_ble_eq_true rfl⟩ rfl rfl (Nat.le_of_ble_eq_true rfl) dX1_walk_36 rfl rfl hk (Nat.zero_add _) (fun v9 M17 H locs hP S hk => ?_) (fun E q ce M9 H9 locs9 hX => hX.elim)
  obtain ⟨v18, rfl, h⟩ := hP
  refine W.eq (g2 := F0 m 41 ls [.int v18]) rfl ?_
  refine lv_bipush (v := 40) hx hb dX1_walk_41 (by decide) ?_
  refine lv_icmp_ge (tgt := 50) hx hb dX1_walk_43 (by decide) (fun c9 => ?_) (fun c9 => ?_)
  · have h := h.1 c9
    refine lv_iconst (v := 0) hx hb dX1_walk_50 (by decide) ?_
    exact j51 _ _ _ _ _ _ _ _ _ _ _ hk S hl h
  · have h := h.2 c9
    refine lv_iconst (v := 1) hx hb dX1_walk_46 (by decide) ?_
    refine lv_goto (tgt := 51) hx hb dX1_walk_47 (by decide) ?_
    exact j51 _ _ _ _ _ _ _ _ _ _ _ hk S hl h
/-! X0_walk: level 17, alloc -/
def wb_X0_walk_15 (G : mG) (P : Int32 → mM → Prop) (r : Nat) (M : mM) (s0 : Nat) : Prop :=
  P 1 M
def wb_X0_walk_19 (G : mG) (P : Int32 → mM → Prop) (r : Nat) (M : mM) (s0 : Nat) : Prop :=
  P 2 M
def wb_X0_walk_23 (G : mG) (P : Int32 → mM → Prop) (r : Nat) (M : mM) (s0 : Nat) : Prop :=
  P 3 M
def wp_X0_walk (G : mG) (b : Nat) (P : Int32 → mM → Prop) (M : mM) (a0 : Nat) (x1 : Int32) (x2 : Int32) (x3 : Int32) (a4 : Nat) : Prop :=
  isc M a0 0 ∧ (∃ b2 r3 : Nat, b2 + r3 = b ∧ wp_X1_walk G b2 (fun v4 M1 => stl M1 4 a4 0 v4.toInt64 fun M5 => P 0 M5) (fun E9 u6 M7 => (E9 = "java/lang/IllegalArgumentException" ∧ wb_X0_walk_19 G P r3 M7 u6) ∨ (E9 = "java/lang/IllegalStateException" ∧ wb_X0_walk_23 G P r3 M7 u6) ∨ (E9 = "java/lang/IndexOutOfBoundsException" ∧ wb_X0_walk_15 G P r3 M7 u6)) M a0 x1 x2 x3)
set_option maxHeartbeats 4000000 in
set_option maxRecDepth 100000 in
theorem wk_X0_walk {l : Launch} (hst0 : l.stackTraces = false) {G : mG} {b : Nat} {P : Int32 → mM → Prop} {M : mM} {a0 : Nat} {x1 : Int32} {x2 : Int32} {x3 : Int32} {a4 : Nat} (h : wp_X0_walk G b P M a0 x1 x2 x3 a4) : mMet l yX0_walk (wsW_ yX0_walk cX0_walk 6 (Option.some Jvm.ClassFile.FieldType.int) [((0 : Nat), (12 : Nat), (15 : Nat), (13 : Nat)), ((0 : Nat), (12 : Nat), (19 : Nat), (15 : Nat)), ((0 : Nat), (12 : Nat), (23 : Nat), (35 : Nat))]) 17 b G [.ref a0, .int x1, .int x2, .int x3, .ref a4] M (mRi P) (fun _ _ _ => False) := by
  refine mm_metW hst0 (by decide) (Nat.le_of_ble_eq_true rfl) ?_
  intro p e s m args below meth c ls C hr htab hnm hl S
  have hl : lv_has ls 6 [(0, .ref a0), (1, .int x1), (2, .int x2), (3, .int x3), (4, .ref a4)] := hl
  generalize mA M s.heap.size = A at C S ⊢
  have hx := C.hx
  have hb := C.hb
  have hk : 0 + b ≤ b := Nat.le_of_eq (Nat.zero_add b)
  have j15 : ∀ (k r : Nat) (M : mM) (H : Heap) (locs : List Loc) (ls : Array Slot) (s0 : Nat), k + r ≤ b → mW G A s M H locs → lv_has ls 6 [] → wb_X0_walk_15 G P r M s0 → W p l e (mRm 17 b) s m args below meth c H locs k k (vx_MQ below (mQ G A (mRi P)) (mXC G A (fun _ _ _ => False)) args s b b A) (F0 m 15 ls [.ref s0]) := by
    intro k r M H locs ls s0 hk S hl h
    unfold wb_X0_walk_15 at h
    refine lv_astore (lv' := [(5, .ref s0)]) hx hb dX0_walk_15 hl (by decide) rfl (fun ls hl => ?_)
    refine lv_iconst (v := 1) hx hb dX0_walk_17 (by decide) ?_
    exact mm_iret C S hr (Nat.le_trans (Nat.le_add_right _ _) hk) dX0_walk_18 h
  have j19 : ∀ (k r : Nat) (M : mM) (H : Heap) (locs : List Loc) (ls : Array Slot) (s0 : Nat), k + r ≤ b → mW G A s M H locs → lv_has ls 6 [] → wb_X0_walk_19 G P r M s0 → W p l e (mRm 17 b) s m args below meth c H locs k k (vx_MQ below (mQ G A (mRi P)) (mXC G A (fun _ _ _ => False)) args s b b A) (F0 m 19 ls [.ref s0]) := by
    intro k r M H locs ls s0 hk S hl h
    unfold wb_X0_walk_19 at h
    refine lv_astore (lv' := [(5, .ref s0)]) hx hb dX0_walk_19 hl (by decide) rfl (fun ls hl => ?_)
    refine lv_iconst (v := 2) hx hb dX0_walk_21 (by decide) ?_
    exact mm_iret C S hr (Nat.le_trans (Nat.le_add_right _ _) hk) dX0_walk_22 h
  have j23 : ∀ (k r : Nat) (M : mM) (H : Heap) (locs : List Loc) (ls : Array Slot) (s0 : Nat), k + r ≤ b → mW G A s M H locs → lv_has ls 6 [] → wb_X0_walk_23 G P r M s0 → W p l e (mRm 17 b) s m args below meth c H locs k k (vx_MQ below (mQ G A (mRi P)) (mXC G A (fun _ _ _ => False)) args s b b A) (F0 m 23 ls [.ref s0]) := by
    intro k r M H locs ls s0 hk S hl h
    unfold wb_X0_walk_23 at h
    refine lv_astore (lv' := [(5, .ref s0)]) hx hb dX0_walk_23 hl (by decide) rfl (fun ls hl => ?_)
    refine lv_iconst (v := 3) hx hb dX0_walk_25 (by decide) ?_
    exact mm_iret C S hr (Nat.le_trans (Nat.le_add_right _ _) hk) dX0_walk_26 h
  unfold wp_X0_walk at h
  refine lv_aload hx hb dX0_walk_0 (lv_at hl 4 rfl) ?_
  refine lv_iconst (v := 0) hx hb dX0_walk_2 (by decide) ?_
  refine lv_aload_n hx hb dX0_walk_3 rfl (lv_at hl 0 rfl) ?_
  refine lv_iload_n hx hb dX0_walk_4 rfl (lv_at hl 1 rfl) ?_
  refine lv_iload_n hx hb dX0_walk_5 rfl (lv_at hl 2 rfl) ?_
  refine lv_iload_n hx hb dX0_walk_6 rfl (lv_at hl 3 rfl) ?_
  obtain ⟨hI, h⟩ := h
  obtain ⟨b2, r3, hb9, h⟩ := h
  refine mm_V (As := [.int x1, .int x2, .int x3]) (rest := [.int 0, .ref a4]) C S hl.1 (wk_X1_walk hst0 h) (T := TX1) rfl hI (lw_V q1485 q1486 q1487 q48 q1488) rfl pd_X1_walk ⟨Nat.le_of_ble_eq_true rfl, Nat.le_of_ble_eq_true rfl⟩ rfl rfl (Nat.le_of_ble_eq_true rfl) dX0_walk_7 rfl rfl hk hb9 (fun v9 M1 H locs hP S hk => ?_) (fun E u6 ce M7 H locs hX S hk hc9 hv9 hf9 => ?_)
  · obtain ⟨v4, rfl, h⟩ := hP
    refine W.eq (g2 := F0 m 10 ls [.int v4, .int 0, .ref a4]) rfl ?_
    refine lv_i2l hx hb dX0_walk_10 rfl ?_
    refine mm_last C S h dX0_walk_11 (fun M5 H locs h S => ?_)
    refine lv_goto (tgt := 27) hx hb dX0_walk_12 (by decide) ?_
    refine lv_iconst (v := 0) hx hb dX0_walk_27 (by decide) ?_
    exact mm_iret C S hr (Nat.le_trans (Nat.le_add_right _ _) hk) dX0_walk_28 h
  · rcases hX with ⟨rfl, h⟩ | ⟨rfl, h⟩ | ⟨rfl, h⟩
    · refine vx_catch (pc := 7) (name := "java/lang/IllegalArgumentException") C.hown [(⟨0, 12, 15, 13⟩ : ExceptionTableEntry)] (⟨0, 12, 19, 15⟩ : ExceptionTableEntry) [(⟨0, 12, 23, 35⟩ : ExceptionTableEntry)] htab (mm_pass1 C (nm := "java/lang/IndexOutOfBoundsException") (by decide) q431 (by decide) mm_pass0) (by decide) (by decide) (C.ts _ q511) (va_Nw.use rfl (C.nw q548 rfl)) hc9 hv9 hf9 ?_
      exact j19 _ _ _ _ _ _ _ hk S (lv_sub hl [] rfl) h
    · refine vx_catch (pc := 7) (name := "java/lang/IllegalStateException") C.hown [(⟨0, 12, 15, 13⟩ : ExceptionTableEntry), (⟨0, 12, 19, 15⟩ : ExceptionTableEntry)] (⟨0, 12, 23, 35⟩ : ExceptionTableEntry) [] htab (mm_pass1 C (nm := "java/lang/IndexOutOfBoundsException") (by decide) q431 (by decide) (mm_pass1 C (nm := "java/lang/IllegalArgumentException") (by decide) q511 (by decide) mm_pass0)) (by decide) (by decide) (C.ts _ q601) (va_Nw.use rfl (C.nw q611 rfl)) hc9 hv9 hf9 ?_
      exact j23 _ _ _ _ _ _ _ hk S (lv_sub hl [] rfl) h
    · refine vx_catch (pc := 7) (name := "java/lang/IndexOutOfBoundsException") C.hown [] (⟨0, 12, 15, 13⟩ : ExceptionTableEntry) [(⟨0, 12, 19, 15⟩ : ExceptionTableEntry), (⟨0, 12, 23, 35⟩ : ExceptionTableEntry)] htab mm_pass0 (by decide) (by decide) (C.ts _ q431) (va_Nw.use rfl (C.nw q521 rfl)) hc9 hv9 hf9 ?_
      exact j15 _ _ _ _ _ _ _ hk S (lv_sub hl [] rfl) h
/-! X1_walkAt: level 14, alloc, throws java/lang/IllegalArgumentException,java/lang/IndexOutOfBoundsException -/
def wp_X1_walkAt (G : mG) (b : Nat) (P : Int32 → mM → Prop) (X : String → Nat → mM → Prop) (M : mM) (a0 : Nat) (x1 : Int32) (x2 : Int32) : Prop :=
  gfa M a0 0 7 fun u1 => ∃ b3 r4 : Nat, b3 + r4 = b ∧ wp_X1_at G b3 (fun u5 M2 => isc M2 u5 14 ∧ (∃ b7 r8 : Nat, b7 + r8 = r4 ∧ wp_X1_checkRange G b7 (fun M6 => (x2 = 0 → gfi M6 u5 14 4 fun v9 => P v9 M6) ∧ (x2 = 1 → gfi M6 u5 14 0 fun v10 => P v10 M6) ∧ (x2 = 2 → gfi M6 u5 14 1 fun v11 => P v11 M6) ∧ (x2 = 3 → gfi M6 u5 14 2 fun v12 => P v12 M6) ∧ (x2 = 4 → gfi M6 u5 14 3 fun v13 => P v13 M6) ∧ (¬ x2 = 0 → ¬ x2 = 1 → ¬ x2 = 2 → ¬ x2 = 3 → ¬ x2 = 4 → gfa M6 u5 14 5 fun u14 => isc M6 u14 16 ∧ (wp_J2_size G 0 (fun v16 M15 => P v16 M15) M6 u14))) X M2 x2 0 5)) X M u1 x1
set_option maxHeartbeats 4000000 in
set_option maxRecDepth 100000 in
theorem wk_X1_walkAt {l : Launch} (hst0 : l.stackTraces = false) {G : mG} {b : Nat} {P : Int32 → mM → Prop} {X : String → Nat → mM → Prop} {M : mM} {a0 : Nat} {x1 : Int32} {x2 : Int32} (h : wp_X1_walkAt G b P X M a0 x1 x2) : mMet l yX1_walkAt (ws_ yX1_walkAt cX1_walkAt 4 (Option.some Jvm.ClassFile.FieldType.int)) 14 b G [.ref a0, .int x1, .int x2] M (mRi P) X := by
  refine mm_met hst0 (by decide) (Nat.le_of_ble_eq_true rfl) ?_
  intro p e s m args below meth c ls C hr hnt hnm hl S
  have hl : lv_has ls 4 [(0, .ref a0), (1, .int x1), (2, .int x2)] := hl
  generalize mA M s.heap.size = A at C S ⊢
  have hx := C.hx
  have hb := C.hb
  have hk : 0 + b ≤ b := Nat.le_of_eq (Nat.zero_add b)
  unfold wp_X1_walkAt at h
  refine lv_aload_n hx hb dX1_walkAt_0 rfl (lv_at hl 0 rfl) ?_
  refine mm_gfa C S (ci := 0) (k := 7) rfl in_X1 (by decide) q222 (fun _ h9 => h9) dX1_walkAt_1 h (fun u1 h => ?_)
  refine lv_iload_n hx hb dX1_walkAt_4 rfl (lv_at hl 1 rfl) ?_
  obtain ⟨b3, r4, hb9, h⟩ := h
  refine mm_S (As := [.ref u1, .int x1]) (rest := []) C S hl.1 (wk_X1_at hst0 h) (lw_S q728 q729 q48 q730) pd_X1_at ⟨Nat.le_of_ble_eq_true rfl, Nat.le_of_ble_eq_true rfl⟩ rfl rfl (Nat.le_of_ble_eq_true rfl) dX1_walkAt_5 rfl rfl hk hb9 (fun v9 M2 H locs hP S hk => ?_) (fun E q ce M9 H9 locs9 hX S9 hk9 hc9 hv9 hf9 => mm_out C S9 (fun x hx => (hnt x hx).elim) (Nat.le_trans (Nat.le_add_right _ _) hk9) hc9 hv9 hf9 hX)
  obtain ⟨u5, rfl, h⟩ := hP
  refine W.eq (g2 := F0 m 8 ls [.ref u5]) rfl ?_
  refine mm_castS C S (ci := 14) (T := TX17) rfl rfl q349 h.1 dX1_walkAt_8 ?_
  have h := h.2
  refine lv_astore_n (lv' := [(3, .ref u5), (0, .ref a0), (1, .int x1), (2, .int x2)]) hx hb dX1_walkAt_11 rfl hl (by decide) rfl (fun ls hl => ?_)
  refine lv_iload_n hx hb dX1_walkAt_12 rfl (lv_at hl 3 rfl) ?_
  refine lv_iconst (v := 0) hx hb dX1_walkAt_13 (by decide) ?_
  refine lv_iconst (v := 5) hx hb dX1_walkAt_14 (by decide) ?_
  obtain ⟨b7, r8, hb9, h⟩ := h
  refine mm_S (As := [.int x2, .int 0, .int 5]) (rest := []) C S hl.1 (wk_X1_checkRange hst0 h) (lw_S q540 q541 q48 q542) pd_X1_checkRange ⟨Nat.le_of_ble_eq_true rfl, Nat.le_of_ble_eq_true rfl⟩ rfl rfl (Nat.le_of_ble_eq_true rfl) dX1_walkAt_15 rfl rfl hk hb9 (fun v9 M6 H locs hP S hk => ?_) (fun E q ce M9 H9 locs9 hX S9 hk9 hc9 hv9 hf9 => mm_out C S9 (fun x hx => (hnt x hx).elim) (Nat.le_trans (Nat.le_add_right _ _) hk9) hc9 hv9 hf9 hX)
  obtain ⟨rfl, h⟩ := hP
  refine W.eq (g2 := F0 m 18 ls []) rfl ?_
  refine lv_iload_n hx hb dX1_walkAt_18 rfl (lv_at hl 3 rfl) ?_
  by_cases c0 : x2 = 0
  · have h := h.1 c0
    rw [c0]
    refine lv_tableIn (tgt := 52) hx hb dX1_walkAt_19 (by decide) (by decide) rfl (by decide) ?_
    refine lv_aload_n hx hb dX1_walkAt_52 rfl (lv_at hl 0 rfl) ?_
    refine mm_gfiN C S (ci := 14) (k := 4) rfl in_X17 (by decide) q1505 (fun _ h9 => h9) dX1_walkAt_53 h (fun v9 h => ?_)
    exact mm_iret C S hr (Nat.le_trans (Nat.le_add_right _ _) hk) dX1_walkAt_56 h
  by_cases c1 : x2 = 1
  · have h := h.2.1 c1
    rw [c1]
    refine lv_tableIn (tgt := 57) hx hb dX1_walkAt_19 (by decide) (by decide) rfl (by decide) ?_
    refine lv_aload_n hx hb dX1_walkAt_57 rfl (lv_at hl 0 rfl) ?_
    refine mm_gfiN C S (ci := 14) (k := 0) rfl in_X17 (by decide) q1497 (fun _ h9 => h9) dX1_walkAt_58 h (fun v10 h => ?_)
    exact mm_iret C S hr (Nat.le_trans (Nat.le_add_right _ _) hk) dX1_walkAt_61 h
  by_cases c2 : x2 = 2
  · have h := h.2.2.1 c2
    rw [c2]
    refine lv_tableIn (tgt := 62) hx hb dX1_walkAt_19 (by decide) (by decide) rfl (by decide) ?_
    refine lv_aload_n hx hb dX1_walkAt_62 rfl (lv_at hl 0 rfl) ?_
    refine mm_gfiN C S (ci := 14) (k := 1) rfl in_X17 (by decide) q1499 (fun _ h9 => h9) dX1_walkAt_63 h (fun v11 h => ?_)
    exact mm_iret C S hr (Nat.le_trans (Nat.le_add_right _ _) hk) dX1_walkAt_66 h
  by_cases c3 : x2 = 3
  · have h := h.2.2.2.1 c3
    rw [c3]
    refine lv_tableIn (tgt := 67) hx hb dX1_walkAt_19 (by decide) (by decide) rfl (by decide) ?_
    refine lv_aload_n hx hb dX1_walkAt_67 rfl (lv_at hl 0 rfl) ?_
    refine mm_gfiN C S (ci := 14) (k := 2) rfl in_X17 (by decide) q1501 (fun _ h9 => h9) dX1_walkAt_68 h (fun v12 h => ?_)
    exact mm_iret C S hr (Nat.le_trans (Nat.le_add_right _ _) hk) dX1_walkAt_71 h
  by_cases c4 : x2 = 4
  · have h := h.2.2.2.2.1 c4
    rw [c4]
    refine lv_tableIn (tgt := 72) hx hb dX1_walkAt_19 (by decide) (by decide) rfl (by decide) ?_
    refine lv_aload_n hx hb dX1_walkAt_72 rfl (lv_at hl 0 rfl) ?_
    refine mm_gfiN C S (ci := 14) (k := 3) rfl in_X17 (by decide) q1503 (fun _ h9 => h9) dX1_walkAt_73 h (fun v13 h => ?_)
    exact mm_iret C S hr (Nat.le_trans (Nat.le_add_right _ _) hk) dX1_walkAt_76 h
  have h := h.2.2.2.2.2 c0 c1 c2 c3 c4
  refine lv_tableOut (tgt := 77) hx hb dX1_walkAt_19 (mSw0_4 c0 c1 c2 c3 c4) (by decide) ?_
  refine lv_aload_n hx hb dX1_walkAt_77 rfl (lv_at hl 0 rfl) ?_
  refine mm_gfaN C S (ci := 14) (k := 5) rfl in_X17 (by decide) q1507 (fun _ h9 => h9) dX1_walkAt_78 h (fun u14 h => ?_)
  obtain ⟨hI, h⟩ := h
  refine mm_F (As := []) (rest := []) C S hl.1 (x := ⟨"java/util/List", "size", "()I"⟩) (wk_J2_size hst0 h) (T := TJ2) rfl hI (mWsF q284 q288 q290 q51 (lw_meth q292)) (by decide +kernel) pdi_2 ⟨Nat.le_of_ble_eq_true rfl, Nat.le_of_ble_eq_true rfl⟩ rfl rfl (Nat.le_of_ble_eq_true rfl) dX1_walkAt_81 rfl rfl hk (Nat.zero_add _) (fun v9 M15 H locs hP S hk => ?_) (fun E q ce M9 H9 locs9 hX => hX.elim)
  obtain ⟨v16, rfl, h⟩ := hP
  refine W.eq (g2 := F0 m 86 ls [.int v16]) rfl ?_
  exact mm_iret C S hr (Nat.le_trans (Nat.le_add_right _ _) hk) dX1_walkAt_86 h
/-! X0_walkAt: level 15, alloc -/
def wb_X0_walkAt_13 (G : mG) (P : Int32 → mM → Prop) (r : Nat) (M : mM) (s0 : Nat) : Prop :=
  P 1 M
def wb_X0_walkAt_17 (G : mG) (P : Int32 → mM → Prop) (r : Nat) (M : mM) (s0 : Nat) : Prop :=
  P 2 M
def wp_X0_walkAt (G : mG) (b : Nat) (P : Int32 → mM → Prop) (M : mM) (a0 : Nat) (x1 : Int32) (x2 : Int32) (a3 : Nat) : Prop :=
  isc M a0 0 ∧ (∃ b2 r3 : Nat, b2 + r3 = b ∧ wp_X1_walkAt G b2 (fun v4 M1 => stl M1 4 a3 0 v4.toInt64 fun M5 => P 0 M5) (fun E9 u6 M7 => (E9 = "java/lang/IllegalArgumentException" ∧ wb_X0_walkAt_17 G P r3 M7 u6) ∨ (E9 = "java/lang/IndexOutOfBoundsException" ∧ wb_X0_walkAt_13 G P r3 M7 u6)) M a0 x1 x2)
set_option maxHeartbeats 4000000 in
set_option maxRecDepth 100000 in
theorem wk_X0_walkAt {l : Launch} (hst0 : l.stackTraces = false) {G : mG} {b : Nat} {P : Int32 → mM → Prop} {M : mM} {a0 : Nat} {x1 : Int32} {x2 : Int32} {a3 : Nat} (h : wp_X0_walkAt G b P M a0 x1 x2 a3) : mMet l yX0_walkAt (wsW_ yX0_walkAt cX0_walkAt 5 (Option.some Jvm.ClassFile.FieldType.int) [((0 : Nat), (10 : Nat), (13 : Nat), (13 : Nat)), ((0 : Nat), (10 : Nat), (17 : Nat), (15 : Nat))]) 15 b G [.ref a0, .int x1, .int x2, .ref a3] M (mRi P) (fun _ _ _ => False) := by
  refine mm_metW hst0 (by decide) (Nat.le_of_ble_eq_true rfl) ?_
  intro p e s m args below meth c ls C hr htab hnm hl S
  have hl : lv_has ls 5 [(0, .ref a0), (1, .int x1), (2, .int x2), (3, .ref a3)] := hl
  generalize mA M s.heap.size = A at C S ⊢
  have hx := C.hx
  have hb := C.hb
  have hk : 0 + b ≤ b := Nat.le_of_eq (Nat.zero_add b)
  have j13 : ∀ (k r : Nat) (M : mM) (H : Heap) (locs : List Loc) (ls : Array Slot) (s0 : Nat), k + r ≤ b → mW G A s M H locs → lv_has ls 5 [] → wb_X0_walkAt_13 G P r M s0 → W p l e (mRm 15 b) s m args below meth c H locs k k (vx_MQ below (mQ G A (mRi P)) (mXC G A (fun _ _ _ => False)) args s b b A) (F0 m 13 ls [.ref s0]) := by
    intro k r M H locs ls s0 hk S hl h
    unfold wb_X0_walkAt_13 at h
    refine lv_astore (lv' := [(4, .ref s0)]) hx hb dX0_walkAt_13 hl (by decide) rfl (fun ls hl => ?_)
    refine lv_iconst (v := 1) hx hb dX0_walkAt_15 (by decide) ?_
    exact mm_iret C S hr (Nat.le_trans (Nat.le_add_right _ _) hk) dX0_walkAt_16 h
  have j17 : ∀ (k r : Nat) (M : mM) (H : Heap) (locs : List Loc) (ls : Array Slot) (s0 : Nat), k + r ≤ b → mW G A s M H locs → lv_has ls 5 [] → wb_X0_walkAt_17 G P r M s0 → W p l e (mRm 15 b) s m args below meth c H locs k k (vx_MQ below (mQ G A (mRi P)) (mXC G A (fun _ _ _ => False)) args s b b A) (F0 m 17 ls [.ref s0]) := by
    intro k r M H locs ls s0 hk S hl h
    unfold wb_X0_walkAt_17 at h
    refine lv_astore (lv' := [(4, .ref s0)]) hx hb dX0_walkAt_17 hl (by decide) rfl (fun ls hl => ?_)
    refine lv_iconst (v := 2) hx hb dX0_walkAt_19 (by decide) ?_
    exact mm_iret C S hr (Nat.le_trans (Nat.le_add_right _ _) hk) dX0_walkAt_20 h
  unfold wp_X0_walkAt at h
  refine lv_aload_n hx hb dX0_walkAt_0 rfl (lv_at hl 3 rfl) ?_
  refine lv_iconst (v := 0) hx hb dX0_walkAt_1 (by decide) ?_
  refine lv_aload_n hx hb dX0_walkAt_2 rfl (lv_at hl 0 rfl) ?_
  refine lv_iload_n hx hb dX0_walkAt_3 rfl (lv_at hl 1 rfl) ?_
  refine lv_iload_n hx hb dX0_walkAt_4 rfl (lv_at hl 2 rfl) ?_
  obtain ⟨hI, h⟩ := h
  obtain ⟨b2, r3, hb9, h⟩ := h
  refine mm_V (As := [.int x1, .int x2]) (rest := [.int 0, .ref a3]) C S hl.1 (wk_X1_walkAt hst0 h) (T := TX1) rfl hI (lw_V q1613 q1614 q1615 q48 q1616) rfl pd_X1_walkAt ⟨Nat.le_of_ble_eq_true rfl, Nat.le_of_ble_eq_true rfl⟩ rfl rfl (Nat.le_of_ble_eq_true rfl) dX0_walkAt_5 rfl rfl hk hb9 (fun v9 M1 H locs hP S hk => ?_) (fun E u6 ce M7 H locs hX S hk hc9 hv9 hf9 => ?_)
  · obtain ⟨v4, rfl, h⟩ := hP
    refine W.eq (g2 := F0 m 8 ls [.int v4, .int 0, .ref a3]) rfl ?_
    refine lv_i2l hx hb dX0_walkAt_8 rfl ?_
    refine mm_last C S h dX0_walkAt_9 (fun M5 H locs h S => ?_)
    refine lv_goto (tgt := 21) hx hb dX0_walkAt_10 (by decide) ?_
    refine lv_iconst (v := 0) hx hb dX0_walkAt_21 (by decide) ?_
    exact mm_iret C S hr (Nat.le_trans (Nat.le_add_right _ _) hk) dX0_walkAt_22 h
  · rcases hX with ⟨rfl, h⟩ | ⟨rfl, h⟩
    · refine vx_catch (pc := 5) (name := "java/lang/IllegalArgumentException") C.hown [(⟨0, 10, 13, 13⟩ : ExceptionTableEntry)] (⟨0, 10, 17, 15⟩ : ExceptionTableEntry) [] htab (mm_pass1 C (nm := "java/lang/IndexOutOfBoundsException") (by decide) q431 (by decide) mm_pass0) (by decide) (by decide) (C.ts _ q511) (va_Nw.use rfl (C.nw q548 rfl)) hc9 hv9 hf9 ?_
      exact j17 _ _ _ _ _ _ _ hk S (lv_sub hl [] rfl) h
    · refine vx_catch (pc := 5) (name := "java/lang/IndexOutOfBoundsException") C.hown [] (⟨0, 10, 13, 13⟩ : ExceptionTableEntry) [(⟨0, 10, 17, 15⟩ : ExceptionTableEntry)] htab mm_pass0 (by decide) (by decide) (C.ts _ q431) (va_Nw.use rfl (C.nw q521 rfl)) hc9 hv9 hf9 ?_
      exact j13 _ _ _ _ _ _ _ hk S (lv_sub hl [] rfl) h
/-! X1_doubt: level 11 -/
def wb_X1_doubt_35 (G : mG) (P : Int32 → mM → Prop) (r : Nat) (M : mM) (s0 : Int32) : Prop :=
  P s0 M
def wp_X1_doubt (G : mG) (b : Nat) (P : Int32 → mM → Prop) (M : mM) (a0 : Nat) (x1 : Int32) (x2 : Int32) : Prop :=
  gfi M a0 0 17 fun v1 => isc M a0 0 ∧ (wp_X1_joined G 0 (fun v3 M2 => (¬ v3 = (-1) → gfi M2 a0 0 17 fun v4 => isc M2 a0 0 ∧ (wp_X1_joined G 0 (fun v6 M5 => wb_X1_doubt_35 G P b M5 (v6 - v3)) M2 a0 x1 x2 v4 1)) ∧ (v3 = (-1) → wb_X1_doubt_35 G P b M2 20)) M a0 x1 x2 v1 0)
set_option maxHeartbeats 4000000 in
set_option maxRecDepth 100000 in
theorem wk_X1_doubt {l : Launch} (hst0 : l.stackTraces = false) {G : mG} {b : Nat} {P : Int32 → mM → Prop} {M : mM} {a0 : Nat} {x1 : Int32} {x2 : Int32} (h : wp_X1_doubt G b P M a0 x1 x2) : mMet l yX1_doubt (ws_ yX1_doubt cX1_doubt 4 (Option.some Jvm.ClassFile.FieldType.int)) 11 b G [.ref a0, .int x1, .int x2] M (mRi P) (fun _ _ _ => False) := by
  refine mm_met hst0 (by decide) (Nat.le_of_ble_eq_true rfl) ?_
  intro p e s m args below meth c ls C hr hnt hnm hl S
  have hl : lv_has ls 4 [(0, .ref a0), (1, .int x1), (2, .int x2)] := hl
  generalize mA M s.heap.size = A at C S ⊢
  have hx := C.hx
  have hb := C.hb
  have hk : 0 + b ≤ b := Nat.le_of_eq (Nat.zero_add b)
  have j35 : ∀ (k r : Nat) (M : mM) (H : Heap) (locs : List Loc) (ls : Array Slot) (s0 : Int32), k + r ≤ b → mW G A s M H locs → lv_has ls 4 [] → wb_X1_doubt_35 G P r M s0 → W p l e (mRm 11 b) s m args below meth c H locs k k (vx_MQ below (mQ G A (mRi P)) (mXC G A (fun _ _ _ => False)) args s b b A) (F0 m 35 ls [.int s0]) := by
    intro k r M H locs ls s0 hk S hl h
    unfold wb_X1_doubt_35 at h
    exact mm_iret C S hr (Nat.le_trans (Nat.le_add_right _ _) hk) dX1_doubt_35 h
  unfold wp_X1_doubt at h
  refine lv_aload_n hx hb dX1_doubt_0 rfl (lv_at hl 0 rfl) ?_
  refine lv_iload_n hx hb dX1_doubt_1 rfl (lv_at hl 1 rfl) ?_
  refine lv_iload_n hx hb dX1_doubt_2 rfl (lv_at hl 2 rfl) ?_
  refine lv_aload_n hx hb dX1_doubt_3 rfl (lv_at hl 0 rfl) ?_
  refine mm_gfi C S (ci := 0) (k := 17) rfl in_X1 (by decide) q232 (fun _ h9 => h9) dX1_doubt_4 h (fun v1 h => ?_)
  refine lv_iconst (v := 0) hx hb dX1_doubt_7 (by decide) ?_
  obtain ⟨hI, h⟩ := h
  refine mm_V (As := [.int x1, .int x2, .int v1, .int 0]) (rest := []) C S hl.1 (wk_X1_joined hst0 h) (T := TX1) rfl hI (lw_V q337 q339 qs2 q48 q340) rfl pd_X1_joined ⟨Nat.le_of_ble_eq_true rfl, Nat.le_of_ble_eq_true rfl⟩ rfl rfl (Nat.le_of_ble_eq_true rfl) dX1_doubt_8 rfl rfl hk (Nat.zero_add _) (fun v9 M2 H locs hP S hk => ?_) (fun E q ce M9 H9 locs9 hX => hX.elim)
  obtain ⟨v3, rfl, h⟩ := hP
  refine W.eq (g2 := F0 m 11 ls [.int v3]) rfl ?_
  refine lv_istore_n (lv' := [(3, .int v3), (0, .ref a0), (1, .int x1), (2, .int x2)]) hx hb dX1_doubt_11 rfl hl (by decide) rfl (fun ls hl => ?_)
  refine lv_iload_n hx hb dX1_doubt_12 rfl (lv_at hl 0 rfl) ?_
  refine lv_iconst (v := (-1)) hx hb dX1_doubt_13 (by decide) ?_
  refine lv_icmp_ne (tgt := 22) hx hb dX1_doubt_14 (by decide) (fun c9 => ?_) (fun c9 => ?_)
  · have h := h.1 c9
    refine lv_aload_n hx hb dX1_doubt_22 rfl (lv_at hl 1 rfl) ?_
    refine lv_iload_n hx hb dX1_doubt_23 rfl (lv_at hl 2 rfl) ?_
    refine lv_iload_n hx hb dX1_doubt_24 rfl (lv_at hl 3 rfl) ?_
    refine lv_aload_n hx hb dX1_doubt_25 rfl (lv_at hl 1 rfl) ?_
    refine mm_gfi C S (ci := 0) (k := 17) rfl in_X1 (by decide) q232 (fun _ h9 => h9) dX1_doubt_26 h (fun v4 h => ?_)
    refine lv_iconst (v := 1) hx hb dX1_doubt_29 (by decide) ?_
    obtain ⟨hI, h⟩ := h
    refine mm_V (As := [.int x1, .int x2, .int v4, .int 1]) (rest := []) C S hl.1 (wk_X1_joined hst0 h) (T := TX1) rfl hI (lw_V q337 q339 qs2 q48 q340) rfl pd_X1_joined ⟨Nat.le_of_ble_eq_true rfl, Nat.le_of_ble_eq_true rfl⟩ rfl rfl (Nat.le_of_ble_eq_true rfl) dX1_doubt_30 rfl rfl hk (Nat.zero_add _) (fun v9 M5 H locs hP S hk => ?_) (fun E q ce M9 H9 locs9 hX => hX.elim)
    obtain ⟨v6, rfl, h⟩ := hP
    refine W.eq (g2 := F0 m 33 ls [.int v6]) rfl ?_
    refine lv_iload_n hx hb dX1_doubt_33 rfl (lv_at hl 0 rfl) ?_
    refine lv_isub hx hb dX1_doubt_34 ?_
    exact j35 _ _ _ _ _ _ _ hk S (lv_sub hl [] rfl) h
  · have h := h.2 c9
    refine lv_bipush (v := 20) hx hb dX1_doubt_17 (by decide) ?_
    refine lv_goto (tgt := 35) hx hb dX1_doubt_19 (by decide) ?_
    exact j35 _ _ _ _ _ _ _ hk S (lv_sub hl [] rfl) h
