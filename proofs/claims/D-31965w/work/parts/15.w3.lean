/-! J2_isEmpty: level 10 -/
def wb_J2_isEmpty_12 (G : mG) (P : Int32 → mM → Prop) (r : Nat) (M : mM) (s0 : Int32) : Prop :=
  narrow .boolean (.int s0) = .int s0 ∧ P s0 M
def wp_J2_isEmpty (G : mG) (b : Nat) (P : Int32 → mM → Prop) (M : mM) (a0 : Nat) : Prop :=
  gfi M a0 16 2 fun v1 => (¬ v1 = 0 → wb_J2_isEmpty_12 G P b M 0) ∧ (v1 = 0 → wb_J2_isEmpty_12 G P b M 1)
set_option maxHeartbeats 4000000 in
set_option maxRecDepth 100000 in
theorem wk_J2_isEmpty {l : Launch} (hst0 : l.stackTraces = false) {G : mG} {b : Nat} {P : Int32 → mM → Prop} {M : mM} {a0 : Nat} (h : wp_J2_isEmpty G b P M a0) : mMet l yJ2_isEmpty (ws_ yJ2_isEmpty cJ2_isEmpty 1 (Option.some Jvm.ClassFile.FieldType.boolean)) 10 b G [.ref a0] M (mRi P) (fun _ _ _ => False) := by
  refine mm_met hst0 (by decide) (Nat.le_of_ble_eq_true rfl) ?_
  intro p e s m args below meth c ls C hr hnt hnm hl S
  have hl : lv_has ls 1 [(0, .ref a0)] := hl
  generalize mA M s.heap.size = A at C S ⊢
  have hx := C.hx
  have hb := C.hb
  have hk : 0 + b ≤ b := Nat.le_of_eq (Nat.zero_add b)
  have j12 : ∀ (k r : Nat) (M : mM) (H : Heap) (locs : List Loc) (ls : Array Slot) (s0 : Int32), k + r ≤ b → mW G A s M H locs → lv_has ls 1 [] → wb_J2_isEmpty_12 G P r M s0 → W p l e (mRm 10 b) s m args below meth c H locs k k (vx_MQ below (mQ G A (mRi P)) (mXC G A (fun _ _ _ => False)) args s b b A) (F0 m 12 ls [.int s0]) := by
    intro k r M H locs ls s0 hk S hl h
    unfold wb_J2_isEmpty_12 at h
    exact mm_zret C S hr (Nat.le_trans (Nat.le_add_right _ _) hk) dJ2_isEmpty_12 h
  unfold wp_J2_isEmpty at h
  refine lv_aload_n hx hb dJ2_isEmpty_0 rfl (lv_at hl 0 rfl) ?_
  refine mm_gfi C S (ci := 16) (k := 2) rfl in_J2 (by decide) q123 (fun _ h9 => h9) dJ2_isEmpty_1 h (fun v1 h => ?_)
  refine lv_if_ne (tgt := 11) hx hb dJ2_isEmpty_4 (by decide) (fun c9 => ?_) (fun c9 => ?_)
  · have h := h.1 c9
    refine lv_iconst (v := 0) hx hb dJ2_isEmpty_11 (by decide) ?_
    exact j12 _ _ _ _ _ _ _ hk S (lv_sub hl [] rfl) h
  · have h := h.2 c9
    refine lv_iconst (v := 1) hx hb dJ2_isEmpty_7 (by decide) ?_
    refine lv_goto (tgt := 12) hx hb dJ2_isEmpty_8 (by decide) ?_
    exact j12 _ _ _ _ _ _ _ hk S (lv_sub hl [] rfl) h
/-! J2_iterator: level 11, alloc -/
def wp_J2_iterator (G : mG) (b : Nat) (P : Nat → mM → Prop) (M : mM) (a0 : Nat) : Prop :=
  nwo M b 20 4 dfsJ23 fun u1 M2 r3 => wp_J23_init G 0 (fun M4 => P u1 M4) M2 u1 a0
set_option maxHeartbeats 4000000 in
set_option maxRecDepth 100000 in
theorem wk_J2_iterator {l : Launch} (hst0 : l.stackTraces = false) {G : mG} {b : Nat} {P : Nat → mM → Prop} {M : mM} {a0 : Nat} (h : wp_J2_iterator G b P M a0) : mMet l yJ2_iterator (ws_ yJ2_iterator cJ2_iterator 1 (Option.some (Jvm.ClassFile.FieldType.object "java/util/Iterator"))) 11 b G [.ref a0] M (mRa P) (fun _ _ _ => False) := by
  refine mm_met hst0 (by decide) (Nat.le_of_ble_eq_true rfl) ?_
  intro p e s m args below meth c ls C hr hnt hnm hl S
  have hl : lv_has ls 1 [(0, .ref a0)] := hl
  generalize mA M s.heap.size = A at C S ⊢
  have hx := C.hx
  have hb := C.hb
  have hk : 0 + b ≤ b := Nat.le_of_eq (Nat.zero_add b)
  unfold wp_J2_iterator at h
  refine mm_new C S (ci := 20) (T := TJ23) rfl in_J23 tyJ23_ok q359 q360 q85 dfJ23 (by decide) dJ2_iterator_0 rfl rfl hk h (fun u1 M2 r3 H h S hk => ?_)
  refine lv_dup hx hb dJ2_iterator_3 rfl ?_
  refine lv_aload_n hx hb dJ2_iterator_4 rfl (lv_at hl 0 rfl) ?_
  refine mm_I (As := [.ref a0]) (rest := [.ref u1]) C S hl.1 (wk_J23_init hst0 h) q363 q85 q361 q362 rfl pd_J23_init ⟨Nat.le_of_ble_eq_true rfl, Nat.le_of_ble_eq_true rfl⟩ rfl rfl (Nat.le_of_ble_eq_true rfl) dJ2_iterator_5 rfl rfl hk (Nat.zero_add _) (fun v9 M4 H locs hP S hk => ?_) (fun E q ce M9 H9 locs9 hX => hX.elim)
  obtain ⟨rfl, h⟩ := hP
  refine W.eq (g2 := F0 m 8 ls [.ref u1]) rfl ?_
  exact mm_aret C S hr (Or.inl ⟨_, rfl⟩) (Nat.le_trans (Nat.le_add_right _ _) hk) dJ2_iterator_8 h
/-! J2_size: level 10 -/
def wp_J2_size (G : mG) (b : Nat) (P : Int32 → mM → Prop) (M : mM) (a0 : Nat) : Prop :=
  gfi M a0 16 2 fun v1 => P v1 M
set_option maxHeartbeats 4000000 in
set_option maxRecDepth 100000 in
theorem wk_J2_size {l : Launch} (hst0 : l.stackTraces = false) {G : mG} {b : Nat} {P : Int32 → mM → Prop} {M : mM} {a0 : Nat} (h : wp_J2_size G b P M a0) : mMet l yJ2_size (ws_ yJ2_size cJ2_size 1 (Option.some Jvm.ClassFile.FieldType.int)) 10 b G [.ref a0] M (mRi P) (fun _ _ _ => False) := by
  refine mm_met hst0 (by decide) (Nat.le_of_ble_eq_true rfl) ?_
  intro p e s m args below meth c ls C hr hnt hnm hl S
  have hl : lv_has ls 1 [(0, .ref a0)] := hl
  generalize mA M s.heap.size = A at C S ⊢
  have hx := C.hx
  have hb := C.hb
  have hk : 0 + b ≤ b := Nat.le_of_eq (Nat.zero_add b)
  unfold wp_J2_size at h
  refine lv_aload_n hx hb dJ2_size_0 rfl (lv_at hl 0 rfl) ?_
  refine mm_gfi C S (ci := 16) (k := 2) rfl in_J2 (by decide) q123 (fun _ h9 => h9) dJ2_size_1 h (fun v1 h => ?_)
  exact mm_iret C S hr (Nat.le_trans (Nat.le_add_right _ _) hk) dJ2_size_4 h
/-! J3_newCapacity_J4: level 12 -/
def wp_J3_newCapacity_J4 (G : mG) (b : Nat) (P : Int32 → mM → Prop) (M : mM) (a0 : Nat) (x1 : Int32) : Prop :=
  gfa M a0 17 0 fun u1 => aln M u1 fun v2 => gfi M a0 17 1 fun v3 => ∀ g4 : Int32, g4 = ((x1 <<< (v3 &&& 31)) - v2) → gfi M a0 17 1 fun v5 => ∀ g6 : Int32, g6 = (v2 + (2 <<< (v5 &&& 31))) → wp_J14_newLength G 0 (fun v8 M7 => (¬ v8 = 2147483647 → gfi M7 a0 17 1 fun v9 => P (v8 >>> (v9 &&& 31)) M7) ∧ (v8 = 2147483647 → False)) M v2 g4 g6
set_option maxHeartbeats 4000000 in
set_option maxRecDepth 100000 in
theorem wk_J3_newCapacity_J4 {l : Launch} (hst0 : l.stackTraces = false) {G : mG} {b : Nat} {P : Int32 → mM → Prop} {M : mM} {a0 : Nat} {x1 : Int32} (h : wp_J3_newCapacity_J4 G b P M a0 x1) : mMet l yJ3_newCapacity (ws_ yJ3_newCapacity cJ3_newCapacity 6 (Option.some Jvm.ClassFile.FieldType.int)) 12 b G [.ref a0, .int x1] M (mRi P) (fun _ _ _ => False) := by
  refine mm_met hst0 (by decide) (Nat.le_of_ble_eq_true rfl) ?_
  intro p e s m args below meth c ls C hr hnt hnm hl S
  have hl : lv_has ls 6 [(0, .ref a0), (1, .int x1)] := hl
  generalize mA M s.heap.size = A at C S ⊢
  have hx := C.hx
  have hb := C.hb
  have hk : 0 + b ≤ b := Nat.le_of_eq (Nat.zero_add b)
  unfold wp_J3_newCapacity_J4 at h
  refine lv_aload_n hx hb dJ3_newCapacity_0 rfl (lv_at hl 0 rfl) ?_
  refine mm_gfa C S (ci := 17) (k := 0) rfl in_J4 (by decide) q156 (fun _ h9 => h9) dJ3_newCapacity_1 h (fun u1 h => ?_)
  refine mm_alen C S h dJ3_newCapacity_4 (fun v2 h => ?_)
  refine lv_istore_n (lv' := [(2, .int v2), (0, .ref a0), (1, .int x1)]) hx hb dJ3_newCapacity_5 rfl hl (by decide) rfl (fun ls hl => ?_)
  refine lv_iload_n hx hb dJ3_newCapacity_6 rfl (lv_at hl 2 rfl) ?_
  refine lv_aload_n hx hb dJ3_newCapacity_7 rfl (lv_at hl 1 rfl) ?_
  refine mm_gfi C S (ci := 17) (k := 1) rfl in_J4 (by decide) q157 (fun _ h9 => h9) dJ3_newCapacity_8 h (fun v3 h => ?_)
  refine lv_ishl hx hb dJ3_newCapacity_11 ?_
  refine lv_istore_n (lv' := [(3, .int (x1 <<< (v3 &&& 31))), (2, .int v2), (0, .ref a0), (1, .int x1)]) hx hb dJ3_newCapacity_12 rfl hl (by decide) rfl (fun ls hl => ?_)
  refine lv_iload_n hx hb dJ3_newCapacity_13 rfl (lv_at hl 0 rfl) ?_
  refine lv_iload_n hx hb dJ3_newCapacity_14 rfl (lv_at hl 1 rfl) ?_
  refine lv_isub hx hb dJ3_newCapacity_15 ?_
  refine lv_topi (fun g4 eg4 => ?_)
  have h := h g4 eg4
  refine lv_istore (lv' := [(4, .int g4), (3, .int (x1 <<< (v3 &&& 31))), (2, .int v2), (0, .ref a0), (1, .int x1)]) hx hb dJ3_newCapacity_16 hl (by decide) rfl (fun ls hl => ?_)
  refine lv_iload_n hx hb dJ3_newCapacity_18 rfl (lv_at hl 2 rfl) ?_
  refine lv_iload hx hb dJ3_newCapacity_19 (lv_at hl 0 rfl) ?_
  refine lv_iload_n hx hb dJ3_newCapacity_21 rfl (lv_at hl 2 rfl) ?_
  refine lv_iconst (v := 2) hx hb dJ3_newCapacity_22 (by decide) ?_
  refine lv_aload_n hx hb dJ3_newCapacity_23 rfl (lv_at hl 3 rfl) ?_
  refine mm_gfi C S (ci := 17) (k := 1) rfl in_J4 (by decide) q157 (fun _ h9 => h9) dJ3_newCapacity_24 h (fun v5 h => ?_)
  refine lv_ishl hx hb dJ3_newCapacity_27 ?_
  refine lv_iadd hx hb dJ3_newCapacity_28 ?_
  refine lv_topi (fun g6 eg6 => ?_)
  have h := h g6 eg6
  refine mm_S (As := [.int v2, .int g4, .int g6]) (rest := []) C S hl.1 (wk_J14_newLength hst0 h) (lw_S q774 q669 q67 q670) pd_J14_newLength ⟨Nat.le_of_ble_eq_true rfl, Nat.le_of_ble_eq_true rfl⟩ rfl rfl (Nat.le_of_ble_eq_true rfl) dJ3_newCapacity_29 rfl rfl hk (Nat.zero_add _) (fun v9 M7 H locs hP S hk => ?_) (fun E q ce M9 H9 locs9 hX => hX.elim)
  obtain ⟨v8, rfl, h⟩ := hP
  refine W.eq (g2 := F0 m 32 ls [.int v8]) rfl ?_
  refine lv_istore (lv' := [(5, .int v8), (4, .int g4), (3, .int (x1 <<< (v3 &&& 31))), (2, .int v2), (0, .ref a0), (1, .int x1)]) hx hb dJ3_newCapacity_32 hl (by decide) rfl (fun ls hl => ?_)
  refine lv_iload hx hb dJ3_newCapacity_34 (lv_at hl 0 rfl) ?_
  refine lv_ldc hx hb C.hown (C.ts _ q775) dJ3_newCapacity_36 ?_
  refine lv_icmp_ne (tgt := 51) hx hb dJ3_newCapacity_38 (by decide) (fun c9 => ?_) (fun c9 => ?_)
  · have h := h.1 c9
    refine lv_iload hx hb dJ3_newCapacity_51 (lv_at hl 0 rfl) ?_
    refine lv_aload_n hx hb dJ3_newCapacity_53 rfl (lv_at hl 4 rfl) ?_
    refine mm_gfi C S (ci := 17) (k := 1) rfl in_J4 (by decide) q157 (fun _ h9 => h9) dJ3_newCapacity_54 h (fun v9 h => ?_)
    refine lv_ishr hx hb dJ3_newCapacity_57 ?_
    exact mm_iret C S hr (Nat.le_trans (Nat.le_add_right _ _) hk) dJ3_newCapacity_58 h
  · have h := h.2 c9
    exact h.elim
/-! J3_ensureCapacityInternal_J4: level 13, alloc -/
def wb_J3_ensureCapacityInternal_J4_38 (G : mG) (P : mM → Prop) (r : Nat) (M : mM) : Prop :=
  P M
def wp_J3_ensureCapacityInternal_J4 (G : mG) (b : Nat) (P : mM → Prop) (M : mM) (a0 : Nat) (x1 : Int32) : Prop :=
  gfa M a0 17 0 fun u1 => aln M u1 fun v2 => gfi M a0 17 1 fun v3 => ∀ g4 : Int32, g4 = (x1 - (v2 >>> (v3 &&& 31))) → (g4 ≤ 0 → wb_J3_ensureCapacityInternal_J4_38 G P b M) ∧ (¬ g4 ≤ 0 → gfa M a0 17 0 fun u5 => isc M a0 17 ∧ (wp_J3_newCapacity_J4 G 0 (fun v7 M6 => gfi M6 a0 17 1 fun v8 => ∃ b10 r11 : Nat, b10 + r11 = b ∧ wp_J16_copyOf_3 G b10 (fun u12 M9 => pfq M9 a0 17 0 (some u12) fun M13 => wb_J3_ensureCapacityInternal_J4_38 G P r11 M13) M6 u5 (v7 <<< (v8 &&& 31))) M a0 x1))
set_option maxHeartbeats 4000000 in
set_option maxRecDepth 100000 in
theorem wk_J3_ensureCapacityInternal_J4 {l : Launch} (hst0 : l.stackTraces = false) {G : mG} {b : Nat} {P : mM → Prop} {M : mM} {a0 : Nat} {x1 : Int32} (h : wp_J3_ensureCapacityInternal_J4 G b P M a0 x1) : mMet l yJ3_ensureCapacityInternal (ws_ yJ3_ensureCapacityInternal cJ3_ensureCapacityInternal 3 (Option.none : Option Jvm.ClassFile.FieldType)) 13 b G [.ref a0, .int x1] M (mRv P) (fun _ _ _ => False) := by
  refine mm_met hst0 (by decide) (Nat.le_of_ble_eq_true rfl) ?_
  intro p e s m args below meth c ls C hr hnt hnm hl S
  have hl : lv_has ls 3 [(0, .ref a0), (1, .int x1)] := hl
  generalize mA M s.heap.size = A at C S ⊢
  have hx := C.hx
  have hb := C.hb
  have hk : 0 + b ≤ b := Nat.le_of_eq (Nat.zero_add b)
  have j38 : ∀ (k r : Nat) (M : mM) (H : Heap) (locs : List Loc) (ls : Array Slot), k + r ≤ b → mW G A s M H locs → lv_has ls 3 [] → wb_J3_ensureCapacityInternal_J4_38 G P r M → W p l e (mRm 13 b) s m args below meth c H locs k k (vx_MQ below (mQ G A (mRv P)) (mXC G A (fun _ _ _ => False)) args s b b A) (F0 m 38 ls []) := by
    intro k r M H locs ls  hk S hl h
    unfold wb_J3_ensureCapacityInternal_J4_38 at h
    exact mm_vret C S hr (Nat.le_trans (Nat.le_add_right _ _) hk) dJ3_ensureCapacityInternal_38 h
  unfold wp_J3_ensureCapacityInternal_J4 at h
  refine lv_aload_n hx hb dJ3_ensureCapacityInternal_0 rfl (lv_at hl 0 rfl) ?_
  refine mm_gfa C S (ci := 17) (k := 0) rfl in_J4 (by decide) q156 (fun _ h9 => h9) dJ3_ensureCapacityInternal_1 h (fun u1 h => ?_)
  refine mm_alen C S h dJ3_ensureCapacityInternal_4 (fun v2 h => ?_)
  refine lv_aload_n hx hb dJ3_ensureCapacityInternal_5 rfl (lv_at hl 0 rfl) ?_
  refine mm_gfi C S (ci := 17) (k := 1) rfl in_J4 (by decide) q157 (fun _ h9 => h9) dJ3_ensureCapacityInternal_6 h (fun v3 h => ?_)
  refine lv_ishr hx hb dJ3_ensureCapacityInternal_9 ?_
  refine lv_istore_n (lv' := [(2, .int (v2 >>> (v3 &&& 31))), (0, .ref a0), (1, .int x1)]) hx hb dJ3_ensureCapacityInternal_10 rfl hl (by decide) rfl (fun ls hl => ?_)
  refine lv_iload_n hx hb dJ3_ensureCapacityInternal_11 rfl (lv_at hl 2 rfl) ?_
  refine lv_iload_n hx hb dJ3_ensureCapacityInternal_12 rfl (lv_at hl 0 rfl) ?_
  refine lv_isub hx hb dJ3_ensureCapacityInternal_13 ?_
  refine lv_topi (fun g4 eg4 => ?_)
  have h := h g4 eg4
  refine lv_if_le (tgt := 38) hx hb dJ3_ensureCapacityInternal_14 (by decide) (fun c9 => ?_) (fun c9 => ?_)
  · have h := h.1 c9
    exact j38 _ _ _ _ _ _ hk S (lv_sub hl [] rfl) h
  · have h := h.2 c9
    refine lv_aload_n hx hb dJ3_ensureCapacityInternal_17 rfl (lv_at hl 1 rfl) ?_
    refine lv_aload_n hx hb dJ3_ensureCapacityInternal_18 rfl (lv_at hl 1 rfl) ?_
    refine mm_gfa C S (ci := 17) (k := 0) rfl in_J4 (by decide) q156 (fun _ h9 => h9) dJ3_ensureCapacityInternal_19 h (fun u5 h => ?_)
    refine lv_aload_n hx hb dJ3_ensureCapacityInternal_22 rfl (lv_at hl 1 rfl) ?_
    refine lv_iload_n hx hb dJ3_ensureCapacityInternal_23 rfl (lv_at hl 2 rfl) ?_
    obtain ⟨hI, h⟩ := h
    refine mm_VP (As := [.int x1]) (rest := [.ref u5, .ref a0]) C S hl.1 (wk_J3_newCapacity_J4 hst0 h) (T := TJ4) rfl hI q773 q52 q770 q772 q789 rfl q771 pd_J3_newCapacity ⟨Nat.le_of_ble_eq_true rfl, Nat.le_of_ble_eq_true rfl⟩ rfl rfl (Nat.le_of_ble_eq_true rfl) dJ3_ensureCapacityInternal_24 rfl rfl hk (Nat.zero_add _) (fun v9 M6 H locs hP S hk => ?_) (fun E q ce M9 H9 locs9 hX => hX.elim)
    obtain ⟨v7, rfl, h⟩ := hP
    refine W.eq (g2 := F0 m 27 ls [.int v7, .ref u5, .ref a0]) rfl ?_
    refine lv_aload_n hx hb dJ3_ensureCapacityInternal_27 rfl (lv_at hl 1 rfl) ?_
    refine mm_gfi C S (ci := 17) (k := 1) rfl in_J4 (by decide) q157 (fun _ h9 => h9) dJ3_ensureCapacityInternal_28 h (fun v8 h => ?_)
    refine lv_ishl hx hb dJ3_ensureCapacityInternal_31 ?_
    obtain ⟨b10, r11, hb9, h⟩ := h
    refine mm_S (As := [.ref u5, .int (v7 <<< (v8 &&& 31))]) (rest := [.ref a0]) C S hl.1 (wk_J16_copyOf_3 hst0 h) (lw_S q776 q777 q69 q778) pd_J16_copyOf_3 ⟨Nat.le_of_ble_eq_true rfl, Nat.le_of_ble_eq_true rfl⟩ rfl rfl (Nat.le_of_ble_eq_true rfl) dJ3_ensureCapacityInternal_32 rfl rfl hk hb9 (fun v9 M9 H locs hP S hk => ?_) (fun E q ce M9 H9 locs9 hX => hX.elim)
    obtain ⟨u12, rfl, h⟩ := hP
    refine W.eq (g2 := F0 m 35 ls [.ref u12, .ref a0]) rfl ?_
    refine mm_pfq C S (ci := 17) (k := 0) (v := (some u12)) rfl in_J4 tyJ4_ok nmJ4 (by decide) q156 (fun _ h9 => h9) rfl dJ3_ensureCapacityInternal_35 rfl h (fun M13 H locs h S => ?_)
    exact j38 _ _ _ _ _ _ hk S (lv_sub hl [] rfl) h
/-! J3_isLatin1_J4: level 10 -/
def wb_J3_isLatin1_J4_18 (G : mG) (P : Int32 → mM → Prop) (r : Nat) (M : mM) (s0 : Int32) : Prop :=
  narrow .boolean (.int s0) = .int s0 ∧ P s0 M
def wb_J3_isLatin1_J4_17 (G : mG) (P : Int32 → mM → Prop) (r : Nat) (M : mM) : Prop :=
  wb_J3_isLatin1_J4_18 G P r M 0
def wp_J3_isLatin1_J4 (G : mG) (b : Nat) (P : Int32 → mM → Prop) (M : mM) (a0 : Nat) : Prop :=
  gfi M a0 17 1 fun v1 => (¬ v1 = 0 → wb_J3_isLatin1_J4_17 G P b M) ∧ (v1 = 0 → wb_J3_isLatin1_J4_18 G P b M 1)
set_option maxHeartbeats 4000000 in
set_option maxRecDepth 100000 in
theorem wk_J3_isLatin1_J4 {l : Launch} (hst0 : l.stackTraces = false) {G : mG} {b : Nat} {P : Int32 → mM → Prop} {M : mM} {a0 : Nat} (h : wp_J3_isLatin1_J4 G b P M a0) : mMet l yJ3_isLatin1 (ws_ yJ3_isLatin1 cJ3_isLatin1 1 (Option.some Jvm.ClassFile.FieldType.boolean)) 10 b G [.ref a0] M (mRi P) (fun _ _ _ => False) := by
  refine mm_met hst0 (by decide) (Nat.le_of_ble_eq_true rfl) ?_
  intro p e s m args below meth c ls C hr hnt hnm hl S
  have hl : lv_has ls 1 [(0, .ref a0)] := hl
  generalize mA M s.heap.size = A at C S ⊢
  have hx := C.hx
  have hb := C.hb
  have hk : 0 + b ≤ b := Nat.le_of_eq (Nat.zero_add b)
  have j18 : ∀ (k r : Nat) (M : mM) (H : Heap) (locs : List Loc) (ls : Array Slot) (s0 : Int32), k + r ≤ b → mW G A s M H locs → lv_has ls 1 [] → wb_J3_isLatin1_J4_18 G P r M s0 → W p l e (mRm 10 b) s m args below meth c H locs k k (vx_MQ below (mQ G A (mRi P)) (mXC G A (fun _ _ _ => False)) args s b b A) (F0 m 18 ls [.int s0]) := by
    intro k r M H locs ls s0 hk S hl h
    unfold wb_J3_isLatin1_J4_18 at h
    exact mm_zret C S hr (Nat.le_trans (Nat.le_add_right _ _) hk) dJ3_isLatin1_18 h
  have j17 : ∀ (k r : Nat) (M : mM) (H : Heap) (locs : List Loc) (ls : Array Slot), k + r ≤ b → mW G A s M H locs → lv_has ls 1 [] → wb_J3_isLatin1_J4_17 G P r M → W p l e (mRm 10 b) s m args below meth c H locs k k (vx_MQ below (mQ G A (mRi P)) (mXC G A (fun _ _ _ => False)) args s b b A) (F0 m 17 ls []) := by
    intro k r M H locs ls  hk S hl h
    unfold wb_J3_isLatin1_J4_17 at h
    refine lv_iconst (v := 0) hx hb dJ3_isLatin1_17 (by decide) ?_
    exact j18 _ _ _ _ _ _ _ hk S hl h
  unfold wp_J3_isLatin1_J4 at h
  refine mm_gets C S C.ks.2.1 q147 (fun _ h9 => h9) dJ3_isLatin1_0 ?_
  refine lv_if_eq (tgt := 17) hx hb dJ3_isLatin1_3 (by decide) (fun c9 => ?_) (fun c9 => ?_)
  · exact absurd c9 (by decide)
  · refine lv_aload_n hx hb dJ3_isLatin1_6 rfl (lv_at hl 0 rfl) ?_
    refine mm_gfi C S (ci := 17) (k := 1) rfl in_J4 (by decide) q157 (fun _ h9 => h9) dJ3_isLatin1_7 h (fun v1 h => ?_)
    refine lv_if_ne (tgt := 17) hx hb dJ3_isLatin1_10 (by decide) (fun c9 => ?_) (fun c9 => ?_)
    · have h := h.1 c9
      exact j17 _ _ _ _ _ _ hk S (lv_sub hl [] rfl) h
    · have h := h.2 c9
      refine lv_iconst (v := 1) hx hb dJ3_isLatin1_13 (by decide) ?_
      refine lv_goto (tgt := 18) hx hb dJ3_isLatin1_14 (by decide) ?_
      exact j18 _ _ _ _ _ _ _ hk S (lv_sub hl [] rfl) h
/-! J3_append_J4: level 14, alloc -/
def wb_J3_append_J4_45 (G : mG) (P : Nat → mM → Prop) (r : Nat) (M : mM) (a0 : Nat) (x1 : Int32) : Prop :=
  isc M a0 17 ∧ (wp_J3_isLatin1_J4 G 0 (fun v14 M13 => (v14 = 0 → gfa M13 a0 17 0 fun u15 => gfi M13 a0 17 3 fun v16 => pfi M13 a0 17 3 (v16 + 1) fun M17 => False) ∧ (¬ v14 = 0 → False)) M a0)
def wp_J3_append_J4 (G : mG) (b : Nat) (P : Nat → mM → Prop) (M : mM) (a0 : Nat) (x1 : Int32) : Prop :=
  gfi M a0 17 3 fun v1 => isc M a0 17 ∧ (∃ b3 r4 : Nat, b3 + r4 = b ∧ wp_J3_ensureCapacityInternal_J4 G b3 (fun M2 => isc M2 a0 17 ∧ (wp_J3_isLatin1_J4 G 0 (fun v6 M5 => (v6 = 0 → wb_J3_append_J4_45 G P r4 M5 a0 x1) ∧ (¬ v6 = 0 → wp_J19_canEncode G 0 (fun v8 M7 => (v8 = 0 → wb_J3_append_J4_45 G P r4 M7 a0 x1) ∧ (¬ v8 = 0 → gfa M7 a0 17 0 fun u9 => gfi M7 a0 17 3 fun v10 => pfi M7 a0 17 3 (v10 + 1) fun M11 => stn M11 3 u9 .byte v10 x1.toInt8.toInt32 fun M12 => P a0 M12)) M5 x1)) M2 a0)) M a0 (v1 + 1))
set_option maxHeartbeats 4000000 in
set_option maxRecDepth 100000 in
theorem wk_J3_append_J4 {l : Launch} (hst0 : l.stackTraces = false) {G : mG} {b : Nat} {P : Nat → mM → Prop} {M : mM} {a0 : Nat} {x1 : Int32} (h : wp_J3_append_J4 G b P M a0 x1) : mMet l yJ3_append (ws_ yJ3_append cJ3_append 2 (Option.some (Jvm.ClassFile.FieldType.object "java/lang/AbstractStringBuilder"))) 14 b G [.ref a0, .int x1] M (mRa P) (fun _ _ _ => False) := by
  refine mm_met hst0 (by decide) (Nat.le_of_ble_eq_true rfl) ?_
  intro p e s m args below meth c ls C hr hnt hnm hl S
  have hl : lv_has ls 2 [(0, .ref a0), (1, .int x1)] := hl
  generalize mA M s.heap.size = A at C S ⊢
  have hx := C.hx
  have hb := C.hb
  have hk : 0 + b ≤ b := Nat.le_of_eq (Nat.zero_add b)
  have j45 : ∀ (k r : Nat) (M : mM) (H : Heap) (locs : List Loc) (ls : Array Slot) (a0 : Nat) (x1 : Int32), k + r ≤ b → mW G A s M H locs → lv_has ls 2 [(0, .ref a0), (1, .int x1)] → wb_J3_append_J4_45 G P r M a0 x1 → W p l e (mRm 14 b) s m args below meth c H locs k k (vx_MQ below (mQ G A (mRa P)) (mXC G A (fun _ _ _ => False)) args s b b A) (F0 m 45 ls []) := by
    intro k r M H locs ls a0 x1 hk S hl h
    unfold wb_J3_append_J4_45 at h
    refine lv_aload_n hx hb dJ3_append_45 rfl (lv_at hl 0 rfl) ?_
    obtain ⟨hI, h⟩ := h
    refine mm_U (As := []) (rest := []) C S hl.1 (x := ⟨"java/lang/AbstractStringBuilder", "isLatin1", "()Z"⟩) (owner := "java/lang/AbstractStringBuilder") (wk_J3_isLatin1_J4 hst0 h) (T := TJ4) rfl hI (va_cwU 0 C.ts (mWsU q786 q788 q789 q787 q52 (lw_meth q790)) rfl rfl rfl rfl ⟨by decide, by decide, by decide +kernel⟩ ⟨Nat.le_of_ble_eq_true rfl, Nat.le_of_ble_eq_true rfl⟩) rfl rfl (Nat.le_of_ble_eq_true rfl) dJ3_append_46 rfl rfl hk (Nat.zero_add _) (fun v9 M13 H locs hP S hk => ?_) (fun E q ce M9 H9 locs9 hX => hX.elim)
    obtain ⟨v14, rfl, h⟩ := hP
    refine W.eq (g2 := F0 m 49 ls [.int v14]) rfl ?_
    refine lv_if_eq (tgt := 56) hx hb dJ3_append_49 (by decide) (fun c9 => ?_) (fun c9 => ?_)
    · have h := h.1 c9
      refine lv_aload_n hx hb dJ3_append_56 rfl (lv_at hl 0 rfl) ?_
      refine mm_gfa C S (ci := 17) (k := 0) rfl in_J4 (by decide) q156 (fun _ h9 => h9) dJ3_append_57 h (fun u15 h => ?_)
      refine lv_aload_n hx hb dJ3_append_60 rfl (lv_at hl 0 rfl) ?_
      refine lv_dup hx hb dJ3_append_61 rfl ?_
      refine mm_gfi C S (ci := 17) (k := 3) rfl in_J4 (by decide) q160 (fun _ h9 => h9) dJ3_append_62 h (fun v16 h => ?_)
      refine lv_dup_x1 hx hb dJ3_append_65 rfl rfl ?_
      refine lv_iconst (v := 1) hx hb dJ3_append_66 (by decide) ?_
      refine lv_iadd hx hb dJ3_append_67 ?_
      refine mm_pfi C S (ci := 17) (k := 3) rfl in_J4 tyJ4_ok nmJ4 (by decide) q160 (fun _ h9 => h9) rfl dJ3_append_68 rfl h (fun M17 H locs h S => ?_)
      refine lv_iload_n hx hb dJ3_append_71 rfl (lv_at hl 1 rfl) ?_
      exact h.elim
    · have h := h.2 c9
      refine lv_aload_n hx hb dJ3_append_52 rfl (lv_at hl 0 rfl) ?_
      exact h.elim
  unfold wp_J3_append_J4 at h
  refine lv_aload_n hx hb dJ3_append_0 rfl (lv_at hl 0 rfl) ?_
  refine lv_aload_n hx hb dJ3_append_1 rfl (lv_at hl 0 rfl) ?_
  refine mm_gfi C S (ci := 17) (k := 3) rfl in_J4 (by decide) q160 (fun _ h9 => h9) dJ3_append_2 h (fun v1 h => ?_)
  refine lv_iconst (v := 1) hx hb dJ3_append_5 (by decide) ?_
  refine lv_iadd hx hb dJ3_append_6 ?_
  obtain ⟨hI, h⟩ := h
  obtain ⟨b3, r4, hb9, h⟩ := h
  refine mm_VP (As := [.int (v1 + 1)]) (rest := []) C S hl.1 (wk_J3_ensureCapacityInternal_J4 hst0 h) (T := TJ4) rfl hI q769 q52 q766 q768 q789 rfl q767 pd_J3_ensureCapacityInternal ⟨Nat.le_of_ble_eq_true rfl, Nat.le_of_ble_eq_true rfl⟩ rfl rfl (Nat.le_of_ble_eq_true rfl) dJ3_append_7 rfl rfl hk hb9 (fun v9 M2 H locs hP S hk => ?_) (fun E q ce M9 H9 locs9 hX => hX.elim)
  obtain ⟨rfl, h⟩ := hP
  refine W.eq (g2 := F0 m 10 ls []) rfl ?_
  refine lv_aload_n hx hb dJ3_append_10 rfl (lv_at hl 0 rfl) ?_
  obtain ⟨hI, h⟩ := h
  refine mm_U (As := []) (rest := []) C S hl.1 (x := ⟨"java/lang/AbstractStringBuilder", "isLatin1", "()Z"⟩) (owner := "java/lang/AbstractStringBuilder") (wk_J3_isLatin1_J4 hst0 h) (T := TJ4) rfl hI (va_cwU 0 C.ts (mWsU q786 q788 q789 q787 q52 (lw_meth q790)) rfl rfl rfl rfl ⟨by decide, by decide, by decide +kernel⟩ ⟨Nat.le_of_ble_eq_true rfl, Nat.le_of_ble_eq_true rfl⟩) rfl rfl (Nat.le_of_ble_eq_true rfl) dJ3_append_11 rfl rfl hk (Nat.zero_add _) (fun v9 M5 H locs hP S hk => ?_) (fun E q ce M9 H9 locs9 hX => hX.elim)
  obtain ⟨v6, rfl, h⟩ := hP
  refine W.eq (g2 := F0 m 14 ls [.int v6]) rfl ?_
  refine lv_if_eq (tgt := 45) hx hb dJ3_append_14 (by decide) (fun c9 => ?_) (fun c9 => ?_)
  · have h := h.1 c9
    exact j45 _ _ _ _ _ _ _ _ hk S hl h
  · have h := h.2 c9
    refine lv_iload_n hx hb dJ3_append_17 rfl (lv_at hl 1 rfl) ?_
    refine mm_S (As := [.int x1]) (rest := []) C S hl.1 (wk_J19_canEncode hst0 h) (lw_S q791 q792 q73 q793) pd_J19_canEncode ⟨Nat.le_of_ble_eq_true rfl, Nat.le_of_ble_eq_true rfl⟩ rfl rfl (Nat.le_of_ble_eq_true rfl) dJ3_append_18 rfl rfl hk (Nat.zero_add _) (fun v9 M7 H locs hP S hk => ?_) (fun E q ce M9 H9 locs9 hX => hX.elim)
    obtain ⟨v8, rfl, h⟩ := hP
    refine W.eq (g2 := F0 m 21 ls [.int v8]) rfl ?_
    refine lv_if_eq (tgt := 45) hx hb dJ3_append_21 (by decide) (fun c9 => ?_) (fun c9 => ?_)
    · have h := h.1 c9
      exact j45 _ _ _ _ _ _ _ _ hk S hl h
    · have h := h.2 c9
      refine lv_aload_n hx hb dJ3_append_24 rfl (lv_at hl 0 rfl) ?_
      refine mm_gfa C S (ci := 17) (k := 0) rfl in_J4 (by decide) q156 (fun _ h9 => h9) dJ3_append_25 h (fun u9 h => ?_)
      refine lv_aload_n hx hb dJ3_append_28 rfl (lv_at hl 0 rfl) ?_
      refine lv_dup hx hb dJ3_append_29 rfl ?_
      refine mm_gfi C S (ci := 17) (k := 3) rfl in_J4 (by decide) q160 (fun _ h9 => h9) dJ3_append_30 h (fun v10 h => ?_)
      refine lv_dup_x1 hx hb dJ3_append_33 rfl rfl ?_
      refine lv_iconst (v := 1) hx hb dJ3_append_34 (by decide) ?_
      refine lv_iadd hx hb dJ3_append_35 ?_
      refine mm_pfi C S (ci := 17) (k := 3) rfl in_J4 tyJ4_ok nmJ4 (by decide) q160 (fun _ h9 => h9) rfl dJ3_append_36 rfl h (fun M11 H locs h S => ?_)
      refine lv_iload_n hx hb dJ3_append_39 rfl (lv_at hl 1 rfl) ?_
      refine lv_i2b hx hb dJ3_append_40 rfl ?_
      refine mm_bast C S h dJ3_append_41 (fun M12 H locs h S => ?_)
      refine lv_goto (tgt := 75) hx hb dJ3_append_42 (by decide) ?_
      refine lv_aload_n hx hb dJ3_append_75 rfl (lv_at hl 0 rfl) ?_
      exact mm_aret C S hr (Or.inl ⟨_, rfl⟩) (Nat.le_trans (Nat.le_add_right _ _) hk) dJ3_append_76 h
/-! J5_isLatin1: level 10 -/
def wb_J5_isLatin1_18 (G : mG) (P : Int32 → mM → Prop) (r : Nat) (M : mM) (s0 : Int32) : Prop :=
  narrow .boolean (.int s0) = .int s0 ∧ P s0 M
def wb_J5_isLatin1_17 (G : mG) (P : Int32 → mM → Prop) (r : Nat) (M : mM) : Prop :=
  wb_J5_isLatin1_18 G P r M 0
def wp_J5_isLatin1 (G : mG) (b : Nat) (P : Int32 → mM → Prop) (M : mM) (a0 : Nat) : Prop :=
  gfi M a0 18 1 fun v1 => (¬ v1 = 0 → wb_J5_isLatin1_17 G P b M) ∧ (v1 = 0 → wb_J5_isLatin1_18 G P b M 1)
set_option maxHeartbeats 4000000 in
set_option maxRecDepth 100000 in
theorem wk_J5_isLatin1 {l : Launch} (hst0 : l.stackTraces = false) {G : mG} {b : Nat} {P : Int32 → mM → Prop} {M : mM} {a0 : Nat} (h : wp_J5_isLatin1 G b P M a0) : mMet l yJ5_isLatin1 (ws_ yJ5_isLatin1 cJ5_isLatin1 1 (Option.some Jvm.ClassFile.FieldType.boolean)) 10 b G [.ref a0] M (mRi P) (fun _ _ _ => False) := by
  refine mm_met hst0 (by decide) (Nat.le_of_ble_eq_true rfl) ?_
  intro p e s m args below meth c ls C hr hnt hnm hl S
  have hl : lv_has ls 1 [(0, .ref a0)] := hl
  generalize mA M s.heap.size = A at C S ⊢
  have hx := C.hx
  have hb := C.hb
  have hk : 0 + b ≤ b := Nat.le_of_eq (Nat.zero_add b)
  have j18 : ∀ (k r : Nat) (M : mM) (H : Heap) (locs : List Loc) (ls : Array Slot) (s0 : Int32), k + r ≤ b → mW G A s M H locs → lv_has ls 1 [] → wb_J5_isLatin1_18 G P r M s0 → W p l e (mRm 10 b) s m args below meth c H locs k k (vx_MQ below (mQ G A (mRi P)) (mXC G A (fun _ _ _ => False)) args s b b A) (F0 m 18 ls [.int s0]) := by
    intro k r M H locs ls s0 hk S hl h
    unfold wb_J5_isLatin1_18 at h
    exact mm_zret C S hr (Nat.le_trans (Nat.le_add_right _ _) hk) dJ5_isLatin1_18 h
  have j17 : ∀ (k r : Nat) (M : mM) (H : Heap) (locs : List Loc) (ls : Array Slot), k + r ≤ b → mW G A s M H locs → lv_has ls 1 [] → wb_J5_isLatin1_17 G P r M → W p l e (mRm 10 b) s m args below meth c H locs k k (vx_MQ below (mQ G A (mRi P)) (mXC G A (fun _ _ _ => False)) args s b b A) (F0 m 17 ls []) := by
    intro k r M H locs ls  hk S hl h
    unfold wb_J5_isLatin1_17 at h
    refine lv_iconst (v := 0) hx hb dJ5_isLatin1_17 (by decide) ?_
    exact j18 _ _ _ _ _ _ _ hk S hl h
  unfold wp_J5_isLatin1 at h
  refine mm_gets C S C.ks.2.1 q888 (fun _ h9 => h9) dJ5_isLatin1_0 ?_
  refine lv_if_eq (tgt := 17) hx hb dJ5_isLatin1_3 (by decide) (fun c9 => ?_) (fun c9 => ?_)
  · exact absurd c9 (by decide)
  · refine lv_aload_n hx hb dJ5_isLatin1_6 rfl (lv_at hl 0 rfl) ?_
    refine mm_gfi C S (ci := 18) (k := 1) rfl in_J5 (by decide) q1098 (fun _ h9 => h9) dJ5_isLatin1_7 h (fun v1 h => ?_)
    refine lv_if_ne (tgt := 17) hx hb dJ5_isLatin1_10 (by decide) (fun c9 => ?_) (fun c9 => ?_)
    · have h := h.1 c9
      exact j17 _ _ _ _ _ _ hk S (lv_sub hl [] rfl) h
    · have h := h.2 c9
      refine lv_iconst (v := 1) hx hb dJ5_isLatin1_13 (by decide) ?_
      refine lv_goto (tgt := 18) hx hb dJ5_isLatin1_14 (by decide) ?_
      exact j18 _ _ _ _ _ _ _ hk S (lv_sub hl [] rfl) h
/-! J5_value: level 10 -/
def wp_J5_value (G : mG) (b : Nat) (P : Nat → mM → Prop) (M : mM) (a0 : Nat) : Prop :=
  gfa M a0 18 0 fun u1 => P u1 M
set_option maxHeartbeats 4000000 in
set_option maxRecDepth 100000 in
theorem wk_J5_value {l : Launch} (hst0 : l.stackTraces = false) {G : mG} {b : Nat} {P : Nat → mM → Prop} {M : mM} {a0 : Nat} (h : wp_J5_value G b P M a0) : mMet l yJ5_value (ws_ yJ5_value cJ5_value 1 (Option.some (Jvm.ClassFile.FieldType.array Jvm.ClassFile.FieldType.byte))) 10 b G [.ref a0] M (mRa P) (fun _ _ _ => False) := by
  refine mm_met hst0 (by decide) (Nat.le_of_ble_eq_true rfl) ?_
  intro p e s m args below meth c ls C hr hnt hnm hl S
  have hl : lv_has ls 1 [(0, .ref a0)] := hl
  generalize mA M s.heap.size = A at C S ⊢
  have hx := C.hx
  have hb := C.hb
  have hk : 0 + b ≤ b := Nat.le_of_eq (Nat.zero_add b)
  unfold wp_J5_value at h
  refine lv_aload_n hx hb dJ5_value_0 rfl (lv_at hl 0 rfl) ?_
  refine mm_gfa C S (ci := 18) (k := 0) rfl in_J5 (by decide) q1097 (fun _ h9 => h9) dJ5_value_1 h (fun u1 h => ?_)
  exact mm_aret C S hr (Or.inr ⟨_, rfl⟩) (Nat.le_trans (Nat.le_add_right _ _) hk) dJ5_value_4 h
/-! J5_charAt: level 13 -/
def wp_J5_charAt (G : mG) (b : Nat) (P : Int32 → mM → Prop) (M : mM) (a0 : Nat) (x1 : Int32) : Prop :=
  isc M a0 18 ∧ (wp_J5_isLatin1 G 0 (fun v2 M1 => (v2 = 0 → gfa M1 a0 18 0 fun u3 => False) ∧ (¬ v2 = 0 → gfa M1 a0 18 0 fun u4 => wp_J19_charAt G 0 (fun v6 M5 => narrow .char (.int v6) = .int v6 ∧ P v6 M5) M1 u4 x1)) M a0)
set_option maxHeartbeats 4000000 in
set_option maxRecDepth 100000 in
theorem wk_J5_charAt {l : Launch} (hst0 : l.stackTraces = false) {G : mG} {b : Nat} {P : Int32 → mM → Prop} {M : mM} {a0 : Nat} {x1 : Int32} (h : wp_J5_charAt G b P M a0 x1) : mMet l yJ5_charAt (ws_ yJ5_charAt cJ5_charAt 2 (Option.some Jvm.ClassFile.FieldType.char)) 13 b G [.ref a0, .int x1] M (mRi P) (fun _ _ _ => False) := by
  refine mm_met hst0 (by decide) (Nat.le_of_ble_eq_true rfl) ?_
  intro p e s m args below meth c ls C hr hnt hnm hl S
  have hl : lv_has ls 2 [(0, .ref a0), (1, .int x1)] := hl
  generalize mA M s.heap.size = A at C S ⊢
  have hx := C.hx
  have hb := C.hb
  have hk : 0 + b ≤ b := Nat.le_of_eq (Nat.zero_add b)
  unfold wp_J5_charAt at h
  refine lv_aload_n hx hb dJ5_charAt_0 rfl (lv_at hl 0 rfl) ?_
  obtain ⟨hI, h⟩ := h
  refine mm_V (As := []) (rest := []) C S hl.1 (wk_J5_isLatin1 hst0 h) (T := TJ5) rfl hI (lw_V q970 q959 q960 q54 q961) rfl pd_J5_isLatin1 ⟨Nat.le_of_ble_eq_true rfl, Nat.le_of_ble_eq_true rfl⟩ rfl rfl (Nat.le_of_ble_eq_true rfl) dJ5_charAt_1 rfl rfl hk (Nat.zero_add _) (fun v9 M1 H locs hP S hk => ?_) (fun E q ce M9 H9 locs9 hX => hX.elim)
  obtain ⟨v2, rfl, h⟩ := hP
  refine W.eq (g2 := F0 m 4 ls [.int v2]) rfl ?_
  refine lv_if_eq (tgt := 16) hx hb dJ5_charAt_4 (by decide) (fun c9 => ?_) (fun c9 => ?_)
  · have h := h.1 c9
    refine lv_aload_n hx hb dJ5_charAt_16 rfl (lv_at hl 0 rfl) ?_
    refine mm_gfa C S (ci := 18) (k := 0) rfl in_J5 (by decide) q1097 (fun _ h9 => h9) dJ5_charAt_17 h (fun u3 h => ?_)
    refine lv_iload_n hx hb dJ5_charAt_20 rfl (lv_at hl 1 rfl) ?_
    exact h.elim
  · have h := h.2 c9
    refine lv_aload_n hx hb dJ5_charAt_7 rfl (lv_at hl 0 rfl) ?_
    refine mm_gfa C S (ci := 18) (k := 0) rfl in_J5 (by decide) q1097 (fun _ h9 => h9) dJ5_charAt_8 h (fun u4 h => ?_)
    refine lv_iload_n hx hb dJ5_charAt_11 rfl (lv_at hl 1 rfl) ?_
    refine mm_S (As := [.ref u4, .int x1]) (rest := []) C S hl.1 (wk_J19_charAt hst0 h) (lw_S q971 q972 q73 q973) pd_J19_charAt ⟨Nat.le_of_ble_eq_true rfl, Nat.le_of_ble_eq_true rfl⟩ rfl rfl (Nat.le_of_ble_eq_true rfl) dJ5_charAt_12 rfl rfl hk (Nat.zero_add _) (fun v9 M5 H locs hP S hk => ?_) (fun E q ce M9 H9 locs9 hX => hX.elim)
    obtain ⟨v6, rfl, h⟩ := hP
    refine W.eq (g2 := F0 m 15 ls [.int v6]) rfl ?_
    exact mm_zret C S hr (Nat.le_trans (Nat.le_add_right _ _) hk) dJ5_charAt_15 h
/-! J3_appendChars_J4: level 14 -/
def wb_J3_appendChars_J4_194 (G : mG) (P : mM → Prop) (r : Nat) (M : mM) (a0 : Nat) (x2 : Int32) (x3 : Int32) : Prop :=
  gfi M a0 17 3 fun v22 => pfi M a0 17 3 (v22 + (x3 - x2)) fun M23 => P M23
def wl_J3_appendChars_J4_51 (G : mG) (P : mM → Prop) : Nat → Nat → mM → Nat → Nat → Int32 → Int32 → Nat → Int32 → Int32 → Prop
  | 0, _, _, _, _, _, _, _, _, _ => False
  | n + 1, r, M, a0, a1, x2, x3, a4, x5, x6 => (x3 ≤ x5 → wb_J3_appendChars_J4_194 G P r M a0 x2 x3) ∧ (¬ x3 ≤ x5 → isc M a1 18 ∧ (wp_J5_charAt G 0 (fun v25 M24 => wp_J19_canEncode G 0 (fun v27 M26 => (v27 = 0 → pfi M26 a0 17 3 x6 fun M28 => False) ∧ (¬ v27 = 0 → stn M26 3 a4 .byte x6 v25.toInt8.toInt32 fun M29 => (wl_J3_appendChars_J4_51 G P n) r M29 a0 a1 x2 x3 a4 (x5 + 1) (x6 + 1))) M24 v25) M a1 x5))
def wp_J3_appendChars_J4 (G : mG) (b : Nat) (P : mM → Prop) (M : mM) (a0 : Nat) (a1 : Nat) (x2 : Int32) (x3 : Int32) : Prop :=
  isc M a0 17 ∧ (wp_J3_isLatin1_J4 G 0 (fun v2 M1 => (v2 = 0 → isc M1 a1 18 ∧ (wp_J5_isLatin1 G 0 (fun v4 M3 => (v4 = 0 → isc M3 a1 18 ∧ (wp_J5_value G 0 (fun u6 M5 => gfa M5 a0 17 0 fun u7 => gfi M5 a0 17 3 fun v8 => ∀ g9 : Int32, g9 = ((x3 - x2) <<< (1 &&& 31)) → cpb M5 u6 (x2 <<< (1 &&& 31)) u7 (v8 <<< (1 &&& 31)) g9 fun M10 => wb_J3_appendChars_J4_194 G P b M10 a0 x2 x3) M3 a1)) ∧ (¬ v4 = 0 → gfa M3 a0 17 0 fun u11 => gfi M3 a0 17 3 fun v12 => False)) M1 a1)) ∧ (¬ v2 = 0 → isc M1 a1 18 ∧ (wp_J5_isLatin1 G 0 (fun v14 M13 => (v14 = 0 → gfa M13 a0 17 0 fun u15 => gfi M13 a0 17 3 fun v16 => ∃ n51, wl_J3_appendChars_J4_51 G P n51 b M13 a0 a1 x2 x3 u15 x2 v16) ∧ (¬ v14 = 0 → isc M13 a1 18 ∧ (wp_J5_value G 0 (fun u18 M17 => gfa M17 a0 17 0 fun u19 => gfi M17 a0 17 3 fun v20 => cpb M17 u18 x2 u19 v20 (x3 - x2) fun M21 => wb_J3_appendChars_J4_194 G P b M21 a0 x2 x3) M13 a1))) M1 a1))) M a0)
set_option maxHeartbeats 4000000 in
set_option maxRecDepth 100000 in
theorem wk_J3_appendChars_J4 {l : Launch} (hst0 : l.stackTraces = false) {G : mG} {b : Nat} {P : mM → Prop} {M : mM} {a0 : Nat} {a1 : Nat} {x2 : Int32} {x3 : Int32} (h : wp_J3_appendChars_J4 G b P M a0 a1 x2 x3) : mMet l yJ3_appendChars (ws_ yJ3_appendChars cJ3_appendChars 8 (Option.none : Option Jvm.ClassFile.FieldType)) 14 b G [.ref a0, .ref a1, .int x2, .int x3] M (mRv P) (fun _ _ _ => False) := by
  refine mm_met hst0 (by decide) (Nat.le_of_ble_eq_true rfl) ?_
  intro p e s m args below meth c ls C hr hnt hnm hl S
  have hl : lv_has ls 8 [(0, .ref a0), (1, .ref a1), (2, .int x2), (3, .int x3)] := hl
  generalize mA M s.heap.size = A at C S ⊢
  have hx := C.hx
  have hb := C.hb
  have hk : 0 + b ≤ b := Nat.le_of_eq (Nat.zero_add b)
  have j194 : ∀ (k r : Nat) (M : mM) (H : Heap) (locs : List Loc) (ls : Array Slot) (a0 : Nat) (x2 : Int32) (x3 : Int32), k + r ≤ b → mW G A s M H locs → lv_has ls 8 [(0, .ref a0), (2, .int x2), (3, .int x3)] → wb_J3_appendChars_J4_194 G P r M a0 x2 x3 → W p l e (mRm 14 b) s m args below meth c H locs k k (vx_MQ below (mQ G A (mRv P)) (mXC G A (fun _ _ _ => False)) args s b b A) (F0 m 194 ls []) := by
    intro k r M H locs ls a0 x2 x3 hk S hl h
    unfold wb_J3_appendChars_J4_194 at h
    refine lv_aload_n hx hb dJ3_appendChars_194 rfl (lv_at hl 0 rfl) ?_
    refine lv_dup hx hb dJ3_appendChars_195 rfl ?_
    refine mm_gfi C S (ci := 17) (k := 3) rfl in_J4 (by decide) q160 (fun _ h9 => h9) dJ3_appendChars_196 h (fun v22 h => ?_)
    refine lv_iload_n hx hb dJ3_appendChars_199 rfl (lv_at hl 2 rfl) ?_
    refine lv_iload_n hx hb dJ3_appendChars_200 rfl (lv_at hl 1 rfl) ?_
    refine lv_isub hx hb dJ3_appendChars_201 ?_
    refine lv_iadd hx hb dJ3_appendChars_202 ?_
    refine mm_pfi C S (ci := 17) (k := 3) rfl in_J4 tyJ4_ok nmJ4 (by decide) q160 (fun _ h9 => h9) rfl dJ3_appendChars_203 rfl h (fun M23 H locs h S => ?_)
    exact mm_vret C S hr (Nat.le_trans (Nat.le_add_right _ _) hk) dJ3_appendChars_206 h
  have j51 : ∀ (nf : Nat) (k r : Nat) (M : mM) (H : Heap) (locs : List Loc) (ls : Array Slot) (a0 : Nat) (a1 : Nat) (x2 : Int32) (x3 : Int32) (a4 : Nat) (x5 : Int32) (x6 : Int32), k + r ≤ b → mW G A s M H locs → lv_has ls 8 [(0, .ref a0), (1, .ref a1), (2, .int x2), (3, .int x3), (4, .ref a4), (5, .int x5), (6, .int x6)] → wl_J3_appendChars_J4_51 G P nf r M a0 a1 x2 x3 a4 x5 x6 → W p l e (mRm 14 b) s m args below meth c H locs k k (vx_MQ below (mQ G A (mRv P)) (mXC G A (fun _ _ _ => False)) args s b b A) (F0 m 51 ls []) := by
    intro nf
    induction nf with
    | zero =>
      intro k r M H locs ls a0 a1 x2 x3 a4 x5 x6 hk S hl h
      rw [wl_J3_appendChars_J4_51] at h
      exact h.elim
    | succ n51 ih51 =>
      intro k r M H locs ls a0 a1 x2 x3 a4 x5 x6 hk S hl h
      rw [wl_J3_appendChars_J4_51] at h
      refine lv_iload hx hb dJ3_appendChars_51 (lv_at hl 5 rfl) ?_
      refine lv_iload_n hx hb dJ3_appendChars_53 rfl (lv_at hl 3 rfl) ?_
      refine lv_icmp_ge (tgt := 142) hx hb dJ3_appendChars_54 (by decide) (fun c9 => ?_) (fun c9 => ?_)
      · have h := h.1 c9
        refine lv_goto (tgt := 194) hx hb dJ3_appendChars_142 (by decide) ?_
        exact j194 _ _ _ _ _ _ _ _ _ hk S (lv_sub hl [0, 2, 3] rfl) h
      · have h := h.2 c9
        refine lv_aload_n hx hb dJ3_appendChars_57 rfl (lv_at hl 1 rfl) ?_
        refine lv_iload hx hb dJ3_appendChars_58 (lv_at hl 5 rfl) ?_
        obtain ⟨hI, h⟩ := h
        refine mm_V (As := [.int x5]) (rest := []) C S hl.1 (wk_J5_charAt hst0 h) (T := TJ5) rfl hI (lw_V q966 q967 q968 q54 q969) rfl pd_J5_charAt ⟨Nat.le_of_ble_eq_true rfl, Nat.le_of_ble_eq_true rfl⟩ rfl rfl (Nat.le_of_ble_eq_true rfl) dJ3_appendChars_60 rfl rfl hk (Nat.zero_add _) (fun v9 M24 H locs hP S hk => ?_) (fun E q ce M9 H9 locs9 hX => hX.elim)
        obtain ⟨v25, rfl, h⟩ := hP
        refine W.eq (g2 := F0 m 63 ls [.int v25]) rfl ?_
        refine lv_istore (lv' := [(7, .int v25), (0, .ref a0), (1, .ref a1), (2, .int x2), (3, .int x3), (4, .ref a4), (5, .int x5), (6, .int x6)]) hx hb dJ3_appendChars_63 hl (by decide) rfl (fun ls hl => ?_)
        refine lv_iload hx hb dJ3_appendChars_65 (lv_at hl 0 rfl) ?_
        refine mm_S (As := [.int v25]) (rest := []) C S hl.1 (wk_J19_canEncode hst0 h) (lw_S q791 q792 q73 q793) pd_J19_canEncode ⟨Nat.le_of_ble_eq_true rfl, Nat.le_of_ble_eq_true rfl⟩ rfl rfl (Nat.le_of_ble_eq_true rfl) dJ3_appendChars_67 rfl rfl hk (Nat.zero_add _) (fun v9 M26 H locs hP S hk => ?_) (fun E q ce M9 H9 locs9 hX => hX.elim)
        obtain ⟨v27, rfl, h⟩ := hP
        refine W.eq (g2 := F0 m 70 ls [.int v27]) rfl ?_
        refine lv_if_eq (tgt := 87) hx hb dJ3_appendChars_70 (by decide) (fun c9 => ?_) (fun c9 => ?_)
        · have h := h.1 c9
          refine lv_aload_n hx hb dJ3_appendChars_87 rfl (lv_at hl 1 rfl) ?_
          refine lv_iload hx hb dJ3_appendChars_88 (lv_at hl 7 rfl) ?_
          refine mm_pfi C S (ci := 17) (k := 3) rfl in_J4 tyJ4_ok nmJ4 (by decide) q160 (fun _ h9 => h9) rfl dJ3_appendChars_90 rfl h (fun M28 H locs h S => ?_)
          refine lv_aload_n hx hb dJ3_appendChars_93 rfl (lv_at hl 1 rfl) ?_
          exact h.elim
        · have h := h.2 c9
          refine lv_aload hx hb dJ3_appendChars_73 (lv_at hl 5 rfl) ?_
          refine lv_iload hx hb dJ3_appendChars_75 (lv_at hl 7 rfl) ?_
          refine lv_iinc (v := (x6 + 1)) (lv' := [(6, .int (x6 + 1)), (7, .int v25), (0, .ref a0), (1, .ref a1), (2, .int x2), (3, .int x3), (4, .ref a4), (5, .int x5)]) hx hb dJ3_appendChars_77 hl (k := 7) rfl rfl (by decide) rfl (fun ls hl => ?_)
          refine lv_iload hx hb dJ3_appendChars_80 (lv_at hl 1 rfl) ?_
          refine lv_i2b hx hb dJ3_appendChars_82 rfl ?_
          refine mm_bast C S h dJ3_appendChars_83 (fun M29 H locs h S => ?_)
          refine lv_goto (tgt := 136) hx hb dJ3_appendChars_84 (by decide) ?_
          refine lv_iinc (v := (x5 + 1)) (lv' := [(5, .int (x5 + 1)), (6, .int (x6 + 1)), (7, .int v25), (0, .ref a0), (1, .ref a1), (2, .int x2), (3, .int x3), (4, .ref a4)]) hx hb dJ3_appendChars_136 hl (k := 7) rfl rfl (by decide) rfl (fun ls hl => ?_)
          refine lv_goto (tgt := 51) hx hb dJ3_appendChars_139 (by decide) ?_
          exact ih51 _ _ _ _ _ _ _ _ _ _ _ _ _ hk S (lv_sub hl [3, 4, 5, 6, 7, 0, 1] rfl) h
  unfold wp_J3_appendChars_J4 at h
  refine lv_aload_n hx hb dJ3_appendChars_0 rfl (lv_at hl 0 rfl) ?_
  obtain ⟨hI, h⟩ := h
  refine mm_U (As := []) (rest := []) C S hl.1 (x := ⟨"java/lang/AbstractStringBuilder", "isLatin1", "()Z"⟩) (owner := "java/lang/AbstractStringBuilder") (wk_J3_isLatin1_J4 hst0 h) (T := TJ4) rfl hI (va_cwU 0 C.ts (mWsU q786 q788 q789 q787 q52 (lw_meth q790)) rfl rfl rfl rfl ⟨by decide, by decide, by decide +kernel⟩ ⟨Nat.le_of_ble_eq_true rfl, Nat.le_of_ble_eq_true rfl⟩) rfl rfl (Nat.le_of_ble_eq_true rfl) dJ3_appendChars_1 rfl rfl hk (Nat.zero_add _) (fun v9 M1 H locs hP S hk => ?_) (fun E q ce M9 H9 locs9 hX => hX.elim)
  obtain ⟨v2, rfl, h⟩ := hP
  refine W.eq (g2 := F0 m 4 ls [.int v2]) rfl ?_
  refine lv_if_eq (tgt := 145) hx hb dJ3_appendChars_4 (by decide) (fun c9 => ?_) (fun c9 => ?_)
  · have h := h.1 c9
    refine lv_aload_n hx hb dJ3_appendChars_145 rfl (lv_at hl 1 rfl) ?_
    obtain ⟨hI, h⟩ := h
    refine mm_V (As := []) (rest := []) C S hl.1 (wk_J5_isLatin1 hst0 h) (T := TJ5) rfl hI (lw_V q958 q959 q960 q54 q961) rfl pd_J5_isLatin1 ⟨Nat.le_of_ble_eq_true rfl, Nat.le_of_ble_eq_true rfl⟩ rfl rfl (Nat.le_of_ble_eq_true rfl) dJ3_appendChars_146 rfl rfl hk (Nat.zero_add _) (fun v9 M3 H locs hP S hk => ?_) (fun E q ce M9 H9 locs9 hX => hX.elim)
    obtain ⟨v4, rfl, h⟩ := hP
    refine W.eq (g2 := F0 m 149 ls [.int v4]) rfl ?_
    refine lv_if_eq (tgt := 169) hx hb dJ3_appendChars_149 (by decide) (fun c9 => ?_) (fun c9 => ?_)
    · have h := h.1 c9
      refine lv_aload_n hx hb dJ3_appendChars_169 rfl (lv_at hl 1 rfl) ?_
      obtain ⟨hI, h⟩ := h
      refine mm_V (As := []) (rest := []) C S hl.1 (wk_J5_value hst0 h) (T := TJ5) rfl hI (lw_V q962 q963 q964 q54 q965) rfl pd_J5_value ⟨Nat.le_of_ble_eq_true rfl, Nat.le_of_ble_eq_true rfl⟩ rfl rfl (Nat.le_of_ble_eq_true rfl) dJ3_appendChars_170 rfl rfl hk (Nat.zero_add _) (fun v9 M5 H locs hP S hk => ?_) (fun E q ce M9 H9 locs9 hX => hX.elim)
      obtain ⟨u6, rfl, h⟩ := hP
      refine W.eq (g2 := F0 m 173 ls [.ref u6]) rfl ?_
      refine lv_iload_n hx hb dJ3_appendChars_173 rfl (lv_at hl 2 rfl) ?_
      refine lv_iconst (v := 1) hx hb dJ3_appendChars_174 (by decide) ?_
      refine lv_ishl hx hb dJ3_appendChars_175 ?_
      refine lv_aload_n hx hb dJ3_appendChars_176 rfl (lv_at hl 0 rfl) ?_
      refine mm_gfa C S (ci := 17) (k := 0) rfl in_J4 (by decide) q156 (fun _ h9 => h9) dJ3_appendChars_177 h (fun u7 h => ?_)
      refine lv_aload_n hx hb dJ3_appendChars_180 rfl (lv_at hl 0 rfl) ?_
      refine mm_gfi C S (ci := 17) (k := 3) rfl in_J4 (by decide) q160 (fun _ h9 => h9) dJ3_appendChars_181 h (fun v8 h => ?_)
      refine lv_iconst (v := 1) hx hb dJ3_appendChars_184 (by decide) ?_
      refine lv_ishl hx hb dJ3_appendChars_185 ?_
      refine lv_iload_n hx hb dJ3_appendChars_186 rfl (lv_at hl 3 rfl) ?_
      refine lv_iload_n hx hb dJ3_appendChars_187 rfl (lv_at hl 2 rfl) ?_
      refine lv_isub hx hb dJ3_appendChars_188 ?_
      refine lv_iconst (v := 1) hx hb dJ3_appendChars_189 (by decide) ?_
      refine lv_ishl hx hb dJ3_appendChars_190 ?_
      refine lv_topi (fun g9 eg9 => ?_)
      have h := h g9 eg9
      refine mm_cpb C S (C.hml.trans hl.1.symm) q925 h (Nat.le_of_ble_eq_true rfl) (Nat.le_of_ble_eq_true rfl) dJ3_appendChars_191 (fun M10 H locs h S => ?_)
      exact j194 _ _ _ _ _ _ _ _ _ hk S (lv_sub hl [0, 2, 3] rfl) h
    · have h := h.2 c9
      refine lv_aload_n hx hb dJ3_appendChars_152 rfl (lv_at hl 0 rfl) ?_
      refine mm_gfa C S (ci := 17) (k := 0) rfl in_J4 (by decide) q156 (fun _ h9 => h9) dJ3_appendChars_153 h (fun u11 h => ?_)
      refine lv_aload_n hx hb dJ3_appendChars_156 rfl (lv_at hl 0 rfl) ?_
      refine mm_gfi C S (ci := 17) (k := 3) rfl in_J4 (by decide) q160 (fun _ h9 => h9) dJ3_appendChars_157 h (fun v12 h => ?_)
      refine lv_aload_n hx hb dJ3_appendChars_160 rfl (lv_at hl 1 rfl) ?_
      refine lv_iload_n hx hb dJ3_appendChars_161 rfl (lv_at hl 2 rfl) ?_
      refine lv_iload_n hx hb dJ3_appendChars_162 rfl (lv_at hl 3 rfl) ?_
      exact h.elim
  · have h := h.2 c9
    refine lv_aload_n hx hb dJ3_appendChars_7 rfl (lv_at hl 1 rfl) ?_
    obtain ⟨hI, h⟩ := h
    refine mm_V (As := []) (rest := []) C S hl.1 (wk_J5_isLatin1 hst0 h) (T := TJ5) rfl hI (lw_V q958 q959 q960 q54 q961) rfl pd_J5_isLatin1 ⟨Nat.le_of_ble_eq_true rfl, Nat.le_of_ble_eq_true rfl⟩ rfl rfl (Nat.le_of_ble_eq_true rfl) dJ3_appendChars_8 rfl rfl hk (Nat.zero_add _) (fun v9 M13 H locs hP S hk => ?_) (fun E q ce M9 H9 locs9 hX => hX.elim)
    obtain ⟨v14, rfl, h⟩ := hP
    refine W.eq (g2 := F0 m 11 ls [.int v14]) rfl ?_
    refine lv_if_eq (tgt := 36) hx hb dJ3_appendChars_11 (by decide) (fun c9 => ?_) (fun c9 => ?_)
    · have h := h.1 c9
      refine lv_aload_n hx hb dJ3_appendChars_36 rfl (lv_at hl 0 rfl) ?_
      refine mm_gfa C S (ci := 17) (k := 0) rfl in_J4 (by decide) q156 (fun _ h9 => h9) dJ3_appendChars_37 h (fun u15 h => ?_)
      refine lv_astore (lv' := [(4, .ref u15), (0, .ref a0), (1, .ref a1), (2, .int x2), (3, .int x3)]) hx hb dJ3_appendChars_40 hl (by decide) rfl (fun ls hl => ?_)
      refine lv_iload_n hx hb dJ3_appendChars_42 rfl (lv_at hl 3 rfl) ?_
      refine lv_istore (lv' := [(5, .int x2), (4, .ref u15), (0, .ref a0), (1, .ref a1), (2, .int x2), (3, .int x3)]) hx hb dJ3_appendChars_43 hl (by decide) rfl (fun ls hl => ?_)
      refine lv_aload_n hx hb dJ3_appendChars_45 rfl (lv_at hl 2 rfl) ?_
      refine mm_gfi C S (ci := 17) (k := 3) rfl in_J4 (by decide) q160 (fun _ h9 => h9) dJ3_appendChars_46 h (fun v16 h => ?_)
      refine lv_istore (lv' := [(6, .int v16), (5, .int x2), (4, .ref u15), (0, .ref a0), (1, .ref a1), (2, .int x2), (3, .int x3)]) hx hb dJ3_appendChars_49 hl (by decide) rfl (fun ls hl => ?_)
      obtain ⟨nf, h⟩ := h
      exact j51 nf _ _ _ _ _ _ _ _ _ _ _ _ _ hk S (lv_sub hl [3, 4, 5, 6, 2, 1, 0] rfl) h
    · have h := h.2 c9
      refine lv_aload_n hx hb dJ3_appendChars_14 rfl (lv_at hl 1 rfl) ?_
      obtain ⟨hI, h⟩ := h
      refine mm_V (As := []) (rest := []) C S hl.1 (wk_J5_value hst0 h) (T := TJ5) rfl hI (lw_V q962 q963 q964 q54 q965) rfl pd_J5_value ⟨Nat.le_of_ble_eq_true rfl, Nat.le_of_ble_eq_true rfl⟩ rfl rfl (Nat.le_of_ble_eq_true rfl) dJ3_appendChars_15 rfl rfl hk (Nat.zero_add _) (fun v9 M17 H locs hP S hk => ?_) (fun E q ce M9 H9 locs9 hX => hX.elim)
      obtain ⟨u18, rfl, h⟩ := hP
      refine W.eq (g2 := F0 m 18 ls [.ref u18]) rfl ?_
      refine lv_iload_n hx hb dJ3_appendChars_18 rfl (lv_at hl 2 rfl) ?_
      refine lv_aload_n hx hb dJ3_appendChars_19 rfl (lv_at hl 0 rfl) ?_
      refine mm_gfa C S (ci := 17) (k := 0) rfl in_J4 (by decide) q156 (fun _ h9 => h9) dJ3_appendChars_20 h (fun u19 h => ?_)
      refine lv_aload_n hx hb dJ3_appendChars_23 rfl (lv_at hl 0 rfl) ?_
      refine mm_gfi C S (ci := 17) (k := 3) rfl in_J4 (by decide) q160 (fun _ h9 => h9) dJ3_appendChars_24 h (fun v20 h => ?_)
      refine lv_iload_n hx hb dJ3_appendChars_27 rfl (lv_at hl 3 rfl) ?_
      refine lv_iload_n hx hb dJ3_appendChars_28 rfl (lv_at hl 2 rfl) ?_
      refine lv_isub hx hb dJ3_appendChars_29 ?_
      refine mm_cpb C S (C.hml.trans hl.1.symm) q925 h (Nat.le_of_ble_eq_true rfl) (Nat.le_of_ble_eq_true rfl) dJ3_appendChars_30 (fun M21 H locs h S => ?_)
      refine lv_goto (tgt := 194) hx hb dJ3_appendChars_33 (by decide) ?_
      exact j194 _ _ _ _ _ _ _ _ _ hk S (lv_sub hl [0, 2, 3] rfl) h
/-! J3_charAt_J4: level 12 -/
def wp_J3_charAt_J4 (G : mG) (b : Nat) (P : Int32 → mM → Prop) (M : mM) (a0 : Nat) (x1 : Int32) : Prop :=
  gfi M a0 17 1 fun v1 => gfa M a0 17 0 fun u2 => gfi M a0 17 3 fun v3 => aln M u2 fun v4 => ∀ g5 : Int32, g5 = (if (v4 >>> (v1 &&& 31)) < v3 then (v4 >>> (v1 &&& 31)) else v3) → wp_J5_checkIndex G 0 (fun M6 => (¬ v1 = 0 → False) ∧ (v1 = 0 → ldi M6 3 u2 x1 fun v7 => narrow .char (.int (((v7 &&& 255).toUInt32 % 65536).toInt32)) = .int (((v7 &&& 255).toUInt32 % 65536).toInt32) ∧ P (((v7 &&& 255).toUInt32 % 65536).toInt32) M6)) M x1 g5
set_option maxHeartbeats 4000000 in
set_option maxRecDepth 100000 in
theorem wk_J3_charAt_J4 {l : Launch} (hst0 : l.stackTraces = false) {G : mG} {b : Nat} {P : Int32 → mM → Prop} {M : mM} {a0 : Nat} {x1 : Int32} (h : wp_J3_charAt_J4 G b P M a0 x1) : mMet l yJ3_charAt (ws_ yJ3_charAt cJ3_charAt 5 (Option.some Jvm.ClassFile.FieldType.char)) 12 b G [.ref a0, .int x1] M (mRi P) (fun _ _ _ => False) := by
  refine mm_met hst0 (by decide) (Nat.le_of_ble_eq_true rfl) ?_
  intro p e s m args below meth c ls C hr hnt hnm hl S
  have hl : lv_has ls 5 [(0, .ref a0), (1, .int x1)] := hl
  generalize mA M s.heap.size = A at C S ⊢
  have hx := C.hx
  have hb := C.hb
  have hk : 0 + b ≤ b := Nat.le_of_eq (Nat.zero_add b)
  unfold wp_J3_charAt_J4 at h
  refine lv_aload_n hx hb dJ3_charAt_0 rfl (lv_at hl 0 rfl) ?_
  refine mm_gfi C S (ci := 17) (k := 1) rfl in_J4 (by decide) q157 (fun _ h9 => h9) dJ3_charAt_1 h (fun v1 h => ?_)
  refine lv_istore_n (lv' := [(2, .int v1), (0, .ref a0), (1, .int x1)]) hx hb dJ3_charAt_4 rfl hl (by decide) rfl (fun ls hl => ?_)
  refine lv_aload_n hx hb dJ3_charAt_5 rfl (lv_at hl 1 rfl) ?_
  refine mm_gfa C S (ci := 17) (k := 0) rfl in_J4 (by decide) q156 (fun _ h9 => h9) dJ3_charAt_6 h (fun u2 h => ?_)
  refine lv_astore_n (lv' := [(3, .ref u2), (2, .int v1), (0, .ref a0), (1, .int x1)]) hx hb dJ3_charAt_9 rfl hl (by decide) rfl (fun ls hl => ?_)
  refine lv_aload_n hx hb dJ3_charAt_10 rfl (lv_at hl 2 rfl) ?_
  refine mm_gfi C S (ci := 17) (k := 3) rfl in_J4 (by decide) q160 (fun _ h9 => h9) dJ3_charAt_11 h (fun v3 h => ?_)
  refine lv_aload_n hx hb dJ3_charAt_14 rfl (lv_at hl 0 rfl) ?_
  refine mm_alen C S h dJ3_charAt_15 (fun v4 h => ?_)
  refine lv_iload_n hx hb dJ3_charAt_16 rfl (lv_at hl 1 rfl) ?_
  refine lv_ishr hx hb dJ3_charAt_17 ?_
  refine mm_min C hl.1 q999 q331 q68 q332 (Nat.le_of_ble_eq_true rfl) (Nat.le_of_ble_eq_true rfl) (Nat.le_trans (Nat.le_add_right _ _) hk) (Nat.le_trans (Nat.le_add_right _ _) hk) dJ3_charAt_18 ?_
  refine lv_topi (fun g5 eg5 => ?_)
  have h := h g5 eg5
  refine lv_istore (lv' := [(4, .int g5), (3, .ref u2), (2, .int v1), (0, .ref a0), (1, .int x1)]) hx hb dJ3_charAt_21 hl (by decide) rfl (fun ls hl => ?_)
  refine lv_iload_n hx hb dJ3_charAt_23 rfl (lv_at hl 4 rfl) ?_
  refine lv_iload hx hb dJ3_charAt_24 (lv_at hl 0 rfl) ?_
  refine mm_S (As := [.int x1, .int g5]) (rest := []) C S hl.1 (wk_J5_checkIndex hst0 h) (lw_S q1000 q834 q54 q835) pd_J5_checkIndex ⟨Nat.le_of_ble_eq_true rfl, Nat.le_of_ble_eq_true rfl⟩ rfl rfl (Nat.le_of_ble_eq_true rfl) dJ3_charAt_26 rfl rfl hk (Nat.zero_add _) (fun v9 M6 H locs hP S hk => ?_) (fun E q ce M9 H9 locs9 hX => hX.elim)
  obtain ⟨rfl, h⟩ := hP
  refine W.eq (g2 := F0 m 29 ls []) rfl ?_
  refine lv_iload_n hx hb dJ3_charAt_29 rfl (lv_at hl 2 rfl) ?_
  refine lv_if_ne (tgt := 42) hx hb dJ3_charAt_30 (by decide) (fun c9 => ?_) (fun c9 => ?_)
  · have h := h.1 c9
    refine lv_aload_n hx hb dJ3_charAt_42 rfl (lv_at hl 1 rfl) ?_
    refine lv_iload_n hx hb dJ3_charAt_43 rfl (lv_at hl 4 rfl) ?_
    exact h.elim
  · have h := h.2 c9
    refine lv_aload_n hx hb dJ3_charAt_33 rfl (lv_at hl 1 rfl) ?_
    refine lv_iload_n hx hb dJ3_charAt_34 rfl (lv_at hl 4 rfl) ?_
    refine mm_bald C S h dJ3_charAt_35 (fun v7 h => ?_)
    refine lv_sipush (v := 255) hx hb dJ3_charAt_36 (by decide) ?_
    refine lv_iand hx hb dJ3_charAt_39 ?_
    refine lv_i2c hx hb dJ3_charAt_40 rfl ?_
    exact mm_zret C S hr (Nat.le_trans (Nat.le_add_right _ _) hk) dJ3_charAt_41 h
/-! J4_charAt: level 13 -/
def wp_J4_charAt (G : mG) (b : Nat) (P : Int32 → mM → Prop) (M : mM) (a0 : Nat) (x1 : Int32) : Prop :=
  isc M a0 17 ∧ (wp_J3_charAt_J4 G 0 (fun v2 M1 => narrow .char (.int v2) = .int v2 ∧ P v2 M1) M a0 x1)
set_option maxHeartbeats 4000000 in
set_option maxRecDepth 100000 in
theorem wk_J4_charAt {l : Launch} (hst0 : l.stackTraces = false) {G : mG} {b : Nat} {P : Int32 → mM → Prop} {M : mM} {a0 : Nat} {x1 : Int32} (h : wp_J4_charAt G b P M a0 x1) : mMet l yJ4_charAt (ws_ yJ4_charAt cJ4_charAt 2 (Option.some Jvm.ClassFile.FieldType.char)) 13 b G [.ref a0, .int x1] M (mRi P) (fun _ _ _ => False) := by
  refine mm_met hst0 (by decide) (Nat.le_of_ble_eq_true rfl) ?_
  intro p e s m args below meth c ls C hr hnt hnm hl S
  have hl : lv_has ls 2 [(0, .ref a0), (1, .int x1)] := hl
  generalize mA M s.heap.size = A at C S ⊢
  have hx := C.hx
  have hb := C.hb
  have hk : 0 + b ≤ b := Nat.le_of_eq (Nat.zero_add b)
  unfold wp_J4_charAt at h
  refine lv_aload_n hx hb dJ4_charAt_0 rfl (lv_at hl 0 rfl) ?_
  refine lv_iload_n hx hb dJ4_charAt_1 rfl (lv_at hl 1 rfl) ?_
  obtain ⟨hI, h⟩ := h
  refine mm_SU (As := [.int x1]) (rest := []) C S hl.1 (wk_J3_charAt_J4 hst0 h) (T := TJ4) rfl hI (va_cwSU 1 C.ts (mWsSU q996 q2085 q169 q997 q52 (lw_meth q998)) rfl rfl rfl ⟨by decide, pd_J3_charAt.2.2⟩ ⟨Nat.le_of_ble_eq_true rfl, Nat.le_of_ble_eq_true rfl⟩) rfl rfl (Nat.le_of_ble_eq_true rfl) dJ4_charAt_2 rfl rfl hk (Nat.zero_add _) (fun v9 M1 H locs hP S hk => ?_) (fun E q ce M9 H9 locs9 hX => hX.elim)
  obtain ⟨v2, rfl, h⟩ := hP
  refine W.eq (g2 := F0 m 5 ls [.int v2]) rfl ?_
  exact mm_zret C S hr (Nat.le_trans (Nat.le_add_right _ _) hk) dJ4_charAt_5 h
/-! J3_appendChars_2_J4: level 14 -/
def wl_J3_appendChars_2_J4_22 (G : mG) (P : mM → Prop) : Nat → Nat → mM → Nat → Nat → Int32 → Int32 → Nat → Int32 → Int32 → Prop
  | 0, _, _, _, _, _, _, _, _, _ => False
  | n + 1, r, M, a0, a1, x2, x3, a4, x5, x6 => (x3 ≤ x5 → gfi M a0 17 3 fun v7 => pfi M a0 17 3 (v7 + (x3 - x2)) fun M8 => P M8) ∧ (¬ x3 ≤ x5 → isc M a1 17 ∧ (wp_J4_charAt G 0 (fun v10 M9 => wp_J19_canEncode G 0 (fun v12 M11 => (v12 = 0 → pfi M11 a0 17 3 x6 fun M13 => False) ∧ (¬ v12 = 0 → stn M11 3 a4 .byte x6 v10.toInt8.toInt32 fun M14 => (wl_J3_appendChars_2_J4_22 G P n) r M14 a0 a1 x2 x3 a4 (x5 + 1) (x6 + 1))) M9 v10) M a1 x5))
def wp_J3_appendChars_2_J4 (G : mG) (b : Nat) (P : mM → Prop) (M : mM) (a0 : Nat) (a1 : Nat) (x2 : Int32) (x3 : Int32) : Prop :=
  isc M a0 17 ∧ (wp_J3_isLatin1_J4 G 0 (fun v2 M1 => (v2 = 0 → gfa M1 a0 17 0 fun u3 => gfi M1 a0 17 3 fun v4 => False) ∧ (¬ v2 = 0 → gfa M1 a0 17 0 fun u5 => gfi M1 a0 17 3 fun v6 => ∃ n22, wl_J3_appendChars_2_J4_22 G P n22 b M1 a0 a1 x2 x3 u5 x2 v6)) M a0)
set_option maxHeartbeats 4000000 in
set_option maxRecDepth 100000 in
theorem wk_J3_appendChars_2_J4 {l : Launch} (hst0 : l.stackTraces = false) {G : mG} {b : Nat} {P : mM → Prop} {M : mM} {a0 : Nat} {a1 : Nat} {x2 : Int32} {x3 : Int32} (h : wp_J3_appendChars_2_J4 G b P M a0 a1 x2 x3) : mMet l yJ3_appendChars_2 (ws_ yJ3_appendChars_2 cJ3_appendChars_2 8 (Option.none : Option Jvm.ClassFile.FieldType)) 14 b G [.ref a0, .ref a1, .int x2, .int x3] M (mRv P) (fun _ _ _ => False) := by
  refine mm_met hst0 (by decide) (Nat.le_of_ble_eq_true rfl) ?_
  intro p e s m args below meth c ls C hr hnt hnm hl S
  have hl : lv_has ls 8 [(0, .ref a0), (1, .ref a1), (2, .int x2), (3, .int x3)] := hl
  generalize mA M s.heap.size = A at C S ⊢
  have hx := C.hx
  have hb := C.hb
  have hk : 0 + b ≤ b := Nat.le_of_eq (Nat.zero_add b)
  have j22 : ∀ (nf : Nat) (k r : Nat) (M : mM) (H : Heap) (locs : List Loc) (ls : Array Slot) (a0 : Nat) (a1 : Nat) (x2 : Int32) (x3 : Int32) (a4 : Nat) (x5 : Int32) (x6 : Int32), k + r ≤ b → mW G A s M H locs → lv_has ls 8 [(0, .ref a0), (1, .ref a1), (2, .int x2), (3, .int x3), (4, .ref a4), (5, .int x5), (6, .int x6)] → wl_J3_appendChars_2_J4_22 G P nf r M a0 a1 x2 x3 a4 x5 x6 → W p l e (mRm 14 b) s m args below meth c H locs k k (vx_MQ below (mQ G A (mRv P)) (mXC G A (fun _ _ _ => False)) args s b b A) (F0 m 22 ls []) := by
    intro nf
    induction nf with
    | zero =>
      intro k r M H locs ls a0 a1 x2 x3 a4 x5 x6 hk S hl h
      rw [wl_J3_appendChars_2_J4_22] at h
      exact h.elim
    | succ n22 ih22 =>
      intro k r M H locs ls a0 a1 x2 x3 a4 x5 x6 hk S hl h
      rw [wl_J3_appendChars_2_J4_22] at h
      refine lv_iload hx hb dJ3_appendChars_2_22 (lv_at hl 5 rfl) ?_
      refine lv_iload_n hx hb dJ3_appendChars_2_24 rfl (lv_at hl 3 rfl) ?_
      refine lv_icmp_ge (tgt := 126) hx hb dJ3_appendChars_2_25 (by decide) (fun c9 => ?_) (fun c9 => ?_)
      · have h := h.1 c9
        refine lv_goto (tgt := 143) hx hb dJ3_appendChars_2_126 (by decide) ?_
        refine lv_aload_n hx hb dJ3_appendChars_2_143 rfl (lv_at hl 0 rfl) ?_
        refine lv_dup hx hb dJ3_appendChars_2_144 rfl ?_
        refine mm_gfi C S (ci := 17) (k := 3) rfl in_J4 (by decide) q160 (fun _ h9 => h9) dJ3_appendChars_2_145 h (fun v7 h => ?_)
        refine lv_iload_n hx hb dJ3_appendChars_2_148 rfl (lv_at hl 3 rfl) ?_
        refine lv_iload_n hx hb dJ3_appendChars_2_149 rfl (lv_at hl 2 rfl) ?_
        refine lv_isub hx hb dJ3_appendChars_2_150 ?_
        refine lv_iadd hx hb dJ3_appendChars_2_151 ?_
        refine mm_pfi C S (ci := 17) (k := 3) rfl in_J4 tyJ4_ok nmJ4 (by decide) q160 (fun _ h9 => h9) rfl dJ3_appendChars_2_152 rfl h (fun M8 H locs h S => ?_)
        exact mm_vret C S hr (Nat.le_trans (Nat.le_add_right _ _) hk) dJ3_appendChars_2_155 h
      · have h := h.2 c9
        refine lv_aload_n hx hb dJ3_appendChars_2_28 rfl (lv_at hl 1 rfl) ?_
        refine lv_iload hx hb dJ3_appendChars_2_29 (lv_at hl 5 rfl) ?_
        obtain ⟨hI, h⟩ := h
        refine mm_F (As := [.int x5]) (rest := []) C S hl.1 (x := ⟨"java/lang/CharSequence", "charAt", "(I)C"⟩) (wk_J4_charAt hst0 h) (T := TJ4) rfl hI (mWsF q1007 q991 q993 q53 (lw_meth q995)) (by decide +kernel) pdi_0 ⟨Nat.le_of_ble_eq_true rfl, Nat.le_of_ble_eq_true rfl⟩ rfl rfl (Nat.le_of_ble_eq_true rfl) dJ3_appendChars_2_31 rfl rfl hk (Nat.zero_add _) (fun v9 M9 H locs hP S hk => ?_) (fun E q ce M9 H9 locs9 hX => hX.elim)
        obtain ⟨v10, rfl, h⟩ := hP
        refine W.eq (g2 := F0 m 36 ls [.int v10]) rfl ?_
        refine lv_istore (lv' := [(7, .int v10), (0, .ref a0), (1, .ref a1), (2, .int x2), (3, .int x3), (4, .ref a4), (5, .int x5), (6, .int x6)]) hx hb dJ3_appendChars_2_36 hl (by decide) rfl (fun ls hl => ?_)
        refine lv_iload hx hb dJ3_appendChars_2_38 (lv_at hl 0 rfl) ?_
        refine mm_S (As := [.int v10]) (rest := []) C S hl.1 (wk_J19_canEncode hst0 h) (lw_S q791 q792 q73 q793) pd_J19_canEncode ⟨Nat.le_of_ble_eq_true rfl, Nat.le_of_ble_eq_true rfl⟩ rfl rfl (Nat.le_of_ble_eq_true rfl) dJ3_appendChars_2_40 rfl rfl hk (Nat.zero_add _) (fun v9 M11 H locs hP S hk => ?_) (fun E q ce M9 H9 locs9 hX => hX.elim)
        obtain ⟨v12, rfl, h⟩ := hP
        refine W.eq (g2 := F0 m 43 ls [.int v12]) rfl ?_
        refine lv_if_eq (tgt := 60) hx hb dJ3_appendChars_2_43 (by decide) (fun c9 => ?_) (fun c9 => ?_)
        · have h := h.1 c9
          refine lv_aload_n hx hb dJ3_appendChars_2_60 rfl (lv_at hl 1 rfl) ?_
          refine lv_iload hx hb dJ3_appendChars_2_61 (lv_at hl 7 rfl) ?_
          refine mm_pfi C S (ci := 17) (k := 3) rfl in_J4 tyJ4_ok nmJ4 (by decide) q160 (fun _ h9 => h9) rfl dJ3_appendChars_2_63 rfl h (fun M13 H locs h S => ?_)
          refine lv_aload_n hx hb dJ3_appendChars_2_66 rfl (lv_at hl 1 rfl) ?_
          exact h.elim
        · have h := h.2 c9
          refine lv_aload hx hb dJ3_appendChars_2_46 (lv_at hl 5 rfl) ?_
          refine lv_iload hx hb dJ3_appendChars_2_48 (lv_at hl 7 rfl) ?_
          refine lv_iinc (v := (x6 + 1)) (lv' := [(6, .int (x6 + 1)), (7, .int v10), (0, .ref a0), (1, .ref a1), (2, .int x2), (3, .int x3), (4, .ref a4), (5, .int x5)]) hx hb dJ3_appendChars_2_50 hl (k := 7) rfl rfl (by decide) rfl (fun ls hl => ?_)
          refine lv_iload hx hb dJ3_appendChars_2_53 (lv_at hl 1 rfl) ?_
          refine lv_i2b hx hb dJ3_appendChars_2_55 rfl ?_
          refine mm_bast C S h dJ3_appendChars_2_56 (fun M14 H locs h S => ?_)
          refine lv_goto (tgt := 120) hx hb dJ3_appendChars_2_57 (by decide) ?_
          refine lv_iinc (v := (x5 + 1)) (lv' := [(5, .int (x5 + 1)), (6, .int (x6 + 1)), (7, .int v10), (0, .ref a0), (1, .ref a1), (2, .int x2), (3, .int x3), (4, .ref a4)]) hx hb dJ3_appendChars_2_120 hl (k := 7) rfl rfl (by decide) rfl (fun ls hl => ?_)
          refine lv_goto (tgt := 22) hx hb dJ3_appendChars_2_123 (by decide) ?_
          exact ih22 _ _ _ _ _ _ _ _ _ _ _ _ _ hk S (lv_sub hl [3, 4, 5, 6, 7, 0, 1] rfl) h
  unfold wp_J3_appendChars_2_J4 at h
  refine lv_aload_n hx hb dJ3_appendChars_2_0 rfl (lv_at hl 0 rfl) ?_
  obtain ⟨hI, h⟩ := h
  refine mm_U (As := []) (rest := []) C S hl.1 (x := ⟨"java/lang/AbstractStringBuilder", "isLatin1", "()Z"⟩) (owner := "java/lang/AbstractStringBuilder") (wk_J3_isLatin1_J4 hst0 h) (T := TJ4) rfl hI (va_cwU 0 C.ts (mWsU q786 q788 q789 q787 q52 (lw_meth q790)) rfl rfl rfl rfl ⟨by decide, by decide, by decide +kernel⟩ ⟨Nat.le_of_ble_eq_true rfl, Nat.le_of_ble_eq_true rfl⟩) rfl rfl (Nat.le_of_ble_eq_true rfl) dJ3_appendChars_2_1 rfl rfl hk (Nat.zero_add _) (fun v9 M1 H locs hP S hk => ?_) (fun E q ce M9 H9 locs9 hX => hX.elim)
  obtain ⟨v2, rfl, h⟩ := hP
  refine W.eq (g2 := F0 m 4 ls [.int v2]) rfl ?_
  refine lv_if_eq (tgt := 129) hx hb dJ3_appendChars_2_4 (by decide) (fun c9 => ?_) (fun c9 => ?_)
  · have h := h.1 c9
    refine lv_aload_n hx hb dJ3_appendChars_2_129 rfl (lv_at hl 0 rfl) ?_
    refine mm_gfa C S (ci := 17) (k := 0) rfl in_J4 (by decide) q156 (fun _ h9 => h9) dJ3_appendChars_2_130 h (fun u3 h => ?_)
    refine lv_aload_n hx hb dJ3_appendChars_2_133 rfl (lv_at hl 0 rfl) ?_
    refine mm_gfi C S (ci := 17) (k := 3) rfl in_J4 (by decide) q160 (fun _ h9 => h9) dJ3_appendChars_2_134 h (fun v4 h => ?_)
    refine lv_aload_n hx hb dJ3_appendChars_2_137 rfl (lv_at hl 1 rfl) ?_
    refine lv_iload_n hx hb dJ3_appendChars_2_138 rfl (lv_at hl 2 rfl) ?_
    refine lv_iload_n hx hb dJ3_appendChars_2_139 rfl (lv_at hl 3 rfl) ?_
    exact h.elim
  · have h := h.2 c9
    refine lv_aload_n hx hb dJ3_appendChars_2_7 rfl (lv_at hl 0 rfl) ?_
    refine mm_gfa C S (ci := 17) (k := 0) rfl in_J4 (by decide) q156 (fun _ h9 => h9) dJ3_appendChars_2_8 h (fun u5 h => ?_)
    refine lv_astore (lv' := [(4, .ref u5), (0, .ref a0), (1, .ref a1), (2, .int x2), (3, .int x3)]) hx hb dJ3_appendChars_2_11 hl (by decide) rfl (fun ls hl => ?_)
    refine lv_iload_n hx hb dJ3_appendChars_2_13 rfl (lv_at hl 3 rfl) ?_
    refine lv_istore (lv' := [(5, .int x2), (4, .ref u5), (0, .ref a0), (1, .ref a1), (2, .int x2), (3, .int x3)]) hx hb dJ3_appendChars_2_14 hl (by decide) rfl (fun ls hl => ?_)
    refine lv_aload_n hx hb dJ3_appendChars_2_16 rfl (lv_at hl 2 rfl) ?_
    refine mm_gfi C S (ci := 17) (k := 3) rfl in_J4 (by decide) q160 (fun _ h9 => h9) dJ3_appendChars_2_17 h (fun v6 h => ?_)
    refine lv_istore (lv' := [(6, .int v6), (5, .int x2), (4, .ref u5), (0, .ref a0), (1, .ref a1), (2, .int x2), (3, .int x3)]) hx hb dJ3_appendChars_2_20 hl (by decide) rfl (fun ls hl => ?_)
    obtain ⟨nf, h⟩ := h
    exact j22 nf _ _ _ _ _ _ _ _ _ _ _ _ _ hk S (lv_sub hl [3, 4, 5, 6, 2, 1, 0] rfl) h
/-! J3_appendNull_J4: level 14, alloc -/
def wp_J3_appendNull_J4 (G : mG) (b : Nat) (P : Nat → mM → Prop) (M : mM) (a0 : Nat) : Prop :=
  gfi M a0 17 3 fun v1 => isc M a0 17 ∧ (∃ b3 r4 : Nat, b3 + r4 = b ∧ wp_J3_ensureCapacityInternal_J4 G b3 (fun M2 => gfi M2 a0 17 3 fun v5 => gfa M2 a0 17 0 fun u6 => isc M2 a0 17 ∧ (wp_J3_isLatin1_J4 G 0 (fun v8 M7 => (v8 = 0 → False) ∧ (¬ v8 = 0 → stn M7 3 u6 .byte v5 110 fun M9 => stn M9 3 u6 .byte (v5 + 1) 117 fun M10 => stn M10 3 u6 .byte ((v5 + 1) + 1) 108 fun M11 => stn M11 3 u6 .byte (((v5 + 1) + 1) + 1) 108 fun M12 => pfi M12 a0 17 3 ((((v5 + 1) + 1) + 1) + 1) fun M13 => P a0 M13)) M2 a0)) M a0 (v1 + 4))
set_option maxHeartbeats 4000000 in
set_option maxRecDepth 100000 in
theorem wk_J3_appendNull_J4 {l : Launch} (hst0 : l.stackTraces = false) {G : mG} {b : Nat} {P : Nat → mM → Prop} {M : mM} {a0 : Nat} (h : wp_J3_appendNull_J4 G b P M a0) : mMet l yJ3_appendNull (ws_ yJ3_appendNull cJ3_appendNull 3 (Option.some (Jvm.ClassFile.FieldType.object "java/lang/AbstractStringBuilder"))) 14 b G [.ref a0] M (mRa P) (fun _ _ _ => False) := by
  refine mm_met hst0 (by decide) (Nat.le_of_ble_eq_true rfl) ?_
  intro p e s m args below meth c ls C hr hnt hnm hl S
  have hl : lv_has ls 3 [(0, .ref a0)] := hl
  generalize mA M s.heap.size = A at C S ⊢
  have hx := C.hx
  have hb := C.hb
  have hk : 0 + b ≤ b := Nat.le_of_eq (Nat.zero_add b)
  unfold wp_J3_appendNull_J4 at h
  refine lv_aload_n hx hb dJ3_appendNull_0 rfl (lv_at hl 0 rfl) ?_
  refine lv_aload_n hx hb dJ3_appendNull_1 rfl (lv_at hl 0 rfl) ?_
  refine mm_gfi C S (ci := 17) (k := 3) rfl in_J4 (by decide) q160 (fun _ h9 => h9) dJ3_appendNull_2 h (fun v1 h => ?_)
  refine lv_iconst (v := 4) hx hb dJ3_appendNull_5 (by decide) ?_
  refine lv_iadd hx hb dJ3_appendNull_6 ?_
  obtain ⟨hI, h⟩ := h
  obtain ⟨b3, r4, hb9, h⟩ := h
  refine mm_VP (As := [.int (v1 + 4)]) (rest := []) C S hl.1 (wk_J3_ensureCapacityInternal_J4 hst0 h) (T := TJ4) rfl hI q769 q52 q766 q768 q789 rfl q767 pd_J3_ensureCapacityInternal ⟨Nat.le_of_ble_eq_true rfl, Nat.le_of_ble_eq_true rfl⟩ rfl rfl (Nat.le_of_ble_eq_true rfl) dJ3_appendNull_7 rfl rfl hk hb9 (fun v9 M2 H locs hP S hk => ?_) (fun E q ce M9 H9 locs9 hX => hX.elim)
  obtain ⟨rfl, h⟩ := hP
  refine W.eq (g2 := F0 m 10 ls []) rfl ?_
  refine lv_aload_n hx hb dJ3_appendNull_10 rfl (lv_at hl 0 rfl) ?_
  refine mm_gfi C S (ci := 17) (k := 3) rfl in_J4 (by decide) q160 (fun _ h9 => h9) dJ3_appendNull_11 h (fun v5 h => ?_)
  refine lv_istore_n (lv' := [(1, .int v5), (0, .ref a0)]) hx hb dJ3_appendNull_14 rfl hl (by decide) rfl (fun ls hl => ?_)
  refine lv_aload_n hx hb dJ3_appendNull_15 rfl (lv_at hl 1 rfl) ?_
  refine mm_gfa C S (ci := 17) (k := 0) rfl in_J4 (by decide) q156 (fun _ h9 => h9) dJ3_appendNull_16 h (fun u6 h => ?_)
  refine lv_astore_n (lv' := [(2, .ref u6), (1, .int v5), (0, .ref a0)]) hx hb dJ3_appendNull_19 rfl hl (by decide) rfl (fun ls hl => ?_)
  refine lv_aload_n hx hb dJ3_appendNull_20 rfl (lv_at hl 2 rfl) ?_
  obtain ⟨hI, h⟩ := h
  refine mm_U (As := []) (rest := []) C S hl.1 (x := ⟨"java/lang/AbstractStringBuilder", "isLatin1", "()Z"⟩) (owner := "java/lang/AbstractStringBuilder") (wk_J3_isLatin1_J4 hst0 h) (T := TJ4) rfl hI (va_cwU 0 C.ts (mWsU q786 q788 q789 q787 q52 (lw_meth q790)) rfl rfl rfl rfl ⟨by decide, by decide, by decide +kernel⟩ ⟨Nat.le_of_ble_eq_true rfl, Nat.le_of_ble_eq_true rfl⟩) rfl rfl (Nat.le_of_ble_eq_true rfl) dJ3_appendNull_21 rfl rfl hk (Nat.zero_add _) (fun v9 M7 H locs hP S hk => ?_) (fun E q ce M9 H9 locs9 hX => hX.elim)
  obtain ⟨v8, rfl, h⟩ := hP
  refine W.eq (g2 := F0 m 24 ls [.int v8]) rfl ?_
  refine lv_if_eq (tgt := 62) hx hb dJ3_appendNull_24 (by decide) (fun c9 => ?_) (fun c9 => ?_)
  · have h := h.1 c9
    refine lv_aload_n hx hb dJ3_appendNull_62 rfl (lv_at hl 0 rfl) ?_
    refine lv_iload_n hx hb dJ3_appendNull_63 rfl (lv_at hl 1 rfl) ?_
    refine lv_bipush (v := 110) hx hb dJ3_appendNull_64 (by decide) ?_
    refine lv_bipush (v := 117) hx hb dJ3_appendNull_66 (by decide) ?_
    refine lv_bipush (v := 108) hx hb dJ3_appendNull_68 (by decide) ?_
    refine lv_bipush (v := 108) hx hb dJ3_appendNull_70 (by decide) ?_
    exact h.elim
  · have h := h.2 c9
    refine lv_aload_n hx hb dJ3_appendNull_27 rfl (lv_at hl 0 rfl) ?_
    refine lv_iload_n hx hb dJ3_appendNull_28 rfl (lv_at hl 1 rfl) ?_
    refine lv_iinc (v := (v5 + 1)) (lv' := [(1, .int (v5 + 1)), (2, .ref u6), (0, .ref a0)]) hx hb dJ3_appendNull_29 hl (k := 1) rfl rfl (by decide) rfl (fun ls hl => ?_)
    refine lv_bipush (v := 110) hx hb dJ3_appendNull_32 (by decide) ?_
    refine mm_bast C S h dJ3_appendNull_34 (fun M9 H locs h S => ?_)
    refine lv_aload_n hx hb dJ3_appendNull_35 rfl (lv_at hl 1 rfl) ?_
    refine lv_iload_n hx hb dJ3_appendNull_36 rfl (lv_at hl 0 rfl) ?_
    refine lv_iinc (v := ((v5 + 1) + 1)) (lv' := [(1, .int ((v5 + 1) + 1)), (2, .ref u6), (0, .ref a0)]) hx hb dJ3_appendNull_37 hl (k := 0) rfl rfl (by decide) rfl (fun ls hl => ?_)
    refine lv_bipush (v := 117) hx hb dJ3_appendNull_40 (by decide) ?_
    refine mm_bast C S h dJ3_appendNull_42 (fun M10 H locs h S => ?_)
    refine lv_aload_n hx hb dJ3_appendNull_43 rfl (lv_at hl 1 rfl) ?_
    refine lv_iload_n hx hb dJ3_appendNull_44 rfl (lv_at hl 0 rfl) ?_
    refine lv_iinc (v := (((v5 + 1) + 1) + 1)) (lv' := [(1, .int (((v5 + 1) + 1) + 1)), (2, .ref u6), (0, .ref a0)]) hx hb dJ3_appendNull_45 hl (k := 0) rfl rfl (by decide) rfl (fun ls hl => ?_)
    refine lv_bipush (v := 108) hx hb dJ3_appendNull_48 (by decide) ?_
    refine mm_bast C S h dJ3_appendNull_50 (fun M11 H locs h S => ?_)
    refine lv_aload_n hx hb dJ3_appendNull_51 rfl (lv_at hl 1 rfl) ?_
    refine lv_iload_n hx hb dJ3_appendNull_52 rfl (lv_at hl 0 rfl) ?_
    refine lv_iinc (v := ((((v5 + 1) + 1) + 1) + 1)) (lv' := [(1, .int ((((v5 + 1) + 1) + 1) + 1)), (2, .ref u6), (0, .ref a0)]) hx hb dJ3_appendNull_53 hl (k := 0) rfl rfl (by decide) rfl (fun ls hl => ?_)
    refine lv_bipush (v := 108) hx hb dJ3_appendNull_56 (by decide) ?_
    refine mm_bast C S h dJ3_appendNull_58 (fun M12 H locs h S => ?_)
    refine lv_goto (tgt := 76) hx hb dJ3_appendNull_59 (by decide) ?_
    refine lv_aload_n hx hb dJ3_appendNull_76 rfl (lv_at hl 2 rfl) ?_
    refine lv_iload_n hx hb dJ3_appendNull_77 rfl (lv_at hl 0 rfl) ?_
    refine mm_pfi C S (ci := 17) (k := 3) rfl in_J4 tyJ4_ok nmJ4 (by decide) q160 (fun _ h9 => h9) rfl dJ3_appendNull_78 rfl h (fun M13 H locs h S => ?_)
    refine lv_aload_n hx hb dJ3_appendNull_81 rfl (lv_at hl 2 rfl) ?_
    exact mm_aret C S hr (Or.inl ⟨_, rfl⟩) (Nat.le_trans (Nat.le_add_right _ _) hk) dJ3_appendNull_82 h
/-! J3_length_J4: level 10 -/
def wp_J3_length_J4 (G : mG) (b : Nat) (P : Int32 → mM → Prop) (M : mM) (a0 : Nat) : Prop :=
  gfi M a0 17 3 fun v1 => P v1 M
set_option maxHeartbeats 4000000 in
set_option maxRecDepth 100000 in
theorem wk_J3_length_J4 {l : Launch} (hst0 : l.stackTraces = false) {G : mG} {b : Nat} {P : Int32 → mM → Prop} {M : mM} {a0 : Nat} (h : wp_J3_length_J4 G b P M a0) : mMet l yJ3_length (ws_ yJ3_length cJ3_length 1 (Option.some Jvm.ClassFile.FieldType.int)) 10 b G [.ref a0] M (mRi P) (fun _ _ _ => False) := by
  refine mm_met hst0 (by decide) (Nat.le_of_ble_eq_true rfl) ?_
  intro p e s m args below meth c ls C hr hnt hnm hl S
  have hl : lv_has ls 1 [(0, .ref a0)] := hl
  generalize mA M s.heap.size = A at C S ⊢
  have hx := C.hx
  have hb := C.hb
  have hk : 0 + b ≤ b := Nat.le_of_eq (Nat.zero_add b)
  unfold wp_J3_length_J4 at h
  refine lv_aload_n hx hb dJ3_length_0 rfl (lv_at hl 0 rfl) ?_
  refine mm_gfi C S (ci := 17) (k := 3) rfl in_J4 (by decide) q160 (fun _ h9 => h9) dJ3_length_1 h (fun v1 h => ?_)
  exact mm_iret C S hr (Nat.le_trans (Nat.le_add_right _ _) hk) dJ3_length_4 h
/-! J4_length: level 11 -/
def wp_J4_length (G : mG) (b : Nat) (P : Int32 → mM → Prop) (M : mM) (a0 : Nat) : Prop :=
  isc M a0 17 ∧ (wp_J3_length_J4 G 0 (fun v2 M1 => P v2 M1) M a0)
set_option maxHeartbeats 4000000 in
set_option maxRecDepth 100000 in
theorem wk_J4_length {l : Launch} (hst0 : l.stackTraces = false) {G : mG} {b : Nat} {P : Int32 → mM → Prop} {M : mM} {a0 : Nat} (h : wp_J4_length G b P M a0) : mMet l yJ4_length (ws_ yJ4_length cJ4_length 1 (Option.some Jvm.ClassFile.FieldType.int)) 11 b G [.ref a0] M (mRi P) (fun _ _ _ => False) := by
  refine mm_met hst0 (by decide) (Nat.le_of_ble_eq_true rfl) ?_
  intro p e s m args below meth c ls C hr hnt hnm hl S
  have hl : lv_has ls 1 [(0, .ref a0)] := hl
  generalize mA M s.heap.size = A at C S ⊢
  have hx := C.hx
  have hb := C.hb
  have hk : 0 + b ≤ b := Nat.le_of_eq (Nat.zero_add b)
  unfold wp_J4_length at h
  refine lv_aload_n hx hb dJ4_length_0 rfl (lv_at hl 0 rfl) ?_
  obtain ⟨hI, h⟩ := h
  refine mm_SU (As := []) (rest := []) C S hl.1 (wk_J3_length_J4 hst0 h) (T := TJ4) rfl hI (va_cwSU 0 C.ts (mWsSU q841 q2077 q169 q842 q52 (lw_meth q843)) rfl rfl rfl ⟨by decide, pd_J3_length.2.2⟩ ⟨Nat.le_of_ble_eq_true rfl, Nat.le_of_ble_eq_true rfl⟩) rfl rfl (Nat.le_of_ble_eq_true rfl) dJ4_length_1 rfl rfl hk (Nat.zero_add _) (fun v9 M1 H locs hP S hk => ?_) (fun E q ce M9 H9 locs9 hX => hX.elim)
  obtain ⟨v2, rfl, h⟩ := hP
  refine W.eq (g2 := F0 m 4 ls [.int v2]) rfl ?_
  exact mm_iret C S hr (Nat.le_trans (Nat.le_add_right _ _) hk) dJ4_length_4 h
/-! J3_getCoder_J4: level 10 -/
def wb_J3_getCoder_J4_14 (G : mG) (P : Int32 → mM → Prop) (r : Nat) (M : mM) (s0 : Int32) : Prop :=
  narrow .byte (.int s0) = .int s0 ∧ P s0 M
def wp_J3_getCoder_J4 (G : mG) (b : Nat) (P : Int32 → mM → Prop) (M : mM) (a0 : Nat) : Prop :=
  gfi M a0 17 1 fun v1 => wb_J3_getCoder_J4_14 G P b M v1
set_option maxHeartbeats 4000000 in
set_option maxRecDepth 100000 in
theorem wk_J3_getCoder_J4 {l : Launch} (hst0 : l.stackTraces = false) {G : mG} {b : Nat} {P : Int32 → mM → Prop} {M : mM} {a0 : Nat} (h : wp_J3_getCoder_J4 G b P M a0) : mMet l yJ3_getCoder (ws_ yJ3_getCoder cJ3_getCoder 1 (Option.some Jvm.ClassFile.FieldType.byte)) 10 b G [.ref a0] M (mRi P) (fun _ _ _ => False) := by
  refine mm_met hst0 (by decide) (Nat.le_of_ble_eq_true rfl) ?_
  intro p e s m args below meth c ls C hr hnt hnm hl S
  have hl : lv_has ls 1 [(0, .ref a0)] := hl
  generalize mA M s.heap.size = A at C S ⊢
  have hx := C.hx
  have hb := C.hb
  have hk : 0 + b ≤ b := Nat.le_of_eq (Nat.zero_add b)
  have j14 : ∀ (k r : Nat) (M : mM) (H : Heap) (locs : List Loc) (ls : Array Slot) (s0 : Int32), k + r ≤ b → mW G A s M H locs → lv_has ls 1 [] → wb_J3_getCoder_J4_14 G P r M s0 → W p l e (mRm 10 b) s m args below meth c H locs k k (vx_MQ below (mQ G A (mRi P)) (mXC G A (fun _ _ _ => False)) args s b b A) (F0 m 14 ls [.int s0]) := by
    intro k r M H locs ls s0 hk S hl h
    unfold wb_J3_getCoder_J4_14 at h
    exact mm_zret C S hr (Nat.le_trans (Nat.le_add_right _ _) hk) dJ3_getCoder_14 h
  unfold wp_J3_getCoder_J4 at h
  refine mm_gets C S C.ks.2.1 q147 (fun _ h9 => h9) dJ3_getCoder_0 ?_
  refine lv_if_eq (tgt := 13) hx hb dJ3_getCoder_3 (by decide) (fun c9 => ?_) (fun c9 => ?_)
  · exact absurd c9 (by decide)
  · refine lv_aload_n hx hb dJ3_getCoder_6 rfl (lv_at hl 0 rfl) ?_
    refine mm_gfi C S (ci := 17) (k := 1) rfl in_J4 (by decide) q157 (fun _ h9 => h9) dJ3_getCoder_7 h (fun v1 h => ?_)
    refine lv_goto (tgt := 14) hx hb dJ3_getCoder_10 (by decide) ?_
    exact j14 _ _ _ _ _ _ _ hk S (lv_sub hl [] rfl) h
/-! J3_inflateIfNeededFor_2_J4: level 11 -/
def wb_J3_inflateIfNeededFor_2_J4_21 (G : mG) (P : mM → Prop) (r : Nat) (M : mM) : Prop :=
  P M
def wp_J3_inflateIfNeededFor_2_J4 (G : mG) (b : Nat) (P : mM → Prop) (M : mM) (a0 : Nat) (a1 : Nat) : Prop :=
  gfi M a0 17 1 fun v1 => isc M a1 17 ∧ (wp_J3_getCoder_J4 G 0 (fun v3 M2 => (v1 = v3 → wb_J3_inflateIfNeededFor_2_J4_21 G P b M2) ∧ (¬ v1 = v3 → False)) M a1)
set_option maxHeartbeats 4000000 in
set_option maxRecDepth 100000 in
theorem wk_J3_inflateIfNeededFor_2_J4 {l : Launch} (hst0 : l.stackTraces = false) {G : mG} {b : Nat} {P : mM → Prop} {M : mM} {a0 : Nat} {a1 : Nat} (h : wp_J3_inflateIfNeededFor_2_J4 G b P M a0 a1) : mMet l yJ3_inflateIfNeededFor_2 (ws_ yJ3_inflateIfNeededFor_2 cJ3_inflateIfNeededFor_2 2 (Option.none : Option Jvm.ClassFile.FieldType)) 11 b G [.ref a0, .ref a1] M (mRv P) (fun _ _ _ => False) := by
  refine mm_met hst0 (by decide) (Nat.le_of_ble_eq_true rfl) ?_
  intro p e s m args below meth c ls C hr hnt hnm hl S
  have hl : lv_has ls 2 [(0, .ref a0), (1, .ref a1)] := hl
  generalize mA M s.heap.size = A at C S ⊢
  have hx := C.hx
  have hb := C.hb
  have hk : 0 + b ≤ b := Nat.le_of_eq (Nat.zero_add b)
  have j21 : ∀ (k r : Nat) (M : mM) (H : Heap) (locs : List Loc) (ls : Array Slot), k + r ≤ b → mW G A s M H locs → lv_has ls 2 [] → wb_J3_inflateIfNeededFor_2_J4_21 G P r M → W p l e (mRm 11 b) s m args below meth c H locs k k (vx_MQ below (mQ G A (mRv P)) (mXC G A (fun _ _ _ => False)) args s b b A) (F0 m 21 ls []) := by
    intro k r M H locs ls  hk S hl h
    unfold wb_J3_inflateIfNeededFor_2_J4_21 at h
    exact mm_vret C S hr (Nat.le_trans (Nat.le_add_right _ _) hk) dJ3_inflateIfNeededFor_2_21 h
  unfold wp_J3_inflateIfNeededFor_2_J4 at h
  refine mm_gets C S C.ks.2.1 q147 (fun _ h9 => h9) dJ3_inflateIfNeededFor_2_0 ?_
  refine lv_if_eq (tgt := 21) hx hb dJ3_inflateIfNeededFor_2_3 (by decide) (fun c9 => ?_) (fun c9 => ?_)
  · exact absurd c9 (by decide)
  · refine lv_aload_n hx hb dJ3_inflateIfNeededFor_2_6 rfl (lv_at hl 0 rfl) ?_
    refine mm_gfi C S (ci := 17) (k := 1) rfl in_J4 (by decide) q157 (fun _ h9 => h9) dJ3_inflateIfNeededFor_2_7 h (fun v1 h => ?_)
    refine lv_aload_n hx hb dJ3_inflateIfNeededFor_2_10 rfl (lv_at hl 1 rfl) ?_
    obtain ⟨hI, h⟩ := h
    refine mm_U (As := []) (rest := [.int v1]) C S hl.1 (x := ⟨"java/lang/AbstractStringBuilder", "getCoder", "()B"⟩) (owner := "java/lang/AbstractStringBuilder") (wk_J3_getCoder_J4 hst0 h) (T := TJ4) rfl hI (va_cwU 0 C.ts (mWsU q915 q917 q918 q916 q52 (lw_meth q919)) rfl rfl rfl rfl ⟨by decide, by decide, by decide +kernel⟩ ⟨Nat.le_of_ble_eq_true rfl, Nat.le_of_ble_eq_true rfl⟩) rfl rfl (Nat.le_of_ble_eq_true rfl) dJ3_inflateIfNeededFor_2_11 rfl rfl hk (Nat.zero_add _) (fun v9 M2 H locs hP S hk => ?_) (fun E q ce M9 H9 locs9 hX => hX.elim)
    obtain ⟨v3, rfl, h⟩ := hP
    refine W.eq (g2 := F0 m 14 ls [.int v3, .int v1]) rfl ?_
    refine lv_icmp_eq (tgt := 21) hx hb dJ3_inflateIfNeededFor_2_14 (by decide) (fun c9 => ?_) (fun c9 => ?_)
    · have h := h.1 c9
      exact j21 _ _ _ _ _ _ hk S (lv_sub hl [] rfl) h
    · have h := h.2 c9
      refine lv_aload_n hx hb dJ3_inflateIfNeededFor_2_17 rfl (lv_at hl 0 rfl) ?_
      exact h.elim
/-! J3_getBytes_J4: level 11 -/
def wb_J3_getBytes_J4_43 (G : mG) (P : mM → Prop) (r : Nat) (M : mM) : Prop :=
  P M
def wp_J3_getBytes_J4 (G : mG) (b : Nat) (P : mM → Prop) (M : mM) (a0 : Nat) (a1 : Nat) (x2 : Int32) (x3 : Int32) : Prop :=
  gfi M a0 17 1 fun v1 => (¬ v1 = x3 → gfa M a0 17 0 fun u2 => gfi M a0 17 3 fun v3 => wp_J19_inflate G 0 (fun M4 => wb_J3_getBytes_J4_43 G P b M4) M u2 0 a1 x2 v3) ∧ (v1 = x3 → gfa M a0 17 0 fun u5 => gfi M a0 17 3 fun v6 => cpb M u5 0 a1 (x2 <<< (x3 &&& 31)) (v6 <<< (x3 &&& 31)) fun M7 => wb_J3_getBytes_J4_43 G P b M7)
set_option maxHeartbeats 4000000 in
set_option maxRecDepth 100000 in
theorem wk_J3_getBytes_J4 {l : Launch} (hst0 : l.stackTraces = false) {G : mG} {b : Nat} {P : mM → Prop} {M : mM} {a0 : Nat} {a1 : Nat} {x2 : Int32} {x3 : Int32} (h : wp_J3_getBytes_J4 G b P M a0 a1 x2 x3) : mMet l yJ3_getBytes (ws_ yJ3_getBytes cJ3_getBytes 4 (Option.none : Option Jvm.ClassFile.FieldType)) 11 b G [.ref a0, .ref a1, .int x2, .int x3] M (mRv P) (fun _ _ _ => False) := by
  refine mm_met hst0 (by decide) (Nat.le_of_ble_eq_true rfl) ?_
  intro p e s m args below meth c ls C hr hnt hnm hl S
  have hl : lv_has ls 4 [(0, .ref a0), (1, .ref a1), (2, .int x2), (3, .int x3)] := hl
  generalize mA M s.heap.size = A at C S ⊢
  have hx := C.hx
  have hb := C.hb
  have hk : 0 + b ≤ b := Nat.le_of_eq (Nat.zero_add b)
  have j43 : ∀ (k r : Nat) (M : mM) (H : Heap) (locs : List Loc) (ls : Array Slot), k + r ≤ b → mW G A s M H locs → lv_has ls 4 [] → wb_J3_getBytes_J4_43 G P r M → W p l e (mRm 11 b) s m args below meth c H locs k k (vx_MQ below (mQ G A (mRv P)) (mXC G A (fun _ _ _ => False)) args s b b A) (F0 m 43 ls []) := by
    intro k r M H locs ls  hk S hl h
    unfold wb_J3_getBytes_J4_43 at h
    exact mm_vret C S hr (Nat.le_trans (Nat.le_add_right _ _) hk) dJ3_getBytes_43 h
  unfold wp_J3_getBytes_J4 at h
  refine lv_aload_n hx hb dJ3_getBytes_0 rfl (lv_at hl 0 rfl) ?_
  refine mm_gfi C S (ci := 17) (k := 1) rfl in_J4 (by decide) q157 (fun _ h9 => h9) dJ3_getBytes_1 h (fun v1 h => ?_)
  refine lv_iload_n hx hb dJ3_getBytes_4 rfl (lv_at hl 3 rfl) ?_
  refine lv_icmp_ne (tgt := 29) hx hb dJ3_getBytes_5 (by decide) (fun c9 => ?_) (fun c9 => ?_)
  · have h := h.1 c9
    refine lv_aload_n hx hb dJ3_getBytes_29 rfl (lv_at hl 0 rfl) ?_
    refine mm_gfa C S (ci := 17) (k := 0) rfl in_J4 (by decide) q156 (fun _ h9 => h9) dJ3_getBytes_30 h (fun u2 h => ?_)
    refine lv_iconst (v := 0) hx hb dJ3_getBytes_33 (by decide) ?_
    refine lv_aload_n hx hb dJ3_getBytes_34 rfl (lv_at hl 1 rfl) ?_
    refine lv_iload_n hx hb dJ3_getBytes_35 rfl (lv_at hl 2 rfl) ?_
    refine lv_aload_n hx hb dJ3_getBytes_36 rfl (lv_at hl 0 rfl) ?_
    refine mm_gfi C S (ci := 17) (k := 3) rfl in_J4 (by decide) q160 (fun _ h9 => h9) dJ3_getBytes_37 h (fun v3 h => ?_)
    refine mm_S (As := [.ref u2, .int 0, .ref a1, .int x2, .int v3]) (rest := []) C S hl.1 (wk_J19_inflate hst0 h) (lw_S q798 q799 q73 q800) pd_J19_inflate ⟨Nat.le_of_ble_eq_true rfl, Nat.le_of_ble_eq_true rfl⟩ rfl rfl (Nat.le_of_ble_eq_true rfl) dJ3_getBytes_40 rfl rfl hk (Nat.zero_add _) (fun v9 M4 H locs hP S hk => ?_) (fun E q ce M9 H9 locs9 hX => hX.elim)
    obtain ⟨rfl, h⟩ := hP
    refine W.eq (g2 := F0 m 43 ls []) rfl ?_
    exact j43 _ _ _ _ _ _ hk S (lv_sub hl [] rfl) h
  · have h := h.2 c9
    refine lv_aload_n hx hb dJ3_getBytes_8 rfl (lv_at hl 0 rfl) ?_
    refine mm_gfa C S (ci := 17) (k := 0) rfl in_J4 (by decide) q156 (fun _ h9 => h9) dJ3_getBytes_9 h (fun u5 h => ?_)
    refine lv_iconst (v := 0) hx hb dJ3_getBytes_12 (by decide) ?_
    refine lv_aload_n hx hb dJ3_getBytes_13 rfl (lv_at hl 1 rfl) ?_
    refine lv_iload_n hx hb dJ3_getBytes_14 rfl (lv_at hl 2 rfl) ?_
    refine lv_iload_n hx hb dJ3_getBytes_15 rfl (lv_at hl 3 rfl) ?_
    refine lv_ishl hx hb dJ3_getBytes_16 ?_
    refine lv_aload_n hx hb dJ3_getBytes_17 rfl (lv_at hl 0 rfl) ?_
    refine mm_gfi C S (ci := 17) (k := 3) rfl in_J4 (by decide) q160 (fun _ h9 => h9) dJ3_getBytes_18 h (fun v6 h => ?_)
    refine lv_iload_n hx hb dJ3_getBytes_21 rfl (lv_at hl 3 rfl) ?_
    refine lv_ishl hx hb dJ3_getBytes_22 ?_
    refine mm_cpb C S (C.hml.trans hl.1.symm) q925 h (Nat.le_of_ble_eq_true rfl) (Nat.le_of_ble_eq_true rfl) dJ3_getBytes_23 (fun M7 H locs h S => ?_)
    refine lv_goto (tgt := 43) hx hb dJ3_getBytes_26 (by decide) ?_
    exact j43 _ _ _ _ _ _ hk S (lv_sub hl [] rfl) h
/-! J3_append_4_J4: level 14, alloc -/
def wp_J3_append_4_J4 (G : mG) (b : Nat) (P : Nat → mM → Prop) (M : mM) (a0 : Nat) (a1 : Nat) : Prop :=
  isc M a1 17 ∧ (wp_J4_length G 0 (fun v2 M1 => gfi M1 a0 17 3 fun v3 => isc M1 a0 17 ∧ (∃ b5 r6 : Nat, b5 + r6 = b ∧ wp_J3_ensureCapacityInternal_J4 G b5 (fun M4 => isc M4 a0 17 ∧ (wp_J3_inflateIfNeededFor_2_J4 G 0 (fun M7 => gfa M7 a0 17 0 fun u8 => gfi M7 a0 17 3 fun v9 => gfi M7 a0 17 1 fun v10 => isc M7 a1 17 ∧ (wp_J3_getBytes_J4 G 0 (fun M11 => gfi M11 a0 17 3 fun v12 => pfi M11 a0 17 3 (v12 + v2) fun M13 => gfi M13 a0 17 2 fun v14 => gfi M13 a1 17 2 fun v15 => pfn M13 a0 17 2 .boolean (v14 ||| v15) fun M16 => P a0 M16) M7 a1 u8 v9 v10)) M4 a0 a1)) M1 a0 (v3 + v2))) M a1)
set_option maxHeartbeats 4000000 in
set_option maxRecDepth 100000 in
theorem wk_J3_append_4_J4 {l : Launch} (hst0 : l.stackTraces = false) {G : mG} {b : Nat} {P : Nat → mM → Prop} {M : mM} {a0 : Nat} {a1 : Nat} (h : wp_J3_append_4_J4 G b P M a0 a1) : mMet l yJ3_append_4 (ws_ yJ3_append_4 cJ3_append_4 3 (Option.some (Jvm.ClassFile.FieldType.object "java/lang/AbstractStringBuilder"))) 14 b G [.ref a0, .ref a1] M (mRa P) (fun _ _ _ => False) := by
  refine mm_met hst0 (by decide) (Nat.le_of_ble_eq_true rfl) ?_
  intro p e s m args below meth c ls C hr hnt hnm hl S
  have hl : lv_has ls 3 [(0, .ref a0), (1, .ref a1)] := hl
  generalize mA M s.heap.size = A at C S ⊢
  have hx := C.hx
  have hb := C.hb
  have hk : 0 + b ≤ b := Nat.le_of_eq (Nat.zero_add b)
  unfold wp_J3_append_4_J4 at h
  refine lv_aload_n hx hb dJ3_append_4_0 rfl (lv_at hl 1 rfl) ?_
  refine lv_ifnonnull (tgt := 9) hx hb dJ3_append_4_1 (by decide) ?_
  refine lv_aload_n hx hb dJ3_append_4_9 rfl (lv_at hl 1 rfl) ?_
  obtain ⟨hI, h⟩ := h
  refine mm_U (As := []) (rest := []) C S hl.1 (x := ⟨"java/lang/AbstractStringBuilder", "length", "()I"⟩) (owner := "java/lang/AbstractStringBuilder") (wk_J4_length hst0 h) (T := TJ4) rfl hI (va_cwO 0 C.ts (mWsO q910 q2077 q842 q2082 q838 q53 (lw_meth q840)) rfl rfl rfl q843 ⟨by decide, by decide, by decide +kernel⟩ ⟨Nat.le_of_ble_eq_true rfl, Nat.le_of_ble_eq_true rfl⟩) rfl rfl (Nat.le_of_ble_eq_true rfl) dJ3_append_4_10 rfl rfl hk (Nat.zero_add _) (fun v9 M1 H locs hP S hk => ?_) (fun E q ce M9 H9 locs9 hX => hX.elim)
  obtain ⟨v2, rfl, h⟩ := hP
  refine W.eq (g2 := F0 m 13 ls [.int v2]) rfl ?_
  refine lv_istore_n (lv' := [(2, .int v2), (0, .ref a0), (1, .ref a1)]) hx hb dJ3_append_4_13 rfl hl (by decide) rfl (fun ls hl => ?_)
  refine lv_aload_n hx hb dJ3_append_4_14 rfl (lv_at hl 1 rfl) ?_
  refine lv_aload_n hx hb dJ3_append_4_15 rfl (lv_at hl 1 rfl) ?_
  refine mm_gfi C S (ci := 17) (k := 3) rfl in_J4 (by decide) q160 (fun _ h9 => h9) dJ3_append_4_16 h (fun v3 h => ?_)
  refine lv_iload_n hx hb dJ3_append_4_19 rfl (lv_at hl 0 rfl) ?_
  refine lv_iadd hx hb dJ3_append_4_20 ?_
  obtain ⟨hI, h⟩ := h
  obtain ⟨b5, r6, hb9, h⟩ := h
  refine mm_VP (As := [.int (v3 + v2)]) (rest := []) C S hl.1 (wk_J3_ensureCapacityInternal_J4 hst0 h) (T := TJ4) rfl hI q769 q52 q766 q768 q789 rfl q767 pd_J3_ensureCapacityInternal ⟨Nat.le_of_ble_eq_true rfl, Nat.le_of_ble_eq_true rfl⟩ rfl rfl (Nat.le_of_ble_eq_true rfl) dJ3_append_4_21 rfl rfl hk hb9 (fun v9 M4 H locs hP S hk => ?_) (fun E q ce M9 H9 locs9 hX => hX.elim)
  obtain ⟨rfl, h⟩ := hP
  refine W.eq (g2 := F0 m 24 ls []) rfl ?_
  refine lv_aload_n hx hb dJ3_append_4_24 rfl (lv_at hl 1 rfl) ?_
  refine lv_aload_n hx hb dJ3_append_4_25 rfl (lv_at hl 2 rfl) ?_
  obtain ⟨hI, h⟩ := h
  refine mm_VP (As := [.ref a1]) (rest := []) C S hl.1 (wk_J3_inflateIfNeededFor_2_J4 hst0 h) (T := TJ4) rfl hI q914 q52 q911 q913 q789 rfl q912 pd_J3_inflateIfNeededFor_2 ⟨Nat.le_of_ble_eq_true rfl, Nat.le_of_ble_eq_true rfl⟩ rfl rfl (Nat.le_of_ble_eq_true rfl) dJ3_append_4_26 rfl rfl hk (Nat.zero_add _) (fun v9 M7 H locs hP S hk => ?_) (fun E q ce M9 H9 locs9 hX => hX.elim)
  obtain ⟨rfl, h⟩ := hP
  refine W.eq (g2 := F0 m 29 ls []) rfl ?_
  refine lv_aload_n hx hb dJ3_append_4_29 rfl (lv_at hl 2 rfl) ?_
  refine lv_aload_n hx hb dJ3_append_4_30 rfl (lv_at hl 1 rfl) ?_
  refine mm_gfa C S (ci := 17) (k := 0) rfl in_J4 (by decide) q156 (fun _ h9 => h9) dJ3_append_4_31 h (fun u8 h => ?_)
  refine lv_aload_n hx hb dJ3_append_4_34 rfl (lv_at hl 1 rfl) ?_
  refine mm_gfi C S (ci := 17) (k := 3) rfl in_J4 (by decide) q160 (fun _ h9 => h9) dJ3_append_4_35 h (fun v9 h => ?_)
  refine lv_aload_n hx hb dJ3_append_4_38 rfl (lv_at hl 1 rfl) ?_
  refine mm_gfi C S (ci := 17) (k := 1) rfl in_J4 (by decide) q157 (fun _ h9 => h9) dJ3_append_4_39 h (fun v10 h => ?_)
  obtain ⟨hI, h⟩ := h
  refine mm_U (As := [.ref u8, .int v9, .int v10]) (rest := []) C S hl.1 (x := ⟨"java/lang/AbstractStringBuilder", "getBytes", "([BIB)V"⟩) (owner := "java/lang/AbstractStringBuilder") (wk_J3_getBytes_J4 hst0 h) (T := TJ4) rfl hI (va_cwU 3 C.ts (mWsU q920 q922 q923 q921 q52 (lw_meth q924)) rfl rfl rfl rfl ⟨by decide, by decide, by decide +kernel⟩ ⟨Nat.le_of_ble_eq_true rfl, Nat.le_of_ble_eq_true rfl⟩) rfl rfl (Nat.le_of_ble_eq_true rfl) dJ3_append_4_42 rfl rfl hk (Nat.zero_add _) (fun v9 M11 H locs hP S hk => ?_) (fun E q ce M9 H9 locs9 hX => hX.elim)
  obtain ⟨rfl, h⟩ := hP
  refine W.eq (g2 := F0 m 45 ls []) rfl ?_
  refine lv_aload_n hx hb dJ3_append_4_45 rfl (lv_at hl 1 rfl) ?_
  refine lv_dup hx hb dJ3_append_4_46 rfl ?_
  refine mm_gfi C S (ci := 17) (k := 3) rfl in_J4 (by decide) q160 (fun _ h9 => h9) dJ3_append_4_47 h (fun v12 h => ?_)
  refine lv_iload_n hx hb dJ3_append_4_50 rfl (lv_at hl 0 rfl) ?_
  refine lv_iadd hx hb dJ3_append_4_51 ?_
  refine mm_pfi C S (ci := 17) (k := 3) rfl in_J4 tyJ4_ok nmJ4 (by decide) q160 (fun _ h9 => h9) rfl dJ3_append_4_52 rfl h (fun M13 H locs h S => ?_)
  refine lv_aload_n hx hb dJ3_append_4_55 rfl (lv_at hl 1 rfl) ?_
  refine lv_dup hx hb dJ3_append_4_56 rfl ?_
  refine mm_gfi C S (ci := 17) (k := 2) rfl in_J4 (by decide) q158 (fun _ h9 => h9) dJ3_append_4_57 h (fun v14 h => ?_)
  refine lv_aload_n hx hb dJ3_append_4_60 rfl (lv_at hl 2 rfl) ?_
  refine mm_gfi C S (ci := 17) (k := 2) rfl in_J4 (by decide) q158 (fun _ h9 => h9) dJ3_append_4_61 h (fun v15 h => ?_)
  refine lv_ior hx hb dJ3_append_4_64 ?_
  refine mm_pfn C S (ci := 17) (k := 2) rfl in_J4 tyJ4_ok nmJ4 (by decide) q158 (fun _ h9 => h9) rfl dJ3_append_4_65 rfl h (fun M16 H locs h S => ?_)
  refine lv_aload_n hx hb dJ3_append_4_68 rfl (lv_at hl 1 rfl) ?_
  exact mm_aret C S hr (Or.inl ⟨_, rfl⟩) (Nat.le_trans (Nat.le_add_right _ _) hk) dJ3_append_4_69 h
/-! J3_append_2_J4: level 15, alloc -/
def wp_J3_append_2_J4 (G : mG) (b : Nat) (P : Nat → mM → Prop) (M : mM) (a0 : Nat) (a1 : Nat) : Prop :=
  isc M a1 17 ∧ (isc M a1 17 ∧ (isc M a1 17 ∧ (isc M a0 17 ∧ (∃ b2 r3 : Nat, b2 + r3 = b ∧ wp_J3_append_4_J4 G b2 (fun u4 M1 => P u4 M1) M a0 a1))))
set_option maxHeartbeats 4000000 in
set_option maxRecDepth 100000 in
theorem wk_J3_append_2_J4 {l : Launch} (hst0 : l.stackTraces = false) {G : mG} {b : Nat} {P : Nat → mM → Prop} {M : mM} {a0 : Nat} {a1 : Nat} (h : wp_J3_append_2_J4 G b P M a0 a1) : mMet l yJ3_append_2 (ws_ yJ3_append_2 cJ3_append_2 2 (Option.some (Jvm.ClassFile.FieldType.object "java/lang/AbstractStringBuilder"))) 15 b G [.ref a0, .ref a1] M (mRa P) (fun _ _ _ => False) := by
  refine mm_met hst0 (by decide) (Nat.le_of_ble_eq_true rfl) ?_
  intro p e s m args below meth c ls C hr hnt hnm hl S
  have hl : lv_has ls 2 [(0, .ref a0), (1, .ref a1)] := hl
  generalize mA M s.heap.size = A at C S ⊢
  have hx := C.hx
  have hb := C.hb
  have hk : 0 + b ≤ b := Nat.le_of_eq (Nat.zero_add b)
  unfold wp_J3_append_2_J4 at h
  refine lv_aload_n hx hb dJ3_append_2_0 rfl (lv_at hl 1 rfl) ?_
  refine lv_ifnonnull (tgt := 9) hx hb dJ3_append_2_1 (by decide) ?_
  refine lv_aload_n hx hb dJ3_append_2_9 rfl (lv_at hl 1 rfl) ?_
  refine mm_instN C S (ci := 17) (T := TJ4) rfl q867 (by decide) h.1 dJ3_append_2_10 ?_
  have h := h.2
  refine lv_if_eq (tgt := 25) hx hb dJ3_append_2_13 (by decide) (fun c9 => ?_) (fun c9 => ?_)
  · refine lv_aload_n hx hb dJ3_append_2_25 rfl (lv_at hl 1 rfl) ?_
    refine mm_instY C S (ci := 17) (T := TJ4) rfl q904 q2095 h.1 dJ3_append_2_26 ?_
    have h := h.2
    refine lv_if_eq (tgt := 41) hx hb dJ3_append_2_29 (by decide) (fun c9 => ?_) (fun c9 => ?_)
    · exact absurd c9 (by decide)
    · refine lv_aload_n hx hb dJ3_append_2_32 rfl (lv_at hl 0 rfl) ?_
      refine lv_aload_n hx hb dJ3_append_2_33 rfl (lv_at hl 1 rfl) ?_
      refine mm_castY C S (ci := 17) (T := TJ4) rfl q904 q2095 h.1 dJ3_append_2_34 ?_
      have h := h.2
      obtain ⟨hI, h⟩ := h
      obtain ⟨b2, r3, hb9, h⟩ := h
      refine mm_U (As := [.ref a1]) (rest := []) C S hl.1 (x := ⟨"java/lang/AbstractStringBuilder", "append", "(Ljava/lang/AbstractStringBuilder;)Ljava/lang/AbstractStringBuilder;"⟩) (owner := "java/lang/AbstractStringBuilder") (wk_J3_append_4_J4 hst0 h) (T := TJ4) rfl hI (va_cwU 1 C.ts (mWsU q905 q907 q908 q906 q52 (lw_meth q909)) rfl rfl rfl rfl ⟨by decide, by decide, by decide +kernel⟩ ⟨Nat.le_of_ble_eq_true rfl, Nat.le_of_ble_eq_true rfl⟩) rfl rfl (Nat.le_of_ble_eq_true rfl) dJ3_append_2_37 rfl rfl hk hb9 (fun v9 M1 H locs hP S hk => ?_) (fun E q ce M9 H9 locs9 hX => hX.elim)
      obtain ⟨u4, rfl, h⟩ := hP
      refine W.eq (g2 := F0 m 40 ls [.ref u4]) rfl ?_
      exact mm_aret C S hr (Or.inl ⟨_, rfl⟩) (Nat.le_trans (Nat.le_add_right _ _) hk) dJ3_append_2_40 h
  · exact absurd c9 (by decide)
/-! J5_coder: level 10 -/
def wb_J5_coder_14 (G : mG) (P : Int32 → mM → Prop) (r : Nat) (M : mM) (s0 : Int32) : Prop :=
  narrow .byte (.int s0) = .int s0 ∧ P s0 M
def wp_J5_coder (G : mG) (b : Nat) (P : Int32 → mM → Prop) (M : mM) (a0 : Nat) : Prop :=
  gfi M a0 18 1 fun v1 => wb_J5_coder_14 G P b M v1
set_option maxHeartbeats 4000000 in
set_option maxRecDepth 100000 in
theorem wk_J5_coder {l : Launch} (hst0 : l.stackTraces = false) {G : mG} {b : Nat} {P : Int32 → mM → Prop} {M : mM} {a0 : Nat} (h : wp_J5_coder G b P M a0) : mMet l yJ5_coder (ws_ yJ5_coder cJ5_coder 1 (Option.some Jvm.ClassFile.FieldType.byte)) 10 b G [.ref a0] M (mRi P) (fun _ _ _ => False) := by
  refine mm_met hst0 (by decide) (Nat.le_of_ble_eq_true rfl) ?_
  intro p e s m args below meth c ls C hr hnt hnm hl S
  have hl : lv_has ls 1 [(0, .ref a0)] := hl
  generalize mA M s.heap.size = A at C S ⊢
  have hx := C.hx
  have hb := C.hb
  have hk : 0 + b ≤ b := Nat.le_of_eq (Nat.zero_add b)
  have j14 : ∀ (k r : Nat) (M : mM) (H : Heap) (locs : List Loc) (ls : Array Slot) (s0 : Int32), k + r ≤ b → mW G A s M H locs → lv_has ls 1 [] → wb_J5_coder_14 G P r M s0 → W p l e (mRm 10 b) s m args below meth c H locs k k (vx_MQ below (mQ G A (mRi P)) (mXC G A (fun _ _ _ => False)) args s b b A) (F0 m 14 ls [.int s0]) := by
    intro k r M H locs ls s0 hk S hl h
    unfold wb_J5_coder_14 at h
    exact mm_zret C S hr (Nat.le_trans (Nat.le_add_right _ _) hk) dJ5_coder_14 h
  unfold wp_J5_coder at h
  refine mm_gets C S C.ks.2.1 q888 (fun _ h9 => h9) dJ5_coder_0 ?_
  refine lv_if_eq (tgt := 13) hx hb dJ5_coder_3 (by decide) (fun c9 => ?_) (fun c9 => ?_)
  · exact absurd c9 (by decide)
  · refine lv_aload_n hx hb dJ5_coder_6 rfl (lv_at hl 0 rfl) ?_
    refine mm_gfi C S (ci := 18) (k := 1) rfl in_J5 (by decide) q1098 (fun _ h9 => h9) dJ5_coder_7 h (fun v1 h => ?_)
    refine lv_goto (tgt := 14) hx hb dJ5_coder_10 (by decide) ?_
    exact j14 _ _ _ _ _ _ _ hk S (lv_sub hl [] rfl) h
/-! J5_length: level 11 -/
def wp_J5_length (G : mG) (b : Nat) (P : Int32 → mM → Prop) (M : mM) (a0 : Nat) : Prop :=
  gfa M a0 18 0 fun u1 => aln M u1 fun v2 => isc M a0 18 ∧ (wp_J5_coder G 0 (fun v4 M3 => P (v2 >>> (v4 &&& 31)) M3) M a0)
set_option maxHeartbeats 4000000 in
set_option maxRecDepth 100000 in
theorem wk_J5_length {l : Launch} (hst0 : l.stackTraces = false) {G : mG} {b : Nat} {P : Int32 → mM → Prop} {M : mM} {a0 : Nat} (h : wp_J5_length G b P M a0) : mMet l yJ5_length (ws_ yJ5_length cJ5_length 1 (Option.some Jvm.ClassFile.FieldType.int)) 11 b G [.ref a0] M (mRi P) (fun _ _ _ => False) := by
  refine mm_met hst0 (by decide) (Nat.le_of_ble_eq_true rfl) ?_
  intro p e s m args below meth c ls C hr hnt hnm hl S
  have hl : lv_has ls 1 [(0, .ref a0)] := hl
  generalize mA M s.heap.size = A at C S ⊢
  have hx := C.hx
  have hb := C.hb
  have hk : 0 + b ≤ b := Nat.le_of_eq (Nat.zero_add b)
  unfold wp_J5_length at h
  refine lv_aload_n hx hb dJ5_length_0 rfl (lv_at hl 0 rfl) ?_
  refine mm_gfa C S (ci := 18) (k := 0) rfl in_J5 (by decide) q1097 (fun _ h9 => h9) dJ5_length_1 h (fun u1 h => ?_)
  refine mm_alen C S h dJ5_length_4 (fun v2 h => ?_)
  refine lv_aload_n hx hb dJ5_length_5 rfl (lv_at hl 0 rfl) ?_
  obtain ⟨hI, h⟩ := h
  refine mm_V (As := []) (rest := [.int v2]) C S hl.1 (wk_J5_coder hst0 h) (T := TJ5) rfl hI (lw_V q884 q885 q886 q54 q887) rfl pd_J5_coder ⟨Nat.le_of_ble_eq_true rfl, Nat.le_of_ble_eq_true rfl⟩ rfl rfl (Nat.le_of_ble_eq_true rfl) dJ5_length_6 rfl rfl hk (Nat.zero_add _) (fun v9 M3 H locs hP S hk => ?_) (fun E q ce M9 H9 locs9 hX => hX.elim)
  obtain ⟨v4, rfl, h⟩ := hP
  refine W.eq (g2 := F0 m 9 ls [.int v4, .int v2]) rfl ?_
  refine lv_ishr hx hb dJ5_length_9 ?_
  exact mm_iret C S hr (Nat.le_trans (Nat.le_add_right _ _) hk) dJ5_length_10 h
