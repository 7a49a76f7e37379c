/-! J3_inflateIfNeededFor_J4: level 11 -/
def wb_J3_inflateIfNeededFor_J4_21 (G : mG) (P : mM → Prop) (r : Nat) (M : mM) : Prop :=
  P M
def wp_J3_inflateIfNeededFor_J4 (G : mG) (b : Nat) (P : mM → Prop) (M : mM) (a0 : Nat) (a1 : Nat) : Prop :=
  gfi M a0 17 1 fun v1 => isc M a1 18 ∧ (wp_J5_coder G 0 (fun v3 M2 => (v1 = v3 → wb_J3_inflateIfNeededFor_J4_21 G P b M2) ∧ (¬ v1 = v3 → False)) M a1)
set_option maxHeartbeats 4000000 in
set_option maxRecDepth 100000 in
theorem wk_J3_inflateIfNeededFor_J4 {l : Launch} (hst0 : l.stackTraces = false) {G : mG} {b : Nat} {P : mM → Prop} {M : mM} {a0 : Nat} {a1 : Nat} (h : wp_J3_inflateIfNeededFor_J4 G b P M a0 a1) : mMet l yJ3_inflateIfNeededFor (ws_ yJ3_inflateIfNeededFor cJ3_inflateIfNeededFor 2 (Option.none : Option Jvm.ClassFile.FieldType)) 11 b G [.ref a0, .ref a1] M (mRv P) (fun _ _ _ => False) := by
  refine mm_met hst0 (by decide) (Nat.le_of_ble_eq_true rfl) ?_
  intro p e s m args below meth c ls C hr hnt hnm hl S
  have hl : lv_has ls 2 [(0, .ref a0), (1, .ref a1)] := hl
  generalize mA M s.heap.size = A at C S ⊢
  have hx := C.hx
  have hb := C.hb
  have hk : 0 + b ≤ b := Nat.le_of_eq (Nat.zero_add b)
  have j21 : ∀ (k r : Nat) (M : mM) (H : Heap) (locs : List Loc) (ls : Array Slot), k + r ≤ b → mW G A s M H locs → lv_has ls 2 [] → wb_J3_inflateIfNeededFor_J4_21 G P r M → W p l e (mRm 11 b) s m args below meth c H locs k k (vx_MQ below (mQ G A (mRv P)) (mXC G A (fun _ _ _ => False)) args s b b A) (F0 m 21 ls []) := by
    intro k r M H locs ls  hk S hl h
    unfold wb_J3_inflateIfNeededFor_J4_21 at h
    exact mm_vret C S hr (Nat.le_trans (Nat.le_add_right _ _) hk) dJ3_inflateIfNeededFor_21 h
  unfold wp_J3_inflateIfNeededFor_J4 at h
  refine mm_gets C S C.ks.2.1 q147 (fun _ h9 => h9) dJ3_inflateIfNeededFor_0 ?_
  refine lv_if_eq (tgt := 21) hx hb dJ3_inflateIfNeededFor_3 (by decide) (fun c9 => ?_) (fun c9 => ?_)
  · exact absurd c9 (by decide)
  · refine lv_aload_n hx hb dJ3_inflateIfNeededFor_6 rfl (lv_at hl 0 rfl) ?_
    refine mm_gfi C S (ci := 17) (k := 1) rfl in_J4 (by decide) q157 (fun _ h9 => h9) dJ3_inflateIfNeededFor_7 h (fun v1 h => ?_)
    refine lv_aload_n hx hb dJ3_inflateIfNeededFor_10 rfl (lv_at hl 1 rfl) ?_
    obtain ⟨hI, h⟩ := h
    refine mm_V (As := []) (rest := [.int v1]) C S hl.1 (wk_J5_coder hst0 h) (T := TJ5) rfl hI (lw_V q897 q885 q886 q54 q887) rfl pd_J5_coder ⟨Nat.le_of_ble_eq_true rfl, Nat.le_of_ble_eq_true rfl⟩ rfl rfl (Nat.le_of_ble_eq_true rfl) dJ3_inflateIfNeededFor_11 rfl rfl hk (Nat.zero_add _) (fun v9 M2 H locs hP S hk => ?_) (fun E q ce M9 H9 locs9 hX => hX.elim)
    obtain ⟨v3, rfl, h⟩ := hP
    refine W.eq (g2 := F0 m 14 ls [.int v3, .int v1]) rfl ?_
    refine lv_icmp_eq (tgt := 21) hx hb dJ3_inflateIfNeededFor_14 (by decide) (fun c9 => ?_) (fun c9 => ?_)
    · have h := h.1 c9
      exact j21 _ _ _ _ _ _ hk S (lv_sub hl [] rfl) h
    · have h := h.2 c9
      refine lv_aload_n hx hb dJ3_inflateIfNeededFor_17 rfl (lv_at hl 0 rfl) ?_
      exact h.elim
/-! J5_getBytes: level 11 -/
def wb_J5_getBytes_43 (G : mG) (P : mM → Prop) (r : Nat) (M : mM) : Prop :=
  P M
def wp_J5_getBytes (G : mG) (b : Nat) (P : mM → Prop) (M : mM) (a0 : Nat) (a1 : Nat) (x2 : Int32) (x3 : Int32) : Prop :=
  isc M a0 18 ∧ (wp_J5_coder G 0 (fun v2 M1 => (¬ v2 = x3 → gfa M1 a0 18 0 fun u3 => gfa M1 a0 18 0 fun u4 => aln M1 u4 fun v5 => wp_J19_inflate G 0 (fun M6 => wb_J5_getBytes_43 G P b M6) M1 u3 0 a1 x2 v5) ∧ (v2 = x3 → gfa M1 a0 18 0 fun u7 => gfa M1 a0 18 0 fun u8 => aln M1 u8 fun v9 => cpb M1 u7 0 a1 (x2 <<< (x3 &&& 31)) v9 fun M10 => wb_J5_getBytes_43 G P b M10)) M a0)
set_option maxHeartbeats 4000000 in
set_option maxRecDepth 100000 in
theorem wk_J5_getBytes {l : Launch} (hst0 : l.stackTraces = false) {G : mG} {b : Nat} {P : mM → Prop} {M : mM} {a0 : Nat} {a1 : Nat} {x2 : Int32} {x3 : Int32} (h : wp_J5_getBytes G b P M a0 a1 x2 x3) : mMet l yJ5_getBytes (ws_ yJ5_getBytes cJ5_getBytes 4 (Option.none : Option Jvm.ClassFile.FieldType)) 11 b G [.ref a0, .ref a1, .int x2, .int x3] M (mRv P) (fun _ _ _ => False) := by
  refine mm_met hst0 (by decide) (Nat.le_of_ble_eq_true rfl) ?_
  intro p e s m args below meth c ls C hr hnt hnm hl S
  have hl : lv_has ls 4 [(0, .ref a0), (1, .ref a1), (2, .int x2), (3, .int x3)] := hl
  generalize mA M s.heap.size = A at C S ⊢
  have hx := C.hx
  have hb := C.hb
  have hk : 0 + b ≤ b := Nat.le_of_eq (Nat.zero_add b)
  have j43 : ∀ (k r : Nat) (M : mM) (H : Heap) (locs : List Loc) (ls : Array Slot), k + r ≤ b → mW G A s M H locs → lv_has ls 4 [] → wb_J5_getBytes_43 G P r M → W p l e (mRm 11 b) s m args below meth c H locs k k (vx_MQ below (mQ G A (mRv P)) (mXC G A (fun _ _ _ => False)) args s b b A) (F0 m 43 ls []) := by
    intro k r M H locs ls  hk S hl h
    unfold wb_J5_getBytes_43 at h
    exact mm_vret C S hr (Nat.le_trans (Nat.le_add_right _ _) hk) dJ5_getBytes_43 h
  unfold wp_J5_getBytes at h
  refine lv_aload_n hx hb dJ5_getBytes_0 rfl (lv_at hl 0 rfl) ?_
  obtain ⟨hI, h⟩ := h
  refine mm_V (As := []) (rest := []) C S hl.1 (wk_J5_coder hst0 h) (T := TJ5) rfl hI (lw_V q884 q885 q886 q54 q887) rfl pd_J5_coder ⟨Nat.le_of_ble_eq_true rfl, Nat.le_of_ble_eq_true rfl⟩ rfl rfl (Nat.le_of_ble_eq_true rfl) dJ5_getBytes_1 rfl rfl hk (Nat.zero_add _) (fun v9 M1 H locs hP S hk => ?_) (fun E q ce M9 H9 locs9 hX => hX.elim)
  obtain ⟨v2, rfl, h⟩ := hP
  refine W.eq (g2 := F0 m 4 ls [.int v2]) rfl ?_
  refine lv_iload_n hx hb dJ5_getBytes_4 rfl (lv_at hl 3 rfl) ?_
  refine lv_icmp_ne (tgt := 28) hx hb dJ5_getBytes_5 (by decide) (fun c9 => ?_) (fun c9 => ?_)
  · have h := h.1 c9
    refine lv_aload_n hx hb dJ5_getBytes_28 rfl (lv_at hl 0 rfl) ?_
    refine mm_gfa C S (ci := 18) (k := 0) rfl in_J5 (by decide) q1097 (fun _ h9 => h9) dJ5_getBytes_29 h (fun u3 h => ?_)
    refine lv_iconst (v := 0) hx hb dJ5_getBytes_32 (by decide) ?_
    refine lv_aload_n hx hb dJ5_getBytes_33 rfl (lv_at hl 1 rfl) ?_
    refine lv_iload_n hx hb dJ5_getBytes_34 rfl (lv_at hl 2 rfl) ?_
    refine lv_aload_n hx hb dJ5_getBytes_35 rfl (lv_at hl 0 rfl) ?_
    refine mm_gfa C S (ci := 18) (k := 0) rfl in_J5 (by decide) q1097 (fun _ h9 => h9) dJ5_getBytes_36 h (fun u4 h => ?_)
    refine mm_alen C S h dJ5_getBytes_39 (fun v5 h => ?_)
    refine mm_S (As := [.ref u3, .int 0, .ref a1, .int x2, .int v5]) (rest := []) C S hl.1 (wk_J19_inflate hst0 h) (lw_S q903 q799 q73 q800) pd_J19_inflate ⟨Nat.le_of_ble_eq_true rfl, Nat.le_of_ble_eq_true rfl⟩ rfl rfl (Nat.le_of_ble_eq_true rfl) dJ5_getBytes_40 rfl rfl hk (Nat.zero_add _) (fun v9 M6 H locs hP S hk => ?_) (fun E q ce M9 H9 locs9 hX => hX.elim)
    obtain ⟨rfl, h⟩ := hP
    refine W.eq (g2 := F0 m 43 ls []) rfl ?_
    exact j43 _ _ _ _ _ _ hk S (lv_sub hl [] rfl) h
  · have h := h.2 c9
    refine lv_aload_n hx hb dJ5_getBytes_8 rfl (lv_at hl 0 rfl) ?_
    refine mm_gfa C S (ci := 18) (k := 0) rfl in_J5 (by decide) q1097 (fun _ h9 => h9) dJ5_getBytes_9 h (fun u7 h => ?_)
    refine lv_iconst (v := 0) hx hb dJ5_getBytes_12 (by decide) ?_
    refine lv_aload_n hx hb dJ5_getBytes_13 rfl (lv_at hl 1 rfl) ?_
    refine lv_iload_n hx hb dJ5_getBytes_14 rfl (lv_at hl 2 rfl) ?_
    refine lv_iload_n hx hb dJ5_getBytes_15 rfl (lv_at hl 3 rfl) ?_
    refine lv_ishl hx hb dJ5_getBytes_16 ?_
    refine lv_aload_n hx hb dJ5_getBytes_17 rfl (lv_at hl 0 rfl) ?_
    refine mm_gfa C S (ci := 18) (k := 0) rfl in_J5 (by decide) q1097 (fun _ h9 => h9) dJ5_getBytes_18 h (fun u8 h => ?_)
    refine mm_alen C S h dJ5_getBytes_21 (fun v9 h => ?_)
    refine mm_cpb C S (C.hml.trans hl.1.symm) q902 h (Nat.le_of_ble_eq_true rfl) (Nat.le_of_ble_eq_true rfl) dJ5_getBytes_22 (fun M10 H locs h S => ?_)
    refine lv_goto (tgt := 43) hx hb dJ5_getBytes_25 (by decide) ?_
    exact j43 _ _ _ _ _ _ hk S (lv_sub hl [] rfl) h
/-! J3_putStringAt_J4: level 12 -/
def wp_J3_putStringAt_J4 (G : mG) (b : Nat) (P : mM → Prop) (M : mM) (a0 : Nat) (x1 : Int32) (a2 : Nat) : Prop :=
  isc M a0 17 ∧ (wp_J3_inflateIfNeededFor_J4 G 0 (fun M1 => gfa M1 a0 17 0 fun u2 => gfi M1 a0 17 1 fun v3 => isc M1 a2 18 ∧ (wp_J5_getBytes G 0 (fun M4 => P M4) M1 a2 u2 x1 v3)) M a0 a2)
set_option maxHeartbeats 4000000 in
set_option maxRecDepth 100000 in
theorem wk_J3_putStringAt_J4 {l : Launch} (hst0 : l.stackTraces = false) {G : mG} {b : Nat} {P : mM → Prop} {M : mM} {a0 : Nat} {x1 : Int32} {a2 : Nat} (h : wp_J3_putStringAt_J4 G b P M a0 x1 a2) : mMet l yJ3_putStringAt (ws_ yJ3_putStringAt cJ3_putStringAt 3 (Option.none : Option Jvm.ClassFile.FieldType)) 12 b G [.ref a0, .int x1, .ref a2] M (mRv P) (fun _ _ _ => False) := by
  refine mm_met hst0 (by decide) (Nat.le_of_ble_eq_true rfl) ?_
  intro p e s m args below meth c ls C hr hnt hnm hl S
  have hl : lv_has ls 3 [(0, .ref a0), (1, .int x1), (2, .ref a2)] := hl
  generalize mA M s.heap.size = A at C S ⊢
  have hx := C.hx
  have hb := C.hb
  have hk : 0 + b ≤ b := Nat.le_of_eq (Nat.zero_add b)
  unfold wp_J3_putStringAt_J4 at h
  refine lv_aload_n hx hb dJ3_putStringAt_0 rfl (lv_at hl 0 rfl) ?_
  refine lv_aload_n hx hb dJ3_putStringAt_1 rfl (lv_at hl 2 rfl) ?_
  obtain ⟨hI, h⟩ := h
  refine mm_VP (As := [.ref a2]) (rest := []) C S hl.1 (wk_J3_inflateIfNeededFor_J4 hst0 h) (T := TJ4) rfl hI q896 q52 q893 q895 q789 rfl q894 pd_J3_inflateIfNeededFor ⟨Nat.le_of_ble_eq_true rfl, Nat.le_of_ble_eq_true rfl⟩ rfl rfl (Nat.le_of_ble_eq_true rfl) dJ3_putStringAt_2 rfl rfl hk (Nat.zero_add _) (fun v9 M1 H locs hP S hk => ?_) (fun E q ce M9 H9 locs9 hX => hX.elim)
  obtain ⟨rfl, h⟩ := hP
  refine W.eq (g2 := F0 m 5 ls []) rfl ?_
  refine lv_aload_n hx hb dJ3_putStringAt_5 rfl (lv_at hl 2 rfl) ?_
  refine lv_aload_n hx hb dJ3_putStringAt_6 rfl (lv_at hl 0 rfl) ?_
  refine mm_gfa C S (ci := 17) (k := 0) rfl in_J4 (by decide) q156 (fun _ h9 => h9) dJ3_putStringAt_7 h (fun u2 h => ?_)
  refine lv_iload_n hx hb dJ3_putStringAt_10 rfl (lv_at hl 1 rfl) ?_
  refine lv_aload_n hx hb dJ3_putStringAt_11 rfl (lv_at hl 0 rfl) ?_
  refine mm_gfi C S (ci := 17) (k := 1) rfl in_J4 (by decide) q157 (fun _ h9 => h9) dJ3_putStringAt_12 h (fun v3 h => ?_)
  obtain ⟨hI, h⟩ := h
  refine mm_V (As := [.ref u2, .int x1, .int v3]) (rest := []) C S hl.1 (wk_J5_getBytes hst0 h) (T := TJ5) rfl hI (lw_V q898 q899 q900 q54 q901) rfl pd_J5_getBytes ⟨Nat.le_of_ble_eq_true rfl, Nat.le_of_ble_eq_true rfl⟩ rfl rfl (Nat.le_of_ble_eq_true rfl) dJ3_putStringAt_15 rfl rfl hk (Nat.zero_add _) (fun v9 M4 H locs hP S hk => ?_) (fun E q ce M9 H9 locs9 hX => hX.elim)
  obtain ⟨rfl, h⟩ := hP
  refine W.eq (g2 := F0 m 18 ls []) rfl ?_
  exact mm_vret C S hr (Nat.le_trans (Nat.le_add_right _ _) hk) dJ3_putStringAt_18 h
/-! J3_append_3_J4: level 14, alloc -/
def wp_J3_append_3_J4 (G : mG) (b : Nat) (P : Nat → mM → Prop) (M : mM) (a0 : Nat) (a1 : Nat) : Prop :=
  isc M a1 18 ∧ (wp_J5_length G 0 (fun v2 M1 => gfi M1 a0 17 3 fun v3 => isc M1 a0 17 ∧ (∃ b5 r6 : Nat, b5 + r6 = b ∧ wp_J3_ensureCapacityInternal_J4 G b5 (fun M4 => gfi M4 a0 17 3 fun v7 => isc M4 a0 17 ∧ (wp_J3_putStringAt_J4 G 0 (fun M8 => gfi M8 a0 17 3 fun v9 => pfi M8 a0 17 3 (v9 + v2) fun M10 => P a0 M10) M4 a0 v7 a1)) M1 a0 (v3 + v2))) M a1)
set_option maxHeartbeats 4000000 in
set_option maxRecDepth 100000 in
theorem wk_J3_append_3_J4 {l : Launch} (hst0 : l.stackTraces = false) {G : mG} {b : Nat} {P : Nat → mM → Prop} {M : mM} {a0 : Nat} {a1 : Nat} (h : wp_J3_append_3_J4 G b P M a0 a1) : mMet l yJ3_append_3 (ws_ yJ3_append_3 cJ3_append_3 3 (Option.some (Jvm.ClassFile.FieldType.object "java/lang/AbstractStringBuilder"))) 14 b G [.ref a0, .ref a1] M (mRa P) (fun _ _ _ => False) := by
  refine mm_met hst0 (by decide) (Nat.le_of_ble_eq_true rfl) ?_
  intro p e s m args below meth c ls C hr hnt hnm hl S
  have hl : lv_has ls 3 [(0, .ref a0), (1, .ref a1)] := hl
  generalize mA M s.heap.size = A at C S ⊢
  have hx := C.hx
  have hb := C.hb
  have hk : 0 + b ≤ b := Nat.le_of_eq (Nat.zero_add b)
  unfold wp_J3_append_3_J4 at h
  refine lv_aload_n hx hb dJ3_append_3_0 rfl (lv_at hl 1 rfl) ?_
  refine lv_ifnonnull (tgt := 9) hx hb dJ3_append_3_1 (by decide) ?_
  refine lv_aload_n hx hb dJ3_append_3_9 rfl (lv_at hl 1 rfl) ?_
  obtain ⟨hI, h⟩ := h
  refine mm_V (As := []) (rest := []) C S hl.1 (wk_J5_length hst0 h) (T := TJ5) rfl hI (lw_V q880 q881 q882 q54 q883) rfl pd_J5_length ⟨Nat.le_of_ble_eq_true rfl, Nat.le_of_ble_eq_true rfl⟩ rfl rfl (Nat.le_of_ble_eq_true rfl) dJ3_append_3_10 rfl rfl hk (Nat.zero_add _) (fun v9 M1 H locs hP S hk => ?_) (fun E q ce M9 H9 locs9 hX => hX.elim)
  obtain ⟨v2, rfl, h⟩ := hP
  refine W.eq (g2 := F0 m 13 ls [.int v2]) rfl ?_
  refine lv_istore_n (lv' := [(2, .int v2), (0, .ref a0), (1, .ref a1)]) hx hb dJ3_append_3_13 rfl hl (by decide) rfl (fun ls hl => ?_)
  refine lv_aload_n hx hb dJ3_append_3_14 rfl (lv_at hl 1 rfl) ?_
  refine lv_aload_n hx hb dJ3_append_3_15 rfl (lv_at hl 1 rfl) ?_
  refine mm_gfi C S (ci := 17) (k := 3) rfl in_J4 (by decide) q160 (fun _ h9 => h9) dJ3_append_3_16 h (fun v3 h => ?_)
  refine lv_iload_n hx hb dJ3_append_3_19 rfl (lv_at hl 0 rfl) ?_
  refine lv_iadd hx hb dJ3_append_3_20 ?_
  obtain ⟨hI, h⟩ := h
  obtain ⟨b5, r6, hb9, h⟩ := h
  refine mm_VP (As := [.int (v3 + v2)]) (rest := []) C S hl.1 (wk_J3_ensureCapacityInternal_J4 hst0 h) (T := TJ4) rfl hI q769 q52 q766 q768 q789 rfl q767 pd_J3_ensureCapacityInternal ⟨Nat.le_of_ble_eq_true rfl, Nat.le_of_ble_eq_true rfl⟩ rfl rfl (Nat.le_of_ble_eq_true rfl) dJ3_append_3_21 rfl rfl hk hb9 (fun v9 M4 H locs hP S hk => ?_) (fun E q ce M9 H9 locs9 hX => hX.elim)
  obtain ⟨rfl, h⟩ := hP
  refine W.eq (g2 := F0 m 24 ls []) rfl ?_
  refine lv_aload_n hx hb dJ3_append_3_24 rfl (lv_at hl 1 rfl) ?_
  refine lv_aload_n hx hb dJ3_append_3_25 rfl (lv_at hl 1 rfl) ?_
  refine mm_gfi C S (ci := 17) (k := 3) rfl in_J4 (by decide) q160 (fun _ h9 => h9) dJ3_append_3_26 h (fun v7 h => ?_)
  refine lv_aload_n hx hb dJ3_append_3_29 rfl (lv_at hl 2 rfl) ?_
  obtain ⟨hI, h⟩ := h
  refine mm_VP (As := [.int v7, .ref a1]) (rest := []) C S hl.1 (wk_J3_putStringAt_J4 hst0 h) (T := TJ4) rfl hI q892 q52 q889 q891 q789 rfl q890 pd_J3_putStringAt ⟨Nat.le_of_ble_eq_true rfl, Nat.le_of_ble_eq_true rfl⟩ rfl rfl (Nat.le_of_ble_eq_true rfl) dJ3_append_3_30 rfl rfl hk (Nat.zero_add _) (fun v9 M8 H locs hP S hk => ?_) (fun E q ce M9 H9 locs9 hX => hX.elim)
  obtain ⟨rfl, h⟩ := hP
  refine W.eq (g2 := F0 m 33 ls []) rfl ?_
  refine lv_aload_n hx hb dJ3_append_3_33 rfl (lv_at hl 1 rfl) ?_
  refine lv_dup hx hb dJ3_append_3_34 rfl ?_
  refine mm_gfi C S (ci := 17) (k := 3) rfl in_J4 (by decide) q160 (fun _ h9 => h9) dJ3_append_3_35 h (fun v9 h => ?_)
  refine lv_iload_n hx hb dJ3_append_3_38 rfl (lv_at hl 0 rfl) ?_
  refine lv_iadd hx hb dJ3_append_3_39 ?_
  refine mm_pfi C S (ci := 17) (k := 3) rfl in_J4 tyJ4_ok nmJ4 (by decide) q160 (fun _ h9 => h9) rfl dJ3_append_3_40 rfl h (fun M10 H locs h S => ?_)
  refine lv_aload_n hx hb dJ3_append_3_43 rfl (lv_at hl 1 rfl) ?_
  exact mm_aret C S hr (Or.inl ⟨_, rfl⟩) (Nat.le_trans (Nat.le_add_right _ _) hk) dJ3_append_3_44 h
/-! J3_append_5_J4: level 12 -/
def wb_J3_append_5_J4_7 (G : mG) (P : Nat → mM → Prop) (r : Nat) (M : mM) (a0 : Nat) (a1 : Nat) (x2 : Int32) (x3 : Int32) : Prop :=
  isc M a1 17 ∧ (wp_J4_length G 0 (fun v2 M1 => False) M a1)
def wp_J3_append_5_J4 (G : mG) (b : Nat) (P : Nat → mM → Prop) (M : mM) (a0 : Nat) (a1 : Nat) (x2 : Int32) (x3 : Int32) : Prop :=
  wb_J3_append_5_J4_7 G P b M a0 a1 x2 x3
set_option maxHeartbeats 4000000 in
set_option maxRecDepth 100000 in
theorem wk_J3_append_5_J4 {l : Launch} (hst0 : l.stackTraces = false) {G : mG} {b : Nat} {P : Nat → mM → Prop} {M : mM} {a0 : Nat} {a1 : Nat} {x2 : Int32} {x3 : Int32} (h : wp_J3_append_5_J4 G b P M a0 a1 x2 x3) : mMet l yJ3_append_5 (ws_ yJ3_append_5 cJ3_append_5 5 (Option.some (Jvm.ClassFile.FieldType.object "java/lang/AbstractStringBuilder"))) 12 b G [.ref a0, .ref a1, .int x2, .int x3] M (mRa P) (fun _ _ _ => False) := by
  refine mm_met hst0 (by decide) (Nat.le_of_ble_eq_true rfl) ?_
  intro p e s m args below meth c ls C hr hnt hnm hl S
  have hl : lv_has ls 5 [(0, .ref a0), (1, .ref a1), (2, .int x2), (3, .int x3)] := hl
  generalize mA M s.heap.size = A at C S ⊢
  have hx := C.hx
  have hb := C.hb
  have hk : 0 + b ≤ b := Nat.le_of_eq (Nat.zero_add b)
  have j7 : ∀ (k r : Nat) (M : mM) (H : Heap) (locs : List Loc) (ls : Array Slot) (a0 : Nat) (a1 : Nat) (x2 : Int32) (x3 : Int32), k + r ≤ b → mW G A s M H locs → lv_has ls 5 [(0, .ref a0), (1, .ref a1), (2, .int x2), (3, .int x3)] → wb_J3_append_5_J4_7 G P r M a0 a1 x2 x3 → W p l e (mRm 12 b) s m args below meth c H locs k k (vx_MQ below (mQ G A (mRa P)) (mXC G A (fun _ _ _ => False)) args s b b A) (F0 m 7 ls []) := by
    intro k r M H locs ls a0 a1 x2 x3 hk S hl h
    unfold wb_J3_append_5_J4_7 at h
    refine lv_iload_n hx hb dJ3_append_5_7 rfl (lv_at hl 2 rfl) ?_
    refine lv_iload_n hx hb dJ3_append_5_8 rfl (lv_at hl 3 rfl) ?_
    refine lv_aload_n hx hb dJ3_append_5_9 rfl (lv_at hl 1 rfl) ?_
    obtain ⟨hI, h⟩ := h
    refine mm_F (As := []) (rest := [.int x3, .int x2]) C S hl.1 (x := ⟨"java/lang/CharSequence", "length", "()I"⟩) (wk_J4_length hst0 h) (T := TJ4) rfl hI (mWsF q927 q935 q838 q53 (lw_meth q840)) (by decide +kernel) pdi_1 ⟨Nat.le_of_ble_eq_true rfl, Nat.le_of_ble_eq_true rfl⟩ rfl rfl (Nat.le_of_ble_eq_true rfl) dJ3_append_5_10 rfl rfl hk (Nat.zero_add _) (fun v9 M1 H locs hP S hk => ?_) (fun E q ce M9 H9 locs9 hX => hX.elim)
    obtain ⟨v2, rfl, h⟩ := hP
    refine W.eq (g2 := F0 m 15 ls [.int v2, .int x3, .int x2]) rfl ?_
    exact h.elim
  unfold wp_J3_append_5_J4 at h
  refine lv_aload_n hx hb dJ3_append_5_0 rfl (lv_at hl 1 rfl) ?_
  refine lv_ifnonnull (tgt := 7) hx hb dJ3_append_5_1 (by decide) ?_
  exact j7 _ _ _ _ _ _ _ _ _ _ hk S hl h
/-! J3_append_6_J4: level 14, alloc -/
def wp_J3_append_6_J4 (G : mG) (b : Nat) (P : Nat → mM → Prop) (M : mM) (a0 : Nat) (x1 : Int32) : Prop :=
  gfi M a0 17 3 fun v1 => wp_J21_stringSize G 0 (fun v3 M2 => isc M2 a0 17 ∧ (∃ b5 r6 : Nat, b5 + r6 = b ∧ wp_J3_ensureCapacityInternal_J4 G b5 (fun M4 => isc M4 a0 17 ∧ (wp_J3_isLatin1_J4 G 0 (fun v8 M7 => (v8 = 0 → gfa M7 a0 17 0 fun u9 => False) ∧ (¬ v8 = 0 → gfa M7 a0 17 0 fun u10 => wp_J21_getChars G 0 (fun v12 M11 => pfi M11 a0 17 3 (v1 + v3) fun M13 => P a0 M13) M7 x1 (v1 + v3) u10)) M4 a0)) M2 a0 (v1 + v3))) M x1
set_option maxHeartbeats 4000000 in
set_option maxRecDepth 100000 in
theorem wk_J3_append_6_J4 {l : Launch} (hst0 : l.stackTraces = false) {G : mG} {b : Nat} {P : Nat → mM → Prop} {M : mM} {a0 : Nat} {x1 : Int32} (h : wp_J3_append_6_J4 G b P M a0 x1) : mMet l yJ3_append_6 (ws_ yJ3_append_6 cJ3_append_6 4 (Option.some (Jvm.ClassFile.FieldType.object "java/lang/AbstractStringBuilder"))) 14 b G [.ref a0, .int x1] M (mRa P) (fun _ _ _ => False) := by
  refine mm_met hst0 (by decide) (Nat.le_of_ble_eq_true rfl) ?_
  intro p e s m args below meth c ls C hr hnt hnm hl S
  have hl : lv_has ls 4 [(0, .ref a0), (1, .int x1)] := hl
  generalize mA M s.heap.size = A at C S ⊢
  have hx := C.hx
  have hb := C.hb
  have hk : 0 + b ≤ b := Nat.le_of_eq (Nat.zero_add b)
  unfold wp_J3_append_6_J4 at h
  refine lv_aload_n hx hb dJ3_append_6_0 rfl (lv_at hl 0 rfl) ?_
  refine mm_gfi C S (ci := 17) (k := 3) rfl in_J4 (by decide) q160 (fun _ h9 => h9) dJ3_append_6_1 h (fun v1 h => ?_)
  refine lv_istore_n (lv' := [(2, .int v1), (0, .ref a0), (1, .int x1)]) hx hb dJ3_append_6_4 rfl hl (by decide) rfl (fun ls hl => ?_)
  refine lv_iload_n hx hb dJ3_append_6_5 rfl (lv_at hl 0 rfl) ?_
  refine lv_iload_n hx hb dJ3_append_6_6 rfl (lv_at hl 2 rfl) ?_
  refine mm_S (As := [.int x1]) (rest := [.int v1]) C S hl.1 (wk_J21_stringSize hst0 h) (lw_S q1062 q1063 q76 q1064) pd_J21_stringSize ⟨Nat.le_of_ble_eq_true rfl, Nat.le_of_ble_eq_true rfl⟩ rfl rfl (Nat.le_of_ble_eq_true rfl) dJ3_append_6_7 rfl rfl hk (Nat.zero_add _) (fun v9 M2 H locs hP S hk => ?_) (fun E q ce M9 H9 locs9 hX => hX.elim)
  obtain ⟨v3, rfl, h⟩ := hP
  refine W.eq (g2 := F0 m 10 ls [.int v3, .int v1]) rfl ?_
  refine lv_iadd hx hb dJ3_append_6_10 ?_
  refine lv_istore_n (lv' := [(3, .int (v1 + v3)), (2, .int v1), (0, .ref a0), (1, .int x1)]) hx hb dJ3_append_6_11 rfl hl (by decide) rfl (fun ls hl => ?_)
  refine lv_aload_n hx hb dJ3_append_6_12 rfl (lv_at hl 2 rfl) ?_
  refine lv_iload_n hx hb dJ3_append_6_13 rfl (lv_at hl 0 rfl) ?_
  obtain ⟨hI, h⟩ := h
  obtain ⟨b5, r6, hb9, h⟩ := h
  refine mm_VP (As := [.int (v1 + v3)]) (rest := []) C S hl.1 (wk_J3_ensureCapacityInternal_J4 hst0 h) (T := TJ4) rfl hI q769 q52 q766 q768 q789 rfl q767 pd_J3_ensureCapacityInternal ⟨Nat.le_of_ble_eq_true rfl, Nat.le_of_ble_eq_true rfl⟩ rfl rfl (Nat.le_of_ble_eq_true rfl) dJ3_append_6_14 rfl rfl hk hb9 (fun v9 M4 H locs hP S hk => ?_) (fun E q ce M9 H9 locs9 hX => hX.elim)
  obtain ⟨rfl, h⟩ := hP
  refine W.eq (g2 := F0 m 17 ls []) rfl ?_
  refine lv_aload_n hx hb dJ3_append_6_17 rfl (lv_at hl 2 rfl) ?_
  obtain ⟨hI, h⟩ := h
  refine mm_U (As := []) (rest := []) C S hl.1 (x := ⟨"java/lang/AbstractStringBuilder", "isLatin1", "()Z"⟩) (owner := "java/lang/AbstractStringBuilder") (wk_J3_isLatin1_J4 hst0 h) (T := TJ4) rfl hI (va_cwU 0 C.ts (mWsU q786 q788 q789 q787 q52 (lw_meth q790)) rfl rfl rfl rfl ⟨by decide, by decide, by decide +kernel⟩ ⟨Nat.le_of_ble_eq_true rfl, Nat.le_of_ble_eq_true rfl⟩) rfl rfl (Nat.le_of_ble_eq_true rfl) dJ3_append_6_18 rfl rfl hk (Nat.zero_add _) (fun v9 M7 H locs hP S hk => ?_) (fun E q ce M9 H9 locs9 hX => hX.elim)
  obtain ⟨v8, rfl, h⟩ := hP
  refine W.eq (g2 := F0 m 21 ls [.int v8]) rfl ?_
  refine lv_if_eq (tgt := 37) hx hb dJ3_append_6_21 (by decide) (fun c9 => ?_) (fun c9 => ?_)
  · have h := h.1 c9
    refine lv_iload_n hx hb dJ3_append_6_37 rfl (lv_at hl 3 rfl) ?_
    refine lv_iload_n hx hb dJ3_append_6_38 rfl (lv_at hl 1 rfl) ?_
    refine lv_iload_n hx hb dJ3_append_6_39 rfl (lv_at hl 0 rfl) ?_
    refine lv_aload_n hx hb dJ3_append_6_40 rfl (lv_at hl 2 rfl) ?_
    refine mm_gfa C S (ci := 17) (k := 0) rfl in_J4 (by decide) q156 (fun _ h9 => h9) dJ3_append_6_41 h (fun u9 h => ?_)
    exact h.elim
  · have h := h.2 c9
    refine lv_iload_n hx hb dJ3_append_6_24 rfl (lv_at hl 3 rfl) ?_
    refine lv_iload_n hx hb dJ3_append_6_25 rfl (lv_at hl 0 rfl) ?_
    refine lv_aload_n hx hb dJ3_append_6_26 rfl (lv_at hl 2 rfl) ?_
    refine mm_gfa C S (ci := 17) (k := 0) rfl in_J4 (by decide) q156 (fun _ h9 => h9) dJ3_append_6_27 h (fun u10 h => ?_)
    refine mm_S (As := [.int x1, .int (v1 + v3), .ref u10]) (rest := []) C S hl.1 (wk_J21_getChars hst0 h) (lw_S q1065 q1066 q76 q1067) pd_J21_getChars ⟨Nat.le_of_ble_eq_true rfl, Nat.le_of_ble_eq_true rfl⟩ rfl rfl (Nat.le_of_ble_eq_true rfl) dJ3_append_6_30 rfl rfl hk (Nat.zero_add _) (fun v9 M11 H locs hP S hk => ?_) (fun E q ce M9 H9 locs9 hX => hX.elim)
    obtain ⟨v12, rfl, h⟩ := hP
    refine W.eq (g2 := F0 m 33 ls [.int v12]) rfl ?_
    refine lv_pop hx hb dJ3_append_6_33 rfl ?_
    refine lv_goto (tgt := 48) hx hb dJ3_append_6_34 (by decide) ?_
    refine lv_aload_n hx hb dJ3_append_6_48 rfl (lv_at hl 2 rfl) ?_
    refine lv_iload_n hx hb dJ3_append_6_49 rfl (lv_at hl 0 rfl) ?_
    refine mm_pfi C S (ci := 17) (k := 3) rfl in_J4 tyJ4_ok nmJ4 (by decide) q160 (fun _ h9 => h9) rfl dJ3_append_6_50 rfl h (fun M13 H locs h S => ?_)
    refine lv_aload_n hx hb dJ3_append_6_53 rfl (lv_at hl 2 rfl) ?_
    exact mm_aret C S hr (Or.inl ⟨_, rfl⟩) (Nat.le_trans (Nat.le_add_right _ _) hk) dJ3_append_6_54 h
/-! J3_getValue_J4: level 10 -/
def wp_J3_getValue_J4 (G : mG) (b : Nat) (P : Nat → mM → Prop) (M : mM) (a0 : Nat) : Prop :=
  gfa M a0 17 0 fun u1 => P u1 M
set_option maxHeartbeats 4000000 in
set_option maxRecDepth 100000 in
theorem wk_J3_getValue_J4 {l : Launch} (hst0 : l.stackTraces = false) {G : mG} {b : Nat} {P : Nat → mM → Prop} {M : mM} {a0 : Nat} (h : wp_J3_getValue_J4 G b P M a0) : mMet l yJ3_getValue (ws_ yJ3_getValue cJ3_getValue 1 (Option.some (Jvm.ClassFile.FieldType.array Jvm.ClassFile.FieldType.byte))) 10 b G [.ref a0] M (mRa P) (fun _ _ _ => False) := by
  refine mm_met hst0 (by decide) (Nat.le_of_ble_eq_true rfl) ?_
  intro p e s m args below meth c ls C hr hnt hnm hl S
  have hl : lv_has ls 1 [(0, .ref a0)] := hl
  generalize mA M s.heap.size = A at C S ⊢
  have hx := C.hx
  have hb := C.hb
  have hk : 0 + b ≤ b := Nat.le_of_eq (Nat.zero_add b)
  unfold wp_J3_getValue_J4 at h
  refine lv_aload_n hx hb dJ3_getValue_0 rfl (lv_at hl 0 rfl) ?_
  refine mm_gfa C S (ci := 17) (k := 0) rfl in_J4 (by decide) q156 (fun _ h9 => h9) dJ3_getValue_1 h (fun u1 h => ?_)
  exact mm_aret C S hr (Or.inr ⟨_, rfl⟩) (Nat.le_trans (Nat.le_add_right _ _) hk) dJ3_getValue_4 h
/-! J3_inflate_J4: level 11 -/
def wp_J3_inflate_J4 (G : mG) (b : Nat) (P : mM → Prop) (M : mM) (a0 : Nat) : Prop :=
  isc M a0 17 ∧ (wp_J3_isLatin1_J4 G 0 (fun v2 M1 => (¬ v2 = 0 → gfa M1 a0 17 0 fun u3 => aln M1 u3 fun v4 => False) ∧ (v2 = 0 → P M1)) M a0)
set_option maxHeartbeats 4000000 in
set_option maxRecDepth 100000 in
theorem wk_J3_inflate_J4 {l : Launch} (hst0 : l.stackTraces = false) {G : mG} {b : Nat} {P : mM → Prop} {M : mM} {a0 : Nat} (h : wp_J3_inflate_J4 G b P M a0) : mMet l yJ3_inflate (ws_ yJ3_inflate cJ3_inflate 2 (Option.none : Option Jvm.ClassFile.FieldType)) 11 b G [.ref a0] M (mRv P) (fun _ _ _ => False) := by
  refine mm_met hst0 (by decide) (Nat.le_of_ble_eq_true rfl) ?_
  intro p e s m args below meth c ls C hr hnt hnm hl S
  have hl : lv_has ls 2 [(0, .ref a0)] := hl
  generalize mA M s.heap.size = A at C S ⊢
  have hx := C.hx
  have hb := C.hb
  have hk : 0 + b ≤ b := Nat.le_of_eq (Nat.zero_add b)
  unfold wp_J3_inflate_J4 at h
  refine lv_aload_n hx hb dJ3_inflate_0 rfl (lv_at hl 0 rfl) ?_
  obtain ⟨hI, h⟩ := h
  refine mm_U (As := []) (rest := []) C S hl.1 (x := ⟨"java/lang/AbstractStringBuilder", "isLatin1", "()Z"⟩) (owner := "java/lang/AbstractStringBuilder") (wk_J3_isLatin1_J4 hst0 h) (T := TJ4) rfl hI (va_cwU 0 C.ts (mWsU q786 q788 q789 q787 q52 (lw_meth q790)) rfl rfl rfl rfl ⟨by decide, by decide, by decide +kernel⟩ ⟨Nat.le_of_ble_eq_true rfl, Nat.le_of_ble_eq_true rfl⟩) rfl rfl (Nat.le_of_ble_eq_true rfl) dJ3_inflate_1 rfl rfl hk (Nat.zero_add _) (fun v9 M1 H locs hP S hk => ?_) (fun E q ce M9 H9 locs9 hX => hX.elim)
  obtain ⟨v2, rfl, h⟩ := hP
  refine W.eq (g2 := F0 m 4 ls [.int v2]) rfl ?_
  refine lv_if_ne (tgt := 8) hx hb dJ3_inflate_4 (by decide) (fun c9 => ?_) (fun c9 => ?_)
  · have h := h.1 c9
    refine lv_aload_n hx hb dJ3_inflate_8 rfl (lv_at hl 0 rfl) ?_
    refine mm_gfa C S (ci := 17) (k := 0) rfl in_J4 (by decide) q156 (fun _ h9 => h9) dJ3_inflate_9 h (fun u3 h => ?_)
    refine mm_alen C S h dJ3_inflate_12 (fun v4 h => ?_)
    exact h.elim
  · have h := h.2 c9
    exact mm_vret C S hr (Nat.le_trans (Nat.le_add_right _ _) hk) dJ3_inflate_7 h
/-! J3_setLength_J4: level 14, alloc -/
def wb_J3_setLength_J4_76 (G : mG) (P : mM → Prop) (r : Nat) (M : mM) (a0 : Nat) (x1 : Int32) : Prop :=
  pfi M a0 17 3 x1 fun M14 => P M14
def wp_J3_setLength_J4 (G : mG) (b : Nat) (P : mM → Prop) (M : mM) (a0 : Nat) (x1 : Int32) : Prop :=
  (0 ≤ x1 → isc M a0 17 ∧ (∃ b2 r3 : Nat, b2 + r3 = b ∧ wp_J3_ensureCapacityInternal_J4 G b2 (fun M1 => gfi M1 a0 17 3 fun v4 => (x1 ≤ v4 → gfi M1 a0 17 3 fun v5 => (v5 ≤ x1 → wb_J3_setLength_J4_76 G P r3 M1 a0 x1) ∧ (¬ v5 ≤ x1 → pfn M1 a0 17 2 .boolean 1 fun M6 => wb_J3_setLength_J4_76 G P r3 M6 a0 x1)) ∧ (¬ x1 ≤ v4 → isc M1 a0 17 ∧ (wp_J3_isLatin1_J4 G 0 (fun v8 M7 => (v8 = 0 → gfa M7 a0 17 0 fun u9 => gfi M7 a0 17 3 fun v10 => False) ∧ (¬ v8 = 0 → gfa M7 a0 17 0 fun u11 => gfi M7 a0 17 3 fun v12 => wp_J19_fillNull G 0 (fun M13 => wb_J3_setLength_J4_76 G P r3 M13 a0 x1) M7 u11 v12 x1)) M1 a0))) M a0 x1)) ∧ (¬ 0 ≤ x1 → False)
set_option maxHeartbeats 4000000 in
set_option maxRecDepth 100000 in
theorem wk_J3_setLength_J4 {l : Launch} (hst0 : l.stackTraces = false) {G : mG} {b : Nat} {P : mM → Prop} {M : mM} {a0 : Nat} {x1 : Int32} (h : wp_J3_setLength_J4 G b P M a0 x1) : mMet l yJ3_setLength (ws_ yJ3_setLength cJ3_setLength 2 (Option.none : Option Jvm.ClassFile.FieldType)) 14 b G [.ref a0, .int x1] M (mRv P) (fun _ _ _ => False) := by
  refine mm_met hst0 (by decide) (Nat.le_of_ble_eq_true rfl) ?_
  intro p e s m args below meth c ls C hr hnt hnm hl S
  have hl : lv_has ls 2 [(0, .ref a0), (1, .int x1)] := hl
  generalize mA M s.heap.size = A at C S ⊢
  have hx := C.hx
  have hb := C.hb
  have hk : 0 + b ≤ b := Nat.le_of_eq (Nat.zero_add b)
  have j76 : ∀ (k r : Nat) (M : mM) (H : Heap) (locs : List Loc) (ls : Array Slot) (a0 : Nat) (x1 : Int32), k + r ≤ b → mW G A s M H locs → lv_has ls 2 [(0, .ref a0), (1, .int x1)] → wb_J3_setLength_J4_76 G P r M a0 x1 → W p l e (mRm 14 b) s m args below meth c H locs k k (vx_MQ below (mQ G A (mRv P)) (mXC G A (fun _ _ _ => False)) args s b b A) (F0 m 76 ls []) := by
    intro k r M H locs ls a0 x1 hk S hl h
    unfold wb_J3_setLength_J4_76 at h
    refine lv_aload_n hx hb dJ3_setLength_76 rfl (lv_at hl 0 rfl) ?_
    refine lv_iload_n hx hb dJ3_setLength_77 rfl (lv_at hl 1 rfl) ?_
    refine mm_pfi C S (ci := 17) (k := 3) rfl in_J4 tyJ4_ok nmJ4 (by decide) q160 (fun _ h9 => h9) rfl dJ3_setLength_78 rfl h (fun M14 H locs h S => ?_)
    exact mm_vret C S hr (Nat.le_trans (Nat.le_add_right _ _) hk) dJ3_setLength_81 h
  unfold wp_J3_setLength_J4 at h
  refine lv_iload_n hx hb dJ3_setLength_0 rfl (lv_at hl 1 rfl) ?_
  refine lv_if_ge (tgt := 13) hx hb dJ3_setLength_1 (by decide) (fun c9 => ?_) (fun c9 => ?_)
  · have h := h.1 c9
    refine lv_aload_n hx hb dJ3_setLength_13 rfl (lv_at hl 0 rfl) ?_
    refine lv_iload_n hx hb dJ3_setLength_14 rfl (lv_at hl 1 rfl) ?_
    obtain ⟨hI, h⟩ := h
    obtain ⟨b2, r3, hb9, h⟩ := h
    refine mm_VP (As := [.int x1]) (rest := []) C S hl.1 (wk_J3_ensureCapacityInternal_J4 hst0 h) (T := TJ4) rfl hI q769 q52 q766 q768 q789 rfl q767 pd_J3_ensureCapacityInternal ⟨Nat.le_of_ble_eq_true rfl, Nat.le_of_ble_eq_true rfl⟩ rfl rfl (Nat.le_of_ble_eq_true rfl) dJ3_setLength_15 rfl rfl hk hb9 (fun v9 M1 H locs hP S hk => ?_) (fun E q ce M9 H9 locs9 hX => hX.elim)
    obtain ⟨rfl, h⟩ := hP
    refine W.eq (g2 := F0 m 18 ls []) rfl ?_
    refine lv_aload_n hx hb dJ3_setLength_18 rfl (lv_at hl 0 rfl) ?_
    refine mm_gfi C S (ci := 17) (k := 3) rfl in_J4 (by decide) q160 (fun _ h9 => h9) dJ3_setLength_19 h (fun v4 h => ?_)
    refine lv_iload_n hx hb dJ3_setLength_22 rfl (lv_at hl 1 rfl) ?_
    refine lv_icmp_ge (tgt := 63) hx hb dJ3_setLength_23 (by decide) (fun c9 => ?_) (fun c9 => ?_)
    · have h := h.1 c9
      refine lv_aload_n hx hb dJ3_setLength_63 rfl (lv_at hl 0 rfl) ?_
      refine mm_gfi C S (ci := 17) (k := 3) rfl in_J4 (by decide) q160 (fun _ h9 => h9) dJ3_setLength_64 h (fun v5 h => ?_)
      refine lv_iload_n hx hb dJ3_setLength_67 rfl (lv_at hl 1 rfl) ?_
      refine lv_icmp_le (tgt := 76) hx hb dJ3_setLength_68 (by decide) (fun c9 => ?_) (fun c9 => ?_)
      · have h := h.1 c9
        exact j76 _ _ _ _ _ _ _ _ hk S hl h
      · have h := h.2 c9
        refine lv_aload_n hx hb dJ3_setLength_71 rfl (lv_at hl 0 rfl) ?_
        refine lv_iconst (v := 1) hx hb dJ3_setLength_72 (by decide) ?_
        refine mm_pfn C S (ci := 17) (k := 2) rfl in_J4 tyJ4_ok nmJ4 (by decide) q158 (fun _ h9 => h9) rfl dJ3_setLength_73 rfl h (fun M6 H locs h S => ?_)
        exact j76 _ _ _ _ _ _ _ _ hk S hl h
    · have h := h.2 c9
      refine lv_aload_n hx hb dJ3_setLength_26 rfl (lv_at hl 0 rfl) ?_
      obtain ⟨hI, h⟩ := h
      refine mm_U (As := []) (rest := []) C S hl.1 (x := ⟨"java/lang/AbstractStringBuilder", "isLatin1", "()Z"⟩) (owner := "java/lang/AbstractStringBuilder") (wk_J3_isLatin1_J4 hst0 h) (T := TJ4) rfl hI (va_cwU 0 C.ts (mWsU q786 q788 q789 q787 q52 (lw_meth q790)) rfl rfl rfl rfl ⟨by decide, by decide, by decide +kernel⟩ ⟨Nat.le_of_ble_eq_true rfl, Nat.le_of_ble_eq_true rfl⟩) rfl rfl (Nat.le_of_ble_eq_true rfl) dJ3_setLength_27 rfl rfl hk (Nat.zero_add _) (fun v9 M7 H locs hP S hk => ?_) (fun E q ce M9 H9 locs9 hX => hX.elim)
      obtain ⟨v8, rfl, h⟩ := hP
      refine W.eq (g2 := F0 m 30 ls [.int v8]) rfl ?_
      refine lv_if_eq (tgt := 48) hx hb dJ3_setLength_30 (by decide) (fun c9 => ?_) (fun c9 => ?_)
      · have h := h.1 c9
        refine lv_aload_n hx hb dJ3_setLength_48 rfl (lv_at hl 0 rfl) ?_
        refine mm_gfa C S (ci := 17) (k := 0) rfl in_J4 (by decide) q156 (fun _ h9 => h9) dJ3_setLength_49 h (fun u9 h => ?_)
        refine lv_aload_n hx hb dJ3_setLength_52 rfl (lv_at hl 0 rfl) ?_
        refine mm_gfi C S (ci := 17) (k := 3) rfl in_J4 (by decide) q160 (fun _ h9 => h9) dJ3_setLength_53 h (fun v10 h => ?_)
        refine lv_iload_n hx hb dJ3_setLength_56 rfl (lv_at hl 1 rfl) ?_
        exact h.elim
      · have h := h.2 c9
        refine lv_aload_n hx hb dJ3_setLength_33 rfl (lv_at hl 0 rfl) ?_
        refine mm_gfa C S (ci := 17) (k := 0) rfl in_J4 (by decide) q156 (fun _ h9 => h9) dJ3_setLength_34 h (fun u11 h => ?_)
        refine lv_aload_n hx hb dJ3_setLength_37 rfl (lv_at hl 0 rfl) ?_
        refine mm_gfi C S (ci := 17) (k := 3) rfl in_J4 (by decide) q160 (fun _ h9 => h9) dJ3_setLength_38 h (fun v12 h => ?_)
        refine lv_iload_n hx hb dJ3_setLength_41 rfl (lv_at hl 1 rfl) ?_
        refine mm_S (As := [.ref u11, .int v12, .int x1]) (rest := []) C S hl.1 (wk_J19_fillNull hst0 h) (lw_S q1389 q1390 q73 q1391) pd_J19_fillNull ⟨Nat.le_of_ble_eq_true rfl, Nat.le_of_ble_eq_true rfl⟩ rfl rfl (Nat.le_of_ble_eq_true rfl) dJ3_setLength_42 rfl rfl hk (Nat.zero_add _) (fun v9 M13 H locs hP S hk => ?_) (fun E q ce M9 H9 locs9 hX => hX.elim)
        obtain ⟨rfl, h⟩ := hP
        refine W.eq (g2 := F0 m 45 ls []) rfl ?_
        refine lv_goto (tgt := 76) hx hb dJ3_setLength_45 (by decide) ?_
        exact j76 _ _ _ _ _ _ _ _ hk S hl h
  · have h := h.2 c9
    exact h.elim
/-! J4_append: level 15, alloc -/
def wp_J4_append (G : mG) (b : Nat) (P : Nat → mM → Prop) (M : mM) (a0 : Nat) (x1 : Int32) : Prop :=
  isc M a0 17 ∧ (∃ b2 r3 : Nat, b2 + r3 = b ∧ wp_J3_append_J4 G b2 (fun u4 M1 => P a0 M1) M a0 x1)
set_option maxHeartbeats 4000000 in
set_option maxRecDepth 100000 in
theorem wk_J4_append {l : Launch} (hst0 : l.stackTraces = false) {G : mG} {b : Nat} {P : Nat → mM → Prop} {M : mM} {a0 : Nat} {x1 : Int32} (h : wp_J4_append G b P M a0 x1) : mMet l yJ4_append (ws_ yJ4_append cJ4_append 2 (Option.some (Jvm.ClassFile.FieldType.object "java/lang/StringBuilder"))) 15 b G [.ref a0, .int x1] M (mRa P) (fun _ _ _ => False) := by
  refine mm_met hst0 (by decide) (Nat.le_of_ble_eq_true rfl) ?_
  intro p e s m args below meth c ls C hr hnt hnm hl S
  have hl : lv_has ls 2 [(0, .ref a0), (1, .int x1)] := hl
  generalize mA M s.heap.size = A at C S ⊢
  have hx := C.hx
  have hb := C.hb
  have hk : 0 + b ≤ b := Nat.le_of_eq (Nat.zero_add b)
  unfold wp_J4_append at h
  refine lv_aload_n hx hb dJ4_append_0 rfl (lv_at hl 0 rfl) ?_
  refine lv_iload_n hx hb dJ4_append_1 rfl (lv_at hl 1 rfl) ?_
  obtain ⟨hI, h⟩ := h
  obtain ⟨b2, r3, hb9, h⟩ := h
  refine mm_SU (As := [.int x1]) (rest := []) C S hl.1 (wk_J3_append_J4 hst0 h) (T := TJ4) rfl hI (va_cwSU 1 C.ts (mWsSU q763 q2073 q169 q764 q52 (lw_meth q765)) rfl rfl rfl ⟨by decide, pd_J3_append.2.2⟩ ⟨Nat.le_of_ble_eq_true rfl, Nat.le_of_ble_eq_true rfl⟩) rfl rfl (Nat.le_of_ble_eq_true rfl) dJ4_append_2 rfl rfl hk hb9 (fun v9 M1 H locs hP S hk => ?_) (fun E q ce M9 H9 locs9 hX => hX.elim)
  obtain ⟨u4, rfl, h⟩ := hP
  refine W.eq (g2 := F0 m 5 ls [.ref u4]) rfl ?_
  refine lv_pop hx hb dJ4_append_5 rfl ?_
  refine lv_aload_n hx hb dJ4_append_6 rfl (lv_at hl 0 rfl) ?_
  exact mm_aret C S hr (Or.inl ⟨_, rfl⟩) (Nat.le_trans (Nat.le_add_right _ _) hk) dJ4_append_7 h
/-! J4_append_2: level 16, alloc -/
def wp_J4_append_2 (G : mG) (b : Nat) (P : Nat → mM → Prop) (M : mM) (a0 : Nat) (a1 : Nat) : Prop :=
  isc M a0 17 ∧ (∃ b2 r3 : Nat, b2 + r3 = b ∧ wp_J3_append_2_J4 G b2 (fun u4 M1 => P a0 M1) M a0 a1)
set_option maxHeartbeats 4000000 in
set_option maxRecDepth 100000 in
theorem wk_J4_append_2 {l : Launch} (hst0 : l.stackTraces = false) {G : mG} {b : Nat} {P : Nat → mM → Prop} {M : mM} {a0 : Nat} {a1 : Nat} (h : wp_J4_append_2 G b P M a0 a1) : mMet l yJ4_append_2 (ws_ yJ4_append_2 cJ4_append_2 2 (Option.some (Jvm.ClassFile.FieldType.object "java/lang/StringBuilder"))) 16 b G [.ref a0, .ref a1] M (mRa P) (fun _ _ _ => False) := by
  refine mm_met hst0 (by decide) (Nat.le_of_ble_eq_true rfl) ?_
  intro p e s m args below meth c ls C hr hnt hnm hl S
  have hl : lv_has ls 2 [(0, .ref a0), (1, .ref a1)] := hl
  generalize mA M s.heap.size = A at C S ⊢
  have hx := C.hx
  have hb := C.hb
  have hk : 0 + b ≤ b := Nat.le_of_eq (Nat.zero_add b)
  unfold wp_J4_append_2 at h
  refine lv_aload_n hx hb dJ4_append_2_0 rfl (lv_at hl 0 rfl) ?_
  refine lv_aload_n hx hb dJ4_append_2_1 rfl (lv_at hl 1 rfl) ?_
  obtain ⟨hI, h⟩ := h
  obtain ⟨b2, r3, hb9, h⟩ := h
  refine mm_SU (As := [.ref a1]) (rest := []) C S hl.1 (wk_J3_append_2_J4 hst0 h) (T := TJ4) rfl hI (va_cwSU 1 C.ts (mWsSU q848 q2078 q169 q849 q52 (lw_meth q850)) rfl rfl rfl ⟨by decide, pd_J3_append_2.2.2⟩ ⟨Nat.le_of_ble_eq_true rfl, Nat.le_of_ble_eq_true rfl⟩) rfl rfl (Nat.le_of_ble_eq_true rfl) dJ4_append_2_2 rfl rfl hk hb9 (fun v9 M1 H locs hP S hk => ?_) (fun E q ce M9 H9 locs9 hX => hX.elim)
  obtain ⟨u4, rfl, h⟩ := hP
  refine W.eq (g2 := F0 m 5 ls [.ref u4]) rfl ?_
  refine lv_pop hx hb dJ4_append_2_5 rfl ?_
  refine lv_aload_n hx hb dJ4_append_2_6 rfl (lv_at hl 0 rfl) ?_
  exact mm_aret C S hr (Or.inl ⟨_, rfl⟩) (Nat.le_trans (Nat.le_add_right _ _) hk) dJ4_append_2_7 h
/-! J4_append_4: level 15, alloc -/
def wp_J4_append_4 (G : mG) (b : Nat) (P : Nat → mM → Prop) (M : mM) (a0 : Nat) (a1 : Nat) : Prop :=
  isc M a0 17 ∧ (∃ b2 r3 : Nat, b2 + r3 = b ∧ wp_J3_append_3_J4 G b2 (fun u4 M1 => P a0 M1) M a0 a1)
set_option maxHeartbeats 4000000 in
set_option maxRecDepth 100000 in
theorem wk_J4_append_4 {l : Launch} (hst0 : l.stackTraces = false) {G : mG} {b : Nat} {P : Nat → mM → Prop} {M : mM} {a0 : Nat} {a1 : Nat} (h : wp_J4_append_4 G b P M a0 a1) : mMet l yJ4_append_4 (ws_ yJ4_append_4 cJ4_append_4 2 (Option.some (Jvm.ClassFile.FieldType.object "java/lang/StringBuilder"))) 15 b G [.ref a0, .ref a1] M (mRa P) (fun _ _ _ => False) := by
  refine mm_met hst0 (by decide) (Nat.le_of_ble_eq_true rfl) ?_
  intro p e s m args below meth c ls C hr hnt hnm hl S
  have hl : lv_has ls 2 [(0, .ref a0), (1, .ref a1)] := hl
  generalize mA M s.heap.size = A at C S ⊢
  have hx := C.hx
  have hb := C.hb
  have hk : 0 + b ≤ b := Nat.le_of_eq (Nat.zero_add b)
  unfold wp_J4_append_4 at h
  refine lv_aload_n hx hb dJ4_append_4_0 rfl (lv_at hl 0 rfl) ?_
  refine lv_aload_n hx hb dJ4_append_4_1 rfl (lv_at hl 1 rfl) ?_
  obtain ⟨hI, h⟩ := h
  obtain ⟨b2, r3, hb9, h⟩ := h
  refine mm_SU (As := [.ref a1]) (rest := []) C S hl.1 (wk_J3_append_3_J4 hst0 h) (T := TJ4) rfl hI (va_cwSU 1 C.ts (mWsSU q878 q870 q169 q869 q52 (lw_meth q879)) rfl rfl rfl ⟨by decide, pd_J3_append_3.2.2⟩ ⟨Nat.le_of_ble_eq_true rfl, Nat.le_of_ble_eq_true rfl⟩) rfl rfl (Nat.le_of_ble_eq_true rfl) dJ4_append_4_2 rfl rfl hk hb9 (fun v9 M1 H locs hP S hk => ?_) (fun E q ce M9 H9 locs9 hX => hX.elim)
  obtain ⟨u4, rfl, h⟩ := hP
  refine W.eq (g2 := F0 m 5 ls [.ref u4]) rfl ?_
  refine lv_pop hx hb dJ4_append_4_5 rfl ?_
  refine lv_aload_n hx hb dJ4_append_4_6 rfl (lv_at hl 0 rfl) ?_
  exact mm_aret C S hr (Or.inl ⟨_, rfl⟩) (Nat.le_trans (Nat.le_add_right _ _) hk) dJ4_append_4_7 h
/-! J4_append_3: level 16, alloc -/
def wp_J4_append_3 (G : mG) (b : Nat) (P : Nat → mM → Prop) (M : mM) (a0 : Nat) (a1 : Nat) : Prop :=
  isc M a0 17 ∧ (∃ b2 r3 : Nat, b2 + r3 = b ∧ wp_J4_append_4 G b2 (fun u4 M1 => P u4 M1) M a0 a1)
set_option maxHeartbeats 4000000 in
set_option maxRecDepth 100000 in
theorem wk_J4_append_3 {l : Launch} (hst0 : l.stackTraces = false) {G : mG} {b : Nat} {P : Nat → mM → Prop} {M : mM} {a0 : Nat} {a1 : Nat} (h : wp_J4_append_3 G b P M a0 a1) : mMet l yJ4_append_3 (ws_ yJ4_append_3 cJ4_append_3 2 (Option.some (Jvm.ClassFile.FieldType.object "java/lang/AbstractStringBuilder"))) 16 b G [.ref a0, .ref a1] M (mRa P) (fun _ _ _ => False) := by
  refine mm_met hst0 (by decide) (Nat.le_of_ble_eq_true rfl) ?_
  intro p e s m args below meth c ls C hr hnt hnm hl S
  have hl : lv_has ls 2 [(0, .ref a0), (1, .ref a1)] := hl
  generalize mA M s.heap.size = A at C S ⊢
  have hx := C.hx
  have hb := C.hb
  have hk : 0 + b ≤ b := Nat.le_of_eq (Nat.zero_add b)
  unfold wp_J4_append_3 at h
  refine lv_aload_n hx hb dJ4_append_3_0 rfl (lv_at hl 0 rfl) ?_
  refine lv_aload_n hx hb dJ4_append_3_1 rfl (lv_at hl 1 rfl) ?_
  obtain ⟨hI, h⟩ := h
  obtain ⟨b2, r3, hb9, h⟩ := h
  refine mm_V (As := [.ref a1]) (rest := []) C S hl.1 (wk_J4_append_4 hst0 h) (T := TJ4) rfl hI (lw_V q874 q875 q876 q53 q877) rfl pd_J4_append_4 ⟨Nat.le_of_ble_eq_true rfl, Nat.le_of_ble_eq_true rfl⟩ rfl rfl (Nat.le_of_ble_eq_true rfl) dJ4_append_3_2 rfl rfl hk hb9 (fun v9 M1 H locs hP S hk => ?_) (fun E q ce M9 H9 locs9 hX => hX.elim)
  obtain ⟨u4, rfl, h⟩ := hP
  refine W.eq (g2 := F0 m 5 ls [.ref u4]) rfl ?_
  exact mm_aret C S hr (Or.inl ⟨_, rfl⟩) (Nat.le_trans (Nat.le_add_right _ _) hk) dJ4_append_3_5 h
/-! J4_append_6: level 13 -/
def wp_J4_append_6 (G : mG) (b : Nat) (P : Nat → mM → Prop) (M : mM) (a0 : Nat) (a1 : Nat) (x2 : Int32) (x3 : Int32) : Prop :=
  isc M a0 17 ∧ (wp_J3_append_5_J4 G 0 (fun u2 M1 => P a0 M1) M a0 a1 x2 x3)
set_option maxHeartbeats 4000000 in
set_option maxRecDepth 100000 in
theorem wk_J4_append_6 {l : Launch} (hst0 : l.stackTraces = false) {G : mG} {b : Nat} {P : Nat → mM → Prop} {M : mM} {a0 : Nat} {a1 : Nat} {x2 : Int32} {x3 : Int32} (h : wp_J4_append_6 G b P M a0 a1 x2 x3) : mMet l yJ4_append_6 (ws_ yJ4_append_6 cJ4_append_6 4 (Option.some (Jvm.ClassFile.FieldType.object "java/lang/StringBuilder"))) 13 b G [.ref a0, .ref a1, .int x2, .int x3] M (mRa P) (fun _ _ _ => False) := by
  refine mm_met hst0 (by decide) (Nat.le_of_ble_eq_true rfl) ?_
  intro p e s m args below meth c ls C hr hnt hnm hl S
  have hl : lv_has ls 4 [(0, .ref a0), (1, .ref a1), (2, .int x2), (3, .int x3)] := hl
  generalize mA M s.heap.size = A at C S ⊢
  have hx := C.hx
  have hb := C.hb
  have hk : 0 + b ≤ b := Nat.le_of_eq (Nat.zero_add b)
  unfold wp_J4_append_6 at h
  refine lv_aload_n hx hb dJ4_append_6_0 rfl (lv_at hl 0 rfl) ?_
  refine lv_aload_n hx hb dJ4_append_6_1 rfl (lv_at hl 1 rfl) ?_
  refine lv_iload_n hx hb dJ4_append_6_2 rfl (lv_at hl 2 rfl) ?_
  refine lv_iload_n hx hb dJ4_append_6_3 rfl (lv_at hl 3 rfl) ?_
  obtain ⟨hI, h⟩ := h
  refine mm_SU (As := [.ref a1, .int x2, .int x3]) (rest := []) C S hl.1 (wk_J3_append_5_J4 hst0 h) (T := TJ4) rfl hI (va_cwSU 3 C.ts (mWsSU q948 q940 q169 q939 q52 (lw_meth q949)) rfl rfl rfl ⟨by decide, pd_J3_append_5.2.2⟩ ⟨Nat.le_of_ble_eq_true rfl, Nat.le_of_ble_eq_true rfl⟩) rfl rfl (Nat.le_of_ble_eq_true rfl) dJ4_append_6_4 rfl rfl hk (Nat.zero_add _) (fun v9 M1 H locs hP S hk => ?_) (fun E q ce M9 H9 locs9 hX => hX.elim)
  obtain ⟨u2, rfl, h⟩ := hP
  refine W.eq (g2 := F0 m 7 ls [.ref u2]) rfl ?_
  refine lv_pop hx hb dJ4_append_6_7 rfl ?_
  refine lv_aload_n hx hb dJ4_append_6_8 rfl (lv_at hl 0 rfl) ?_
  exact mm_aret C S hr (Or.inl ⟨_, rfl⟩) (Nat.le_trans (Nat.le_add_right _ _) hk) dJ4_append_6_9 h
/-! J4_append_5: level 14 -/
def wp_J4_append_5 (G : mG) (b : Nat) (P : Nat → mM → Prop) (M : mM) (a0 : Nat) (a1 : Nat) (x2 : Int32) (x3 : Int32) : Prop :=
  isc M a0 17 ∧ (wp_J4_append_6 G 0 (fun u2 M1 => P u2 M1) M a0 a1 x2 x3)
set_option maxHeartbeats 4000000 in
set_option maxRecDepth 100000 in
theorem wk_J4_append_5 {l : Launch} (hst0 : l.stackTraces = false) {G : mG} {b : Nat} {P : Nat → mM → Prop} {M : mM} {a0 : Nat} {a1 : Nat} {x2 : Int32} {x3 : Int32} (h : wp_J4_append_5 G b P M a0 a1 x2 x3) : mMet l yJ4_append_5 (ws_ yJ4_append_5 cJ4_append_5 4 (Option.some (Jvm.ClassFile.FieldType.object "java/lang/AbstractStringBuilder"))) 14 b G [.ref a0, .ref a1, .int x2, .int x3] M (mRa P) (fun _ _ _ => False) := by
  refine mm_met hst0 (by decide) (Nat.le_of_ble_eq_true rfl) ?_
  intro p e s m args below meth c ls C hr hnt hnm hl S
  have hl : lv_has ls 4 [(0, .ref a0), (1, .ref a1), (2, .int x2), (3, .int x3)] := hl
  generalize mA M s.heap.size = A at C S ⊢
  have hx := C.hx
  have hb := C.hb
  have hk : 0 + b ≤ b := Nat.le_of_eq (Nat.zero_add b)
  unfold wp_J4_append_5 at h
  refine lv_aload_n hx hb dJ4_append_5_0 rfl (lv_at hl 0 rfl) ?_
  refine lv_aload_n hx hb dJ4_append_5_1 rfl (lv_at hl 1 rfl) ?_
  refine lv_iload_n hx hb dJ4_append_5_2 rfl (lv_at hl 2 rfl) ?_
  refine lv_iload_n hx hb dJ4_append_5_3 rfl (lv_at hl 3 rfl) ?_
  obtain ⟨hI, h⟩ := h
  refine mm_V (As := [.ref a1, .int x2, .int x3]) (rest := []) C S hl.1 (wk_J4_append_6 hst0 h) (T := TJ4) rfl hI (lw_V q944 q945 q946 q53 q947) rfl pd_J4_append_6 ⟨Nat.le_of_ble_eq_true rfl, Nat.le_of_ble_eq_true rfl⟩ rfl rfl (Nat.le_of_ble_eq_true rfl) dJ4_append_5_4 rfl rfl hk (Nat.zero_add _) (fun v9 M1 H locs hP S hk => ?_) (fun E q ce M9 H9 locs9 hX => hX.elim)
  obtain ⟨u2, rfl, h⟩ := hP
  refine W.eq (g2 := F0 m 7 ls [.ref u2]) rfl ?_
  exact mm_aret C S hr (Or.inl ⟨_, rfl⟩) (Nat.le_trans (Nat.le_add_right _ _) hk) dJ4_append_5_7 h
/-! J4_append_7: level 15, alloc -/
def wp_J4_append_7 (G : mG) (b : Nat) (P : Nat → mM → Prop) (M : mM) (a0 : Nat) (x1 : Int32) : Prop :=
  isc M a0 17 ∧ (∃ b2 r3 : Nat, b2 + r3 = b ∧ wp_J3_append_6_J4 G b2 (fun u4 M1 => P a0 M1) M a0 x1)
set_option maxHeartbeats 4000000 in
set_option maxRecDepth 100000 in
theorem wk_J4_append_7 {l : Launch} (hst0 : l.stackTraces = false) {G : mG} {b : Nat} {P : Nat → mM → Prop} {M : mM} {a0 : Nat} {x1 : Int32} (h : wp_J4_append_7 G b P M a0 x1) : mMet l yJ4_append_7 (ws_ yJ4_append_7 cJ4_append_7 2 (Option.some (Jvm.ClassFile.FieldType.object "java/lang/StringBuilder"))) 15 b G [.ref a0, .int x1] M (mRa P) (fun _ _ _ => False) := by
  refine mm_met hst0 (by decide) (Nat.le_of_ble_eq_true rfl) ?_
  intro p e s m args below meth c ls C hr hnt hnm hl S
  have hl : lv_has ls 2 [(0, .ref a0), (1, .int x1)] := hl
  generalize mA M s.heap.size = A at C S ⊢
  have hx := C.hx
  have hb := C.hb
  have hk : 0 + b ≤ b := Nat.le_of_eq (Nat.zero_add b)
  unfold wp_J4_append_7 at h
  refine lv_aload_n hx hb dJ4_append_7_0 rfl (lv_at hl 0 rfl) ?_
  refine lv_iload_n hx hb dJ4_append_7_1 rfl (lv_at hl 1 rfl) ?_
  obtain ⟨hI, h⟩ := h
  obtain ⟨b2, r3, hb9, h⟩ := h
  refine mm_SU (As := [.int x1]) (rest := []) C S hl.1 (wk_J3_append_6_J4 hst0 h) (T := TJ4) rfl hI (va_cwSU 1 C.ts (mWsSU q1059 q2087 q169 q1060 q52 (lw_meth q1061)) rfl rfl rfl ⟨by decide, pd_J3_append_6.2.2⟩ ⟨Nat.le_of_ble_eq_true rfl, Nat.le_of_ble_eq_true rfl⟩) rfl rfl (Nat.le_of_ble_eq_true rfl) dJ4_append_7_2 rfl rfl hk hb9 (fun v9 M1 H locs hP S hk => ?_) (fun E q ce M9 H9 locs9 hX => hX.elim)
  obtain ⟨u4, rfl, h⟩ := hP
  refine W.eq (g2 := F0 m 5 ls [.ref u4]) rfl ?_
  refine lv_pop hx hb dJ4_append_7_5 rfl ?_
  refine lv_aload_n hx hb dJ4_append_7_6 rfl (lv_at hl 0 rfl) ?_
  exact mm_aret C S hr (Or.inl ⟨_, rfl⟩) (Nat.le_trans (Nat.le_add_right _ _) hk) dJ4_append_7_7 h
/-! J4_setLength: level 15, alloc -/
def wp_J4_setLength (G : mG) (b : Nat) (P : mM → Prop) (M : mM) (a0 : Nat) (x1 : Int32) : Prop :=
  isc M a0 17 ∧ (∃ b2 r3 : Nat, b2 + r3 = b ∧ wp_J3_setLength_J4 G b2 (fun M1 => P M1) M a0 x1)
set_option maxHeartbeats 4000000 in
set_option maxRecDepth 100000 in
theorem wk_J4_setLength {l : Launch} (hst0 : l.stackTraces = false) {G : mG} {b : Nat} {P : mM → Prop} {M : mM} {a0 : Nat} {x1 : Int32} (h : wp_J4_setLength G b P M a0 x1) : mMet l yJ4_setLength (ws_ yJ4_setLength cJ4_setLength 2 (Option.none : Option Jvm.ClassFile.FieldType)) 15 b G [.ref a0, .int x1] M (mRv P) (fun _ _ _ => False) := by
  refine mm_met hst0 (by decide) (Nat.le_of_ble_eq_true rfl) ?_
  intro p e s m args below meth c ls C hr hnt hnm hl S
  have hl : lv_has ls 2 [(0, .ref a0), (1, .int x1)] := hl
  generalize mA M s.heap.size = A at C S ⊢
  have hx := C.hx
  have hb := C.hb
  have hk : 0 + b ≤ b := Nat.le_of_eq (Nat.zero_add b)
  unfold wp_J4_setLength at h
  refine lv_aload_n hx hb dJ4_setLength_0 rfl (lv_at hl 0 rfl) ?_
  refine lv_iload_n hx hb dJ4_setLength_1 rfl (lv_at hl 1 rfl) ?_
  obtain ⟨hI, h⟩ := h
  obtain ⟨b2, r3, hb9, h⟩ := h
  refine mm_SU (As := [.int x1]) (rest := []) C S hl.1 (wk_J3_setLength_J4 hst0 h) (T := TJ4) rfl hI (va_cwSU 1 C.ts (mWsSU q1367 q2091 q169 q1368 q52 (lw_meth q1369)) rfl rfl rfl ⟨by decide, pd_J3_setLength.2.2⟩ ⟨Nat.le_of_ble_eq_true rfl, Nat.le_of_ble_eq_true rfl⟩) rfl rfl (Nat.le_of_ble_eq_true rfl) dJ4_setLength_2 rfl rfl hk hb9 (fun v9 M1 H locs hP S hk => ?_) (fun E q ce M9 H9 locs9 hX => hX.elim)
  obtain ⟨rfl, h⟩ := hP
  refine W.eq (g2 := F0 m 5 ls []) rfl ?_
  exact mm_vret C S hr (Nat.le_trans (Nat.le_add_right _ _) hk) dJ4_setLength_5 h
/-! J5_init_2: level 13, alloc -/
def wb_J5_init_2_97 (G : mG) (P : mM → Prop) (r : Nat) (M : mM) : Prop :=
  P M
def wb_J5_init_2_79 (G : mG) (P : mM → Prop) (r : Nat) (M : mM) (a0 : Nat) (a3 : Nat) (x4 : Int32) : Prop :=
  pfn M a0 18 1 .byte 1 fun M14 => ∃ b16 r17 : Nat, b16 + r17 = r ∧ wp_J16_copyOfRange G b16 (fun u18 M15 => pfq M15 a0 18 0 (some u18) fun M19 => wb_J5_init_2_97 G P r17 M19) M14 a3 0 (x4 <<< (1 &&& 31))
def wp_J5_init_2 (G : mG) (b : Nat) (P : mM → Prop) (M : mM) (a0 : Nat) (a1 : Nat) : Prop :=
  isc M a1 17 ∧ (wp_J3_getValue_J4 G 0 (fun u2 M1 => isc M1 a1 17 ∧ (wp_J4_length G 0 (fun v4 M3 => isc M3 a1 17 ∧ (wp_J3_isLatin1_J4 G 0 (fun v6 M5 => (v6 = 0 → gfi M5 a1 17 2 fun v7 => (v7 = 0 → wb_J5_init_2_79 G P b M5 a0 u2 v4) ∧ (¬ v7 = 0 → False)) ∧ (¬ v6 = 0 → pfn M5 a0 18 1 .byte 0 fun M8 => ∃ b10 r11 : Nat, b10 + r11 = b ∧ wp_J16_copyOfRange G b10 (fun u12 M9 => pfq M9 a0 18 0 (some u12) fun M13 => wb_J5_init_2_97 G P r11 M13) M8 u2 0 v4)) M3 a1)) M1 a1)) M a1)
set_option maxHeartbeats 4000000 in
set_option maxRecDepth 100000 in
theorem wk_J5_init_2 {l : Launch} (hst0 : l.stackTraces = false) {G : mG} {b : Nat} {P : mM → Prop} {M : mM} {a0 : Nat} {a1 : Nat} (h : wp_J5_init_2 G b P M a0 a1) : mMet l yJ5_init_2 (ws_ yJ5_init_2 cJ5_init_2 5 (Option.none : Option Jvm.ClassFile.FieldType)) 13 b G [.ref a0, .ref a1, .null] M (mRv P) (fun _ _ _ => False) := by
  refine mm_met hst0 (by decide) (Nat.le_of_ble_eq_true rfl) ?_
  intro p e s m args below meth c ls C hr hnt hnm hl S
  have hl : lv_has ls 5 [(0, .ref a0), (1, .ref a1), (2, .null)] := hl
  generalize mA M s.heap.size = A at C S ⊢
  have hx := C.hx
  have hb := C.hb
  have hk : 0 + b ≤ b := Nat.le_of_eq (Nat.zero_add b)
  have j97 : ∀ (k r : Nat) (M : mM) (H : Heap) (locs : List Loc) (ls : Array Slot), k + r ≤ b → mW G A s M H locs → lv_has ls 5 [] → wb_J5_init_2_97 G P r M → W p l e (mRm 13 b) s m args below meth c H locs k k (vx_MQ below (mQ G A (mRv P)) (mXC G A (fun _ _ _ => False)) args s b b A) (F0 m 97 ls []) := by
    intro k r M H locs ls  hk S hl h
    unfold wb_J5_init_2_97 at h
    exact mm_vret C S hr (Nat.le_trans (Nat.le_add_right _ _) hk) dJ5_init_2_97 h
  have j79 : ∀ (k r : Nat) (M : mM) (H : Heap) (locs : List Loc) (ls : Array Slot) (a0 : Nat) (a3 : Nat) (x4 : Int32), k + r ≤ b → mW G A s M H locs → lv_has ls 5 [(0, .ref a0), (3, .ref a3), (4, .int x4)] → wb_J5_init_2_79 G P r M a0 a3 x4 → W p l e (mRm 13 b) s m args below meth c H locs k k (vx_MQ below (mQ G A (mRv P)) (mXC G A (fun _ _ _ => False)) args s b b A) (F0 m 79 ls []) := by
    intro k r M H locs ls a0 a3 x4 hk S hl h
    unfold wb_J5_init_2_79 at h
    refine lv_aload_n hx hb dJ5_init_2_79 rfl (lv_at hl 0 rfl) ?_
    refine lv_iconst (v := 1) hx hb dJ5_init_2_80 (by decide) ?_
    refine mm_pfnF C S (ci := 18) (k := 1) rfl in_J5 tyJ5_ok nmJ5 (by decide) q1098 (fun _ h9 => h9) rfl (hnm.trans rfl) rfl dJ5_init_2_81 rfl h (fun M14 H locs h S => ?_)
    refine lv_aload_n hx hb dJ5_init_2_84 rfl (lv_at hl 0 rfl) ?_
    refine lv_aload_n hx hb dJ5_init_2_85 rfl (lv_at hl 1 rfl) ?_
    refine lv_iconst (v := 0) hx hb dJ5_init_2_86 (by decide) ?_
    refine lv_iload hx hb dJ5_init_2_87 (lv_at hl 2 rfl) ?_
    refine lv_iconst (v := 1) hx hb dJ5_init_2_89 (by decide) ?_
    refine lv_ishl hx hb dJ5_init_2_90 ?_
    obtain ⟨b16, r17, hb9, h⟩ := h
    refine mm_S (As := [.ref a3, .int 0, .int (x4 <<< (1 &&& 31))]) (rest := [.ref a0]) C S hl.1 (wk_J16_copyOfRange hst0 h) (lw_S q1043 q1044 q69 q1045) pd_J16_copyOfRange ⟨Nat.le_of_ble_eq_true rfl, Nat.le_of_ble_eq_true rfl⟩ rfl rfl (Nat.le_of_ble_eq_true rfl) dJ5_init_2_91 rfl rfl hk hb9 (fun v9 M15 H locs hP S hk => ?_) (fun E q ce M9 H9 locs9 hX => hX.elim)
    obtain ⟨u18, rfl, h⟩ := hP
    refine W.eq (g2 := F0 m 94 ls [.ref u18, .ref a0]) rfl ?_
    refine mm_pfqF C S (ci := 18) (k := 0) (v := (some u18)) rfl in_J5 tyJ5_ok nmJ5 (by decide) q1097 (fun _ h9 => h9) rfl (hnm.trans rfl) rfl dJ5_init_2_94 rfl h (fun M19 H locs h S => ?_)
    exact j97 _ _ _ _ _ _ hk S (lv_sub hl [] rfl) h
  unfold wp_J5_init_2 at h
  refine lv_aload_n hx hb dJ5_init_2_0 rfl (lv_at hl 0 rfl) ?_
  refine mm_init C hl.1 q1035 q100 q101 dJ5_init_2_1 (Nat.le_of_ble_eq_true rfl) (Nat.le_of_ble_eq_true rfl) ?_
  refine lv_aload_n hx hb dJ5_init_2_4 rfl (lv_at hl 1 rfl) ?_
  obtain ⟨hI, h⟩ := h
  refine mm_U (As := []) (rest := []) C S hl.1 (x := ⟨"java/lang/AbstractStringBuilder", "getValue", "()[B"⟩) (owner := "java/lang/AbstractStringBuilder") (wk_J3_getValue_J4 hst0 h) (T := TJ4) rfl hI (va_cwU 0 C.ts (mWsU q1036 q1038 q1039 q1037 q52 (lw_meth q1040)) rfl rfl rfl rfl ⟨by decide, by decide, by decide +kernel⟩ ⟨Nat.le_of_ble_eq_true rfl, Nat.le_of_ble_eq_true rfl⟩) rfl rfl (Nat.le_of_ble_eq_true rfl) dJ5_init_2_5 rfl rfl hk (Nat.zero_add _) (fun v9 M1 H locs hP S hk => ?_) (fun E q ce M9 H9 locs9 hX => hX.elim)
  obtain ⟨u2, rfl, h⟩ := hP
  refine W.eq (g2 := F0 m 8 ls [.ref u2]) rfl ?_
  refine lv_astore_n (lv' := [(3, .ref u2), (0, .ref a0), (1, .ref a1), (2, .null)]) hx hb dJ5_init_2_8 rfl hl (by decide) rfl (fun ls hl => ?_)
  refine lv_aload_n hx hb dJ5_init_2_9 rfl (lv_at hl 2 rfl) ?_
  obtain ⟨hI, h⟩ := h
  refine mm_U (As := []) (rest := []) C S hl.1 (x := ⟨"java/lang/AbstractStringBuilder", "length", "()I"⟩) (owner := "java/lang/AbstractStringBuilder") (wk_J4_length hst0 h) (T := TJ4) rfl hI (va_cwO 0 C.ts (mWsO q1041 q2077 q842 q2082 q838 q53 (lw_meth q840)) rfl rfl rfl q843 ⟨by decide, by decide, by decide +kernel⟩ ⟨Nat.le_of_ble_eq_true rfl, Nat.le_of_ble_eq_true rfl⟩) rfl rfl (Nat.le_of_ble_eq_true rfl) dJ5_init_2_10 rfl rfl hk (Nat.zero_add _) (fun v9 M3 H locs hP S hk => ?_) (fun E q ce M9 H9 locs9 hX => hX.elim)
  obtain ⟨v4, rfl, h⟩ := hP
  refine W.eq (g2 := F0 m 13 ls [.int v4]) rfl ?_
  refine lv_istore (lv' := [(4, .int v4), (3, .ref u2), (0, .ref a0), (1, .ref a1), (2, .null)]) hx hb dJ5_init_2_13 hl (by decide) rfl (fun ls hl => ?_)
  refine lv_aload_n hx hb dJ5_init_2_15 rfl (lv_at hl 3 rfl) ?_
  obtain ⟨hI, h⟩ := h
  refine mm_U (As := []) (rest := []) C S hl.1 (x := ⟨"java/lang/AbstractStringBuilder", "isLatin1", "()Z"⟩) (owner := "java/lang/AbstractStringBuilder") (wk_J3_isLatin1_J4 hst0 h) (T := TJ4) rfl hI (va_cwU 0 C.ts (mWsU q1042 q788 q789 q787 q52 (lw_meth q790)) rfl rfl rfl rfl ⟨by decide, by decide, by decide +kernel⟩ ⟨Nat.le_of_ble_eq_true rfl, Nat.le_of_ble_eq_true rfl⟩) rfl rfl (Nat.le_of_ble_eq_true rfl) dJ5_init_2_16 rfl rfl hk (Nat.zero_add _) (fun v9 M5 H locs hP S hk => ?_) (fun E q ce M9 H9 locs9 hX => hX.elim)
  obtain ⟨v6, rfl, h⟩ := hP
  refine W.eq (g2 := F0 m 19 ls [.int v6]) rfl ?_
  refine lv_if_eq (tgt := 41) hx hb dJ5_init_2_19 (by decide) (fun c9 => ?_) (fun c9 => ?_)
  · have h := h.1 c9
    refine mm_gets C S C.ks.2.1 q888 (fun _ h9 => h9) dJ5_init_2_41 ?_
    refine lv_if_eq (tgt := 79) hx hb dJ5_init_2_44 (by decide) (fun c9 => ?_) (fun c9 => ?_)
    · exact absurd c9 (by decide)
    · refine lv_aload_n hx hb dJ5_init_2_47 rfl (lv_at hl 3 rfl) ?_
      refine mm_gfi C S (ci := 17) (k := 2) rfl in_J4 (by decide) q159 (fun _ h9 => h9) dJ5_init_2_48 h (fun v7 h => ?_)
      refine lv_if_eq (tgt := 79) hx hb dJ5_init_2_51 (by decide) (fun c9 => ?_) (fun c9 => ?_)
      · have h := h.1 c9
        exact j79 _ _ _ _ _ _ _ _ _ hk S (lv_sub hl [2, 1, 0] rfl) h
      · have h := h.2 c9
        refine lv_aload_n hx hb dJ5_init_2_54 rfl (lv_at hl 2 rfl) ?_
        refine lv_aload_n hx hb dJ5_init_2_55 rfl (lv_at hl 1 rfl) ?_
        refine lv_iconst (v := 0) hx hb dJ5_init_2_56 (by decide) ?_
        refine lv_iload hx hb dJ5_init_2_57 (lv_at hl 0 rfl) ?_
        exact h.elim
  · have h := h.2 c9
    refine lv_aload_n hx hb dJ5_init_2_22 rfl (lv_at hl 2 rfl) ?_
    refine lv_iconst (v := 0) hx hb dJ5_init_2_23 (by decide) ?_
    refine mm_pfnF C S (ci := 18) (k := 1) rfl in_J5 tyJ5_ok nmJ5 (by decide) q1098 (fun _ h9 => h9) rfl (hnm.trans rfl) rfl dJ5_init_2_24 rfl h (fun M8 H locs h S => ?_)
    refine lv_aload_n hx hb dJ5_init_2_27 rfl (lv_at hl 2 rfl) ?_
    refine lv_aload_n hx hb dJ5_init_2_28 rfl (lv_at hl 1 rfl) ?_
    refine lv_iconst (v := 0) hx hb dJ5_init_2_29 (by decide) ?_
    refine lv_iload hx hb dJ5_init_2_30 (lv_at hl 0 rfl) ?_
    obtain ⟨b10, r11, hb9, h⟩ := h
    refine mm_S (As := [.ref u2, .int 0, .int v4]) (rest := [.ref a0]) C S hl.1 (wk_J16_copyOfRange hst0 h) (lw_S q1043 q1044 q69 q1045) pd_J16_copyOfRange ⟨Nat.le_of_ble_eq_true rfl, Nat.le_of_ble_eq_true rfl⟩ rfl rfl (Nat.le_of_ble_eq_true rfl) dJ5_init_2_32 rfl rfl hk hb9 (fun v9 M9 H locs hP S hk => ?_) (fun E q ce M9 H9 locs9 hX => hX.elim)
    obtain ⟨u12, rfl, h⟩ := hP
    refine W.eq (g2 := F0 m 35 ls [.ref u12, .ref a0]) rfl ?_
    refine mm_pfqF C S (ci := 18) (k := 0) (v := (some u12)) rfl in_J5 tyJ5_ok nmJ5 (by decide) q1097 (fun _ h9 => h9) rfl (hnm.trans rfl) rfl dJ5_init_2_35 rfl h (fun M13 H locs h S => ?_)
    refine lv_goto (tgt := 97) hx hb dJ5_init_2_38 (by decide) ?_
    exact j97 _ _ _ _ _ _ hk S (lv_sub hl [] rfl) h
/-! J5_init: level 14, alloc -/
def wp_J5_init (G : mG) (b : Nat) (P : mM → Prop) (M : mM) (a0 : Nat) (a1 : Nat) : Prop :=
  ∃ b2 r3 : Nat, b2 + r3 = b ∧ wp_J5_init_2 G b2 (fun M1 => P M1) M a0 a1
set_option maxHeartbeats 4000000 in
set_option maxRecDepth 100000 in
theorem wk_J5_init {l : Launch} (hst0 : l.stackTraces = false) {G : mG} {b : Nat} {P : mM → Prop} {M : mM} {a0 : Nat} {a1 : Nat} (h : wp_J5_init G b P M a0 a1) : mMet l yJ5_init (ws_ yJ5_init cJ5_init 2 (Option.none : Option Jvm.ClassFile.FieldType)) 14 b G [.ref a0, .ref a1] M (mRv P) (fun _ _ _ => False) := by
  refine mm_met hst0 (by decide) (Nat.le_of_ble_eq_true rfl) ?_
  intro p e s m args below meth c ls C hr hnt hnm hl S
  have hl : lv_has ls 2 [(0, .ref a0), (1, .ref a1)] := hl
  generalize mA M s.heap.size = A at C S ⊢
  have hx := C.hx
  have hb := C.hb
  have hk : 0 + b ≤ b := Nat.le_of_eq (Nat.zero_add b)
  unfold wp_J5_init at h
  refine lv_aload_n hx hb dJ5_init_0 rfl (lv_at hl 0 rfl) ?_
  refine lv_aload_n hx hb dJ5_init_1 rfl (lv_at hl 1 rfl) ?_
  refine lv_null hx hb dJ5_init_2 ?_
  obtain ⟨b2, r3, hb9, h⟩ := h
  refine mm_I (As := [.ref a1, .null]) (rest := []) C S hl.1 (wk_J5_init_2 hst0 h) q1034 q54 q1032 q1033 rfl pd_J5_init_2 ⟨Nat.le_of_ble_eq_true rfl, Nat.le_of_ble_eq_true rfl⟩ rfl rfl (Nat.le_of_ble_eq_true rfl) dJ5_init_3 rfl rfl hk hb9 (fun v9 M1 H locs hP S hk => ?_) (fun E q ce M9 H9 locs9 hX => hX.elim)
  obtain ⟨rfl, h⟩ := hP
  refine W.eq (g2 := F0 m 6 ls []) rfl ?_
  exact mm_vret C S hr (Nat.le_trans (Nat.le_add_right _ _) hk) dJ5_init_6 h
/-! J4_toString: level 15, alloc -/
def wp_J4_toString (G : mG) (b : Nat) (P : Nat → mM → Prop) (M : mM) (a0 : Nat) : Prop :=
  nwo M b 18 4 dfsJ5 fun u1 M2 r3 => ∃ b5 r6 : Nat, b5 + r6 = r3 ∧ wp_J5_init G b5 (fun M4 => P u1 M4) M2 u1 a0
set_option maxHeartbeats 4000000 in
set_option maxRecDepth 100000 in
theorem wk_J4_toString {l : Launch} (hst0 : l.stackTraces = false) {G : mG} {b : Nat} {P : Nat → mM → Prop} {M : mM} {a0 : Nat} (h : wp_J4_toString G b P M a0) : mMet l yJ4_toString (ws_ yJ4_toString cJ4_toString 1 (Option.some (Jvm.ClassFile.FieldType.object "java/lang/String"))) 15 b G [.ref a0] M (mRa P) (fun _ _ _ => False) := by
  refine mm_met hst0 (by decide) (Nat.le_of_ble_eq_true rfl) ?_
  intro p e s m args below meth c ls C hr hnt hnm hl S
  have hl : lv_has ls 1 [(0, .ref a0)] := hl
  generalize mA M s.heap.size = A at C S ⊢
  have hx := C.hx
  have hb := C.hb
  have hk : 0 + b ≤ b := Nat.le_of_eq (Nat.zero_add b)
  unfold wp_J4_toString at h
  refine mm_new C S (ci := 18) (T := TJ5) rfl in_J5 tyJ5_ok q1028 q506 q54 dfJ5 (by decide) dJ4_toString_0 rfl rfl hk h (fun u1 M2 r3 H h S hk => ?_)
  refine lv_dup hx hb dJ4_toString_3 rfl ?_
  refine lv_aload_n hx hb dJ4_toString_4 rfl (lv_at hl 0 rfl) ?_
  obtain ⟨b5, r6, hb9, h⟩ := h
  refine mm_I (As := [.ref a0]) (rest := [.ref u1]) C S hl.1 (wk_J5_init hst0 h) q1031 q54 q1029 q1030 rfl pd_J5_init ⟨Nat.le_of_ble_eq_true rfl, Nat.le_of_ble_eq_true rfl⟩ rfl rfl (Nat.le_of_ble_eq_true rfl) dJ4_toString_5 rfl rfl hk hb9 (fun v9 M4 H locs hP S hk => ?_) (fun E q ce M9 H9 locs9 hX => hX.elim)
  obtain ⟨rfl, h⟩ := hP
  refine W.eq (g2 := F0 m 8 ls [.ref u1]) rfl ?_
  exact mm_aret C S hr (Or.inl ⟨_, rfl⟩) (Nat.le_trans (Nat.le_add_right _ _) hk) dJ4_toString_8 h
/-! J5_checkBoundsBeginEnd: level 11 -/
def wp_J5_checkBoundsBeginEnd (G : mG) (b : Nat) (P : mM → Prop) (M : mM) (x0 : Int32) (x1 : Int32) (x2 : Int32) : Prop :=
  ∀ o1 : Option Nat, wp_J18_checkFromToIndex G 0 (fun v3 M2 => P M2) M x0 x1 x2 o1
set_option maxHeartbeats 4000000 in
set_option maxRecDepth 100000 in
theorem wk_J5_checkBoundsBeginEnd {l : Launch} (hst0 : l.stackTraces = false) {G : mG} {b : Nat} {P : mM → Prop} {M : mM} {x0 : Int32} {x1 : Int32} {x2 : Int32} (h : wp_J5_checkBoundsBeginEnd G b P M x0 x1 x2) : mMet l yJ5_checkBoundsBeginEnd (ws_ yJ5_checkBoundsBeginEnd cJ5_checkBoundsBeginEnd 3 (Option.none : Option Jvm.ClassFile.FieldType)) 11 b G [.int x0, .int x1, .int x2] M (mRv P) (fun _ _ _ => False) := by
  refine mm_met hst0 (by decide) (Nat.le_of_ble_eq_true rfl) ?_
  intro p e s m args below meth c ls C hr hnt hnm hl S
  have hl : lv_has ls 3 [(0, .int x0), (1, .int x1), (2, .int x2)] := hl
  generalize mA M s.heap.size = A at C S ⊢
  have hx := C.hx
  have hb := C.hb
  have hk : 0 + b ≤ b := Nat.le_of_eq (Nat.zero_add b)
  unfold wp_J5_checkBoundsBeginEnd at h
  refine lv_iload_n hx hb dJ5_checkBoundsBeginEnd_0 rfl (lv_at hl 0 rfl) ?_
  refine lv_iload_n hx hb dJ5_checkBoundsBeginEnd_1 rfl (lv_at hl 1 rfl) ?_
  refine lv_iload_n hx hb dJ5_checkBoundsBeginEnd_2 rfl (lv_at hl 2 rfl) ?_
  refine mm_getsQ C S C.ks.2.2.2.2.2.2 q813 (fun _ h9 => h9) dJ5_checkBoundsBeginEnd_3 h (fun o1 h => ?_)
  refine mm_S (As := [.int x0, .int x1, .int x2, (va_rf o1)]) (rest := []) C S hl.1 (wk_J18_checkFromToIndex hst0 h) (lw_S q864 q865 q72 q866) pd_J18_checkFromToIndex ⟨Nat.le_of_ble_eq_true rfl, Nat.le_of_ble_eq_true rfl⟩ rfl rfl (Nat.le_of_ble_eq_true rfl) dJ5_checkBoundsBeginEnd_6 rfl rfl hk (Nat.zero_add _) (fun v9 M2 H locs hP S hk => ?_) (fun E q ce M9 H9 locs9 hX => hX.elim)
  obtain ⟨v3, rfl, h⟩ := hP
  refine W.eq (g2 := F0 m 9 ls [.int v3]) rfl ?_
  refine lv_pop hx hb dJ5_checkBoundsBeginEnd_9 rfl ?_
  exact mm_vret C S hr (Nat.le_trans (Nat.le_add_right _ _) hk) dJ5_checkBoundsBeginEnd_10 h
/-! J5_checkBoundsOffCount: level 11 -/
def wp_J5_checkBoundsOffCount (G : mG) (b : Nat) (P : Int32 → mM → Prop) (M : mM) (x0 : Int32) (x1 : Int32) (x2 : Int32) : Prop :=
  ∀ o1 : Option Nat, wp_J18_checkFromIndexSize G 0 (fun v3 M2 => P v3 M2) M x0 x1 x2 o1
set_option maxHeartbeats 4000000 in
set_option maxRecDepth 100000 in
theorem wk_J5_checkBoundsOffCount {l : Launch} (hst0 : l.stackTraces = false) {G : mG} {b : Nat} {P : Int32 → mM → Prop} {M : mM} {x0 : Int32} {x1 : Int32} {x2 : Int32} (h : wp_J5_checkBoundsOffCount G b P M x0 x1 x2) : mMet l yJ5_checkBoundsOffCount (ws_ yJ5_checkBoundsOffCount cJ5_checkBoundsOffCount 3 (Option.some Jvm.ClassFile.FieldType.int)) 11 b G [.int x0, .int x1, .int x2] M (mRi P) (fun _ _ _ => False) := by
  refine mm_met hst0 (by decide) (Nat.le_of_ble_eq_true rfl) ?_
  intro p e s m args below meth c ls C hr hnt hnm hl S
  have hl : lv_has ls 3 [(0, .int x0), (1, .int x1), (2, .int x2)] := hl
  generalize mA M s.heap.size = A at C S ⊢
  have hx := C.hx
  have hb := C.hb
  have hk : 0 + b ≤ b := Nat.le_of_eq (Nat.zero_add b)
  unfold wp_J5_checkBoundsOffCount at h
  refine lv_iload_n hx hb dJ5_checkBoundsOffCount_0 rfl (lv_at hl 0 rfl) ?_
  refine lv_iload_n hx hb dJ5_checkBoundsOffCount_1 rfl (lv_at hl 1 rfl) ?_
  refine lv_iload_n hx hb dJ5_checkBoundsOffCount_2 rfl (lv_at hl 2 rfl) ?_
  refine mm_getsQ C S C.ks.2.2.2.2.2.2 q813 (fun _ h9 => h9) dJ5_checkBoundsOffCount_3 h (fun o1 h => ?_)
  refine mm_S (As := [.int x0, .int x1, .int x2, (va_rf o1)]) (rest := []) C S hl.1 (wk_J18_checkFromIndexSize hst0 h) (lw_S q815 q816 q72 q817) pd_J18_checkFromIndexSize ⟨Nat.le_of_ble_eq_true rfl, Nat.le_of_ble_eq_true rfl⟩ rfl rfl (Nat.le_of_ble_eq_true rfl) dJ5_checkBoundsOffCount_6 rfl rfl hk (Nat.zero_add _) (fun v9 M2 H locs hP S hk => ?_) (fun E q ce M9 H9 locs9 hX => hX.elim)
  obtain ⟨v3, rfl, h⟩ := hP
  refine W.eq (g2 := F0 m 9 ls [.int v3]) rfl ?_
  exact mm_iret C S hr (Nat.le_trans (Nat.le_add_right _ _) hk) dJ5_checkBoundsOffCount_9 h
/-! J5_indexOf_2: level 12 -/
def wp_J5_indexOf_2 (G : mG) (b : Nat) (P : Int32 → mM → Prop) (M : mM) (a0 : Nat) (x1 : Int32) (x2 : Int32) : Prop :=
  isc M a0 18 ∧ (wp_J5_isLatin1 G 0 (fun v2 M1 => (v2 = 0 → gfa M1 a0 18 0 fun u3 => isc M1 a0 18 ∧ (wp_J5_length G 0 (fun v5 M4 => False) M1 a0)) ∧ (¬ v2 = 0 → gfa M1 a0 18 0 fun u6 => isc M1 a0 18 ∧ (wp_J5_length G 0 (fun v8 M7 => wp_J19_indexOf G 0 (fun v10 M9 => P v10 M9) M7 u6 x1 x2 v8) M1 a0))) M a0)
set_option maxHeartbeats 4000000 in
set_option maxRecDepth 100000 in
theorem wk_J5_indexOf_2 {l : Launch} (hst0 : l.stackTraces = false) {G : mG} {b : Nat} {P : Int32 → mM → Prop} {M : mM} {a0 : Nat} {x1 : Int32} {x2 : Int32} (h : wp_J5_indexOf_2 G b P M a0 x1 x2) : mMet l yJ5_indexOf_2 (ws_ yJ5_indexOf_2 cJ5_indexOf_2 3 (Option.some Jvm.ClassFile.FieldType.int)) 12 b G [.ref a0, .int x1, .int x2] M (mRi P) (fun _ _ _ => False) := by
  refine mm_met hst0 (by decide) (Nat.le_of_ble_eq_true rfl) ?_
  intro p e s m args below meth c ls C hr hnt hnm hl S
  have hl : lv_has ls 3 [(0, .ref a0), (1, .int x1), (2, .int x2)] := hl
  generalize mA M s.heap.size = A at C S ⊢
  have hx := C.hx
  have hb := C.hb
  have hk : 0 + b ≤ b := Nat.le_of_eq (Nat.zero_add b)
  unfold wp_J5_indexOf_2 at h
  refine lv_aload_n hx hb dJ5_indexOf_2_0 rfl (lv_at hl 0 rfl) ?_
  obtain ⟨hI, h⟩ := h
  refine mm_V (As := []) (rest := []) C S hl.1 (wk_J5_isLatin1 hst0 h) (T := TJ5) rfl hI (lw_V q970 q959 q960 q54 q961) rfl pd_J5_isLatin1 ⟨Nat.le_of_ble_eq_true rfl, Nat.le_of_ble_eq_true rfl⟩ rfl rfl (Nat.le_of_ble_eq_true rfl) dJ5_indexOf_2_1 rfl rfl hk (Nat.zero_add _) (fun v9 M1 H locs hP S hk => ?_) (fun E q ce M9 H9 locs9 hX => hX.elim)
  obtain ⟨v2, rfl, h⟩ := hP
  refine W.eq (g2 := F0 m 4 ls [.int v2]) rfl ?_
  refine lv_if_eq (tgt := 23) hx hb dJ5_indexOf_2_4 (by decide) (fun c9 => ?_) (fun c9 => ?_)
  · have h := h.1 c9
    refine lv_aload_n hx hb dJ5_indexOf_2_23 rfl (lv_at hl 0 rfl) ?_
    refine mm_gfa C S (ci := 18) (k := 0) rfl in_J5 (by decide) q1097 (fun _ h9 => h9) dJ5_indexOf_2_24 h (fun u3 h => ?_)
    refine lv_iload_n hx hb dJ5_indexOf_2_27 rfl (lv_at hl 1 rfl) ?_
    refine lv_iload_n hx hb dJ5_indexOf_2_28 rfl (lv_at hl 2 rfl) ?_
    refine lv_aload_n hx hb dJ5_indexOf_2_29 rfl (lv_at hl 0 rfl) ?_
    obtain ⟨hI, h⟩ := h
    refine mm_V (As := []) (rest := [.int x2, .int x1, .ref u3]) C S hl.1 (wk_J5_length hst0 h) (T := TJ5) rfl hI (lw_V q1162 q881 q882 q54 q883) rfl pd_J5_length ⟨Nat.le_of_ble_eq_true rfl, Nat.le_of_ble_eq_true rfl⟩ rfl rfl (Nat.le_of_ble_eq_true rfl) dJ5_indexOf_2_30 rfl rfl hk (Nat.zero_add _) (fun v9 M4 H locs hP S hk => ?_) (fun E q ce M9 H9 locs9 hX => hX.elim)
    obtain ⟨v5, rfl, h⟩ := hP
    refine W.eq (g2 := F0 m 33 ls [.int v5, .int x2, .int x1, .ref u3]) rfl ?_
    exact h.elim
  · have h := h.2 c9
    refine lv_aload_n hx hb dJ5_indexOf_2_7 rfl (lv_at hl 0 rfl) ?_
    refine mm_gfa C S (ci := 18) (k := 0) rfl in_J5 (by decide) q1097 (fun _ h9 => h9) dJ5_indexOf_2_8 h (fun u6 h => ?_)
    refine lv_iload_n hx hb dJ5_indexOf_2_11 rfl (lv_at hl 1 rfl) ?_
    refine lv_iload_n hx hb dJ5_indexOf_2_12 rfl (lv_at hl 2 rfl) ?_
    refine lv_aload_n hx hb dJ5_indexOf_2_13 rfl (lv_at hl 0 rfl) ?_
    obtain ⟨hI, h⟩ := h
    refine mm_V (As := []) (rest := [.int x2, .int x1, .ref u6]) C S hl.1 (wk_J5_length hst0 h) (T := TJ5) rfl hI (lw_V q1162 q881 q882 q54 q883) rfl pd_J5_length ⟨Nat.le_of_ble_eq_true rfl, Nat.le_of_ble_eq_true rfl⟩ rfl rfl (Nat.le_of_ble_eq_true rfl) dJ5_indexOf_2_14 rfl rfl hk (Nat.zero_add _) (fun v9 M7 H locs hP S hk => ?_) (fun E q ce M9 H9 locs9 hX => hX.elim)
    obtain ⟨v8, rfl, h⟩ := hP
    refine W.eq (g2 := F0 m 17 ls [.int v8, .int x2, .int x1, .ref u6]) rfl ?_
    refine mm_S (As := [.ref u6, .int x1, .int x2, .int v8]) (rest := []) C S hl.1 (wk_J19_indexOf hst0 h) (lw_S q1163 q1164 q73 q1165) pd_J19_indexOf ⟨Nat.le_of_ble_eq_true rfl, Nat.le_of_ble_eq_true rfl⟩ rfl rfl (Nat.le_of_ble_eq_true rfl) dJ5_indexOf_2_17 rfl rfl hk (Nat.zero_add _) (fun v9 M9 H locs hP S hk => ?_) (fun E q ce M9 H9 locs9 hX => hX.elim)
    obtain ⟨v10, rfl, h⟩ := hP
    refine W.eq (g2 := F0 m 20 ls [.int v10]) rfl ?_
    refine lv_goto (tgt := 36) hx hb dJ5_indexOf_2_20 (by decide) ?_
    exact mm_iret C S hr (Nat.le_trans (Nat.le_add_right _ _) hk) dJ5_indexOf_2_36 h
/-! J5_indexOf: level 13 -/
def wp_J5_indexOf (G : mG) (b : Nat) (P : Int32 → mM → Prop) (M : mM) (a0 : Nat) (x1 : Int32) : Prop :=
  isc M a0 18 ∧ (wp_J5_indexOf_2 G 0 (fun v2 M1 => P v2 M1) M a0 x1 0)
set_option maxHeartbeats 4000000 in
set_option maxRecDepth 100000 in
theorem wk_J5_indexOf {l : Launch} (hst0 : l.stackTraces = false) {G : mG} {b : Nat} {P : Int32 → mM → Prop} {M : mM} {a0 : Nat} {x1 : Int32} (h : wp_J5_indexOf G b P M a0 x1) : mMet l yJ5_indexOf (ws_ yJ5_indexOf cJ5_indexOf 2 (Option.some Jvm.ClassFile.FieldType.int)) 13 b G [.ref a0, .int x1] M (mRi P) (fun _ _ _ => False) := by
  refine mm_met hst0 (by decide) (Nat.le_of_ble_eq_true rfl) ?_
  intro p e s m args below meth c ls C hr hnt hnm hl S
  have hl : lv_has ls 2 [(0, .ref a0), (1, .int x1)] := hl
  generalize mA M s.heap.size = A at C S ⊢
  have hx := C.hx
  have hb := C.hb
  have hk : 0 + b ≤ b := Nat.le_of_eq (Nat.zero_add b)
  unfold wp_J5_indexOf at h
  refine lv_aload_n hx hb dJ5_indexOf_0 rfl (lv_at hl 0 rfl) ?_
  refine lv_iload_n hx hb dJ5_indexOf_1 rfl (lv_at hl 1 rfl) ?_
  refine lv_iconst (v := 0) hx hb dJ5_indexOf_2 (by decide) ?_
  obtain ⟨hI, h⟩ := h
  refine mm_V (As := [.int x1, .int 0]) (rest := []) C S hl.1 (wk_J5_indexOf_2 hst0 h) (T := TJ5) rfl hI (lw_V q1158 q1159 q1160 q54 q1161) rfl pd_J5_indexOf_2 ⟨Nat.le_of_ble_eq_true rfl, Nat.le_of_ble_eq_true rfl⟩ rfl rfl (Nat.le_of_ble_eq_true rfl) dJ5_indexOf_3 rfl rfl hk (Nat.zero_add _) (fun v9 M1 H locs hP S hk => ?_) (fun E q ce M9 H9 locs9 hX => hX.elim)
  obtain ⟨v2, rfl, h⟩ := hP
  refine W.eq (g2 := F0 m 6 ls [.int v2]) rfl ?_
  exact mm_iret C S hr (Nat.le_trans (Nat.le_add_right _ _) hk) dJ5_indexOf_6 h
