/-! X16_init: level 10, alloc -/
def wl_X16_init_39 (G : mG) (P : mM → Prop) (K26 : Nat → mM → Nat → Int32 → Int32 → Prop) : Nat → Nat → mM → Nat → Int32 → Int32 → Nat → Int32 → Prop
  | 0, _, _, _, _, _, _, _ => False
  | n + 1, r, M, a1, x2, x3, a4, x5 => (36 ≤ x5 → K26 r M a1 x2 (x3 + 1)) ∧ (¬ 36 ≤ x5 → stn M 2 a4 .short x5 (-1) fun M8 => (wl_X16_init_39 G P K26 n) r M8 a1 x2 x3 a4 (x5 + 1))
def wl_X16_init_26 (G : mG) (P : mM → Prop) : Nat → Nat → mM → Nat → Int32 → Int32 → Prop
  | 0, _, _, _, _, _ => False
  | n + 1, r, M, a1, x2, x3 => (x2 ≤ x3 → P M) ∧ (¬ x2 ≤ x3 → lda M 11 a1 x3 fun u7 => ∃ n39, wl_X16_init_39 G P (wl_X16_init_26 G P n) n39 r M a1 x2 x3 u7 0)
def wp_X16_init (G : mG) (b : Nat) (P : mM → Prop) (M : mM) (a0 : Nat) : Prop :=
  nwm2 M b 11 2 40 36 fun u1 M2 r3 => pfq M2 a0 13 0 (some u1) fun M4 => gfa M4 a0 13 0 fun u5 => aln M4 u5 fun v6 => ∃ n26, wl_X16_init_26 G P n26 r3 M4 u5 v6 0
set_option maxHeartbeats 4000000 in
set_option maxRecDepth 100000 in
theorem wk_X16_init {l : Launch} (hst0 : l.stackTraces = false) {G : mG} {b : Nat} {P : mM → Prop} {M : mM} {a0 : Nat} (h : wp_X16_init G b P M a0) : mMet l yX16_init (ws_ yX16_init cX16_init 6 (Option.none : Option Jvm.ClassFile.FieldType)) 10 b G [.ref a0] M (mRv P) (fun _ _ _ => False) := by
  refine mm_met hst0 (by decide) (Nat.le_of_ble_eq_true rfl) ?_
  intro p e s m args below meth c ls C hr hnt hnm hl S
  have hl : lv_has ls 6 [(0, .ref a0)] := hl
  generalize mA M s.heap.size = A at C S ⊢
  have hx := C.hx
  have hb := C.hb
  have hk : 0 + b ≤ b := Nat.le_of_eq (Nat.zero_add b)
  have j26 : ∀ (nf : Nat) (k r : Nat) (M : mM) (H : Heap) (locs : List Loc) (ls : Array Slot) (a1 : Nat) (x2 : Int32) (x3 : Int32), k + r ≤ b → mW G A s M H locs → lv_has ls 6 [(1, .ref a1), (2, .int x2), (3, .int x3)] → wl_X16_init_26 G P nf r M a1 x2 x3 → W p l e (mRm 10 b) s m args below meth c H locs k k (vx_MQ below (mQ G A (mRv P)) (mXC G A (fun _ _ _ => False)) args s b b A) (F0 m 26 ls []) := by
    intro nf
    induction nf with
    | zero =>
      intro k r M H locs ls a1 x2 x3 hk S hl h
      rw [wl_X16_init_26] at h
      exact h.elim
    | succ n26 ih26 =>
      have j39 : ∀ (nf : Nat) (k r : Nat) (M : mM) (H : Heap) (locs : List Loc) (ls : Array Slot) (a1 : Nat) (x2 : Int32) (x3 : Int32) (a4 : Nat) (x5 : Int32), k + r ≤ b → mW G A s M H locs → lv_has ls 6 [(1, .ref a1), (2, .int x2), (3, .int x3), (4, .ref a4), (5, .int x5)] → wl_X16_init_39 G P (wl_X16_init_26 G P n26) nf r M a1 x2 x3 a4 x5 → W p l e (mRm 10 b) s m args below meth c H locs k k (vx_MQ below (mQ G A (mRv P)) (mXC G A (fun _ _ _ => False)) args s b b A) (F0 m 39 ls []) := by
        intro nf
        induction nf with
        | zero =>
          intro k r M H locs ls a1 x2 x3 a4 x5 hk S hl h
          rw [wl_X16_init_39] at h
          exact h.elim
        | succ n39 ih39 =>
          intro k r M H locs ls a1 x2 x3 a4 x5 hk S hl h
          rw [wl_X16_init_39] at h
          refine lv_iload hx hb dX16_init_39 (lv_at hl 4 rfl) ?_
          refine lv_bipush (v := 36) hx hb dX16_init_41 (by decide) ?_
          refine lv_icmp_ge (tgt := 58) hx hb dX16_init_43 (by decide) (fun c9 => ?_) (fun c9 => ?_)
          · have h := h.1 c9
            refine lv_iinc (v := (x3 + 1)) (lv' := [(3, .int (x3 + 1)), (1, .ref a1), (2, .int x2), (4, .ref a4), (5, .int x5)]) hx hb dX16_init_58 hl (k := 2) rfl rfl (by decide) rfl (fun ls hl => ?_)
            refine lv_goto (tgt := 26) hx hb dX16_init_61 (by decide) ?_
            exact ih26 _ _ _ _ _ _ _ _ _ hk S (lv_sub hl [1, 2, 0] rfl) h
          · have h := h.2 c9
            refine lv_aload hx hb dX16_init_46 (lv_at hl 3 rfl) ?_
            refine lv_iload hx hb dX16_init_48 (lv_at hl 4 rfl) ?_
            refine lv_iconst (v := (-1)) hx hb dX16_init_50 (by decide) ?_
            refine mm_sast C S h dX16_init_51 (fun M8 H locs h S => ?_)
            refine lv_iinc (v := (x5 + 1)) (lv' := [(5, .int (x5 + 1)), (1, .ref a1), (2, .int x2), (3, .int x3), (4, .ref a4)]) hx hb dX16_init_52 hl (k := 4) rfl rfl (by decide) rfl (fun ls hl => ?_)
            refine lv_goto (tgt := 39) hx hb dX16_init_55 (by decide) ?_
            exact ih39 _ _ _ _ _ _ _ _ _ _ _ hk S (lv_sub hl [1, 2, 3, 4, 0] rfl) h
      intro k r M H locs ls a1 x2 x3 hk S hl h
      rw [wl_X16_init_26] at h
      refine lv_iload_n hx hb dX16_init_26 rfl (lv_at hl 2 rfl) ?_
      refine lv_iload_n hx hb dX16_init_27 rfl (lv_at hl 1 rfl) ?_
      refine lv_icmp_ge (tgt := 64) hx hb dX16_init_28 (by decide) (fun c9 => ?_) (fun c9 => ?_)
      · have h := h.1 c9
        exact mm_vret C S hr (Nat.le_trans (Nat.le_add_right _ _) hk) dX16_init_64 h
      · have h := h.2 c9
        refine lv_aload_n hx hb dX16_init_31 rfl (lv_at hl 0 rfl) ?_
        refine lv_iload_n hx hb dX16_init_32 rfl (lv_at hl 2 rfl) ?_
        refine mm_aald C S (t := 11) rfl rfl h dX16_init_33 (fun u7 h => ?_)
        refine lv_astore (lv' := [(4, .ref u7), (1, .ref a1), (2, .int x2), (3, .int x3)]) hx hb dX16_init_34 hl (by decide) rfl (fun ls hl => ?_)
        refine lv_iconst (v := 0) hx hb dX16_init_36 (by decide) ?_
        refine lv_istore (lv' := [(5, .int 0), (4, .ref u7), (1, .ref a1), (2, .int x2), (3, .int x3)]) hx hb dX16_init_37 hl (by decide) rfl (fun ls hl => ?_)
        obtain ⟨nf, h⟩ := h
        exact j39 nf _ _ _ _ _ _ _ _ _ _ _ hk S (lv_sub hl [2, 3, 4, 1, 0] rfl) h
  unfold wp_X16_init at h
  refine lv_aload_n hx hb dX16_init_0 rfl (lv_at hl 0 rfl) ?_
  refine mm_init C hl.1 q1473 q100 q101 dX16_init_1 (Nat.le_of_ble_eq_true rfl) (Nat.le_of_ble_eq_true rfl) ?_
  refine lv_aload_n hx hb dX16_init_4 rfl (lv_at hl 0 rfl) ?_
  refine lv_bipush (v := 40) hx hb dX16_init_5 (by decide) ?_
  refine lv_bipush (v := 36) hx hb dX16_init_7 (by decide) ?_
  refine mm_mnew2 C S (t0 := 11) (t1 := 2) (ty := .short) rfl (by decide) rfl (by decide) (fun _ h9 => h9) q1481 rfl rfl (by decide) q1474 rfl dX16_init_9 rfl rfl hk h (fun u1 M2 r3 k H h S hk => ?_)
  refine mm_pfqF C S (ci := 13) (k := 0) (v := (some u1)) rfl in_X16 tyX16_ok nmX16 (by decide) q1476 (fun _ h9 => h9) rfl (hnm.trans rfl) rfl dX16_init_13 rfl h (fun M4 H locs h S => ?_)
  refine lv_aload_n hx hb dX16_init_16 rfl (lv_at hl 0 rfl) ?_
  refine mm_gfa C S (ci := 13) (k := 0) rfl in_X16 (by decide) q1476 (fun _ h9 => h9) dX16_init_17 h (fun u5 h => ?_)
  refine lv_astore_n (lv' := [(1, .ref u5), (0, .ref a0)]) hx hb dX16_init_20 rfl hl (by decide) rfl (fun ls hl => ?_)
  refine lv_aload_n hx hb dX16_init_21 rfl (lv_at hl 0 rfl) ?_
  refine mm_alen C S h dX16_init_22 (fun v6 h => ?_)
  refine lv_istore_n (lv' := [(2, .int v6), (1, .ref u5), (0, .ref a0)]) hx hb dX16_init_23 rfl hl (by decide) rfl (fun ls hl => ?_)
  refine lv_iconst (v := 0) hx hb dX16_init_24 (by decide) ?_
  refine lv_istore_n (lv' := [(3, .int 0), (2, .int v6), (1, .ref u5), (0, .ref a0)]) hx hb dX16_init_25 rfl hl (by decide) rfl (fun ls hl => ?_)
  obtain ⟨nf, h⟩ := h
  exact j26 nf _ _ _ _ _ _ _ _ _ hk S (lv_sub hl [2, 1, 0] rfl) h
/-! X1_addWalker: level 16, alloc, throws java/lang/IllegalStateException -/
def wb_X1_addWalker_19 (G : mG) (P : Int32 → mM → Prop) (X : String → Nat → mM → Prop) (r : Nat) (M : mM) (a0 : Nat) (s0 : Int32) : Prop :=
  ∃ b5 r6 : Nat, b5 + r6 = r ∧ wp_X1_checkState G b5 (fun M4 => gfa M4 a0 0 6 fun u7 => nwo M4 r6 13 1 dfsX16 fun u8 M9 r10 => ∃ b12 r13 : Nat, b12 + r13 = r10 ∧ wp_X16_init G b12 (fun M11 => isc M11 u7 16 ∧ (∃ b15 r16 : Nat, b15 + r16 = r13 ∧ wp_J2_add G b15 (fun v17 M14 => gfa M14 a0 0 6 fun u18 => isc M14 u18 16 ∧ (wp_J2_size G 0 (fun v20 M19 => P (v20 - 1) M19) M14 u18)) M11 u7 u8)) M9 u8) X M s0
def wp_X1_addWalker (G : mG) (b : Nat) (P : Int32 → mM → Prop) (X : String → Nat → mM → Prop) (M : mM) (a0 : Nat) : Prop :=
  gfa M a0 0 6 fun u1 => isc M u1 16 ∧ (wp_J2_size G 0 (fun v3 M2 => (6 ≤ v3 → wb_X1_addWalker_19 G P X b M2 a0 0) ∧ (¬ 6 ≤ v3 → wb_X1_addWalker_19 G P X b M2 a0 1)) M u1)
set_option maxHeartbeats 4000000 in
set_option maxRecDepth 100000 in
theorem wk_X1_addWalker {l : Launch} (hst0 : l.stackTraces = false) {G : mG} {b : Nat} {P : Int32 → mM → Prop} {X : String → Nat → mM → Prop} {M : mM} {a0 : Nat} (h : wp_X1_addWalker G b P X M a0) : mMet l yX1_addWalker (ws_ yX1_addWalker cX1_addWalker 1 (Option.some Jvm.ClassFile.FieldType.int)) 16 b G [.ref a0] M (mRi P) X := by
  refine mm_met hst0 (by decide) (Nat.le_of_ble_eq_true rfl) ?_
  intro p e s m args below meth c ls C hr hnt hnm hl S
  have hl : lv_has ls 1 [(0, .ref a0)] := hl
  generalize mA M s.heap.size = A at C S ⊢
  have hx := C.hx
  have hb := C.hb
  have hk : 0 + b ≤ b := Nat.le_of_eq (Nat.zero_add b)
  have j19 : ∀ (k r : Nat) (M : mM) (H : Heap) (locs : List Loc) (ls : Array Slot) (a0 : Nat) (s0 : Int32), k + r ≤ b → mW G A s M H locs → lv_has ls 1 [(0, .ref a0)] → wb_X1_addWalker_19 G P X r M a0 s0 → W p l e (mRm 16 b) s m args below meth c H locs k k (vx_MQ below (mQ G A (mRi P)) (mXC G A X) args s b b A) (F0 m 19 ls [.int s0]) := by
    intro k r M H locs ls a0 s0 hk S hl h
    unfold wb_X1_addWalker_19 at h
    obtain ⟨b5, r6, hb9, h⟩ := h
    refine mm_S (As := [.int s0]) (rest := []) C S hl.1 (wk_X1_checkState hst0 h) (lw_S q606 q607 q48 q608) pd_X1_checkState ⟨Nat.le_of_ble_eq_true rfl, Nat.le_of_ble_eq_true rfl⟩ rfl rfl (Nat.le_of_ble_eq_true rfl) dX1_addWalker_19 rfl rfl hk hb9 (fun v9 M4 H locs hP S hk => ?_) (fun E q ce M9 H9 locs9 hX S9 hk9 hc9 hv9 hf9 => mm_out C S9 (fun x hx => (hnt x hx).elim) (Nat.le_trans (Nat.le_add_right _ _) hk9) hc9 hv9 hf9 hX)
    obtain ⟨rfl, h⟩ := hP
    refine W.eq (g2 := F0 m 22 ls []) rfl ?_
    refine lv_aload_n hx hb dX1_addWalker_22 rfl (lv_at hl 0 rfl) ?_
    refine mm_gfa C S (ci := 0) (k := 6) rfl in_X1 (by decide) q221 (fun _ h9 => h9) dX1_addWalker_23 h (fun u7 h => ?_)
    refine mm_new C S (ci := 13) (T := TX16) rfl in_X16 tyX16_ok q1468 q1469 q90 dfX16 (by decide) dX1_addWalker_26 rfl rfl hk h (fun u8 M9 r10 H h S hk => ?_)
    refine lv_dup hx hb dX1_addWalker_29 rfl ?_
    obtain ⟨b12, r13, hb9, h⟩ := h
    refine mm_IN (As := []) (rest := [.ref u8, .ref u7]) C S hl.1 (wk_X16_init hst0 h) q1472 q90 q1470 q1471 rfl pd_X16_init ⟨Nat.le_of_ble_eq_true rfl, Nat.le_of_ble_eq_true rfl⟩ rfl rfl (Nat.le_of_ble_eq_true rfl) dX1_addWalker_30 rfl rfl hk hb9 (fun v9 M11 H locs hP S hk => ?_) (fun E q ce M9 H9 locs9 hX => hX.elim)
    obtain ⟨rfl, h⟩ := hP
    refine W.eq (g2 := F0 m 33 ls [.ref u8, .ref u7]) rfl ?_
    obtain ⟨hI, h⟩ := h
    obtain ⟨b15, r16, hb9, h⟩ := h
    refine mm_F (As := [.ref u8]) (rest := []) C S hl.1 (x := ⟨"java/util/List", "add", "(Ljava/lang/Object;)Z"⟩) (wk_J2_add hst0 h) (T := TJ2) rfl hI (mWsF q648 q651 q653 q51 (lw_meth q655)) (by decide +kernel) pdi_3 ⟨Nat.le_of_ble_eq_true rfl, Nat.le_of_ble_eq_true rfl⟩ rfl rfl (Nat.le_of_ble_eq_true rfl) dX1_addWalker_33 rfl rfl hk hb9 (fun v9 M14 H locs hP S hk => ?_) (fun E q ce M9 H9 locs9 hX => hX.elim)
    obtain ⟨v17, rfl, h⟩ := hP
    refine W.eq (g2 := F0 m 38 ls [.int v17]) rfl ?_
    refine lv_pop hx hb dX1_addWalker_38 rfl ?_
    refine lv_aload_n hx hb dX1_addWalker_39 rfl (lv_at hl 0 rfl) ?_
    refine mm_gfa C S (ci := 0) (k := 6) rfl in_X1 (by decide) q221 (fun _ h9 => h9) dX1_addWalker_40 h (fun u18 h => ?_)
    obtain ⟨hI, h⟩ := h
    refine mm_F (As := []) (rest := []) C S hl.1 (x := ⟨"java/util/List", "size", "()I"⟩) (wk_J2_size hst0 h) (T := TJ2) rfl hI (mWsF q284 q288 q290 q51 (lw_meth q292)) (by decide +kernel) pdi_2 ⟨Nat.le_of_ble_eq_true rfl, Nat.le_of_ble_eq_true rfl⟩ rfl rfl (Nat.le_of_ble_eq_true rfl) dX1_addWalker_43 rfl rfl hk (Nat.zero_add _) (fun v9 M19 H locs hP S hk => ?_) (fun E q ce M9 H9 locs9 hX => hX.elim)
    obtain ⟨v20, rfl, h⟩ := hP
    refine W.eq (g2 := F0 m 48 ls [.int v20]) rfl ?_
    refine lv_iconst (v := 1) hx hb dX1_addWalker_48 (by decide) ?_
    refine lv_isub hx hb dX1_addWalker_49 ?_
    exact mm_iret C S hr (Nat.le_trans (Nat.le_add_right _ _) hk) dX1_addWalker_50 h
  unfold wp_X1_addWalker at h
  refine lv_aload_n hx hb dX1_addWalker_0 rfl (lv_at hl 0 rfl) ?_
  refine mm_gfa C S (ci := 0) (k := 6) rfl in_X1 (by decide) q221 (fun _ h9 => h9) dX1_addWalker_1 h (fun u1 h => ?_)
  obtain ⟨hI, h⟩ := h
  refine mm_F (As := []) (rest := []) C S hl.1 (x := ⟨"java/util/List", "size", "()I"⟩) (wk_J2_size hst0 h) (T := TJ2) rfl hI (mWsF q284 q288 q290 q51 (lw_meth q292)) (by decide +kernel) pdi_2 ⟨Nat.le_of_ble_eq_true rfl, Nat.le_of_ble_eq_true rfl⟩ rfl rfl (Nat.le_of_ble_eq_true rfl) dX1_addWalker_4 rfl rfl hk (Nat.zero_add _) (fun v9 M2 H locs hP S hk => ?_) (fun E q ce M9 H9 locs9 hX => hX.elim)
  obtain ⟨v3, rfl, h⟩ := hP
  refine W.eq (g2 := F0 m 9 ls [.int v3]) rfl ?_
  refine lv_bipush (v := 6) hx hb dX1_addWalker_9 (by decide) ?_
  refine lv_icmp_ge (tgt := 18) hx hb dX1_addWalker_11 (by decide) (fun c9 => ?_) (fun c9 => ?_)
  · have h := h.1 c9
    refine lv_iconst (v := 0) hx hb dX1_addWalker_18 (by decide) ?_
    exact j19 _ _ _ _ _ _ _ _ hk S hl h
  · have h := h.2 c9
    refine lv_iconst (v := 1) hx hb dX1_addWalker_14 (by decide) ?_
    refine lv_goto (tgt := 19) hx hb dX1_addWalker_15 (by decide) ?_
    exact j19 _ _ _ _ _ _ _ _ hk S hl h
/-! X0_addWalker: level 17, alloc -/
def wb_X0_addWalker_11 (G : mG) (P : Int32 → mM → Prop) (r : Nat) (M : mM) (s0 : Nat) : Prop :=
  P 1 M
def wp_X0_addWalker (G : mG) (b : Nat) (P : Int32 → mM → Prop) (M : mM) (a0 : Nat) (a1 : Nat) : Prop :=
  isc M a0 0 ∧ (∃ b2 r3 : Nat, b2 + r3 = b ∧ wp_X1_addWalker G b2 (fun v4 M1 => stl M1 4 a1 0 v4.toInt64 fun M5 => P 0 M5) (fun E9 u6 M7 => (E9 = "java/lang/IllegalStateException" ∧ wb_X0_addWalker_11 G P r3 M7 u6)) M a0)
set_option maxHeartbeats 4000000 in
set_option maxRecDepth 100000 in
theorem wk_X0_addWalker {l : Launch} (hst0 : l.stackTraces = false) {G : mG} {b : Nat} {P : Int32 → mM → Prop} {M : mM} {a0 : Nat} {a1 : Nat} (h : wp_X0_addWalker G b P M a0 a1) : mMet l yX0_addWalker (wsW_ yX0_addWalker cX0_addWalker 3 (Option.some Jvm.ClassFile.FieldType.int) [((0 : Nat), (8 : Nat), (11 : Nat), (35 : Nat))]) 17 b G [.ref a0, .ref a1] M (mRi P) (fun _ _ _ => False) := by
  refine mm_metW hst0 (by decide) (Nat.le_of_ble_eq_true rfl) ?_
  intro p e s m args below meth c ls C hr htab hnm hl S
  have hl : lv_has ls 3 [(0, .ref a0), (1, .ref a1)] := hl
  generalize mA M s.heap.size = A at C S ⊢
  have hx := C.hx
  have hb := C.hb
  have hk : 0 + b ≤ b := Nat.le_of_eq (Nat.zero_add b)
  have j11 : ∀ (k r : Nat) (M : mM) (H : Heap) (locs : List Loc) (ls : Array Slot) (s0 : Nat), k + r ≤ b → mW G A s M H locs → lv_has ls 3 [] → wb_X0_addWalker_11 G P r M s0 → W p l e (mRm 17 b) s m args below meth c H locs k k (vx_MQ below (mQ G A (mRi P)) (mXC G A (fun _ _ _ => False)) args s b b A) (F0 m 11 ls [.ref s0]) := by
    intro k r M H locs ls s0 hk S hl h
    unfold wb_X0_addWalker_11 at h
    refine lv_astore_n (lv' := [(2, .ref s0)]) hx hb dX0_addWalker_11 rfl hl (by decide) rfl (fun ls hl => ?_)
    refine lv_iconst (v := 1) hx hb dX0_addWalker_12 (by decide) ?_
    exact mm_iret C S hr (Nat.le_trans (Nat.le_add_right _ _) hk) dX0_addWalker_13 h
  unfold wp_X0_addWalker at h
  refine lv_aload_n hx hb dX0_addWalker_0 rfl (lv_at hl 1 rfl) ?_
  refine lv_iconst (v := 0) hx hb dX0_addWalker_1 (by decide) ?_
  refine lv_aload_n hx hb dX0_addWalker_2 rfl (lv_at hl 0 rfl) ?_
  obtain ⟨hI, h⟩ := h
  obtain ⟨b2, r3, hb9, h⟩ := h
  refine mm_V (As := []) (rest := [.int 0, .ref a1]) C S hl.1 (wk_X1_addWalker hst0 h) (T := TX1) rfl hI (lw_V q1464 q1465 q1466 q48 q1467) rfl pd_X1_addWalker ⟨Nat.le_of_ble_eq_true rfl, Nat.le_of_ble_eq_true rfl⟩ rfl rfl (Nat.le_of_ble_eq_true rfl) dX0_addWalker_3 rfl rfl hk hb9 (fun v9 M1 H locs hP S hk => ?_) (fun E u6 ce M7 H locs hX S hk hc9 hv9 hf9 => ?_)
  · obtain ⟨v4, rfl, h⟩ := hP
    refine W.eq (g2 := F0 m 6 ls [.int v4, .int 0, .ref a1]) rfl ?_
    refine lv_i2l hx hb dX0_addWalker_6 rfl ?_
    refine mm_last C S h dX0_addWalker_7 (fun M5 H locs h S => ?_)
    refine lv_goto (tgt := 14) hx hb dX0_addWalker_8 (by decide) ?_
    refine lv_iconst (v := 0) hx hb dX0_addWalker_14 (by decide) ?_
    exact mm_iret C S hr (Nat.le_trans (Nat.le_add_right _ _) hk) dX0_addWalker_15 h
  · rcases hX with ⟨rfl, h⟩
    · refine vx_catch (pc := 3) (name := "java/lang/IllegalStateException") C.hown [] (⟨0, 8, 11, 35⟩ : ExceptionTableEntry) [] htab mm_pass0 (by decide) (by decide) (C.ts _ q601) (va_Nw.use rfl (C.nw q611 rfl)) hc9 hv9 hf9 ?_
      exact j11 _ _ _ _ _ _ _ hk S (lv_sub hl [] rfl) h
/-! X1_depthOf: level 10 -/
def wp_X1_depthOf (G : mG) (b : Nat) (P : Int32 → mM → Prop) (M : mM) (a0 : Nat) (a1 : Nat) : Prop :=
  gfa M a0 0 2 fun u1 => gfi M a1 1 2 fun v2 => ldi M 0 u1 v2 fun v3 => gfi M a1 1 0 fun v4 => P (v3 - v4) M
set_option maxHeartbeats 4000000 in
set_option maxRecDepth 100000 in
theorem wk_X1_depthOf {l : Launch} (hst0 : l.stackTraces = false) {G : mG} {b : Nat} {P : Int32 → mM → Prop} {M : mM} {a0 : Nat} {a1 : Nat} (h : wp_X1_depthOf G b P M a0 a1) : mMet l yX1_depthOf (ws_ yX1_depthOf cX1_depthOf 2 (Option.some Jvm.ClassFile.FieldType.int)) 10 b G [.ref a0, .ref a1] M (mRi P) (fun _ _ _ => False) := by
  refine mm_met hst0 (by decide) (Nat.le_of_ble_eq_true rfl) ?_
  intro p e s m args below meth c ls C hr hnt hnm hl S
  have hl : lv_has ls 2 [(0, .ref a0), (1, .ref a1)] := hl
  generalize mA M s.heap.size = A at C S ⊢
  have hx := C.hx
  have hb := C.hb
  have hk : 0 + b ≤ b := Nat.le_of_eq (Nat.zero_add b)
  unfold wp_X1_depthOf at h
  refine lv_aload_n hx hb dX1_depthOf_0 rfl (lv_at hl 0 rfl) ?_
  refine mm_gfa C S (ci := 0) (k := 2) rfl in_X1 (by decide) q217 (fun _ h9 => h9) dX1_depthOf_1 h (fun u1 h => ?_)
  refine lv_aload_n hx hb dX1_depthOf_4 rfl (lv_at hl 1 rfl) ?_
  refine mm_gfiN C S (ci := 1) (k := 2) rfl in_X2 (by decide) q184 (fun _ h9 => h9) dX1_depthOf_5 h (fun v2 h => ?_)
  refine mm_iald C S h dX1_depthOf_8 (fun v3 h => ?_)
  refine lv_aload_n hx hb dX1_depthOf_9 rfl (lv_at hl 1 rfl) ?_
  refine mm_gfiN C S (ci := 1) (k := 0) rfl in_X2 (by decide) q180 (fun _ h9 => h9) dX1_depthOf_10 h (fun v4 h => ?_)
  refine lv_isub hx hb dX1_depthOf_13 ?_
  exact mm_iret C S hr (Nat.le_trans (Nat.le_add_right _ _) hk) dX1_depthOf_14 h
/-! X1_likers: level 10 -/
def wb_X1_likers_43 (G : mG) (P : Int32 → mM → Prop) (K4 : Nat → mM → Nat → Int32 → Int32 → Int32 → Prop) (r : Nat) (M : mM) (a0 : Nat) (x1 : Int32) (x3 : Int32) (s0 : Int32) (s1 : Int32) : Prop :=
  K4 r M a0 x1 (s0 ||| s1) (x3 + 1)
def wb_X1_likers_42 (G : mG) (P : Int32 → mM → Prop) (K4 : Nat → mM → Nat → Int32 → Int32 → Int32 → Prop) (r : Nat) (M : mM) (a0 : Nat) (x1 : Int32) (x3 : Int32) (s0 : Int32) : Prop :=
  wb_X1_likers_43 G P K4 r M a0 x1 x3 s0 0
def wl_X1_likers_4 (G : mG) (P : Int32 → mM → Prop) : Nat → Nat → mM → Nat → Int32 → Int32 → Int32 → Prop
  | 0, _, _, _, _, _, _ => False
  | n + 1, r, M, a0, x1, x2, x3 => (4 ≤ x3 → P x2 M) ∧ (¬ 4 ≤ x3 → gfa M a0 0 1 fun u1 => lda M 7 u1 x3 fun u2 => gfi M u2 2 0 fun v3 => (x1 < v3 → wb_X1_likers_42 G P (wl_X1_likers_4 G P n) r M a0 x1 x3 x2) ∧ (¬ x1 < v3 → gfa M a0 0 1 fun u4 => lda M 7 u4 x3 fun u5 => gfi M u5 2 1 fun v6 => (v6 < x1 → wb_X1_likers_42 G P (wl_X1_likers_4 G P n) r M a0 x1 x3 x2) ∧ (¬ v6 < x1 → wb_X1_likers_43 G P (wl_X1_likers_4 G P n) r M a0 x1 x3 x2 (1 <<< (x3 &&& 31)))))
def wp_X1_likers (G : mG) (b : Nat) (P : Int32 → mM → Prop) (M : mM) (a0 : Nat) (x1 : Int32) : Prop :=
  ∃ n4, wl_X1_likers_4 G P n4 b M a0 x1 0 0
set_option maxHeartbeats 4000000 in
set_option maxRecDepth 100000 in
theorem wk_X1_likers {l : Launch} (hst0 : l.stackTraces = false) {G : mG} {b : Nat} {P : Int32 → mM → Prop} {M : mM} {a0 : Nat} {x1 : Int32} (h : wp_X1_likers G b P M a0 x1) : mMet l yX1_likers (ws_ yX1_likers cX1_likers 4 (Option.some Jvm.ClassFile.FieldType.int)) 10 b G [.ref a0, .int x1] M (mRi P) (fun _ _ _ => False) := by
  refine mm_met hst0 (by decide) (Nat.le_of_ble_eq_true rfl) ?_
  intro p e s m args below meth c ls C hr hnt hnm hl S
  have hl : lv_has ls 4 [(0, .ref a0), (1, .int x1)] := hl
  generalize mA M s.heap.size = A at C S ⊢
  have hx := C.hx
  have hb := C.hb
  have hk : 0 + b ≤ b := Nat.le_of_eq (Nat.zero_add b)
  have j4 : ∀ (nf : Nat) (k r : Nat) (M : mM) (H : Heap) (locs : List Loc) (ls : Array Slot) (a0 : Nat) (x1 : Int32) (x2 : Int32) (x3 : Int32), k + r ≤ b → mW G A s M H locs → lv_has ls 4 [(0, .ref a0), (1, .int x1), (2, .int x2), (3, .int x3)] → wl_X1_likers_4 G P nf r M a0 x1 x2 x3 → W p l e (mRm 10 b) s m args below meth c H locs k k (vx_MQ below (mQ G A (mRi P)) (mXC G A (fun _ _ _ => False)) args s b b A) (F0 m 4 ls []) := by
    intro nf
    induction nf with
    | zero =>
      intro k r M H locs ls a0 x1 x2 x3 hk S hl h
      rw [wl_X1_likers_4] at h
      exact h.elim
    | succ n4 ih4 =>
      have j43 : ∀ (k r : Nat) (M : mM) (H : Heap) (locs : List Loc) (ls : Array Slot) (a0 : Nat) (x1 : Int32) (x3 : Int32) (s0 : Int32) (s1 : Int32), k + r ≤ b → mW G A s M H locs → lv_has ls 4 [(0, .ref a0), (1, .int x1), (3, .int x3)] → wb_X1_likers_43 G P (wl_X1_likers_4 G P n4) r M a0 x1 x3 s0 s1 → W p l e (mRm 10 b) s m args below meth c H locs k k (vx_MQ below (mQ G A (mRi P)) (mXC G A (fun _ _ _ => False)) args s b b A) (F0 m 43 ls [.int s1, .int s0]) := by
        intro k r M H locs ls a0 x1 x3 s0 s1 hk S hl h
        unfold wb_X1_likers_43 at h
        refine lv_ior hx hb dX1_likers_43 ?_
        refine lv_istore_n (lv' := [(2, .int (s0 ||| s1)), (0, .ref a0), (1, .int x1), (3, .int x3)]) hx hb dX1_likers_44 rfl hl (by decide) rfl (fun ls hl => ?_)
        refine lv_iinc (v := (x3 + 1)) (lv' := [(3, .int (x3 + 1)), (2, .int (s0 ||| s1)), (0, .ref a0), (1, .int x1)]) hx hb dX1_likers_45 hl (k := 3) rfl rfl (by decide) rfl (fun ls hl => ?_)
        refine lv_goto (tgt := 4) hx hb dX1_likers_48 (by decide) ?_
        exact ih4 _ _ _ _ _ _ _ _ _ _ hk S (lv_sub hl [2, 3, 1, 0] rfl) h
      have j42 : ∀ (k r : Nat) (M : mM) (H : Heap) (locs : List Loc) (ls : Array Slot) (a0 : Nat) (x1 : Int32) (x3 : Int32) (s0 : Int32), k + r ≤ b → mW G A s M H locs → lv_has ls 4 [(0, .ref a0), (1, .int x1), (3, .int x3)] → wb_X1_likers_42 G P (wl_X1_likers_4 G P n4) r M a0 x1 x3 s0 → W p l e (mRm 10 b) s m args below meth c H locs k k (vx_MQ below (mQ G A (mRi P)) (mXC G A (fun _ _ _ => False)) args s b b A) (F0 m 42 ls [.int s0]) := by
        intro k r M H locs ls a0 x1 x3 s0 hk S hl h
        unfold wb_X1_likers_42 at h
        refine lv_iconst (v := 0) hx hb dX1_likers_42 (by decide) ?_
        exact j43 _ _ _ _ _ _ _ _ _ _ _ hk S hl h
      intro k r M H locs ls a0 x1 x2 x3 hk S hl h
      rw [wl_X1_likers_4] at h
      refine lv_iload_n hx hb dX1_likers_4 rfl (lv_at hl 3 rfl) ?_
      refine lv_iconst (v := 4) hx hb dX1_likers_5 (by decide) ?_
      refine lv_icmp_ge (tgt := 51) hx hb dX1_likers_6 (by decide) (fun c9 => ?_) (fun c9 => ?_)
      · have h := h.1 c9
        refine lv_iload_n hx hb dX1_likers_51 rfl (lv_at hl 2 rfl) ?_
        exact mm_iret C S hr (Nat.le_trans (Nat.le_add_right _ _) hk) dX1_likers_52 h
      · have h := h.2 c9
        refine lv_iload_n hx hb dX1_likers_9 rfl (lv_at hl 2 rfl) ?_
        refine lv_iload_n hx hb dX1_likers_10 rfl (lv_at hl 1 rfl) ?_
        refine lv_aload_n hx hb dX1_likers_11 rfl (lv_at hl 0 rfl) ?_
        refine mm_gfa C S (ci := 0) (k := 1) rfl in_X1 (by decide) q216 (fun _ h9 => h9) dX1_likers_12 h (fun u1 h => ?_)
        refine lv_iload_n hx hb dX1_likers_15 rfl (lv_at hl 3 rfl) ?_
        refine mm_aald C S (t := 7) rfl rfl h dX1_likers_16 (fun u2 h => ?_)
        refine mm_gfiN C S (ci := 2) (k := 0) rfl in_X3 (by decide) q203 (fun _ h9 => h9) dX1_likers_17 h (fun v3 h => ?_)
        refine lv_icmp_lt (tgt := 42) hx hb dX1_likers_20 (by decide) (fun c9 => ?_) (fun c9 => ?_)
        · have h := h.1 c9
          exact j42 _ _ _ _ _ _ _ _ _ _ hk S (lv_sub hl [0, 1, 3] rfl) h
        · have h := h.2 c9
          refine lv_iload_n hx hb dX1_likers_23 rfl (lv_at hl 1 rfl) ?_
          refine lv_aload_n hx hb dX1_likers_24 rfl (lv_at hl 0 rfl) ?_
          refine mm_gfa C S (ci := 0) (k := 1) rfl in_X1 (by decide) q216 (fun _ h9 => h9) dX1_likers_25 h (fun u4 h => ?_)
          refine lv_iload_n hx hb dX1_likers_28 rfl (lv_at hl 3 rfl) ?_
          refine mm_aald C S (t := 7) rfl rfl h dX1_likers_29 (fun u5 h => ?_)
          refine mm_gfiN C S (ci := 2) (k := 1) rfl in_X3 (by decide) q205 (fun _ h9 => h9) dX1_likers_30 h (fun v6 h => ?_)
          refine lv_icmp_gt (tgt := 42) hx hb dX1_likers_33 (by decide) (fun c9 => ?_) (fun c9 => ?_)
          · have h := h.1 c9
            exact j42 _ _ _ _ _ _ _ _ _ _ hk S (lv_sub hl [0, 1, 3] rfl) h
          · have h := h.2 c9
            refine lv_iconst (v := 1) hx hb dX1_likers_36 (by decide) ?_
            refine lv_iload_n hx hb dX1_likers_37 rfl (lv_at hl 3 rfl) ?_
            refine lv_ishl hx hb dX1_likers_38 ?_
            refine lv_goto (tgt := 43) hx hb dX1_likers_39 (by decide) ?_
            exact j43 _ _ _ _ _ _ _ _ _ _ _ hk S (lv_sub hl [0, 1, 3] rfl) h
  unfold wp_X1_likers at h
  refine lv_iconst (v := 0) hx hb dX1_likers_0 (by decide) ?_
  refine lv_istore_n (lv' := [(2, .int 0), (0, .ref a0), (1, .int x1)]) hx hb dX1_likers_1 rfl hl (by decide) rfl (fun ls hl => ?_)
  refine lv_iconst (v := 0) hx hb dX1_likers_2 (by decide) ?_
  refine lv_istore_n (lv' := [(3, .int 0), (2, .int 0), (0, .ref a0), (1, .int x1)]) hx hb dX1_likers_3 rfl hl (by decide) rfl (fun ls hl => ?_)
  obtain ⟨nf, h⟩ := h
  exact j4 nf _ _ _ _ _ _ _ _ _ _ hk S (lv_sub hl [2, 3, 1, 0] rfl) h
/-! X1_cellAt: level 12, alloc, throws java/lang/IllegalArgumentException,java/lang/IndexOutOfBoundsException -/
def wb_X1_cellAt_107 (G : mG) (P : Int32 → mM → Prop) (X : String → Nat → mM → Prop) (r : Nat) (M : mM) (s0 : Int32) : Prop :=
  P s0 M
def wb_X1_cellAt_85 (G : mG) (P : Int32 → mM → Prop) (X : String → Nat → mM → Prop) (r : Nat) (M : mM) (s0 : Int32) : Prop :=
  P s0 M
def wp_X1_cellAt (G : mG) (b : Nat) (P : Int32 → mM → Prop) (X : String → Nat → mM → Prop) (M : mM) (a0 : Nat) (x1 : Int32) (x2 : Int32) : Prop :=
  ∃ b2 r3 : Nat, b2 + r3 = b ∧ wp_X1_checkIndex G b2 (fun M1 => ∃ b5 r6 : Nat, b5 + r6 = r3 ∧ wp_X1_checkRange G b5 (fun M4 => gfa M4 a0 0 0 fun u7 => lda M4 6 u7 x1 fun u8 => (x2 = 0 → gfi M4 u8 1 0 fun v9 => P v9 M4) ∧ (x2 = 1 → gfi M4 u8 1 1 fun v10 => P v10 M4) ∧ (x2 = 2 → gfi M4 u8 1 2 fun v11 => P v11 M4) ∧ (x2 = 3 → gfi M4 u8 1 2 fun v12 => (¬ v12 = (-1) → isc M4 a0 0 ∧ (wp_X1_depthOf G 0 (fun v14 M13 => wb_X1_cellAt_85 G P X r6 M13 v14) M4 a0 u8)) ∧ (v12 = (-1) → wb_X1_cellAt_85 G P X r6 M4 (-100))) ∧ (¬ x2 = 0 → ¬ x2 = 1 → ¬ x2 = 2 → ¬ x2 = 3 → gfi M4 u8 1 2 fun v15 => (¬ v15 = (-1) → isc M4 a0 0 ∧ (wp_X1_depthOf G 0 (fun v17 M16 => isc M16 a0 0 ∧ (wp_X1_likers G 0 (fun v19 M18 => wb_X1_cellAt_107 G P X r6 M18 v19) M16 a0 v17)) M4 a0 u8)) ∧ (v15 = (-1) → wb_X1_cellAt_107 G P X r6 M4 0))) X M1 x2 0 4) X M x1 36
set_option maxHeartbeats 4000000 in
set_option maxRecDepth 100000 in
theorem wk_X1_cellAt {l : Launch} (hst0 : l.stackTraces = false) {G : mG} {b : Nat} {P : Int32 → mM → Prop} {X : String → Nat → mM → Prop} {M : mM} {a0 : Nat} {x1 : Int32} {x2 : Int32} (h : wp_X1_cellAt G b P X M a0 x1 x2) : mMet l yX1_cellAt (ws_ yX1_cellAt cX1_cellAt 4 (Option.some Jvm.ClassFile.FieldType.int)) 12 b G [.ref a0, .int x1, .int x2] M (mRi P) X := by
  refine mm_met hst0 (by decide) (Nat.le_of_ble_eq_true rfl) ?_
  intro p e s m args below meth c ls C hr hnt hnm hl S
  have hl : lv_has ls 4 [(0, .ref a0), (1, .int x1), (2, .int x2)] := hl
  generalize mA M s.heap.size = A at C S ⊢
  have hx := C.hx
  have hb := C.hb
  have hk : 0 + b ≤ b := Nat.le_of_eq (Nat.zero_add b)
  have j107 : ∀ (k r : Nat) (M : mM) (H : Heap) (locs : List Loc) (ls : Array Slot) (s0 : Int32), k + r ≤ b → mW G A s M H locs → lv_has ls 4 [] → wb_X1_cellAt_107 G P X r M s0 → W p l e (mRm 12 b) s m args below meth c H locs k k (vx_MQ below (mQ G A (mRi P)) (mXC G A X) args s b b A) (F0 m 107 ls [.int s0]) := by
    intro k r M H locs ls s0 hk S hl h
    unfold wb_X1_cellAt_107 at h
    exact mm_iret C S hr (Nat.le_trans (Nat.le_add_right _ _) hk) dX1_cellAt_107 h
  have j85 : ∀ (k r : Nat) (M : mM) (H : Heap) (locs : List Loc) (ls : Array Slot) (s0 : Int32), k + r ≤ b → mW G A s M H locs → lv_has ls 4 [] → wb_X1_cellAt_85 G P X r M s0 → W p l e (mRm 12 b) s m args below meth c H locs k k (vx_MQ below (mQ G A (mRi P)) (mXC G A X) args s b b A) (F0 m 85 ls [.int s0]) := by
    intro k r M H locs ls s0 hk S hl h
    unfold wb_X1_cellAt_85 at h
    exact mm_iret C S hr (Nat.le_trans (Nat.le_add_right _ _) hk) dX1_cellAt_85 h
  unfold wp_X1_cellAt at h
  refine lv_iload_n hx hb dX1_cellAt_0 rfl (lv_at hl 1 rfl) ?_
  refine lv_bipush (v := 36) hx hb dX1_cellAt_1 (by decide) ?_
  obtain ⟨b2, r3, hb9, h⟩ := h
  refine mm_S (As := [.int x1, .int 36]) (rest := []) C S hl.1 (wk_X1_checkIndex hst0 h) (lw_S q516 q517 q48 q518) pd_X1_checkIndex ⟨Nat.le_of_ble_eq_true rfl, Nat.le_of_ble_eq_true rfl⟩ rfl rfl (Nat.le_of_ble_eq_true rfl) dX1_cellAt_3 rfl rfl hk hb9 (fun v9 M1 H locs hP S hk => ?_) (fun E q ce M9 H9 locs9 hX S9 hk9 hc9 hv9 hf9 => mm_out C S9 (fun x hx => (hnt x hx).elim) (Nat.le_trans (Nat.le_add_right _ _) hk9) hc9 hv9 hf9 hX)
  obtain ⟨rfl, h⟩ := hP
  refine W.eq (g2 := F0 m 6 ls []) rfl ?_
  refine lv_iload_n hx hb dX1_cellAt_6 rfl (lv_at hl 2 rfl) ?_
  refine lv_iconst (v := 0) hx hb dX1_cellAt_7 (by decide) ?_
  refine lv_iconst (v := 4) hx hb dX1_cellAt_8 (by decide) ?_
  obtain ⟨b5, r6, hb9, h⟩ := h
  refine mm_S (As := [.int x2, .int 0, .int 4]) (rest := []) C S hl.1 (wk_X1_checkRange hst0 h) (lw_S q540 q541 q48 q542) pd_X1_checkRange ⟨Nat.le_of_ble_eq_true rfl, Nat.le_of_ble_eq_true rfl⟩ rfl rfl (Nat.le_of_ble_eq_true rfl) dX1_cellAt_9 rfl rfl hk hb9 (fun v9 M4 H locs hP S hk => ?_) (fun E q ce M9 H9 locs9 hX S9 hk9 hc9 hv9 hf9 => mm_out C S9 (fun x hx => (hnt x hx).elim) (Nat.le_trans (Nat.le_add_right _ _) hk9) hc9 hv9 hf9 hX)
  obtain ⟨rfl, h⟩ := hP
  refine W.eq (g2 := F0 m 12 ls []) rfl ?_
  refine lv_aload_n hx hb dX1_cellAt_12 rfl (lv_at hl 0 rfl) ?_
  refine mm_gfa C S (ci := 0) (k := 0) rfl in_X1 (by decide) q215 (fun _ h9 => h9) dX1_cellAt_13 h (fun u7 h => ?_)
  refine lv_iload_n hx hb dX1_cellAt_16 rfl (lv_at hl 1 rfl) ?_
  refine mm_aald C S (t := 6) rfl rfl h dX1_cellAt_17 (fun u8 h => ?_)
  refine lv_astore_n (lv' := [(3, .ref u8), (0, .ref a0), (1, .int x1), (2, .int x2)]) hx hb dX1_cellAt_18 rfl hl (by decide) rfl (fun ls hl => ?_)
  refine lv_iload_n hx hb dX1_cellAt_19 rfl (lv_at hl 3 rfl) ?_
  by_cases c0 : x2 = 0
  · have h := h.1 c0
    rw [c0]
    refine lv_tableIn (tgt := 52) hx hb dX1_cellAt_20 (by decide) (by decide) rfl (by decide) ?_
    refine lv_aload_n hx hb dX1_cellAt_52 rfl (lv_at hl 0 rfl) ?_
    refine mm_gfiN C S (ci := 1) (k := 0) rfl in_X2 (by decide) q180 (fun _ h9 => h9) dX1_cellAt_53 h (fun v9 h => ?_)
    exact mm_iret C S hr (Nat.le_trans (Nat.le_add_right _ _) hk) dX1_cellAt_56 h
  by_cases c1 : x2 = 1
  · have h := h.2.1 c1
    rw [c1]
    refine lv_tableIn (tgt := 57) hx hb dX1_cellAt_20 (by decide) (by decide) rfl (by decide) ?_
    refine lv_aload_n hx hb dX1_cellAt_57 rfl (lv_at hl 0 rfl) ?_
    refine mm_gfiN C S (ci := 1) (k := 1) rfl in_X2 (by decide) q182 (fun _ h9 => h9) dX1_cellAt_58 h (fun v10 h => ?_)
    exact mm_iret C S hr (Nat.le_trans (Nat.le_add_right _ _) hk) dX1_cellAt_61 h
  by_cases c2 : x2 = 2
  · have h := h.2.2.1 c2
    rw [c2]
    refine lv_tableIn (tgt := 62) hx hb dX1_cellAt_20 (by decide) (by decide) rfl (by decide) ?_
    refine lv_aload_n hx hb dX1_cellAt_62 rfl (lv_at hl 0 rfl) ?_
    refine mm_gfiN C S (ci := 1) (k := 2) rfl in_X2 (by decide) q184 (fun _ h9 => h9) dX1_cellAt_63 h (fun v11 h => ?_)
    exact mm_iret C S hr (Nat.le_trans (Nat.le_add_right _ _) hk) dX1_cellAt_66 h
  by_cases c3 : x2 = 3
  · have h := h.2.2.2.1 c3
    rw [c3]
    refine lv_tableIn (tgt := 67) hx hb dX1_cellAt_20 (by decide) (by decide) rfl (by decide) ?_
    refine lv_aload_n hx hb dX1_cellAt_67 rfl (lv_at hl 0 rfl) ?_
    refine mm_gfiN C S (ci := 1) (k := 2) rfl in_X2 (by decide) q184 (fun _ h9 => h9) dX1_cellAt_68 h (fun v12 h => ?_)
    refine lv_iconst (v := (-1)) hx hb dX1_cellAt_71 (by decide) ?_
    refine lv_icmp_ne (tgt := 80) hx hb dX1_cellAt_72 (by decide) (fun c9 => ?_) (fun c9 => ?_)
    · have h := h.1 c9
      refine lv_aload_n hx hb dX1_cellAt_80 rfl (lv_at hl 1 rfl) ?_
      refine lv_aload_n hx hb dX1_cellAt_81 rfl (lv_at hl 0 rfl) ?_
      obtain ⟨hI, h⟩ := h
      refine mm_V (As := [.ref u8]) (rest := []) C S hl.1 (wk_X1_depthOf hst0 h) (T := TX1) rfl hI (lw_V q569 q571 qs4 q48 q572) rfl pd_X1_depthOf ⟨Nat.le_of_ble_eq_true rfl, Nat.le_of_ble_eq_true rfl⟩ rfl rfl (Nat.le_of_ble_eq_true rfl) dX1_cellAt_82 rfl rfl hk (Nat.zero_add _) (fun v9 M13 H locs hP S hk => ?_) (fun E q ce M9 H9 locs9 hX => hX.elim)
      obtain ⟨v14, rfl, h⟩ := hP
      refine W.eq (g2 := F0 m 85 ls [.int v14]) rfl ?_
      exact j85 _ _ _ _ _ _ _ hk S (lv_sub hl [] rfl) h
    · have h := h.2 c9
      refine lv_bipush (v := (-100)) hx hb dX1_cellAt_75 (by decide) ?_
      refine lv_goto (tgt := 85) hx hb dX1_cellAt_77 (by decide) ?_
      exact j85 _ _ _ _ _ _ _ hk S (lv_sub hl [] rfl) h
  have h := h.2.2.2.2 c0 c1 c2 c3
  refine lv_tableOut (tgt := 86) hx hb dX1_cellAt_20 (mSw0_3 c0 c1 c2 c3) (by decide) ?_
  refine lv_aload_n hx hb dX1_cellAt_86 rfl (lv_at hl 0 rfl) ?_
  refine mm_gfiN C S (ci := 1) (k := 2) rfl in_X2 (by decide) q184 (fun _ h9 => h9) dX1_cellAt_87 h (fun v15 h => ?_)
  refine lv_iconst (v := (-1)) hx hb dX1_cellAt_90 (by decide) ?_
  refine lv_icmp_ne (tgt := 98) hx hb dX1_cellAt_91 (by decide) (fun c9 => ?_) (fun c9 => ?_)
  · have h := h.1 c9
    refine lv_aload_n hx hb dX1_cellAt_98 rfl (lv_at hl 1 rfl) ?_
    refine lv_aload_n hx hb dX1_cellAt_99 rfl (lv_at hl 1 rfl) ?_
    refine lv_aload_n hx hb dX1_cellAt_100 rfl (lv_at hl 0 rfl) ?_
    obtain ⟨hI, h⟩ := h
    refine mm_V (As := [.ref u8]) (rest := [.ref a0]) C S hl.1 (wk_X1_depthOf hst0 h) (T := TX1) rfl hI (lw_V q569 q571 qs4 q48 q572) rfl pd_X1_depthOf ⟨Nat.le_of_ble_eq_true rfl, Nat.le_of_ble_eq_true rfl⟩ rfl rfl (Nat.le_of_ble_eq_true rfl) dX1_cellAt_101 rfl rfl hk (Nat.zero_add _) (fun v9 M16 H locs hP S hk => ?_) (fun E q ce M9 H9 locs9 hX => hX.elim)
    obtain ⟨v17, rfl, h⟩ := hP
    refine W.eq (g2 := F0 m 104 ls [.int v17, .ref a0]) rfl ?_
    obtain ⟨hI, h⟩ := h
    refine mm_V (As := [.int v17]) (rest := []) C S hl.1 (wk_X1_likers hst0 h) (T := TX1) rfl hI (lw_V q573 q575 qs5 q48 q576) rfl pd_X1_likers ⟨Nat.le_of_ble_eq_true rfl, Nat.le_of_ble_eq_true rfl⟩ rfl rfl (Nat.le_of_ble_eq_true rfl) dX1_cellAt_104 rfl rfl hk (Nat.zero_add _) (fun v9 M18 H locs hP S hk => ?_) (fun E q ce M9 H9 locs9 hX => hX.elim)
    obtain ⟨v19, rfl, h⟩ := hP
    refine W.eq (g2 := F0 m 107 ls [.int v19]) rfl ?_
    exact j107 _ _ _ _ _ _ _ hk S (lv_sub hl [] rfl) h
  · have h := h.2 c9
    refine lv_iconst (v := 0) hx hb dX1_cellAt_94 (by decide) ?_
    refine lv_goto (tgt := 107) hx hb dX1_cellAt_95 (by decide) ?_
    exact j107 _ _ _ _ _ _ _ hk S (lv_sub hl [] rfl) h
/-! X0_cellAt: level 13, alloc -/
def wb_X0_cellAt_13 (G : mG) (P : Int32 → mM → Prop) (r : Nat) (M : mM) (s0 : Nat) : Prop :=
  P 1 M
def wb_X0_cellAt_17 (G : mG) (P : Int32 → mM → Prop) (r : Nat) (M : mM) (s0 : Nat) : Prop :=
  P 2 M
def wp_X0_cellAt (G : mG) (b : Nat) (P : Int32 → mM → Prop) (M : mM) (a0 : Nat) (x1 : Int32) (x2 : Int32) (a3 : Nat) : Prop :=
  isc M a0 0 ∧ (∃ b2 r3 : Nat, b2 + r3 = b ∧ wp_X1_cellAt G b2 (fun v4 M1 => stl M1 4 a3 0 v4.toInt64 fun M5 => P 0 M5) (fun E9 u6 M7 => (E9 = "java/lang/IllegalArgumentException" ∧ wb_X0_cellAt_17 G P r3 M7 u6) ∨ (E9 = "java/lang/IndexOutOfBoundsException" ∧ wb_X0_cellAt_13 G P r3 M7 u6)) M a0 x1 x2)
set_option maxHeartbeats 4000000 in
set_option maxRecDepth 100000 in
theorem wk_X0_cellAt {l : Launch} (hst0 : l.stackTraces = false) {G : mG} {b : Nat} {P : Int32 → mM → Prop} {M : mM} {a0 : Nat} {x1 : Int32} {x2 : Int32} {a3 : Nat} (h : wp_X0_cellAt G b P M a0 x1 x2 a3) : mMet l yX0_cellAt (wsW_ yX0_cellAt cX0_cellAt 5 (Option.some Jvm.ClassFile.FieldType.int) [((0 : Nat), (10 : Nat), (13 : Nat), (13 : Nat)), ((0 : Nat), (10 : Nat), (17 : Nat), (15 : Nat))]) 13 b G [.ref a0, .int x1, .int x2, .ref a3] M (mRi P) (fun _ _ _ => False) := by
  refine mm_metW hst0 (by decide) (Nat.le_of_ble_eq_true rfl) ?_
  intro p e s m args below meth c ls C hr htab hnm hl S
  have hl : lv_has ls 5 [(0, .ref a0), (1, .int x1), (2, .int x2), (3, .ref a3)] := hl
  generalize mA M s.heap.size = A at C S ⊢
  have hx := C.hx
  have hb := C.hb
  have hk : 0 + b ≤ b := Nat.le_of_eq (Nat.zero_add b)
  have j13 : ∀ (k r : Nat) (M : mM) (H : Heap) (locs : List Loc) (ls : Array Slot) (s0 : Nat), k + r ≤ b → mW G A s M H locs → lv_has ls 5 [] → wb_X0_cellAt_13 G P r M s0 → W p l e (mRm 13 b) s m args below meth c H locs k k (vx_MQ below (mQ G A (mRi P)) (mXC G A (fun _ _ _ => False)) args s b b A) (F0 m 13 ls [.ref s0]) := by
    intro k r M H locs ls s0 hk S hl h
    unfold wb_X0_cellAt_13 at h
    refine lv_astore (lv' := [(4, .ref s0)]) hx hb dX0_cellAt_13 hl (by decide) rfl (fun ls hl => ?_)
    refine lv_iconst (v := 1) hx hb dX0_cellAt_15 (by decide) ?_
    exact mm_iret C S hr (Nat.le_trans (Nat.le_add_right _ _) hk) dX0_cellAt_16 h
  have j17 : ∀ (k r : Nat) (M : mM) (H : Heap) (locs : List Loc) (ls : Array Slot) (s0 : Nat), k + r ≤ b → mW G A s M H locs → lv_has ls 5 [] → wb_X0_cellAt_17 G P r M s0 → W p l e (mRm 13 b) s m args below meth c H locs k k (vx_MQ below (mQ G A (mRi P)) (mXC G A (fun _ _ _ => False)) args s b b A) (F0 m 17 ls [.ref s0]) := by
    intro k r M H locs ls s0 hk S hl h
    unfold wb_X0_cellAt_17 at h
    refine lv_astore (lv' := [(4, .ref s0)]) hx hb dX0_cellAt_17 hl (by decide) rfl (fun ls hl => ?_)
    refine lv_iconst (v := 2) hx hb dX0_cellAt_19 (by decide) ?_
    exact mm_iret C S hr (Nat.le_trans (Nat.le_add_right _ _) hk) dX0_cellAt_20 h
  unfold wp_X0_cellAt at h
  refine lv_aload_n hx hb dX0_cellAt_0 rfl (lv_at hl 3 rfl) ?_
  refine lv_iconst (v := 0) hx hb dX0_cellAt_1 (by decide) ?_
  refine lv_aload_n hx hb dX0_cellAt_2 rfl (lv_at hl 0 rfl) ?_
  refine lv_iload_n hx hb dX0_cellAt_3 rfl (lv_at hl 1 rfl) ?_
  refine lv_iload_n hx hb dX0_cellAt_4 rfl (lv_at hl 2 rfl) ?_
  obtain ⟨hI, h⟩ := h
  obtain ⟨b2, r3, hb9, h⟩ := h
  refine mm_V (As := [.int x1, .int x2]) (rest := [.int 0, .ref a3]) C S hl.1 (wk_X1_cellAt hst0 h) (T := TX1) rfl hI (lw_V q565 q566 q567 q48 q568) rfl pd_X1_cellAt ⟨Nat.le_of_ble_eq_true rfl, Nat.le_of_ble_eq_true rfl⟩ rfl rfl (Nat.le_of_ble_eq_true rfl) dX0_cellAt_5 rfl rfl hk hb9 (fun v9 M1 H locs hP S hk => ?_) (fun E u6 ce M7 H locs hX S hk hc9 hv9 hf9 => ?_)
  · obtain ⟨v4, rfl, h⟩ := hP
    refine W.eq (g2 := F0 m 8 ls [.int v4, .int 0, .ref a3]) rfl ?_
    refine lv_i2l hx hb dX0_cellAt_8 rfl ?_
    refine mm_last C S h dX0_cellAt_9 (fun M5 H locs h S => ?_)
    refine lv_goto (tgt := 21) hx hb dX0_cellAt_10 (by decide) ?_
    refine lv_iconst (v := 0) hx hb dX0_cellAt_21 (by decide) ?_
    exact mm_iret C S hr (Nat.le_trans (Nat.le_add_right _ _) hk) dX0_cellAt_22 h
  · rcases hX with ⟨rfl, h⟩ | ⟨rfl, h⟩
    · refine vx_catch (pc := 5) (name := "java/lang/IllegalArgumentException") C.hown [(⟨0, 10, 13, 13⟩ : ExceptionTableEntry)] (⟨0, 10, 17, 15⟩ : ExceptionTableEntry) [] htab (mm_pass1 C (nm := "java/lang/IndexOutOfBoundsException") (by decide) q431 (by decide) mm_pass0) (by decide) (by decide) (C.ts _ q511) (va_Nw.use rfl (C.nw q548 rfl)) hc9 hv9 hf9 ?_
      exact j17 _ _ _ _ _ _ _ hk S (lv_sub hl [] rfl) h
    · refine vx_catch (pc := 5) (name := "java/lang/IndexOutOfBoundsException") C.hown [] (⟨0, 10, 13, 13⟩ : ExceptionTableEntry) [(⟨0, 10, 17, 15⟩ : ExceptionTableEntry)] htab mm_pass0 (by decide) (by decide) (C.ts _ q431) (va_Nw.use rfl (C.nw q521 rfl)) hc9 hv9 hf9 ?_
      exact j13 _ _ _ _ _ _ _ hk S (lv_sub hl [] rfl) h
/-! X1_curveOf: level 10, alloc -/
def wb_X1_curveOf_128 (G : mG) (P : Int32 → mM → Prop) (K57 : Nat → mM → Int32 → Nat → Nat → Nat → Int32 → Int32 → Prop) (r : Nat) (M : mM) (x3 : Int32) (a4 : Nat) (a5 : Nat) (a6 : Nat) (x7 : Int32) (x8 : Int32) (s0 : Int64) : Prop :=
  ∀ g21 : Int64, g21 = (if s0 < x7.toInt64 then s0 else x7.toInt64) → K57 r M x3 a4 a5 a6 g21.toInt32 (x8 + 1)
def wb_X1_curveOf_83 (G : mG) (P : Int32 → mM → Prop) (K57 : Nat → mM → Int32 → Nat → Nat → Nat → Int32 → Int32 → Prop) (r : Nat) (M : mM) (x3 : Int32) (a4 : Nat) (a5 : Nat) (a6 : Nat) (x7 : Int32) (x8 : Int32) (s0 : Int32) : Prop :=
  (s0 = 0 → ldi M 0 a6 x8 fun v14 => wb_X1_curveOf_128 G P K57 r M x3 a4 a5 a6 x7 x8 v14.toInt64) ∧ (¬ s0 = 0 → ldi M 0 a4 x8 fun v15 => ldi M 0 a5 0 fun v16 => ∀ g17 : Int64, g17 = ((1000 * v15.toInt64) * v16.toInt64) → ldi M 0 a5 x8 fun v18 => ldi M 0 a4 0 fun v19 => ∀ g20 : Int64, g20 = (v18.toInt64 * v19.toInt64) → ¬ g20 = 0 ∧ (wb_X1_curveOf_128 G P K57 r M x3 a4 a5 a6 x7 x8 (g17 / g20)))
def wb_X1_curveOf_82 (G : mG) (P : Int32 → mM → Prop) (K57 : Nat → mM → Int32 → Nat → Nat → Nat → Int32 → Int32 → Prop) (r : Nat) (M : mM) (x3 : Int32) (a4 : Nat) (a5 : Nat) (a6 : Nat) (x7 : Int32) (x8 : Int32) : Prop :=
  wb_X1_curveOf_83 G P K57 r M x3 a4 a5 a6 x7 x8 0
def wl_X1_curveOf_57 (G : mG) (P : Int32 → mM → Prop) : Nat → Nat → mM → Int32 → Nat → Nat → Nat → Int32 → Int32 → Prop
  | 0, _, _, _, _, _, _, _, _ => False
  | n + 1, r, M, x3, a4, a5, a6, x7, x8 => (x3 < x8 → P x7 M) ∧ (¬ x3 < x8 → ldi M 0 a5 x8 fun v12 => (v12 = 0 → wb_X1_curveOf_82 G P (wl_X1_curveOf_57 G P n) r M x3 a4 a5 a6 x7 x8) ∧ (¬ v12 = 0 → ldi M 0 a4 0 fun v13 => (v13 = 0 → wb_X1_curveOf_82 G P (wl_X1_curveOf_57 G P n) r M x3 a4 a5 a6 x7 x8) ∧ (¬ v13 = 0 → wb_X1_curveOf_83 G P (wl_X1_curveOf_57 G P n) r M x3 a4 a5 a6 x7 x8 1)))
def wp_X1_curveOf (G : mG) (b : Nat) (P : Int32 → mM → Prop) (M : mM) (a0 : Nat) (x1 : Int32) (x2 : Int32) (x3 : Int32) : Prop :=
  gfa M a0 0 9 fun u1 => lda M 8 u1 ((3 * x1) + x2) fun u2 => gfa M a0 0 8 fun u3 => lda M 8 u3 x2 fun u4 => nwa M b 0 4 (.inl fun _ => 0) fun u5 M6 r7 => sti M6 0 u5 0 1000 fun M8 => sti M8 0 u5 1 800 fun M9 => sti M9 0 u5 2 500 fun M10 => sti M10 0 u5 3 200 fun M11 => ∃ n57, wl_X1_curveOf_57 G P n57 r7 M11 x3 u2 u4 u5 1000 1
set_option maxHeartbeats 4000000 in
set_option maxRecDepth 100000 in
theorem wk_X1_curveOf {l : Launch} (hst0 : l.stackTraces = false) {G : mG} {b : Nat} {P : Int32 → mM → Prop} {M : mM} {a0 : Nat} {x1 : Int32} {x2 : Int32} {x3 : Int32} (h : wp_X1_curveOf G b P M a0 x1 x2 x3) : mMet l yX1_curveOf (ws_ yX1_curveOf cX1_curveOf 12 (Option.some Jvm.ClassFile.FieldType.int)) 10 b G [.ref a0, .int x1, .int x2, .int x3] M (mRi P) (fun _ _ _ => False) := by
  refine mm_met hst0 (by decide) (Nat.le_of_ble_eq_true rfl) ?_
  intro p e s m args below meth c ls C hr hnt hnm hl S
  have hl : lv_has ls 12 [(0, .ref a0), (1, .int x1), (2, .int x2), (3, .int x3)] := hl
  generalize mA M s.heap.size = A at C S ⊢
  have hx := C.hx
  have hb := C.hb
  have hk : 0 + b ≤ b := Nat.le_of_eq (Nat.zero_add b)
  have j57 : ∀ (nf : Nat) (k r : Nat) (M : mM) (H : Heap) (locs : List Loc) (ls : Array Slot) (x3 : Int32) (a4 : Nat) (a5 : Nat) (a6 : Nat) (x7 : Int32) (x8 : Int32), k + r ≤ b → mW G A s M H locs → lv_has ls 12 [(3, .int x3), (4, .ref a4), (5, .ref a5), (6, .ref a6), (7, .int x7), (8, .int x8)] → wl_X1_curveOf_57 G P nf r M x3 a4 a5 a6 x7 x8 → W p l e (mRm 10 b) s m args below meth c H locs k k (vx_MQ below (mQ G A (mRi P)) (mXC G A (fun _ _ _ => False)) args s b b A) (F0 m 57 ls []) := by
    intro nf
    induction nf with
    | zero =>
      intro k r M H locs ls x3 a4 a5 a6 x7 x8 hk S hl h
      rw [wl_X1_curveOf_57] at h
      exact h.elim
    | succ n57 ih57 =>
      have j128 : ∀ (k r : Nat) (M : mM) (H : Heap) (locs : List Loc) (ls : Array Slot) (x3 : Int32) (a4 : Nat) (a5 : Nat) (a6 : Nat) (x7 : Int32) (x8 : Int32) (s0 : Int64), k + r ≤ b → mW G A s M H locs → lv_has ls 12 [(3, .int x3), (4, .ref a4), (5, .ref a5), (6, .ref a6), (7, .int x7), (8, .int x8)] → wb_X1_curveOf_128 G P (wl_X1_curveOf_57 G P n57) r M x3 a4 a5 a6 x7 x8 s0 → W p l e (mRm 10 b) s m args below meth c H locs k k (vx_MQ below (mQ G A (mRi P)) (mXC G A (fun _ _ _ => False)) args s b b A) (F0 m 128 ls [.long s0]) := by
        intro k r M H locs ls x3 a4 a5 a6 x7 x8 s0 hk S hl h
        unfold wb_X1_curveOf_128 at h
        refine lv_lstore (lv' := [(10, .long s0), (3, .int x3), (4, .ref a4), (5, .ref a5), (6, .ref a6), (7, .int x7), (8, .int x8)]) hx hb dX1_curveOf_128 hl (by decide) rfl (fun ls hl => ?_)
        refine lv_iload hx hb dX1_curveOf_130 (lv_at hl 5 rfl) ?_
        refine lv_i2l hx hb dX1_curveOf_132 rfl ?_
        refine lv_lload hx hb dX1_curveOf_133 (lv_at hl 0 rfl) ?_
        refine mm_minl C hl.1 q1574 q1575 q68 q1576 (Nat.le_of_ble_eq_true rfl) (Nat.le_of_ble_eq_true rfl) (Nat.le_trans (Nat.le_add_right _ _) hk) (Nat.le_trans (Nat.le_add_right _ _) hk) dX1_curveOf_135 ?_
        refine lv_topl (fun g21 eg21 => ?_)
        have h := h g21 eg21
        refine lv_l2i hx hb dX1_curveOf_138 rfl ?_
        refine lv_istore (lv' := [(7, .int g21.toInt32), (10, .long s0), (3, .int x3), (4, .ref a4), (5, .ref a5), (6, .ref a6), (8, .int x8)]) hx hb dX1_curveOf_139 hl (by decide) rfl (fun ls hl => ?_)
        refine lv_iinc (v := (x8 + 1)) (lv' := [(8, .int (x8 + 1)), (7, .int g21.toInt32), (10, .long s0), (3, .int x3), (4, .ref a4), (5, .ref a5), (6, .ref a6)]) hx hb dX1_curveOf_141 hl (k := 6) rfl rfl (by decide) rfl (fun ls hl => ?_)
        refine lv_goto (tgt := 57) hx hb dX1_curveOf_144 (by decide) ?_
        exact ih57 _ _ _ _ _ _ _ _ _ _ _ _ hk S (lv_sub hl [3, 4, 5, 6, 1, 0] rfl) h
      have j83 : ∀ (k r : Nat) (M : mM) (H : Heap) (locs : List Loc) (ls : Array Slot) (x3 : Int32) (a4 : Nat) (a5 : Nat) (a6 : Nat) (x7 : Int32) (x8 : Int32) (s0 : Int32), k + r ≤ b → mW G A s M H locs → lv_has ls 12 [(3, .int x3), (4, .ref a4), (5, .ref a5), (6, .ref a6), (7, .int x7), (8, .int x8)] → wb_X1_curveOf_83 G P (wl_X1_curveOf_57 G P n57) r M x3 a4 a5 a6 x7 x8 s0 → W p l e (mRm 10 b) s m args below meth c H locs k k (vx_MQ below (mQ G A (mRi P)) (mXC G A (fun _ _ _ => False)) args s b b A) (F0 m 83 ls [.int s0]) := by
        intro k r M H locs ls x3 a4 a5 a6 x7 x8 s0 hk S hl h
        unfold wb_X1_curveOf_83 at h
        refine lv_istore (lv' := [(9, .int s0), (3, .int x3), (4, .ref a4), (5, .ref a5), (6, .ref a6), (7, .int x7), (8, .int x8)]) hx hb dX1_curveOf_83 hl (by decide) rfl (fun ls hl => ?_)
        refine lv_iload hx hb dX1_curveOf_85 (lv_at hl 0 rfl) ?_
        refine lv_if_eq (tgt := 122) hx hb dX1_curveOf_87 (by decide) (fun c9 => ?_) (fun c9 => ?_)
        · have h := h.1 c9
          refine lv_aload hx hb dX1_curveOf_122 (lv_at hl 4 rfl) ?_
          refine lv_iload hx hb dX1_curveOf_124 (lv_at hl 6 rfl) ?_
          refine mm_iald C S h dX1_curveOf_126 (fun v14 h => ?_)
          refine lv_i2l hx hb dX1_curveOf_127 rfl ?_
          exact j128 _ _ _ _ _ _ _ _ _ _ _ _ _ hk S (lv_sub hl [1, 2, 3, 4, 5, 6] rfl) h
        · have h := h.2 c9
          refine lv_ldc2 hx hb C.hown (C.ts _ q1573) dX1_curveOf_90 ?_
          refine lv_aload hx hb dX1_curveOf_93 (lv_at hl 2 rfl) ?_
          refine lv_iload hx hb dX1_curveOf_95 (lv_at hl 6 rfl) ?_
          refine mm_iald C S h dX1_curveOf_97 (fun v15 h => ?_)
          refine lv_i2l hx hb dX1_curveOf_98 rfl ?_
          refine lv_lmul hx hb dX1_curveOf_99 ?_
          refine lv_aload hx hb dX1_curveOf_100 (lv_at hl 3 rfl) ?_
          refine lv_iconst (v := 0) hx hb dX1_curveOf_102 (by decide) ?_
          refine mm_iald C S h dX1_curveOf_103 (fun v16 h => ?_)
          refine lv_i2l hx hb dX1_curveOf_104 rfl ?_
          refine lv_lmul hx hb dX1_curveOf_105 ?_
          refine lv_topl (fun g17 eg17 => ?_)
          have h := h g17 eg17
          refine lv_aload hx hb dX1_curveOf_106 (lv_at hl 3 rfl) ?_
          refine lv_iload hx hb dX1_curveOf_108 (lv_at hl 6 rfl) ?_
          refine mm_iald C S h dX1_curveOf_110 (fun v18 h => ?_)
          refine lv_i2l hx hb dX1_curveOf_111 rfl ?_
          refine lv_aload hx hb dX1_curveOf_112 (lv_at hl 2 rfl) ?_
          refine lv_iconst (v := 0) hx hb dX1_curveOf_114 (by decide) ?_
          refine mm_iald C S h dX1_curveOf_115 (fun v19 h => ?_)
          refine lv_i2l hx hb dX1_curveOf_116 rfl ?_
          refine lv_lmul hx hb dX1_curveOf_117 ?_
          refine lv_topl (fun g20 eg20 => ?_)
          have h := h g20 eg20
          refine lv_ldiv hx hb dX1_curveOf_118 h.1 ?_
          have h := h.2
          refine lv_goto (tgt := 128) hx hb dX1_curveOf_119 (by decide) ?_
          exact j128 _ _ _ _ _ _ _ _ _ _ _ _ _ hk S (lv_sub hl [1, 2, 3, 4, 5, 6] rfl) h
      have j82 : ∀ (k r : Nat) (M : mM) (H : Heap) (locs : List Loc) (ls : Array Slot) (x3 : Int32) (a4 : Nat) (a5 : Nat) (a6 : Nat) (x7 : Int32) (x8 : Int32), k + r ≤ b → mW G A s M H locs → lv_has ls 12 [(3, .int x3), (4, .ref a4), (5, .ref a5), (6, .ref a6), (7, .int x7), (8, .int x8)] → wb_X1_curveOf_82 G P (wl_X1_curveOf_57 G P n57) r M x3 a4 a5 a6 x7 x8 → W p l e (mRm 10 b) s m args below meth c H locs k k (vx_MQ below (mQ G A (mRi P)) (mXC G A (fun _ _ _ => False)) args s b b A) (F0 m 82 ls []) := by
        intro k r M H locs ls x3 a4 a5 a6 x7 x8 hk S hl h
        unfold wb_X1_curveOf_82 at h
        refine lv_iconst (v := 0) hx hb dX1_curveOf_82 (by decide) ?_
        exact j83 _ _ _ _ _ _ _ _ _ _ _ _ _ hk S hl h
      intro k r M H locs ls x3 a4 a5 a6 x7 x8 hk S hl h
      rw [wl_X1_curveOf_57] at h
      refine lv_iload hx hb dX1_curveOf_57 (lv_at hl 5 rfl) ?_
      refine lv_iload_n hx hb dX1_curveOf_59 rfl (lv_at hl 0 rfl) ?_
      refine lv_icmp_gt (tgt := 147) hx hb dX1_curveOf_60 (by decide) (fun c9 => ?_) (fun c9 => ?_)
      · have h := h.1 c9
        refine lv_iload hx hb dX1_curveOf_147 (lv_at hl 4 rfl) ?_
        exact mm_iret C S hr (Nat.le_trans (Nat.le_add_right _ _) hk) dX1_curveOf_149 h
      · have h := h.2 c9
        refine lv_aload hx hb dX1_curveOf_63 (lv_at hl 2 rfl) ?_
        refine lv_iload hx hb dX1_curveOf_65 (lv_at hl 5 rfl) ?_
        refine mm_iald C S h dX1_curveOf_67 (fun v12 h => ?_)
        refine lv_if_eq (tgt := 82) hx hb dX1_curveOf_68 (by decide) (fun c9 => ?_) (fun c9 => ?_)
        · have h := h.1 c9
          exact j82 _ _ _ _ _ _ _ _ _ _ _ _ hk S hl h
        · have h := h.2 c9
          refine lv_aload hx hb dX1_curveOf_71 (lv_at hl 1 rfl) ?_
          refine lv_iconst (v := 0) hx hb dX1_curveOf_73 (by decide) ?_
          refine mm_iald C S h dX1_curveOf_74 (fun v13 h => ?_)
          refine lv_if_eq (tgt := 82) hx hb dX1_curveOf_75 (by decide) (fun c9 => ?_) (fun c9 => ?_)
          · have h := h.1 c9
            exact j82 _ _ _ _ _ _ _ _ _ _ _ _ hk S hl h
          · have h := h.2 c9
            refine lv_iconst (v := 1) hx hb dX1_curveOf_78 (by decide) ?_
            refine lv_goto (tgt := 83) hx hb dX1_curveOf_79 (by decide) ?_
            exact j83 _ _ _ _ _ _ _ _ _ _ _ _ _ hk S hl h
  unfold wp_X1_curveOf at h
  refine lv_aload_n hx hb dX1_curveOf_0 rfl (lv_at hl 0 rfl) ?_
  refine mm_gfa C S (ci := 0) (k := 9) rfl in_X1 (by decide) q224 (fun _ h9 => h9) dX1_curveOf_1 h (fun u1 h => ?_)
  refine lv_iconst (v := 3) hx hb dX1_curveOf_4 (by decide) ?_
  refine lv_iload_n hx hb dX1_curveOf_5 rfl (lv_at hl 1 rfl) ?_
  refine lv_imul hx hb dX1_curveOf_6 ?_
  refine lv_iload_n hx hb dX1_curveOf_7 rfl (lv_at hl 2 rfl) ?_
  refine lv_iadd hx hb dX1_curveOf_8 ?_
  refine mm_aald C S (t := 8) rfl rfl h dX1_curveOf_9 (fun u2 h => ?_)
  refine lv_astore (lv' := [(4, .ref u2), (0, .ref a0), (1, .int x1), (2, .int x2), (3, .int x3)]) hx hb dX1_curveOf_10 hl (by decide) rfl (fun ls hl => ?_)
  refine lv_aload_n hx hb dX1_curveOf_12 rfl (lv_at hl 1 rfl) ?_
  refine mm_gfa C S (ci := 0) (k := 8) rfl in_X1 (by decide) q223 (fun _ h9 => h9) dX1_curveOf_13 h (fun u3 h => ?_)
  refine lv_iload_n hx hb dX1_curveOf_16 rfl (lv_at hl 3 rfl) ?_
  refine mm_aald C S (t := 8) rfl rfl h dX1_curveOf_17 (fun u4 h => ?_)
  refine lv_astore (lv' := [(5, .ref u4), (4, .ref u2), (0, .ref a0), (1, .int x1), (2, .int x2), (3, .int x3)]) hx hb dX1_curveOf_18 hl (by decide) rfl (fun ls hl => ?_)
  refine lv_iconst (v := 4) hx hb dX1_curveOf_20 (by decide) ?_
  refine mm_newa C S (t := 0) (ty := .int) (atype := .int) rfl rfl (by decide) q135 (fun _ h9 => h9) (fun _ => rfl) (by decide) dX1_curveOf_21 rfl rfl hk h (fun u5 M6 r7 k H h S hk => ?_)
  refine lv_dup hx hb dX1_curveOf_23 rfl ?_
  refine lv_iconst (v := 0) hx hb dX1_curveOf_24 (by decide) ?_
  refine lv_sipush (v := 1000) hx hb dX1_curveOf_25 (by decide) ?_
  refine mm_iast C S h dX1_curveOf_28 (fun M8 H locs h S => ?_)
  refine lv_dup hx hb dX1_curveOf_29 rfl ?_
  refine lv_iconst (v := 1) hx hb dX1_curveOf_30 (by decide) ?_
  refine lv_sipush (v := 800) hx hb dX1_curveOf_31 (by decide) ?_
  refine mm_iast C S h dX1_curveOf_34 (fun M9 H locs h S => ?_)
  refine lv_dup hx hb dX1_curveOf_35 rfl ?_
  refine lv_iconst (v := 2) hx hb dX1_curveOf_36 (by decide) ?_
  refine lv_sipush (v := 500) hx hb dX1_curveOf_37 (by decide) ?_
  refine mm_iast C S h dX1_curveOf_40 (fun M10 H locs h S => ?_)
  refine lv_dup hx hb dX1_curveOf_41 rfl ?_
  refine lv_iconst (v := 3) hx hb dX1_curveOf_42 (by decide) ?_
  refine lv_sipush (v := 200) hx hb dX1_curveOf_43 (by decide) ?_
  refine mm_iast C S h dX1_curveOf_46 (fun M11 H locs h S => ?_)
  refine lv_astore (lv' := [(6, .ref u5), (5, .ref u4), (4, .ref u2), (0, .ref a0), (1, .int x1), (2, .int x2), (3, .int x3)]) hx hb dX1_curveOf_47 hl (by decide) rfl (fun ls hl => ?_)
  refine lv_sipush (v := 1000) hx hb dX1_curveOf_49 (by decide) ?_
  refine lv_istore (lv' := [(7, .int 1000), (6, .ref u5), (5, .ref u4), (4, .ref u2), (0, .ref a0), (1, .int x1), (2, .int x2), (3, .int x3)]) hx hb dX1_curveOf_52 hl (by decide) rfl (fun ls hl => ?_)
  refine lv_iconst (v := 1) hx hb dX1_curveOf_54 (by decide) ?_
  refine lv_istore (lv' := [(8, .int 1), (7, .int 1000), (6, .ref u5), (5, .ref u4), (4, .ref u2), (0, .ref a0), (1, .int x1), (2, .int x2), (3, .int x3)]) hx hb dX1_curveOf_55 hl (by decide) rfl (fun ls hl => ?_)
  obtain ⟨nf, h⟩ := h
  exact j57 nf _ _ _ _ _ _ _ _ _ _ _ _ hk S (lv_sub hl [8, 4, 3, 2, 1, 0] rfl) h
/-! X1_curve: level 12, alloc, throws java/lang/IllegalArgumentException,java/lang/IndexOutOfBoundsException -/
def wp_X1_curve (G : mG) (b : Nat) (P : Int32 → mM → Prop) (X : String → Nat → mM → Prop) (M : mM) (a0 : Nat) (x1 : Int32) (x2 : Int32) (x3 : Int32) : Prop :=
  ∃ b2 r3 : Nat, b2 + r3 = b ∧ wp_X1_checkIndex G b2 (fun M1 => ∃ b5 r6 : Nat, b5 + r6 = r3 ∧ wp_X1_checkRange G b5 (fun M4 => ∃ b8 r9 : Nat, b8 + r9 = r6 ∧ wp_X1_checkRange G b8 (fun M7 => isc M7 a0 0 ∧ (∃ b11 r12 : Nat, b11 + r12 = r9 ∧ wp_X1_curveOf G b11 (fun v13 M10 => P v13 M10) M7 a0 x1 x2 x3)) X M4 x3 0 3) X M1 x2 0 2) X M x1 4
set_option maxHeartbeats 4000000 in
set_option maxRecDepth 100000 in
theorem wk_X1_curve {l : Launch} (hst0 : l.stackTraces = false) {G : mG} {b : Nat} {P : Int32 → mM → Prop} {X : String → Nat → mM → Prop} {M : mM} {a0 : Nat} {x1 : Int32} {x2 : Int32} {x3 : Int32} (h : wp_X1_curve G b P X M a0 x1 x2 x3) : mMet l yX1_curve (ws_ yX1_curve cX1_curve 4 (Option.some Jvm.ClassFile.FieldType.int)) 12 b G [.ref a0, .int x1, .int x2, .int x3] M (mRi P) X := by
  refine mm_met hst0 (by decide) (Nat.le_of_ble_eq_true rfl) ?_
  intro p e s m args below meth c ls C hr hnt hnm hl S
  have hl : lv_has ls 4 [(0, .ref a0), (1, .int x1), (2, .int x2), (3, .int x3)] := hl
  generalize mA M s.heap.size = A at C S ⊢
  have hx := C.hx
  have hb := C.hb
  have hk : 0 + b ≤ b := Nat.le_of_eq (Nat.zero_add b)
  unfold wp_X1_curve at h
  refine lv_iload_n hx hb dX1_curve_0 rfl (lv_at hl 1 rfl) ?_
  refine lv_iconst (v := 4) hx hb dX1_curve_1 (by decide) ?_
  obtain ⟨b2, r3, hb9, h⟩ := h
  refine mm_S (As := [.int x1, .int 4]) (rest := []) C S hl.1 (wk_X1_checkIndex hst0 h) (lw_S q516 q517 q48 q518) pd_X1_checkIndex ⟨Nat.le_of_ble_eq_true rfl, Nat.le_of_ble_eq_true rfl⟩ rfl rfl (Nat.le_of_ble_eq_true rfl) dX1_curve_2 rfl rfl hk hb9 (fun v9 M1 H locs hP S hk => ?_) (fun E q ce M9 H9 locs9 hX S9 hk9 hc9 hv9 hf9 => mm_out C S9 (fun x hx => (hnt x hx).elim) (Nat.le_trans (Nat.le_add_right _ _) hk9) hc9 hv9 hf9 hX)
  obtain ⟨rfl, h⟩ := hP
  refine W.eq (g2 := F0 m 5 ls []) rfl ?_
  refine lv_iload_n hx hb dX1_curve_5 rfl (lv_at hl 2 rfl) ?_
  refine lv_iconst (v := 0) hx hb dX1_curve_6 (by decide) ?_
  refine lv_iconst (v := 2) hx hb dX1_curve_7 (by decide) ?_
  obtain ⟨b5, r6, hb9, h⟩ := h
  refine mm_S (As := [.int x2, .int 0, .int 2]) (rest := []) C S hl.1 (wk_X1_checkRange hst0 h) (lw_S q540 q541 q48 q542) pd_X1_checkRange ⟨Nat.le_of_ble_eq_true rfl, Nat.le_of_ble_eq_true rfl⟩ rfl rfl (Nat.le_of_ble_eq_true rfl) dX1_curve_8 rfl rfl hk hb9 (fun v9 M4 H locs hP S hk => ?_) (fun E q ce M9 H9 locs9 hX S9 hk9 hc9 hv9 hf9 => mm_out C S9 (fun x hx => (hnt x hx).elim) (Nat.le_trans (Nat.le_add_right _ _) hk9) hc9 hv9 hf9 hX)
  obtain ⟨rfl, h⟩ := hP
  refine W.eq (g2 := F0 m 11 ls []) rfl ?_
  refine lv_iload_n hx hb dX1_curve_11 rfl (lv_at hl 3 rfl) ?_
  refine lv_iconst (v := 0) hx hb dX1_curve_12 (by decide) ?_
  refine lv_iconst (v := 3) hx hb dX1_curve_13 (by decide) ?_
  obtain ⟨b8, r9, hb9, h⟩ := h
  refine mm_S (As := [.int x3, .int 0, .int 3]) (rest := []) C S hl.1 (wk_X1_checkRange hst0 h) (lw_S q540 q541 q48 q542) pd_X1_checkRange ⟨Nat.le_of_ble_eq_true rfl, Nat.le_of_ble_eq_true rfl⟩ rfl rfl (Nat.le_of_ble_eq_true rfl) dX1_curve_14 rfl rfl hk hb9 (fun v9 M7 H locs hP S hk => ?_) (fun E q ce M9 H9 locs9 hX S9 hk9 hc9 hv9 hf9 => mm_out C S9 (fun x hx => (hnt x hx).elim) (Nat.le_trans (Nat.le_add_right _ _) hk9) hc9 hv9 hf9 hX)
  obtain ⟨rfl, h⟩ := hP
  refine W.eq (g2 := F0 m 17 ls []) rfl ?_
  refine lv_aload_n hx hb dX1_curve_17 rfl (lv_at hl 0 rfl) ?_
  refine lv_iload_n hx hb dX1_curve_18 rfl (lv_at hl 1 rfl) ?_
  refine lv_iload_n hx hb dX1_curve_19 rfl (lv_at hl 2 rfl) ?_
  refine lv_iload_n hx hb dX1_curve_20 rfl (lv_at hl 3 rfl) ?_
  obtain ⟨hI, h⟩ := h
  obtain ⟨b11, r12, hb9, h⟩ := h
  refine mm_V (As := [.int x1, .int x2, .int x3]) (rest := []) C S hl.1 (wk_X1_curveOf hst0 h) (T := TX1) rfl hI (lw_V q1569 q1571 qs19 q48 q1572) rfl pd_X1_curveOf ⟨Nat.le_of_ble_eq_true rfl, Nat.le_of_ble_eq_true rfl⟩ rfl rfl (Nat.le_of_ble_eq_true rfl) dX1_curve_21 rfl rfl hk hb9 (fun v9 M10 H locs hP S hk => ?_) (fun E q ce M9 H9 locs9 hX => hX.elim)
  obtain ⟨v13, rfl, h⟩ := hP
  refine W.eq (g2 := F0 m 24 ls [.int v13]) rfl ?_
  exact mm_iret C S hr (Nat.le_trans (Nat.le_add_right _ _) hk) dX1_curve_24 h
/-! X0_curve: level 13, alloc -/
def wb_X0_curve_15 (G : mG) (P : Int32 → mM → Prop) (r : Nat) (M : mM) (s0 : Nat) : Prop :=
  P 1 M
def wb_X0_curve_19 (G : mG) (P : Int32 → mM → Prop) (r : Nat) (M : mM) (s0 : Nat) : Prop :=
  P 2 M
def wp_X0_curve (G : mG) (b : Nat) (P : Int32 → mM → Prop) (M : mM) (a0 : Nat) (x1 : Int32) (x2 : Int32) (x3 : Int32) (a4 : Nat) : Prop :=
  isc M a0 0 ∧ (∃ b2 r3 : Nat, b2 + r3 = b ∧ wp_X1_curve G b2 (fun v4 M1 => stl M1 4 a4 0 v4.toInt64 fun M5 => P 0 M5) (fun E9 u6 M7 => (E9 = "java/lang/IllegalArgumentException" ∧ wb_X0_curve_19 G P r3 M7 u6) ∨ (E9 = "java/lang/IndexOutOfBoundsException" ∧ wb_X0_curve_15 G P r3 M7 u6)) M a0 x1 x2 x3)
set_option maxHeartbeats 4000000 in
set_option maxRecDepth 100000 in
theorem wk_X0_curve {l : Launch} (hst0 : l.stackTraces = false) {G : mG} {b : Nat} {P : Int32 → mM → Prop} {M : mM} {a0 : Nat} {x1 : Int32} {x2 : Int32} {x3 : Int32} {a4 : Nat} (h : wp_X0_curve G b P M a0 x1 x2 x3 a4) : mMet l yX0_curve (wsW_ yX0_curve cX0_curve 6 (Option.some Jvm.ClassFile.FieldType.int) [((0 : Nat), (12 : Nat), (15 : Nat), (13 : Nat)), ((0 : Nat), (12 : Nat), (19 : Nat), (15 : Nat))]) 13 b G [.ref a0, .int x1, .int x2, .int x3, .ref a4] M (mRi P) (fun _ _ _ => False) := by
  refine mm_metW hst0 (by decide) (Nat.le_of_ble_eq_true rfl) ?_
  intro p e s m args below meth c ls C hr htab hnm hl S
  have hl : lv_has ls 6 [(0, .ref a0), (1, .int x1), (2, .int x2), (3, .int x3), (4, .ref a4)] := hl
  generalize mA M s.heap.size = A at C S ⊢
  have hx := C.hx
  have hb := C.hb
  have hk : 0 + b ≤ b := Nat.le_of_eq (Nat.zero_add b)
  have j15 : ∀ (k r : Nat) (M : mM) (H : Heap) (locs : List Loc) (ls : Array Slot) (s0 : Nat), k + r ≤ b → mW G A s M H locs → lv_has ls 6 [] → wb_X0_curve_15 G P r M s0 → W p l e (mRm 13 b) s m args below meth c H locs k k (vx_MQ below (mQ G A (mRi P)) (mXC G A (fun _ _ _ => False)) args s b b A) (F0 m 15 ls [.ref s0]) := by
    intro k r M H locs ls s0 hk S hl h
    unfold wb_X0_curve_15 at h
    refine lv_astore (lv' := [(5, .ref s0)]) hx hb dX0_curve_15 hl (by decide) rfl (fun ls hl => ?_)
    refine lv_iconst (v := 1) hx hb dX0_curve_17 (by decide) ?_
    exact mm_iret C S hr (Nat.le_trans (Nat.le_add_right _ _) hk) dX0_curve_18 h
  have j19 : ∀ (k r : Nat) (M : mM) (H : Heap) (locs : List Loc) (ls : Array Slot) (s0 : Nat), k + r ≤ b → mW G A s M H locs → lv_has ls 6 [] → wb_X0_curve_19 G P r M s0 → W p l e (mRm 13 b) s m args below meth c H locs k k (vx_MQ below (mQ G A (mRi P)) (mXC G A (fun _ _ _ => False)) args s b b A) (F0 m 19 ls [.ref s0]) := by
    intro k r M H locs ls s0 hk S hl h
    unfold wb_X0_curve_19 at h
    refine lv_astore (lv' := [(5, .ref s0)]) hx hb dX0_curve_19 hl (by decide) rfl (fun ls hl => ?_)
    refine lv_iconst (v := 2) hx hb dX0_curve_21 (by decide) ?_
    exact mm_iret C S hr (Nat.le_trans (Nat.le_add_right _ _) hk) dX0_curve_22 h
  unfold wp_X0_curve at h
  refine lv_aload hx hb dX0_curve_0 (lv_at hl 4 rfl) ?_
  refine lv_iconst (v := 0) hx hb dX0_curve_2 (by decide) ?_
  refine lv_aload_n hx hb dX0_curve_3 rfl (lv_at hl 0 rfl) ?_
  refine lv_iload_n hx hb dX0_curve_4 rfl (lv_at hl 1 rfl) ?_
  refine lv_iload_n hx hb dX0_curve_5 rfl (lv_at hl 2 rfl) ?_
  refine lv_iload_n hx hb dX0_curve_6 rfl (lv_at hl 3 rfl) ?_
  obtain ⟨hI, h⟩ := h
  obtain ⟨b2, r3, hb9, h⟩ := h
  refine mm_V (As := [.int x1, .int x2, .int x3]) (rest := [.int 0, .ref a4]) C S hl.1 (wk_X1_curve hst0 h) (T := TX1) rfl hI (lw_V q1620 q1621 q1622 q48 q1623) rfl pd_X1_curve ⟨Nat.le_of_ble_eq_true rfl, Nat.le_of_ble_eq_true rfl⟩ rfl rfl (Nat.le_of_ble_eq_true rfl) dX0_curve_7 rfl rfl hk hb9 (fun v9 M1 H locs hP S hk => ?_) (fun E u6 ce M7 H locs hX S hk hc9 hv9 hf9 => ?_)
  · obtain ⟨v4, rfl, h⟩ := hP
    refine W.eq (g2 := F0 m 10 ls [.int v4, .int 0, .ref a4]) rfl ?_
    refine lv_i2l hx hb dX0_curve_10 rfl ?_
    refine mm_last C S h dX0_curve_11 (fun M5 H locs h S => ?_)
    refine lv_goto (tgt := 23) hx hb dX0_curve_12 (by decide) ?_
    refine lv_iconst (v := 0) hx hb dX0_curve_23 (by decide) ?_
    exact mm_iret C S hr (Nat.le_trans (Nat.le_add_right _ _) hk) dX0_curve_24 h
  · rcases hX with ⟨rfl, h⟩ | ⟨rfl, h⟩
    · refine vx_catch (pc := 7) (name := "java/lang/IllegalArgumentException") C.hown [(⟨0, 12, 15, 13⟩ : ExceptionTableEntry)] (⟨0, 12, 19, 15⟩ : ExceptionTableEntry) [] htab (mm_pass1 C (nm := "java/lang/IndexOutOfBoundsException") (by decide) q431 (by decide) mm_pass0) (by decide) (by decide) (C.ts _ q511) (va_Nw.use rfl (C.nw q548 rfl)) hc9 hv9 hf9 ?_
      exact j19 _ _ _ _ _ _ _ hk S (lv_sub hl [] rfl) h
    · refine vx_catch (pc := 7) (name := "java/lang/IndexOutOfBoundsException") C.hown [] (⟨0, 12, 15, 13⟩ : ExceptionTableEntry) [(⟨0, 12, 19, 15⟩ : ExceptionTableEntry)] htab mm_pass0 (by decide) (by decide) (C.ts _ q431) (va_Nw.use rfl (C.nw q521 rfl)) hc9 hv9 hf9 ?_
      exact j15 _ _ _ _ _ _ _ hk S (lv_sub hl [] rfl) h
/-! X1_at: level 13, alloc, throws java/lang/IndexOutOfBoundsException -/
def wp_X1_at (G : mG) (b : Nat) (P : Nat → mM → Prop) (X : String → Nat → mM → Prop) (M : mM) (a0 : Nat) (x1 : Int32) : Prop :=
  isc M a0 16 ∧ (wp_J2_size G 0 (fun v2 M1 => ∃ b4 r5 : Nat, b4 + r5 = b ∧ wp_X1_checkIndex G b4 (fun M3 => isc M3 a0 16 ∧ (wp_J2_get G 0 (fun u7 M6 => P u7 M6) M3 a0 x1)) X M1 x1 v2) M a0)
set_option maxHeartbeats 4000000 in
set_option maxRecDepth 100000 in
theorem wk_X1_at {l : Launch} (hst0 : l.stackTraces = false) {G : mG} {b : Nat} {P : Nat → mM → Prop} {X : String → Nat → mM → Prop} {M : mM} {a0 : Nat} {x1 : Int32} (h : wp_X1_at G b P X M a0 x1) : mMet l yX1_at (ws_ yX1_at cX1_at 2 (Option.some (Jvm.ClassFile.FieldType.object "java/lang/Object"))) 13 b G [.ref a0, .int x1] M (mRa P) X := by
  refine mm_met hst0 (by decide) (Nat.le_of_ble_eq_true rfl) ?_
  intro p e s m args below meth c ls C hr hnt hnm hl S
  have hl : lv_has ls 2 [(0, .ref a0), (1, .int x1)] := hl
  generalize mA M s.heap.size = A at C S ⊢
  have hx := C.hx
  have hb := C.hb
  have hk : 0 + b ≤ b := Nat.le_of_eq (Nat.zero_add b)
  unfold wp_X1_at at h
  refine lv_iload_n hx hb dX1_at_0 rfl (lv_at hl 1 rfl) ?_
  refine lv_aload_n hx hb dX1_at_1 rfl (lv_at hl 0 rfl) ?_
  obtain ⟨hI, h⟩ := h
  refine mm_F (As := []) (rest := [.int x1]) C S hl.1 (x := ⟨"java/util/List", "size", "()I"⟩) (wk_J2_size hst0 h) (T := TJ2) rfl hI (mWsF q284 q288 q290 q51 (lw_meth q292)) (by decide +kernel) pdi_2 ⟨Nat.le_of_ble_eq_true rfl, Nat.le_of_ble_eq_true rfl⟩ rfl rfl (Nat.le_of_ble_eq_true rfl) dX1_at_2 rfl rfl hk (Nat.zero_add _) (fun v9 M1 H locs hP S hk => ?_) (fun E q ce M9 H9 locs9 hX => hX.elim)
  obtain ⟨v2, rfl, h⟩ := hP
  refine W.eq (g2 := F0 m 7 ls [.int v2, .int x1]) rfl ?_
  obtain ⟨b4, r5, hb9, h⟩ := h
  refine mm_S (As := [.int x1, .int v2]) (rest := []) C S hl.1 (wk_X1_checkIndex hst0 h) (lw_S q516 q517 q48 q518) pd_X1_checkIndex ⟨Nat.le_of_ble_eq_true rfl, Nat.le_of_ble_eq_true rfl⟩ rfl rfl (Nat.le_of_ble_eq_true rfl) dX1_at_7 rfl rfl hk hb9 (fun v9 M3 H locs hP S hk => ?_) (fun E q ce M9 H9 locs9 hX S9 hk9 hc9 hv9 hf9 => mm_out C S9 (fun x hx => (hnt x hx).elim) (Nat.le_trans (Nat.le_add_right _ _) hk9) hc9 hv9 hf9 hX)
  obtain ⟨rfl, h⟩ := hP
  refine W.eq (g2 := F0 m 10 ls []) rfl ?_
  refine lv_aload_n hx hb dX1_at_10 rfl (lv_at hl 0 rfl) ?_
  refine lv_iload_n hx hb dX1_at_11 rfl (lv_at hl 1 rfl) ?_
  obtain ⟨hI, h⟩ := h
  refine mm_F (As := [.int x1]) (rest := []) C S hl.1 (x := ⟨"java/util/List", "get", "(I)Ljava/lang/Object;"⟩) (wk_J2_get hst0 h) (T := TJ2) rfl hI (mWsF q294 q297 q299 q51 (lw_meth q301)) (by decide +kernel) pdi_4 ⟨Nat.le_of_ble_eq_true rfl, Nat.le_of_ble_eq_true rfl⟩ rfl rfl (Nat.le_of_ble_eq_true rfl) dX1_at_12 rfl rfl hk (Nat.zero_add _) (fun v9 M6 H locs hP S hk => ?_) (fun E q ce M9 H9 locs9 hX => hX.elim)
  obtain ⟨u7, rfl, h⟩ := hP
  refine W.eq (g2 := F0 m 17 ls [.ref u7]) rfl ?_
  exact mm_aret C S hr (Or.inl ⟨_, rfl⟩) (Nat.le_trans (Nat.le_add_right _ _) hk) dX1_at_17 h
/-! X1_greatest: level 10 -/
def wl_X1_greatest_12 (G : mG) (P : Int32 → mM → Prop) : Nat → Nat → mM → Int32 → Nat → Int32 → Int32 → Prop
  | 0, _, _, _, _, _, _ => False
  | n + 1, r, M, x1, a2, x3, x4 => (x3 ≤ x4 → P x1 M) ∧ (¬ x3 ≤ x4 → ldi M 0 a2 x4 fun v2 => ∀ g3 : Int32, g3 = (if x1 < v2 then v2 else x1) → (wl_X1_greatest_12 G P n) r M g3 a2 x3 (x4 + 1))
def wp_X1_greatest (G : mG) (b : Nat) (P : Int32 → mM → Prop) (M : mM) (a0 : Nat) : Prop :=
  aln M a0 fun v1 => ∃ n12, wl_X1_greatest_12 G P n12 b M (-2147483648) a0 v1 0
set_option maxHeartbeats 4000000 in
set_option maxRecDepth 100000 in
theorem wk_X1_greatest {l : Launch} (hst0 : l.stackTraces = false) {G : mG} {b : Nat} {P : Int32 → mM → Prop} {M : mM} {a0 : Nat} (h : wp_X1_greatest G b P M a0) : mMet l yX1_greatest (ws_ yX1_greatest cX1_greatest 6 (Option.some Jvm.ClassFile.FieldType.int)) 10 b G [.ref a0] M (mRi P) (fun _ _ _ => False) := by
  refine mm_met hst0 (by decide) (Nat.le_of_ble_eq_true rfl) ?_
  intro p e s m args below meth c ls C hr hnt hnm hl S
  have hl : lv_has ls 6 [(0, .ref a0)] := hl
  generalize mA M s.heap.size = A at C S ⊢
  have hx := C.hx
  have hb := C.hb
  have hk : 0 + b ≤ b := Nat.le_of_eq (Nat.zero_add b)
  have j12 : ∀ (nf : Nat) (k r : Nat) (M : mM) (H : Heap) (locs : List Loc) (ls : Array Slot) (x1 : Int32) (a2 : Nat) (x3 : Int32) (x4 : Int32), k + r ≤ b → mW G A s M H locs → lv_has ls 6 [(1, .int x1), (2, .ref a2), (3, .int x3), (4, .int x4)] → wl_X1_greatest_12 G P nf r M x1 a2 x3 x4 → W p l e (mRm 10 b) s m args below meth c H locs k k (vx_MQ below (mQ G A (mRi P)) (mXC G A (fun _ _ _ => False)) args s b b A) (F0 m 12 ls []) := by
    intro nf
    induction nf with
    | zero =>
      intro k r M H locs ls x1 a2 x3 x4 hk S hl h
      rw [wl_X1_greatest_12] at h
      exact h.elim
    | succ n12 ih12 =>
      intro k r M H locs ls x1 a2 x3 x4 hk S hl h
      rw [wl_X1_greatest_12] at h
      refine lv_iload hx hb dX1_greatest_12 (lv_at hl 3 rfl) ?_
      refine lv_iload_n hx hb dX1_greatest_14 rfl (lv_at hl 2 rfl) ?_
      refine lv_icmp_ge (tgt := 37) hx hb dX1_greatest_15 (by decide) (fun c9 => ?_) (fun c9 => ?_)
      · have h := h.1 c9
        refine lv_iload_n hx hb dX1_greatest_37 rfl (lv_at hl 0 rfl) ?_
        exact mm_iret C S hr (Nat.le_trans (Nat.le_add_right _ _) hk) dX1_greatest_38 h
      · have h := h.2 c9
        refine lv_aload_n hx hb dX1_greatest_18 rfl (lv_at hl 1 rfl) ?_
        refine lv_iload hx hb dX1_greatest_19 (lv_at hl 3 rfl) ?_
        refine mm_iald C S h dX1_greatest_21 (fun v2 h => ?_)
        refine lv_istore (lv' := [(5, .int v2), (1, .int x1), (2, .ref a2), (3, .int x3), (4, .int x4)]) hx hb dX1_greatest_22 hl (by decide) rfl (fun ls hl => ?_)
        refine lv_iload_n hx hb dX1_greatest_24 rfl (lv_at hl 1 rfl) ?_
        refine lv_iload hx hb dX1_greatest_25 (lv_at hl 0 rfl) ?_
        refine mm_max C hl.1 q327 q328 q68 q329 (Nat.le_of_ble_eq_true rfl) (Nat.le_of_ble_eq_true rfl) (Nat.le_trans (Nat.le_add_right _ _) hk) (Nat.le_trans (Nat.le_add_right _ _) hk) dX1_greatest_27 ?_
        refine lv_topi (fun g3 eg3 => ?_)
        have h := h g3 eg3
        refine lv_istore_n (lv' := [(1, .int g3), (5, .int v2), (2, .ref a2), (3, .int x3), (4, .int x4)]) hx hb dX1_greatest_30 rfl hl (by decide) rfl (fun ls hl => ?_)
        refine lv_iinc (v := (x4 + 1)) (lv' := [(4, .int (x4 + 1)), (1, .int g3), (5, .int v2), (2, .ref a2), (3, .int x3)]) hx hb dX1_greatest_31 hl (k := 4) rfl rfl (by decide) rfl (fun ls hl => ?_)
        refine lv_goto (tgt := 12) hx hb dX1_greatest_34 (by decide) ?_
        exact ih12 _ _ _ _ _ _ _ _ _ _ hk S (lv_sub hl [1, 3, 4, 0] rfl) h
  unfold wp_X1_greatest at h
  refine lv_ldcw hx hb C.hown (C.ts _ q1568) dX1_greatest_0 ?_
  refine lv_istore_n (lv' := [(1, .int (-2147483648)), (0, .ref a0)]) hx hb dX1_greatest_3 rfl hl (by decide) rfl (fun ls hl => ?_)
  refine lv_aload_n hx hb dX1_greatest_4 rfl (lv_at hl 1 rfl) ?_
  refine lv_astore_n (lv' := [(2, .ref a0), (1, .int (-2147483648)), (0, .ref a0)]) hx hb dX1_greatest_5 rfl hl (by decide) rfl (fun ls hl => ?_)
  refine lv_aload_n hx hb dX1_greatest_6 rfl (lv_at hl 0 rfl) ?_
  refine mm_alen C S h dX1_greatest_7 (fun v1 h => ?_)
  refine lv_istore_n (lv' := [(3, .int v1), (2, .ref a0), (1, .int (-2147483648)), (0, .ref a0)]) hx hb dX1_greatest_8 rfl hl (by decide) rfl (fun ls hl => ?_)
  refine lv_iconst (v := 0) hx hb dX1_greatest_9 (by decide) ?_
  refine lv_istore (lv' := [(4, .int 0), (3, .int v1), (2, .ref a0), (1, .int (-2147483648)), (0, .ref a0)]) hx hb dX1_greatest_10 hl (by decide) rfl (fun ls hl => ?_)
  obtain ⟨nf, h⟩ := h
  exact j12 nf _ _ _ _ _ _ _ _ _ _ hk S (lv_sub hl [3, 2, 1, 0] rfl) h
/-! X1_shareOf: level 13, alloc -/
def wb_X1_shareOf_200 (G : mG) (P : Int32 → mM → Prop) (r : Nat) (M : mM) (s0 : Int32) : Prop :=
  P s0 M
def wb_X1_shareOf_154 (G : mG) (P : Int32 → mM → Prop) (K25 : Nat → mM → Nat → Int32 → Nat → Int32 → Int32 → Int32 → Prop) (K35 : Nat → mM → Nat → Int32 → Nat → Int32 → Int32 → Int32 → Int32 → Prop) (r : Nat) (M : mM) (a0 : Nat) (x1 : Int32) (a2 : Nat) (x3 : Int32) (x4 : Int32) (x5 : Int32) (x6 : Int32) : Prop :=
  K35 r M a0 x1 a2 x3 x4 x5 (x6 + 1)
def wb_X1_shareOf_114 (G : mG) (P : Int32 → mM → Prop) (K25 : Nat → mM → Nat → Int32 → Nat → Int32 → Int32 → Int32 → Prop) (K35 : Nat → mM → Nat → Int32 → Nat → Int32 → Int32 → Int32 → Int32 → Prop) (K61 : Nat → mM → Nat → Int32 → Nat → Int32 → Int32 → Int32 → Int32 → Int32 → Int32 → Prop) (r : Nat) (M : mM) (a0 : Nat) (x1 : Int32) (a2 : Nat) (x3 : Int32) (x4 : Int32) (x5 : Int32) (x6 : Int32) (x8 : Int32) (s0 : Int32) : Prop :=
  K61 r M a0 x1 a2 x3 x4 x5 x6 s0 (x8 + 1)
def wl_X1_shareOf_61 (G : mG) (P : Int32 → mM → Prop) (K25 : Nat → mM → Nat → Int32 → Nat → Int32 → Int32 → Int32 → Prop) (K35 : Nat → mM → Nat → Int32 → Nat → Int32 → Int32 → Int32 → Int32 → Prop) : Nat → Nat → mM → Nat → Int32 → Nat → Int32 → Int32 → Int32 → Int32 → Int32 → Int32 → Prop
  | 0, _, _, _, _, _, _, _, _, _, _, _ => False
  | n + 1, r, M, a0, x1, a2, x3, x4, x5, x6, x7, x8 => gfa M a0 0 6 fun u14 => isc M u14 16 ∧ (wp_J2_size G 0 (fun v16 M15 => (v16 ≤ x8 → (x7 < 0 → wb_X1_shareOf_154 G P K25 K35 r M15 a0 x1 a2 x3 x4 x5 x6) ∧ (¬ x7 < 0 → lda M15 11 a2 x5 fun u17 => ldi M15 2 u17 x6 fun v18 => lda M15 11 a2 x5 fun u19 => ldi M15 2 u19 x6 fun v20 => ∀ g21 : Int32, g21 = (if v20 < x7 then x7 else v20) → wb_X1_shareOf_154 G P K25 K35 r M15 a0 x1 a2 (x3 + v18) (x4 + g21) x5 x6)) ∧ (¬ v16 ≤ x8 → (¬ x8 = x1 → gfa M15 a0 0 6 fun u22 => isc M15 u22 16 ∧ (wp_J2_get G 0 (fun u24 M23 => isc M23 u24 13 ∧ (gfa M23 u24 13 0 fun u25 => lda M23 11 u25 x5 fun u26 => ldi M23 2 u26 x6 fun v27 => ∀ g28 : Int32, g28 = (if x7 < v27 then v27 else x7) → wb_X1_shareOf_114 G P K25 K35 (wl_X1_shareOf_61 G P K25 K35 n) r M23 a0 x1 a2 x3 x4 x5 x6 x8 g28)) M15 u22 x8)) ∧ (x8 = x1 → wb_X1_shareOf_114 G P K25 K35 (wl_X1_shareOf_61 G P K25 K35 n) r M15 a0 x1 a2 x3 x4 x5 x6 x8 x7))) M u14)
def wl_X1_shareOf_35 (G : mG) (P : Int32 → mM → Prop) (K25 : Nat → mM → Nat → Int32 → Nat → Int32 → Int32 → Int32 → Prop) : Nat → Nat → mM → Nat → Int32 → Nat → Int32 → Int32 → Int32 → Int32 → Prop
  | 0, _, _, _, _, _, _, _, _, _ => False
  | n + 1, r, M, a0, x1, a2, x3, x4, x5, x6 => (36 ≤ x6 → K25 r M a0 x1 a2 x3 x4 (x5 + 1)) ∧ (¬ 36 ≤ x6 → lda M 11 a2 x5 fun u12 => ldi M 2 u12 x6 fun v13 => (0 ≤ v13 → ∃ n61, wl_X1_shareOf_61 G P K25 (wl_X1_shareOf_35 G P K25 n) n61 r M a0 x1 a2 x3 x4 x5 x6 (-1) 0) ∧ (¬ 0 ≤ v13 → wb_X1_shareOf_154 G P K25 (wl_X1_shareOf_35 G P K25 n) r M a0 x1 a2 x3 x4 x5 x6))
def wl_X1_shareOf_25 (G : mG) (P : Int32 → mM → Prop) : Nat → Nat → mM → Nat → Int32 → Nat → Int32 → Int32 → Int32 → Prop
  | 0, _, _, _, _, _, _, _, _ => False
  | n + 1, r, M, a0, x1, a2, x3, x4, x5 => (40 ≤ x5 → (¬ x4 = 0 → nwa M r 0 2 (.inl fun _ => 0) fun u5 M6 r7 => sti M6 0 u5 0 300 fun M8 => ¬ x4 = 0 ∧ (sti M8 0 u5 1 ((1000 * x3) / x4) fun M9 => wp_X1_greatest G 0 (fun v11 M10 => wb_X1_shareOf_200 G P r7 M10 v11) M9 u5)) ∧ (x4 = 0 → wb_X1_shareOf_200 G P r M 1000)) ∧ (¬ 40 ≤ x5 → ∃ n35, wl_X1_shareOf_35 G P (wl_X1_shareOf_25 G P n) n35 r M a0 x1 a2 x3 x4 x5 0)
def wp_X1_shareOf (G : mG) (b : Nat) (P : Int32 → mM → Prop) (M : mM) (a0 : Nat) (x1 : Int32) : Prop :=
  gfa M a0 0 6 fun u1 => isc M u1 16 ∧ (wp_J2_get G 0 (fun u3 M2 => isc M2 u3 13 ∧ (gfa M2 u3 13 0 fun u4 => ∃ n25, wl_X1_shareOf_25 G P n25 b M2 a0 x1 u4 0 0 0)) M u1 x1)
set_option maxHeartbeats 4000000 in
set_option maxRecDepth 100000 in
theorem wk_X1_shareOf {l : Launch} (hst0 : l.stackTraces = false) {G : mG} {b : Nat} {P : Int32 → mM → Prop} {M : mM} {a0 : Nat} {x1 : Int32} (h : wp_X1_shareOf G b P M a0 x1) : mMet l yX1_shareOf (ws_ yX1_shareOf cX1_shareOf 9 (Option.some Jvm.ClassFile.FieldType.int)) 13 b G [.ref a0, .int x1] M (mRi P) (fun _ _ _ => False) := by
  refine mm_met hst0 (by decide) (Nat.le_of_ble_eq_true rfl) ?_
  intro p e s m args below meth c ls C hr hnt hnm hl S
  have hl : lv_has ls 9 [(0, .ref a0), (1, .int x1)] := hl
  generalize mA M s.heap.size = A at C S ⊢
  have hx := C.hx
  have hb := C.hb
  have hk : 0 + b ≤ b := Nat.le_of_eq (Nat.zero_add b)
  have j200 : ∀ (k r : Nat) (M : mM) (H : Heap) (locs : List Loc) (ls : Array Slot) (s0 : Int32), k + r ≤ b → mW G A s M H locs → lv_has ls 9 [] → wb_X1_shareOf_200 G P r M s0 → W p l e (mRm 13 b) s m args below meth c H locs k k (vx_MQ below (mQ G A (mRi P)) (mXC G A (fun _ _ _ => False)) args s b b A) (F0 m 200 ls [.int s0]) := by
    intro k r M H locs ls s0 hk S hl h
    unfold wb_X1_shareOf_200 at h
    exact mm_iret C S hr (Nat.le_trans (Nat.le_add_right _ _) hk) dX1_shareOf_200 h
  have j25 : ∀ (nf : Nat) (k r : Nat) (M : mM) (H : Heap) (locs : List Loc) (ls : Array Slot) (a0 : Nat) (x1 : Int32) (a2 : Nat) (x3 : Int32) (x4 : Int32) (x5 : Int32), k + r ≤ b → mW G A s M H locs → lv_has ls 9 [(0, .ref a0), (1, .int x1), (2, .ref a2), (3, .int x3), (4, .int x4), (5, .int x5)] → wl_X1_shareOf_25 G P nf r M a0 x1 a2 x3 x4 x5 → W p l e (mRm 13 b) s m args below meth c H locs k k (vx_MQ below (mQ G A (mRi P)) (mXC G A (fun _ _ _ => False)) args s b b A) (F0 m 25 ls []) := by
    intro nf
    induction nf with
    | zero =>
      intro k r M H locs ls a0 x1 a2 x3 x4 x5 hk S hl h
      rw [wl_X1_shareOf_25] at h
      exact h.elim
    | succ n25 ih25 =>
      have j35 : ∀ (nf : Nat) (k r : Nat) (M : mM) (H : Heap) (locs : List Loc) (ls : Array Slot) (a0 : Nat) (x1 : Int32) (a2 : Nat) (x3 : Int32) (x4 : Int32) (x5 : Int32) (x6 : Int32), k + r ≤ b → mW G A s M H locs → lv_has ls 9 [(0, .ref a0), (1, .int x1), (2, .ref a2), (3, .int x3), (4, .int x4), (5, .int x5), (6, .int x6)] → wl_X1_shareOf_35 G P (wl_X1_shareOf_25 G P n25) nf r M a0 x1 a2 x3 x4 x5 x6 → W p l e (mRm 13 b) s m args below meth c H locs k k (vx_MQ below (mQ G A (mRi P)) (mXC G A (fun _ _ _ => False)) args s b b A) (F0 m 35 ls []) := by
        intro nf
        induction nf with
        | zero =>
          intro k r M H locs ls a0 x1 a2 x3 x4 x5 x6 hk S hl h
          rw [wl_X1_shareOf_35] at h
          exact h.elim
        | succ n35 ih35 =>
          have j154 : ∀ (k r : Nat) (M : mM) (H : Heap) (locs : List Loc) (ls : Array Slot) (a0 : Nat) (x1 : Int32) (a2 : Nat) (x3 : Int32) (x4 : Int32) (x5 : Int32) (x6 : Int32), k + r ≤ b → mW G A s M H locs → lv_has ls 9 [(0, .ref a0), (1, .int x1), (2, .ref a2), (3, .int x3), (4, .int x4), (5, .int x5), (6, .int x6)] → wb_X1_shareOf_154 G P (wl_X1_shareOf_25 G P n25) (wl_X1_shareOf_35 G P (wl_X1_shareOf_25 G P n25) n35) r M a0 x1 a2 x3 x4 x5 x6 → W p l e (mRm 13 b) s m args below meth c H locs k k (vx_MQ below (mQ G A (mRi P)) (mXC G A (fun _ _ _ => False)) args s b b A) (F0 m 154 ls []) := by
            intro k r M H locs ls a0 x1 a2 x3 x4 x5 x6 hk S hl h
            unfold wb_X1_shareOf_154 at h
            refine lv_iinc (v := (x6 + 1)) (lv' := [(6, .int (x6 + 1)), (0, .ref a0), (1, .int x1), (2, .ref a2), (3, .int x3), (4, .int x4), (5, .int x5)]) hx hb dX1_shareOf_154 hl (k := 6) rfl rfl (by decide) rfl (fun ls hl => ?_)
            refine lv_goto (tgt := 35) hx hb dX1_shareOf_157 (by decide) ?_
            exact ih35 _ _ _ _ _ _ _ _ _ _ _ _ _ hk S (lv_sub hl [1, 2, 3, 4, 5, 6, 0] rfl) h
          have j61 : ∀ (nf : Nat) (k r : Nat) (M : mM) (H : Heap) (locs : List Loc) (ls : Array Slot) (a0 : Nat) (x1 : Int32) (a2 : Nat) (x3 : Int32) (x4 : Int32) (x5 : Int32) (x6 : Int32) (x7 : Int32) (x8 : Int32), k + r ≤ b → mW G A s M H locs → lv_has ls 9 [(0, .ref a0), (1, .int x1), (2, .ref a2), (3, .int x3), (4, .int x4), (5, .int x5), (6, .int x6), (7, .int x7), (8, .int x8)] → wl_X1_shareOf_61 G P (wl_X1_shareOf_25 G P n25) (wl_X1_shareOf_35 G P (wl_X1_shareOf_25 G P n25) n35) nf r M a0 x1 a2 x3 x4 x5 x6 x7 x8 → W p l e (mRm 13 b) s m args below meth c H locs k k (vx_MQ below (mQ G A (mRi P)) (mXC G A (fun _ _ _ => False)) args s b b A) (F0 m 61 ls []) := by
            intro nf
            induction nf with
            | zero =>
              intro k r M H locs ls a0 x1 a2 x3 x4 x5 x6 x7 x8 hk S hl h
              rw [wl_X1_shareOf_61] at h
              exact h.elim
            | succ n61 ih61 =>
              have j114 : ∀ (k r : Nat) (M : mM) (H : Heap) (locs : List Loc) (ls : Array Slot) (a0 : Nat) (x1 : Int32) (a2 : Nat) (x3 : Int32) (x4 : Int32) (x5 : Int32) (x6 : Int32) (x8 : Int32) (s0 : Int32), k + r ≤ b → mW G A s M H locs → lv_has ls 9 [(0, .ref a0), (1, .int x1), (2, .ref a2), (3, .int x3), (4, .int x4), (5, .int x5), (6, .int x6), (8, .int x8)] → wb_X1_shareOf_114 G P (wl_X1_shareOf_25 G P n25) (wl_X1_shareOf_35 G P (wl_X1_shareOf_25 G P n25) n35) (wl_X1_shareOf_61 G P (wl_X1_shareOf_25 G P n25) (wl_X1_shareOf_35 G P (wl_X1_shareOf_25 G P n25) n35) n61) r M a0 x1 a2 x3 x4 x5 x6 x8 s0 → W p l e (mRm 13 b) s m args below meth c H locs k k (vx_MQ below (mQ G A (mRi P)) (mXC G A (fun _ _ _ => False)) args s b b A) (F0 m 114 ls [.int s0]) := by
                intro k r M H locs ls a0 x1 a2 x3 x4 x5 x6 x8 s0 hk S hl h
                unfold wb_X1_shareOf_114 at h
                refine lv_istore (lv' := [(7, .int s0), (0, .ref a0), (1, .int x1), (2, .ref a2), (3, .int x3), (4, .int x4), (5, .int x5), (6, .int x6), (8, .int x8)]) hx hb dX1_shareOf_114 hl (by decide) rfl (fun ls hl => ?_)
                refine lv_iinc (v := (x8 + 1)) (lv' := [(8, .int (x8 + 1)), (7, .int s0), (0, .ref a0), (1, .int x1), (2, .ref a2), (3, .int x3), (4, .int x4), (5, .int x5), (6, .int x6)]) hx hb dX1_shareOf_116 hl (k := 8) rfl rfl (by decide) rfl (fun ls hl => ?_)
                refine lv_goto (tgt := 61) hx hb dX1_shareOf_119 (by decide) ?_
                exact ih61 _ _ _ _ _ _ _ _ _ _ _ _ _ _ _ hk S (lv_sub hl [2, 3, 4, 5, 6, 7, 8, 1, 0] rfl) h
              intro k r M H locs ls a0 x1 a2 x3 x4 x5 x6 x7 x8 hk S hl h
              rw [wl_X1_shareOf_61] at h
              refine lv_iload hx hb dX1_shareOf_61 (lv_at hl 8 rfl) ?_
              refine lv_aload_n hx hb dX1_shareOf_63 rfl (lv_at hl 0 rfl) ?_
              refine mm_gfa C S (ci := 0) (k := 6) rfl in_X1 (by decide) q221 (fun _ h9 => h9) dX1_shareOf_64 h (fun u14 h => ?_)
              obtain ⟨hI, h⟩ := h
              refine mm_F (As := []) (rest := [.int x8]) C S hl.1 (x := ⟨"java/util/List", "size", "()I"⟩) (wk_J2_size hst0 h) (T := TJ2) rfl hI (mWsF q284 q288 q290 q51 (lw_meth q292)) (by decide +kernel) pdi_2 ⟨Nat.le_of_ble_eq_true rfl, Nat.le_of_ble_eq_true rfl⟩ rfl rfl (Nat.le_of_ble_eq_true rfl) dX1_shareOf_67 rfl rfl hk (Nat.zero_add _) (fun v9 M15 H locs hP S hk => ?_) (fun E q ce M9 H9 locs9 hX => hX.elim)
              obtain ⟨v16, rfl, h⟩ := hP
              refine W.eq (g2 := F0 m 72 ls [.int v16, .int x8]) rfl ?_
              refine lv_icmp_ge (tgt := 122) hx hb dX1_shareOf_72 (by decide) (fun c9 => ?_) (fun c9 => ?_)
              · have h := h.1 c9
                refine lv_iload hx hb dX1_shareOf_122 (lv_at hl 7 rfl) ?_
                refine lv_if_lt (tgt := 154) hx hb dX1_shareOf_124 (by decide) (fun c9 => ?_) (fun c9 => ?_)
                · have h := h.1 c9
                  exact j154 _ _ _ _ _ _ _ _ _ _ _ _ _ hk S (lv_sub hl [0, 1, 2, 3, 4, 5, 6] rfl) h
                · have h := h.2 c9
                  refine lv_iload_n hx hb dX1_shareOf_127 rfl (lv_at hl 3 rfl) ?_
                  refine lv_aload_n hx hb dX1_shareOf_128 rfl (lv_at hl 2 rfl) ?_
                  refine lv_iload hx hb dX1_shareOf_129 (lv_at hl 5 rfl) ?_
                  refine mm_aald C S (t := 11) rfl rfl h dX1_shareOf_131 (fun u17 h => ?_)
                  refine lv_iload hx hb dX1_shareOf_132 (lv_at hl 6 rfl) ?_
                  refine mm_sald C S h dX1_shareOf_134 (fun v18 h => ?_)
                  refine lv_iadd hx hb dX1_shareOf_135 ?_
                  refine lv_istore_n (lv' := [(3, .int (x3 + v18)), (0, .ref a0), (1, .int x1), (2, .ref a2), (4, .int x4), (5, .int x5), (6, .int x6), (7, .int x7), (8, .int x8)]) hx hb dX1_shareOf_136 rfl hl (by decide) rfl (fun ls hl => ?_)
                  refine lv_iload hx hb dX1_shareOf_137 (lv_at hl 4 rfl) ?_
                  refine lv_aload_n hx hb dX1_shareOf_139 rfl (lv_at hl 3 rfl) ?_
                  refine lv_iload hx hb dX1_shareOf_140 (lv_at hl 5 rfl) ?_
                  refine mm_aald C S (t := 11) rfl rfl h dX1_shareOf_142 (fun u19 h => ?_)
                  refine lv_iload hx hb dX1_shareOf_143 (lv_at hl 6 rfl) ?_
                  refine mm_sald C S h dX1_shareOf_145 (fun v20 h => ?_)
                  refine lv_iload hx hb dX1_shareOf_146 (lv_at hl 7 rfl) ?_
                  refine mm_max C hl.1 q327 q328 q68 q329 (Nat.le_of_ble_eq_true rfl) (Nat.le_of_ble_eq_true rfl) (Nat.le_trans (Nat.le_add_right _ _) hk) (Nat.le_trans (Nat.le_add_right _ _) hk) dX1_shareOf_148 ?_
                  refine lv_topi (fun g21 eg21 => ?_)
                  have h := h g21 eg21
                  refine lv_iadd hx hb dX1_shareOf_151 ?_
                  refine lv_istore (lv' := [(4, .int (x4 + g21)), (3, .int (x3 + v18)), (0, .ref a0), (1, .int x1), (2, .ref a2), (5, .int x5), (6, .int x6), (7, .int x7), (8, .int x8)]) hx hb dX1_shareOf_152 hl (by decide) rfl (fun ls hl => ?_)
                  exact j154 _ _ _ _ _ _ _ _ _ _ _ _ _ hk S (lv_sub hl [2, 3, 4, 1, 0, 5, 6] rfl) h
              · have h := h.2 c9
                refine lv_iload hx hb dX1_shareOf_75 (lv_at hl 8 rfl) ?_
                refine lv_iload_n hx hb dX1_shareOf_77 rfl (lv_at hl 1 rfl) ?_
                refine lv_icmp_ne (tgt := 86) hx hb dX1_shareOf_78 (by decide) (fun c9 => ?_) (fun c9 => ?_)
                · have h := h.1 c9
                  refine lv_iload hx hb dX1_shareOf_86 (lv_at hl 7 rfl) ?_
                  refine lv_aload_n hx hb dX1_shareOf_88 rfl (lv_at hl 0 rfl) ?_
                  refine mm_gfa C S (ci := 0) (k := 6) rfl in_X1 (by decide) q221 (fun _ h9 => h9) dX1_shareOf_89 h (fun u22 h => ?_)
                  refine lv_iload hx hb dX1_shareOf_92 (lv_at hl 8 rfl) ?_
                  obtain ⟨hI, h⟩ := h
                  refine mm_F (As := [.int x8]) (rest := [.int x7]) C S hl.1 (x := ⟨"java/util/List", "get", "(I)Ljava/lang/Object;"⟩) (wk_J2_get hst0 h) (T := TJ2) rfl hI (mWsF q294 q297 q299 q51 (lw_meth q301)) (by decide +kernel) pdi_4 ⟨Nat.le_of_ble_eq_true rfl, Nat.le_of_ble_eq_true rfl⟩ rfl rfl (Nat.le_of_ble_eq_true rfl) dX1_shareOf_94 rfl rfl hk (Nat.zero_add _) (fun v9 M23 H locs hP S hk => ?_) (fun E q ce M9 H9 locs9 hX => hX.elim)
                  obtain ⟨u24, rfl, h⟩ := hP
                  refine W.eq (g2 := F0 m 99 ls [.ref u24, .int x7]) rfl ?_
                  refine mm_castS C S (ci := 13) (T := TX16) rfl rfl q1468 h.1 dX1_shareOf_99 ?_
                  have h := h.2
                  refine mm_gfaN C S (ci := 13) (k := 0) rfl in_X16 (by decide) q1477 (fun _ h9 => h9) dX1_shareOf_102 h (fun u25 h => ?_)
                  refine lv_iload hx hb dX1_shareOf_105 (lv_at hl 5 rfl) ?_
                  refine mm_aald C S (t := 11) rfl rfl h dX1_shareOf_107 (fun u26 h => ?_)
                  refine lv_iload hx hb dX1_shareOf_108 (lv_at hl 6 rfl) ?_
                  refine mm_sald C S h dX1_shareOf_110 (fun v27 h => ?_)
                  refine mm_max C hl.1 q327 q328 q68 q329 (Nat.le_of_ble_eq_true rfl) (Nat.le_of_ble_eq_true rfl) (Nat.le_trans (Nat.le_add_right _ _) hk) (Nat.le_trans (Nat.le_add_right _ _) hk) dX1_shareOf_111 ?_
                  refine lv_topi (fun g28 eg28 => ?_)
                  have h := h g28 eg28
                  exact j114 _ _ _ _ _ _ _ _ _ _ _ _ _ _ _ hk S (lv_sub hl [0, 1, 2, 3, 4, 5, 6, 8] rfl) h
                · have h := h.2 c9
                  refine lv_iload hx hb dX1_shareOf_81 (lv_at hl 7 rfl) ?_
                  refine lv_goto (tgt := 114) hx hb dX1_shareOf_83 (by decide) ?_
                  exact j114 _ _ _ _ _ _ _ _ _ _ _ _ _ _ _ hk S (lv_sub hl [0, 1, 2, 3, 4, 5, 6, 8] rfl) h
          intro k r M H locs ls a0 x1 a2 x3 x4 x5 x6 hk S hl h
          rw [wl_X1_shareOf_35] at h
          refine lv_iload hx hb dX1_shareOf_35 (lv_at hl 6 rfl) ?_
          refine lv_bipush (v := 36) hx hb dX1_shareOf_37 (by decide) ?_
          refine lv_icmp_ge (tgt := 160) hx hb dX1_shareOf_39 (by decide) (fun c9 => ?_) (fun c9 => ?_)
          · have h := h.1 c9
            refine lv_iinc (v := (x5 + 1)) (lv' := [(5, .int (x5 + 1)), (0, .ref a0), (1, .int x1), (2, .ref a2), (3, .int x3), (4, .int x4), (6, .int x6)]) hx hb dX1_shareOf_160 hl (k := 5) rfl rfl (by decide) rfl (fun ls hl => ?_)
            refine lv_goto (tgt := 25) hx hb dX1_shareOf_163 (by decide) ?_
            exact ih25 _ _ _ _ _ _ _ _ _ _ _ _ hk S (lv_sub hl [1, 2, 3, 4, 5, 0] rfl) h
          · have h := h.2 c9
            refine lv_aload_n hx hb dX1_shareOf_42 rfl (lv_at hl 2 rfl) ?_
            refine lv_iload hx hb dX1_shareOf_43 (lv_at hl 5 rfl) ?_
            refine mm_aald C S (t := 11) rfl rfl h dX1_shareOf_45 (fun u12 h => ?_)
            refine lv_iload hx hb dX1_shareOf_46 (lv_at hl 6 rfl) ?_
            refine mm_sald C S h dX1_shareOf_48 (fun v13 h => ?_)
            refine lv_if_ge (tgt := 55) hx hb dX1_shareOf_49 (by decide) (fun c9 => ?_) (fun c9 => ?_)
            · have h := h.1 c9
              refine lv_iconst (v := (-1)) hx hb dX1_shareOf_55 (by decide) ?_
              refine lv_istore (lv' := [(7, .int (-1)), (0, .ref a0), (1, .int x1), (2, .ref a2), (3, .int x3), (4, .int x4), (5, .int x5), (6, .int x6)]) hx hb dX1_shareOf_56 hl (by decide) rfl (fun ls hl => ?_)
              refine lv_iconst (v := 0) hx hb dX1_shareOf_58 (by decide) ?_
              refine lv_istore (lv' := [(8, .int 0), (7, .int (-1)), (0, .ref a0), (1, .int x1), (2, .ref a2), (3, .int x3), (4, .int x4), (5, .int x5), (6, .int x6)]) hx hb dX1_shareOf_59 hl (by decide) rfl (fun ls hl => ?_)
              obtain ⟨nf, h⟩ := h
              exact j61 nf _ _ _ _ _ _ _ _ _ _ _ _ _ _ _ hk S (lv_sub hl [2, 3, 4, 5, 6, 7, 8, 1, 0] rfl) h
            · have h := h.2 c9
              refine lv_goto (tgt := 154) hx hb dX1_shareOf_52 (by decide) ?_
              exact j154 _ _ _ _ _ _ _ _ _ _ _ _ _ hk S hl h
      intro k r M H locs ls a0 x1 a2 x3 x4 x5 hk S hl h
      rw [wl_X1_shareOf_25] at h
      refine lv_iload hx hb dX1_shareOf_25 (lv_at hl 5 rfl) ?_
      refine lv_bipush (v := 40) hx hb dX1_shareOf_27 (by decide) ?_
      refine lv_icmp_ge (tgt := 166) hx hb dX1_shareOf_29 (by decide) (fun c9 => ?_) (fun c9 => ?_)
      · have h := h.1 c9
        refine lv_iload hx hb dX1_shareOf_166 (lv_at hl 4 rfl) ?_
        refine lv_if_ne (tgt := 177) hx hb dX1_shareOf_168 (by decide) (fun c9 => ?_) (fun c9 => ?_)
        · have h := h.1 c9
          refine lv_iconst (v := 2) hx hb dX1_shareOf_177 (by decide) ?_
          refine mm_newa C S (t := 0) (ty := .int) (atype := .int) rfl rfl (by decide) q135 (fun _ h9 => h9) (fun _ => rfl) (by decide) dX1_shareOf_178 rfl rfl hk h (fun u5 M6 r7 k H h S hk => ?_)
          refine lv_dup hx hb dX1_shareOf_180 rfl ?_
          refine lv_iconst (v := 0) hx hb dX1_shareOf_181 (by decide) ?_
          refine lv_sipush (v := 300) hx hb dX1_shareOf_182 (by decide) ?_
          refine mm_iast C S h dX1_shareOf_185 (fun M8 H locs h S => ?_)
          refine lv_dup hx hb dX1_shareOf_186 rfl ?_
          refine lv_iconst (v := 1) hx hb dX1_shareOf_187 (by decide) ?_
          refine lv_sipush (v := 1000) hx hb dX1_shareOf_188 (by decide) ?_
          refine lv_iload_n hx hb dX1_shareOf_191 rfl (lv_at hl 3 rfl) ?_
          refine lv_imul hx hb dX1_shareOf_192 ?_
          refine lv_iload hx hb dX1_shareOf_193 (lv_at hl 4 rfl) ?_
          refine lv_idiv hx hb dX1_shareOf_195 h.1 ?_
          have h := h.2
          refine mm_iast C S h dX1_shareOf_196 (fun M9 H locs h S => ?_)
          refine mm_S (As := [.ref u5]) (rest := []) C S hl.1 (wk_X1_greatest hst0 h) (lw_S q1565 q1566 q48 q1567) pd_X1_greatest ⟨Nat.le_of_ble_eq_true rfl, Nat.le_of_ble_eq_true rfl⟩ rfl rfl (Nat.le_of_ble_eq_true rfl) dX1_shareOf_197 rfl rfl hk (Nat.zero_add _) (fun v9 M10 H locs hP S hk => ?_) (fun E q ce M9 H9 locs9 hX => hX.elim)
          obtain ⟨v11, rfl, h⟩ := hP
          refine W.eq (g2 := F0 m 200 ls [.int v11]) rfl ?_
          exact j200 _ _ _ _ _ _ _ hk S (lv_sub hl [] rfl) h
        · have h := h.2 c9
          refine lv_sipush (v := 1000) hx hb dX1_shareOf_171 (by decide) ?_
          refine lv_goto (tgt := 200) hx hb dX1_shareOf_174 (by decide) ?_
          exact j200 _ _ _ _ _ _ _ hk S (lv_sub hl [] rfl) h
      · have h := h.2 c9
        refine lv_iconst (v := 0) hx hb dX1_shareOf_32 (by decide) ?_
        refine lv_istore (lv' := [(6, .int 0), (0, .ref a0), (1, .int x1), (2, .ref a2), (3, .int x3), (4, .int x4), (5, .int x5)]) hx hb dX1_shareOf_33 hl (by decide) rfl (fun ls hl => ?_)
        obtain ⟨nf, h⟩ := h
        exact j35 nf _ _ _ _ _ _ _ _ _ _ _ _ _ hk S (lv_sub hl [1, 2, 3, 4, 5, 6, 0] rfl) h
  unfold wp_X1_shareOf at h
  refine lv_aload_n hx hb dX1_shareOf_0 rfl (lv_at hl 0 rfl) ?_
  refine mm_gfa C S (ci := 0) (k := 6) rfl in_X1 (by decide) q221 (fun _ h9 => h9) dX1_shareOf_1 h (fun u1 h => ?_)
  refine lv_iload_n hx hb dX1_shareOf_4 rfl (lv_at hl 1 rfl) ?_
  obtain ⟨hI, h⟩ := h
  refine mm_F (As := [.int x1]) (rest := []) C S hl.1 (x := ⟨"java/util/List", "get", "(I)Ljava/lang/Object;"⟩) (wk_J2_get hst0 h) (T := TJ2) rfl hI (mWsF q294 q297 q299 q51 (lw_meth q301)) (by decide +kernel) pdi_4 ⟨Nat.le_of_ble_eq_true rfl, Nat.le_of_ble_eq_true rfl⟩ rfl rfl (Nat.le_of_ble_eq_true rfl) dX1_shareOf_5 rfl rfl hk (Nat.zero_add _) (fun v9 M2 H locs hP S hk => ?_) (fun E q ce M9 H9 locs9 hX => hX.elim)
  obtain ⟨u3, rfl, h⟩ := hP
  refine W.eq (g2 := F0 m 10 ls [.ref u3]) rfl ?_
  refine mm_castS C S (ci := 13) (T := TX16) rfl rfl q1468 h.1 dX1_shareOf_10 ?_
  have h := h.2
  refine mm_gfaN C S (ci := 13) (k := 0) rfl in_X16 (by decide) q1477 (fun _ h9 => h9) dX1_shareOf_13 h (fun u4 h => ?_)
  refine lv_astore_n (lv' := [(2, .ref u4), (0, .ref a0), (1, .int x1)]) hx hb dX1_shareOf_16 rfl hl (by decide) rfl (fun ls hl => ?_)
  refine lv_iconst (v := 0) hx hb dX1_shareOf_17 (by decide) ?_
  refine lv_istore_n (lv' := [(3, .int 0), (2, .ref u4), (0, .ref a0), (1, .int x1)]) hx hb dX1_shareOf_18 rfl hl (by decide) rfl (fun ls hl => ?_)
  refine lv_iconst (v := 0) hx hb dX1_shareOf_19 (by decide) ?_
  refine lv_istore (lv' := [(4, .int 0), (3, .int 0), (2, .ref u4), (0, .ref a0), (1, .int x1)]) hx hb dX1_shareOf_20 hl (by decide) rfl (fun ls hl => ?_)
  refine lv_iconst (v := 0) hx hb dX1_shareOf_22 (by decide) ?_
  refine lv_istore (lv' := [(5, .int 0), (4, .int 0), (3, .int 0), (2, .ref u4), (0, .ref a0), (1, .int x1)]) hx hb dX1_shareOf_23 hl (by decide) rfl (fun ls hl => ?_)
  obtain ⟨nf, h⟩ := h
  exact j25 nf _ _ _ _ _ _ _ _ _ _ _ _ hk S (lv_sub hl [4, 5, 3, 2, 1, 0] rfl) h
/-! X1_distance: level 10 -/
def wp_X1_distance (G : mG) (b : Nat) (P : Int32 → mM → Prop) (M : mM) (x0 : Int32) (x1 : Int32) : Prop :=
  ∀ g1 : Int32, g1 = (if 0 ≤ ((x0 / 6) - (x1 / 6)) then ((x0 / 6) - (x1 / 6)) else 0 - ((x0 / 6) - (x1 / 6))) → ∀ g2 : Int32, g2 = ((x0 - x0 / 6 * 6) - (x1 - x1 / 6 * 6)) → ∀ g3 : Int32, g3 = (if 0 ≤ g2 then g2 else 0 - g2) → ∀ g4 : Int32, g4 = (if g1 < g3 then g3 else g1) → P g4 M
set_option maxHeartbeats 4000000 in
set_option maxRecDepth 100000 in
theorem wk_X1_distance {l : Launch} (hst0 : l.stackTraces = false) {G : mG} {b : Nat} {P : Int32 → mM → Prop} {M : mM} {x0 : Int32} {x1 : Int32} (h : wp_X1_distance G b P M x0 x1) : mMet l yX1_distance (ws_ yX1_distance cX1_distance 2 (Option.some Jvm.ClassFile.FieldType.int)) 10 b G [.int x0, .int x1] M (mRi P) (fun _ _ _ => False) := by
  refine mm_met hst0 (by decide) (Nat.le_of_ble_eq_true rfl) ?_
  intro p e s m args below meth c ls C hr hnt hnm hl S
  have hl : lv_has ls 2 [(0, .int x0), (1, .int x1)] := hl
  generalize mA M s.heap.size = A at C S ⊢
  have hx := C.hx
  have hb := C.hb
  have hk : 0 + b ≤ b := Nat.le_of_eq (Nat.zero_add b)
  unfold wp_X1_distance at h
  refine lv_iload_n hx hb dX1_distance_0 rfl (lv_at hl 0 rfl) ?_
  refine lv_bipush (v := 6) hx hb dX1_distance_1 (by decide) ?_
  refine lv_idiv hx hb dX1_distance_3 (by decide) ?_
  refine lv_iload_n hx hb dX1_distance_4 rfl (lv_at hl 1 rfl) ?_
  refine lv_bipush (v := 6) hx hb dX1_distance_5 (by decide) ?_
  refine lv_idiv hx hb dX1_distance_7 (by decide) ?_
  refine lv_isub hx hb dX1_distance_8 ?_
  refine mm_abs C hl.1 q324 q325 q68 q326 (Nat.le_of_ble_eq_true rfl) (Nat.le_of_ble_eq_true rfl) (Nat.le_trans (Nat.le_add_right _ _) hk) (Nat.le_trans (Nat.le_add_right _ _) hk) dX1_distance_9 ?_
  refine lv_topi (fun g1 eg1 => ?_)
  have h := h g1 eg1
  refine lv_iload_n hx hb dX1_distance_12 rfl (lv_at hl 0 rfl) ?_
  refine lv_bipush (v := 6) hx hb dX1_distance_13 (by decide) ?_
  refine lv_irem hx hb dX1_distance_15 (by decide) ?_
  refine lv_iload_n hx hb dX1_distance_16 rfl (lv_at hl 1 rfl) ?_
  refine lv_bipush (v := 6) hx hb dX1_distance_17 (by decide) ?_
  refine lv_irem hx hb dX1_distance_19 (by decide) ?_
  refine lv_isub hx hb dX1_distance_20 ?_
  refine lv_topi (fun g2 eg2 => ?_)
  have h := h g2 eg2
  refine mm_abs C hl.1 q324 q325 q68 q326 (Nat.le_of_ble_eq_true rfl) (Nat.le_of_ble_eq_true rfl) (Nat.le_trans (Nat.le_add_right _ _) hk) (Nat.le_trans (Nat.le_add_right _ _) hk) dX1_distance_21 ?_
  refine lv_topi (fun g3 eg3 => ?_)
  have h := h g3 eg3
  refine mm_max C hl.1 q327 q328 q68 q329 (Nat.le_of_ble_eq_true rfl) (Nat.le_of_ble_eq_true rfl) (Nat.le_trans (Nat.le_add_right _ _) hk) (Nat.le_trans (Nat.le_add_right _ _) hk) dX1_distance_24 ?_
  refine lv_topi (fun g4 eg4 => ?_)
  have h := h g4 eg4
  exact mm_iret C S hr (Nat.le_trans (Nat.le_add_right _ _) hk) dX1_distance_27 h
/-! X14_distanceOf: level 11 -/
def wl_X14_distanceOf_15 (G : mG) (P : Int32 → mM → Prop) : Nat → Nat → mM → Int32 → Int32 → Nat → Int32 → Int32 → Prop
  | 0, _, _, _, _, _, _, _ => False
  | n + 1, r, M, x1, x2, a3, x4, x5 => (x4 ≤ x5 → P x2 M) ∧ (¬ x4 ≤ x5 → ldi M 0 a3 x5 fun v3 => wp_X1_distance G 0 (fun v5 M4 => ∀ g6 : Int32, g6 = (if v5 < x2 then v5 else x2) → (wl_X14_distanceOf_15 G P n) r M4 x1 g6 a3 x4 (x5 + 1)) M v3 x1)
def wp_X14_distanceOf (G : mG) (b : Nat) (P : Int32 → mM → Prop) (M : mM) (a0 : Nat) (x1 : Int32) : Prop :=
  gfa M a0 11 0 fun u1 => aln M u1 fun v2 => ∃ n15, wl_X14_distanceOf_15 G P n15 b M x1 6 u1 v2 0
set_option maxHeartbeats 4000000 in
set_option maxRecDepth 100000 in
theorem wk_X14_distanceOf {l : Launch} (hst0 : l.stackTraces = false) {G : mG} {b : Nat} {P : Int32 → mM → Prop} {M : mM} {a0 : Nat} {x1 : Int32} (h : wp_X14_distanceOf G b P M a0 x1) : mMet l yX14_distanceOf (ws_ yX14_distanceOf cX14_distanceOf 7 (Option.some Jvm.ClassFile.FieldType.int)) 11 b G [.ref a0, .int x1] M (mRi P) (fun _ _ _ => False) := by
  refine mm_met hst0 (by decide) (Nat.le_of_ble_eq_true rfl) ?_
  intro p e s m args below meth c ls C hr hnt hnm hl S
  have hl : lv_has ls 7 [(0, .ref a0), (1, .int x1)] := hl
  generalize mA M s.heap.size = A at C S ⊢
  have hx := C.hx
  have hb := C.hb
  have hk : 0 + b ≤ b := Nat.le_of_eq (Nat.zero_add b)
  have j15 : ∀ (nf : Nat) (k r : Nat) (M : mM) (H : Heap) (locs : List Loc) (ls : Array Slot) (x1 : Int32) (x2 : Int32) (a3 : Nat) (x4 : Int32) (x5 : Int32), k + r ≤ b → mW G A s M H locs → lv_has ls 7 [(1, .int x1), (2, .int x2), (3, .ref a3), (4, .int x4), (5, .int x5)] → wl_X14_distanceOf_15 G P nf r M x1 x2 a3 x4 x5 → W p l e (mRm 11 b) s m args below meth c H locs k k (vx_MQ below (mQ G A (mRi P)) (mXC G A (fun _ _ _ => False)) args s b b A) (F0 m 15 ls []) := by
    intro nf
    induction nf with
    | zero =>
      intro k r M H locs ls x1 x2 a3 x4 x5 hk S hl h
      rw [wl_X14_distanceOf_15] at h
      exact h.elim
    | succ n15 ih15 =>
      intro k r M H locs ls x1 x2 a3 x4 x5 hk S hl h
      rw [wl_X14_distanceOf_15] at h
      refine lv_iload hx hb dX14_distanceOf_15 (lv_at hl 4 rfl) ?_
      refine lv_iload hx hb dX14_distanceOf_17 (lv_at hl 3 rfl) ?_
      refine lv_icmp_ge (tgt := 45) hx hb dX14_distanceOf_19 (by decide) (fun c9 => ?_) (fun c9 => ?_)
      · have h := h.1 c9
        refine lv_iload_n hx hb dX14_distanceOf_45 rfl (lv_at hl 1 rfl) ?_
        exact mm_iret C S hr (Nat.le_trans (Nat.le_add_right _ _) hk) dX14_distanceOf_46 h
      · have h := h.2 c9
        refine lv_aload_n hx hb dX14_distanceOf_22 rfl (lv_at hl 2 rfl) ?_
        refine lv_iload hx hb dX14_distanceOf_23 (lv_at hl 4 rfl) ?_
        refine mm_iald C S h dX14_distanceOf_25 (fun v3 h => ?_)
        refine lv_istore (lv' := [(6, .int v3), (1, .int x1), (2, .int x2), (3, .ref a3), (4, .int x4), (5, .int x5)]) hx hb dX14_distanceOf_26 hl (by decide) rfl (fun ls hl => ?_)
        refine lv_iload_n hx hb dX14_distanceOf_28 rfl (lv_at hl 2 rfl) ?_
        refine lv_iload hx hb dX14_distanceOf_29 (lv_at hl 0 rfl) ?_
        refine lv_iload_n hx hb dX14_distanceOf_31 rfl (lv_at hl 1 rfl) ?_
        refine mm_SN (As := [.int v3, .int x1]) (rest := [.int x2]) C S hl.1 (wk_X1_distance hst0 h) q323 q48 q321 q322 pd_X1_distance ⟨Nat.le_of_ble_eq_true rfl, Nat.le_of_ble_eq_true rfl⟩ rfl rfl (Nat.le_of_ble_eq_true rfl) dX14_distanceOf_32 rfl rfl hk (Nat.zero_add _) (fun v9 M4 H locs hP S hk => ?_) (fun E q ce M9 H9 locs9 hX => hX.elim)
        obtain ⟨v5, rfl, h⟩ := hP
        refine W.eq (g2 := F0 m 35 ls [.int v5, .int x2]) rfl ?_
        refine mm_min C hl.1 q330 q331 q68 q332 (Nat.le_of_ble_eq_true rfl) (Nat.le_of_ble_eq_true rfl) (Nat.le_trans (Nat.le_add_right _ _) hk) (Nat.le_trans (Nat.le_add_right _ _) hk) dX14_distanceOf_35 ?_
        refine lv_topi (fun g6 eg6 => ?_)
        have h := h g6 eg6
        refine lv_istore_n (lv' := [(2, .int g6), (6, .int v3), (1, .int x1), (3, .ref a3), (4, .int x4), (5, .int x5)]) hx hb dX14_distanceOf_38 rfl hl (by decide) rfl (fun ls hl => ?_)
        refine lv_iinc (v := (x5 + 1)) (lv' := [(5, .int (x5 + 1)), (2, .int g6), (6, .int v3), (1, .int x1), (3, .ref a3), (4, .int x4)]) hx hb dX14_distanceOf_39 hl (k := 5) rfl rfl (by decide) rfl (fun ls hl => ?_)
        refine lv_goto (tgt := 15) hx hb dX14_distanceOf_42 (by decide) ?_
        exact ih15 _ _ _ _ _ _ _ _ _ _ _ hk S (lv_sub hl [3, 1, 4, 5, 0] rfl) h
  unfold wp_X14_distanceOf at h
  refine lv_bipush (v := 6) hx hb dX14_distanceOf_0 (by decide) ?_
  refine lv_istore_n (lv' := [(2, .int 6), (0, .ref a0), (1, .int x1)]) hx hb dX14_distanceOf_2 rfl hl (by decide) rfl (fun ls hl => ?_)
  refine lv_aload_n hx hb dX14_distanceOf_3 rfl (lv_at hl 1 rfl) ?_
  refine mm_gfa C S (ci := 11) (k := 0) rfl in_X14 (by decide) q1358 (fun _ h9 => h9) dX14_distanceOf_4 h (fun u1 h => ?_)
  refine lv_astore_n (lv' := [(3, .ref u1), (2, .int 6), (0, .ref a0), (1, .int x1)]) hx hb dX14_distanceOf_7 rfl hl (by decide) rfl (fun ls hl => ?_)
  refine lv_aload_n hx hb dX14_distanceOf_8 rfl (lv_at hl 0 rfl) ?_
  refine mm_alen C S h dX14_distanceOf_9 (fun v2 h => ?_)
  refine lv_istore (lv' := [(4, .int v2), (3, .ref u1), (2, .int 6), (0, .ref a0), (1, .int x1)]) hx hb dX14_distanceOf_10 hl (by decide) rfl (fun ls hl => ?_)
  refine lv_iconst (v := 0) hx hb dX14_distanceOf_12 (by decide) ?_
  refine lv_istore (lv' := [(5, .int 0), (4, .int v2), (3, .ref u1), (2, .int 6), (0, .ref a0), (1, .int x1)]) hx hb dX14_distanceOf_13 hl (by decide) rfl (fun ls hl => ?_)
  obtain ⟨nf, h⟩ := h
  exact j15 nf _ _ _ _ _ _ _ _ _ _ _ hk S (lv_sub hl [5, 3, 2, 1, 0] rfl) h
/-! X1_percentOf: level 10 -/
def wb_X1_percentOf_31 (G : mG) (P : Int32 → mM → Prop) (r : Nat) (M : mM) (s0 : Int32) : Prop :=
  P s0 M
def wp_X1_percentOf (G : mG) (b : Nat) (P : Int32 → mM → Prop) (M : mM) (x0 : Int32) : Prop :=
  (¬ x0 = 0 → (¬ x0 = 1 → (¬ x0 = 2 → wb_X1_percentOf_31 G P b M 40) ∧ (x0 = 2 → wb_X1_percentOf_31 G P b M 90)) ∧ (x0 = 1 → wb_X1_percentOf_31 G P b M 80)) ∧ (x0 = 0 → wb_X1_percentOf_31 G P b M 100)
set_option maxHeartbeats 4000000 in
set_option maxRecDepth 100000 in
theorem wk_X1_percentOf {l : Launch} (hst0 : l.stackTraces = false) {G : mG} {b : Nat} {P : Int32 → mM → Prop} {M : mM} {x0 : Int32} (h : wp_X1_percentOf G b P M x0) : mMet l yX1_percentOf (ws_ yX1_percentOf cX1_percentOf 1 (Option.some Jvm.ClassFile.FieldType.int)) 10 b G [.int x0] M (mRi P) (fun _ _ _ => False) := by
  refine mm_met hst0 (by decide) (Nat.le_of_ble_eq_true rfl) ?_
  intro p e s m args below meth c ls C hr hnt hnm hl S
  have hl : lv_has ls 1 [(0, .int x0)] := hl
  generalize mA M s.heap.size = A at C S ⊢
  have hx := C.hx
  have hb := C.hb
  have hk : 0 + b ≤ b := Nat.le_of_eq (Nat.zero_add b)
  have j31 : ∀ (k r : Nat) (M : mM) (H : Heap) (locs : List Loc) (ls : Array Slot) (s0 : Int32), k + r ≤ b → mW G A s M H locs → lv_has ls 1 [] → wb_X1_percentOf_31 G P r M s0 → W p l e (mRm 10 b) s m args below meth c H locs k k (vx_MQ below (mQ G A (mRi P)) (mXC G A (fun _ _ _ => False)) args s b b A) (F0 m 31 ls [.int s0]) := by
    intro k r M H locs ls s0 hk S hl h
    unfold wb_X1_percentOf_31 at h
    exact mm_iret C S hr (Nat.le_trans (Nat.le_add_right _ _) hk) dX1_percentOf_31 h
  unfold wp_X1_percentOf at h
  refine lv_iload_n hx hb dX1_percentOf_0 rfl (lv_at hl 0 rfl) ?_
  refine lv_if_ne (tgt := 9) hx hb dX1_percentOf_1 (by decide) (fun c9 => ?_) (fun c9 => ?_)
  · have h := h.1 c9
    refine lv_iload_n hx hb dX1_percentOf_9 rfl (lv_at hl 0 rfl) ?_
    refine lv_iconst (v := 1) hx hb dX1_percentOf_10 (by decide) ?_
    refine lv_icmp_ne (tgt := 19) hx hb dX1_percentOf_11 (by decide) (fun c9 => ?_) (fun c9 => ?_)
    · have h := h.1 c9
      refine lv_iload_n hx hb dX1_percentOf_19 rfl (lv_at hl 0 rfl) ?_
      refine lv_iconst (v := 2) hx hb dX1_percentOf_20 (by decide) ?_
      refine lv_icmp_ne (tgt := 29) hx hb dX1_percentOf_21 (by decide) (fun c9 => ?_) (fun c9 => ?_)
      · have h := h.1 c9
        refine lv_bipush (v := 40) hx hb dX1_percentOf_29 (by decide) ?_
        exact j31 _ _ _ _ _ _ _ hk S (lv_sub hl [] rfl) h
      · have h := h.2 c9
        refine lv_bipush (v := 90) hx hb dX1_percentOf_24 (by decide) ?_
        refine lv_goto (tgt := 31) hx hb dX1_percentOf_26 (by decide) ?_
        exact j31 _ _ _ _ _ _ _ hk S (lv_sub hl [] rfl) h
    · have h := h.2 c9
      refine lv_bipush (v := 80) hx hb dX1_percentOf_14 (by decide) ?_
      refine lv_goto (tgt := 31) hx hb dX1_percentOf_16 (by decide) ?_
      exact j31 _ _ _ _ _ _ _ hk S (lv_sub hl [] rfl) h
  · have h := h.2 c9
    refine lv_bipush (v := 100) hx hb dX1_percentOf_4 (by decide) ?_
    refine lv_goto (tgt := 31) hx hb dX1_percentOf_6 (by decide) ?_
    exact j31 _ _ _ _ _ _ _ hk S (lv_sub hl [] rfl) h
/-! X18_cell: level 10 -/
def wp_X18_cell (G : mG) (b : Nat) (P : Int32 → mM → Prop) (M : mM) (a0 : Nat) : Prop :=
  gfi M a0 15 1 fun v1 => P v1 M
set_option maxHeartbeats 4000000 in
set_option maxRecDepth 100000 in
theorem wk_X18_cell {l : Launch} (hst0 : l.stackTraces = false) {G : mG} {b : Nat} {P : Int32 → mM → Prop} {M : mM} {a0 : Nat} (h : wp_X18_cell G b P M a0) : mMet l yX18_cell (ws_ yX18_cell cX18_cell 1 (Option.some Jvm.ClassFile.FieldType.int)) 10 b G [.ref a0] M (mRi P) (fun _ _ _ => False) := by
  refine mm_met hst0 (by decide) (Nat.le_of_ble_eq_true rfl) ?_
  intro p e s m args below meth c ls C hr hnt hnm hl S
  have hl : lv_has ls 1 [(0, .ref a0)] := hl
  generalize mA M s.heap.size = A at C S ⊢
  have hx := C.hx
  have hb := C.hb
  have hk : 0 + b ≤ b := Nat.le_of_eq (Nat.zero_add b)
  unfold wp_X18_cell at h
  refine lv_aload_n hx hb dX18_cell_0 rfl (lv_at hl 0 rfl) ?_
  refine mm_gfi C S (ci := 15) (k := 1) rfl in_X18 (by decide) q1538 (fun _ h9 => h9) dX18_cell_1 h (fun v1 h => ?_)
  exact mm_iret C S hr (Nat.le_trans (Nat.le_add_right _ _) hk) dX18_cell_4 h
/-! X18_kind: level 10 -/
def wp_X18_kind (G : mG) (b : Nat) (P : Int32 → mM → Prop) (M : mM) (a0 : Nat) : Prop :=
  gfi M a0 15 2 fun v1 => P v1 M
set_option maxHeartbeats 4000000 in
set_option maxRecDepth 100000 in
theorem wk_X18_kind {l : Launch} (hst0 : l.stackTraces = false) {G : mG} {b : Nat} {P : Int32 → mM → Prop} {M : mM} {a0 : Nat} (h : wp_X18_kind G b P M a0) : mMet l yX18_kind (ws_ yX18_kind cX18_kind 1 (Option.some Jvm.ClassFile.FieldType.int)) 10 b G [.ref a0] M (mRi P) (fun _ _ _ => False) := by
  refine mm_met hst0 (by decide) (Nat.le_of_ble_eq_true rfl) ?_
  intro p e s m args below meth c ls C hr hnt hnm hl S
  have hl : lv_has ls 1 [(0, .ref a0)] := hl
  generalize mA M s.heap.size = A at C S ⊢
  have hx := C.hx
  have hb := C.hb
  have hk : 0 + b ≤ b := Nat.le_of_eq (Nat.zero_add b)
  unfold wp_X18_kind at h
  refine lv_aload_n hx hb dX18_kind_0 rfl (lv_at hl 0 rfl) ?_
  refine mm_gfi C S (ci := 15) (k := 2) rfl in_X18 (by decide) q1539 (fun _ h9 => h9) dX18_kind_1 h (fun v1 h => ?_)
  exact mm_iret C S hr (Nat.le_trans (Nat.le_add_right _ _) hk) dX18_kind_4 h
/-! X18_many: level 10 -/
def wp_X18_many (G : mG) (b : Nat) (P : Int32 → mM → Prop) (M : mM) (a0 : Nat) : Prop :=
  gfi M a0 15 3 fun v1 => P v1 M
set_option maxHeartbeats 4000000 in
set_option maxRecDepth 100000 in
theorem wk_X18_many {l : Launch} (hst0 : l.stackTraces = false) {G : mG} {b : Nat} {P : Int32 → mM → Prop} {M : mM} {a0 : Nat} (h : wp_X18_many G b P M a0) : mMet l yX18_many (ws_ yX18_many cX18_many 1 (Option.some Jvm.ClassFile.FieldType.int)) 10 b G [.ref a0] M (mRi P) (fun _ _ _ => False) := by
  refine mm_met hst0 (by decide) (Nat.le_of_ble_eq_true rfl) ?_
  intro p e s m args below meth c ls C hr hnt hnm hl S
  have hl : lv_has ls 1 [(0, .ref a0)] := hl
  generalize mA M s.heap.size = A at C S ⊢
  have hx := C.hx
  have hb := C.hb
  have hk : 0 + b ≤ b := Nat.le_of_eq (Nat.zero_add b)
  unfold wp_X18_many at h
  refine lv_aload_n hx hb dX18_many_0 rfl (lv_at hl 0 rfl) ?_
  refine mm_gfi C S (ci := 15) (k := 3) rfl in_X18 (by decide) q1540 (fun _ h9 => h9) dX18_many_1 h (fun v1 h => ?_)
  exact mm_iret C S hr (Nat.le_trans (Nat.le_add_right _ _) hk) dX18_many_4 h
/-! X17_noted: level 12, alloc -/
def wb_X17_noted_63 (G : mG) (P : Int32 → mM → Prop) (K13 : Nat → mM → Int32 → Int32 → Int32 → Nat → Prop) (r : Nat) (M : mM) (x1 : Int32) (x2 : Int32) (a4 : Nat) (s0 : Int32) (s1 : Int32) : Prop :=
  K13 r M x1 x2 (s0 + s1) a4
def wb_X17_noted_62 (G : mG) (P : Int32 → mM → Prop) (K13 : Nat → mM → Int32 → Int32 → Int32 → Nat → Prop) (r : Nat) (M : mM) (x1 : Int32) (x2 : Int32) (a4 : Nat) (s0 : Int32) : Prop :=
  wb_X17_noted_63 G P K13 r M x1 x2 a4 s0 0
def wl_X17_noted_13 (G : mG) (P : Int32 → mM → Prop) : Nat → Nat → mM → Int32 → Int32 → Int32 → Nat → Prop
  | 0, _, _, _, _, _, _ => False
  | n + 1, r, M, x1, x2, x3, a4 => isc M a4 20 ∧ (wp_J23_hasNext G 0 (fun v7 M6 => (v7 = 0 → P x3 M6) ∧ (¬ v7 = 0 → isc M6 a4 20 ∧ (wp_J23_next G 0 (fun u9 M8 => isc M8 u9 15 ∧ (isc M8 u9 15 ∧ (wp_X18_cell G 0 (fun v11 M10 => (¬ v11 = x1 → wb_X17_noted_62 G P (wl_X17_noted_13 G P n) r M10 x1 x2 a4 x3) ∧ (v11 = x1 → isc M10 u9 15 ∧ (wp_X18_kind G 0 (fun v13 M12 => (¬ v13 = x2 → wb_X17_noted_62 G P (wl_X17_noted_13 G P n) r M12 x1 x2 a4 x3) ∧ (v13 = x2 → isc M12 u9 15 ∧ (wp_X18_many G 0 (fun v15 M14 => wb_X17_noted_63 G P (wl_X17_noted_13 G P n) r M14 x1 x2 a4 x3 v15) M12 u9))) M10 u9))) M8 u9))) M6 a4))) M a4)
def wp_X17_noted (G : mG) (b : Nat) (P : Int32 → mM → Prop) (M : mM) (a0 : Nat) (x1 : Int32) (x2 : Int32) : Prop :=
  gfa M a0 14 5 fun u1 => isc M u1 16 ∧ (∃ b3 r4 : Nat, b3 + r4 = b ∧ wp_J2_iterator G b3 (fun u5 M2 => ∃ n13, wl_X17_noted_13 G P n13 r4 M2 x1 x2 0 u5) M u1)
set_option maxHeartbeats 4000000 in
set_option maxRecDepth 100000 in
theorem wk_X17_noted {l : Launch} (hst0 : l.stackTraces = false) {G : mG} {b : Nat} {P : Int32 → mM → Prop} {M : mM} {a0 : Nat} {x1 : Int32} {x2 : Int32} (h : wp_X17_noted G b P M a0 x1 x2) : mMet l yX17_noted (ws_ yX17_noted cX17_noted 6 (Option.some Jvm.ClassFile.FieldType.int)) 12 b G [.ref a0, .int x1, .int x2] M (mRi P) (fun _ _ _ => False) := by
  refine mm_met hst0 (by decide) (Nat.le_of_ble_eq_true rfl) ?_
  intro p e s m args below meth c ls C hr hnt hnm hl S
  have hl : lv_has ls 6 [(0, .ref a0), (1, .int x1), (2, .int x2)] := hl
  generalize mA M s.heap.size = A at C S ⊢
  have hx := C.hx
  have hb := C.hb
  have hk : 0 + b ≤ b := Nat.le_of_eq (Nat.zero_add b)
  have j13 : ∀ (nf : Nat) (k r : Nat) (M : mM) (H : Heap) (locs : List Loc) (ls : Array Slot) (x1 : Int32) (x2 : Int32) (x3 : Int32) (a4 : Nat), k + r ≤ b → mW G A s M H locs → lv_has ls 6 [(1, .int x1), (2, .int x2), (3, .int x3), (4, .ref a4)] → wl_X17_noted_13 G P nf r M x1 x2 x3 a4 → W p l e (mRm 12 b) s m args below meth c H locs k k (vx_MQ below (mQ G A (mRi P)) (mXC G A (fun _ _ _ => False)) args s b b A) (F0 m 13 ls []) := by
    intro nf
    induction nf with
    | zero =>
      intro k r M H locs ls x1 x2 x3 a4 hk S hl h
      rw [wl_X17_noted_13] at h
      exact h.elim
    | succ n13 ih13 =>
      have j63 : ∀ (k r : Nat) (M : mM) (H : Heap) (locs : List Loc) (ls : Array Slot) (x1 : Int32) (x2 : Int32) (a4 : Nat) (s0 : Int32) (s1 : Int32), k + r ≤ b → mW G A s M H locs → lv_has ls 6 [(1, .int x1), (2, .int x2), (4, .ref a4)] → wb_X17_noted_63 G P (wl_X17_noted_13 G P n13) r M x1 x2 a4 s0 s1 → W p l e (mRm 12 b) s m args below meth c H locs k k (vx_MQ below (mQ G A (mRi P)) (mXC G A (fun _ _ _ => False)) args s b b A) (F0 m 63 ls [.int s1, .int s0]) := by
        intro k r M H locs ls x1 x2 a4 s0 s1 hk S hl h
        unfold wb_X17_noted_63 at h
        refine lv_iadd hx hb dX17_noted_63 ?_
        refine lv_istore_n (lv' := [(3, .int (s0 + s1)), (1, .int x1), (2, .int x2), (4, .ref a4)]) hx hb dX17_noted_64 rfl hl (by decide) rfl (fun ls hl => ?_)
        refine lv_goto (tgt := 13) hx hb dX17_noted_65 (by decide) ?_
        exact ih13 _ _ _ _ _ _ _ _ _ _ hk S (lv_sub hl [1, 2, 0, 3] rfl) h
      have j62 : ∀ (k r : Nat) (M : mM) (H : Heap) (locs : List Loc) (ls : Array Slot) (x1 : Int32) (x2 : Int32) (a4 : Nat) (s0 : Int32), k + r ≤ b → mW G A s M H locs → lv_has ls 6 [(1, .int x1), (2, .int x2), (4, .ref a4)] → wb_X17_noted_62 G P (wl_X17_noted_13 G P n13) r M x1 x2 a4 s0 → W p l e (mRm 12 b) s m args below meth c H locs k k (vx_MQ below (mQ G A (mRi P)) (mXC G A (fun _ _ _ => False)) args s b b A) (F0 m 62 ls [.int s0]) := by
        intro k r M H locs ls x1 x2 a4 s0 hk S hl h
        unfold wb_X17_noted_62 at h
        refine lv_iconst (v := 0) hx hb dX17_noted_62 (by decide) ?_
        exact j63 _ _ _ _ _ _ _ _ _ _ _ hk S hl h
      intro k r M H locs ls x1 x2 x3 a4 hk S hl h
      rw [wl_X17_noted_13] at h
      refine lv_aload hx hb dX17_noted_13 (lv_at hl 3 rfl) ?_
      obtain ⟨hI, h⟩ := h
      refine mm_F (As := []) (rest := []) C S hl.1 (x := ⟨"java/util/Iterator", "hasNext", "()Z"⟩) (wk_J23_hasNext hst0 h) (T := TJ23) rfl hI (mWsF q1591 q383 q385 q85 (lw_meth q387)) (by decide +kernel) pdi_7 ⟨Nat.le_of_ble_eq_true rfl, Nat.le_of_ble_eq_true rfl⟩ rfl rfl (Nat.le_of_ble_eq_true rfl) dX17_noted_15 rfl rfl hk (Nat.zero_add _) (fun v9 M6 H locs hP S hk => ?_) (fun E q ce M9 H9 locs9 hX => hX.elim)
      obtain ⟨v7, rfl, h⟩ := hP
      refine W.eq (g2 := F0 m 20 ls [.int v7]) rfl ?_
      refine lv_if_eq (tgt := 68) hx hb dX17_noted_20 (by decide) (fun c9 => ?_) (fun c9 => ?_)
      · have h := h.1 c9
        refine lv_iload_n hx hb dX17_noted_68 rfl (lv_at hl 2 rfl) ?_
        exact mm_iret C S hr (Nat.le_trans (Nat.le_add_right _ _) hk) dX17_noted_69 h
      · have h := h.2 c9
        refine lv_aload hx hb dX17_noted_23 (lv_at hl 3 rfl) ?_
        obtain ⟨hI, h⟩ := h
        refine mm_F (As := []) (rest := []) C S hl.1 (x := ⟨"java/util/Iterator", "next", "()Ljava/lang/Object;"⟩) (wk_J23_next hst0 h) (T := TJ23) rfl hI (mWsF q1593 q392 q394 q85 (lw_meth q396)) (by decide +kernel) pdi_6 ⟨Nat.le_of_ble_eq_true rfl, Nat.le_of_ble_eq_true rfl⟩ rfl rfl (Nat.le_of_ble_eq_true rfl) dX17_noted_25 rfl rfl hk (Nat.zero_add _) (fun v9 M8 H locs hP S hk => ?_) (fun E q ce M9 H9 locs9 hX => hX.elim)
        obtain ⟨u9, rfl, h⟩ := hP
        refine W.eq (g2 := F0 m 30 ls [.ref u9]) rfl ?_
        refine mm_castS C S (ci := 15) (T := TX18) rfl rfl q1594 h.1 dX17_noted_30 ?_
        have h := h.2
        refine lv_astore (lv' := [(5, .ref u9), (1, .int x1), (2, .int x2), (3, .int x3), (4, .ref a4)]) hx hb dX17_noted_33 hl (by decide) rfl (fun ls hl => ?_)
        refine lv_iload_n hx hb dX17_noted_35 rfl (lv_at hl 3 rfl) ?_
        refine lv_aload hx hb dX17_noted_36 (lv_at hl 0 rfl) ?_
        obtain ⟨hI, h⟩ := h
        refine mm_V (As := []) (rest := [.int x3]) C S hl.1 (wk_X18_cell hst0 h) (T := TX18) rfl hI (lw_V q1595 q1596 q1597 q93 q1598) rfl pd_X18_cell ⟨Nat.le_of_ble_eq_true rfl, Nat.le_of_ble_eq_true rfl⟩ rfl rfl (Nat.le_of_ble_eq_true rfl) dX17_noted_38 rfl rfl hk (Nat.zero_add _) (fun v9 M10 H locs hP S hk => ?_) (fun E q ce M9 H9 locs9 hX => hX.elim)
        obtain ⟨v11, rfl, h⟩ := hP
        refine W.eq (g2 := F0 m 41 ls [.int v11, .int x3]) rfl ?_
        refine lv_iload_n hx hb dX17_noted_41 rfl (lv_at hl 1 rfl) ?_
        refine lv_icmp_ne (tgt := 62) hx hb dX17_noted_42 (by decide) (fun c9 => ?_) (fun c9 => ?_)
        · have h := h.1 c9
          exact j62 _ _ _ _ _ _ _ _ _ _ hk S (lv_sub hl [1, 2, 4] rfl) h
        · have h := h.2 c9
          refine lv_aload hx hb dX17_noted_45 (lv_at hl 0 rfl) ?_
          obtain ⟨hI, h⟩ := h
          refine mm_V (As := []) (rest := [.int x3]) C S hl.1 (wk_X18_kind hst0 h) (T := TX18) rfl hI (lw_V q1599 q403 q404 q93 q405) rfl pd_X18_kind ⟨Nat.le_of_ble_eq_true rfl, Nat.le_of_ble_eq_true rfl⟩ rfl rfl (Nat.le_of_ble_eq_true rfl) dX17_noted_47 rfl rfl hk (Nat.zero_add _) (fun v9 M12 H locs hP S hk => ?_) (fun E q ce M9 H9 locs9 hX => hX.elim)
          obtain ⟨v13, rfl, h⟩ := hP
          refine W.eq (g2 := F0 m 50 ls [.int v13, .int x3]) rfl ?_
          refine lv_iload_n hx hb dX17_noted_50 rfl (lv_at hl 2 rfl) ?_
          refine lv_icmp_ne (tgt := 62) hx hb dX17_noted_51 (by decide) (fun c9 => ?_) (fun c9 => ?_)
          · have h := h.1 c9
            exact j62 _ _ _ _ _ _ _ _ _ _ hk S (lv_sub hl [1, 2, 4] rfl) h
          · have h := h.2 c9
            refine lv_aload hx hb dX17_noted_54 (lv_at hl 0 rfl) ?_
            obtain ⟨hI, h⟩ := h
            refine mm_V (As := []) (rest := [.int x3]) C S hl.1 (wk_X18_many hst0 h) (T := TX18) rfl hI (lw_V q1600 q407 q408 q93 q409) rfl pd_X18_many ⟨Nat.le_of_ble_eq_true rfl, Nat.le_of_ble_eq_true rfl⟩ rfl rfl (Nat.le_of_ble_eq_true rfl) dX17_noted_56 rfl rfl hk (Nat.zero_add _) (fun v9 M14 H locs hP S hk => ?_) (fun E q ce M9 H9 locs9 hX => hX.elim)
            obtain ⟨v15, rfl, h⟩ := hP
            refine W.eq (g2 := F0 m 59 ls [.int v15, .int x3]) rfl ?_
            refine lv_goto (tgt := 63) hx hb dX17_noted_59 (by decide) ?_
            exact j63 _ _ _ _ _ _ _ _ _ _ _ hk S (lv_sub hl [1, 2, 4] rfl) h
  unfold wp_X17_noted at h
  refine lv_iconst (v := 0) hx hb dX17_noted_0 (by decide) ?_
  refine lv_istore_n (lv' := [(3, .int 0), (0, .ref a0), (1, .int x1), (2, .int x2)]) hx hb dX17_noted_1 rfl hl (by decide) rfl (fun ls hl => ?_)
  refine lv_aload_n hx hb dX17_noted_2 rfl (lv_at hl 1 rfl) ?_
  refine mm_gfa C S (ci := 14) (k := 5) rfl in_X17 (by decide) q1506 (fun _ h9 => h9) dX17_noted_3 h (fun u1 h => ?_)
  obtain ⟨hI, h⟩ := h
  obtain ⟨b3, r4, hb9, h⟩ := h
  refine mm_F (As := []) (rest := []) C S hl.1 (x := ⟨"java/util/List", "iterator", "()Ljava/util/Iterator;"⟩) (wk_J2_iterator hst0 h) (T := TJ2) rfl hI (mWsF q1589 q354 q356 q51 (lw_meth q358)) (by decide +kernel) pdi_5 ⟨Nat.le_of_ble_eq_true rfl, Nat.le_of_ble_eq_true rfl⟩ rfl rfl (Nat.le_of_ble_eq_true rfl) dX17_noted_6 rfl rfl hk hb9 (fun v9 M2 H locs hP S hk => ?_) (fun E q ce M9 H9 locs9 hX => hX.elim)
  obtain ⟨u5, rfl, h⟩ := hP
  refine W.eq (g2 := F0 m 11 ls [.ref u5]) rfl ?_
  refine lv_astore (lv' := [(4, .ref u5), (3, .int 0), (0, .ref a0), (1, .int x1), (2, .int x2)]) hx hb dX17_noted_11 hl (by decide) rfl (fun ls hl => ?_)
  obtain ⟨nf, h⟩ := h
  exact j13 nf _ _ _ _ _ _ _ _ _ _ hk S (lv_sub hl [3, 4, 1, 0] rfl) h
/-! X1_tell: level 13, alloc -/
def wb_X1_tell_96 (G : mG) (P : mM → Prop) (r : Nat) (M : mM) (s0 : Nat) (s1 : Int32) (s2 : Int32) : Prop :=
  sti M 0 s0 s1 s2 fun M22 => P M22
def wp_X1_tell (G : mG) (b : Nat) (P : mM → Prop) (M : mM) (a0 : Nat) (a1 : Nat) (x2 : Int32) (x3 : Int32) (x4 : Int32) : Prop :=
  isc M a1 14 ∧ (∃ b2 r3 : Nat, b2 + r3 = b ∧ wp_X17_noted G b2 (fun v4 M1 => ¬ x4 = 0 ∧ (gfi M1 a1 14 3 fun v5 => gfa M1 a0 0 10 fun u6 => lda M1 8 u6 ((4 * v5) + x3) fun u7 => gfa M1 a0 0 10 fun u8 => lda M1 8 u8 ((4 * v5) + x3) fun u9 => ldi M1 0 u9 x2 fun v10 => ∀ g11 : Int32, g11 = (if v10 < v4 then v4 else v10) → sti M1 0 u7 x2 g11 fun M12 => gfa M12 a0 0 11 fun u13 => lda M12 8 u13 ((4 * v5) + x3) fun u14 => gfa M12 a0 0 11 fun u15 => lda M12 8 u15 ((4 * v5) + x3) fun u16 => ldi M12 0 u16 x2 fun v17 => (¬ v17 = (-1) → gfa M12 a0 0 11 fun u18 => lda M12 8 u18 ((4 * v5) + x3) fun u19 => ldi M12 0 u19 x2 fun v20 => ∀ g21 : Int32, g21 = (if ((((v4 + 1) * 1000) - 1) / x4) < v20 then ((((v4 + 1) * 1000) - 1) / x4) else v20) → wb_X1_tell_96 G P r3 M12 u14 x2 g21) ∧ (v17 = (-1) → wb_X1_tell_96 G P r3 M12 u14 x2 ((((v4 + 1) * 1000) - 1) / x4)))) M a1 x2 x3)
set_option maxHeartbeats 4000000 in
set_option maxRecDepth 100000 in
theorem wk_X1_tell {l : Launch} (hst0 : l.stackTraces = false) {G : mG} {b : Nat} {P : mM → Prop} {M : mM} {a0 : Nat} {a1 : Nat} {x2 : Int32} {x3 : Int32} {x4 : Int32} (h : wp_X1_tell G b P M a0 a1 x2 x3 x4) : mMet l yX1_tell (ws_ yX1_tell cX1_tell 8 (Option.none : Option Jvm.ClassFile.FieldType)) 13 b G [.ref a0, .ref a1, .int x2, .int x3, .int x4] M (mRv P) (fun _ _ _ => False) := by
  refine mm_met hst0 (by decide) (Nat.le_of_ble_eq_true rfl) ?_
  intro p e s m args below meth c ls C hr hnt hnm hl S
  have hl : lv_has ls 8 [(0, .ref a0), (1, .ref a1), (2, .int x2), (3, .int x3), (4, .int x4)] := hl
  generalize mA M s.heap.size = A at C S ⊢
  have hx := C.hx
  have hb := C.hb
  have hk : 0 + b ≤ b := Nat.le_of_eq (Nat.zero_add b)
  have j96 : ∀ (k r : Nat) (M : mM) (H : Heap) (locs : List Loc) (ls : Array Slot) (s0 : Nat) (s1 : Int32) (s2 : Int32), k + r ≤ b → mW G A s M H locs → lv_has ls 8 [] → wb_X1_tell_96 G P r M s0 s1 s2 → W p l e (mRm 13 b) s m args below meth c H locs k k (vx_MQ below (mQ G A (mRv P)) (mXC G A (fun _ _ _ => False)) args s b b A) (F0 m 96 ls [.int s2, .int s1, .ref s0]) := by
    intro k r M H locs ls s0 s1 s2 hk S hl h
    unfold wb_X1_tell_96 at h
    refine mm_iast C S h dX1_tell_96 (fun M22 H locs h S => ?_)
    exact mm_vret C S hr (Nat.le_trans (Nat.le_add_right _ _) hk) dX1_tell_97 h
  unfold wp_X1_tell at h
  refine lv_aload_n hx hb dX1_tell_0 rfl (lv_at hl 1 rfl) ?_
  refine lv_iload_n hx hb dX1_tell_1 rfl (lv_at hl 2 rfl) ?_
  refine lv_iload_n hx hb dX1_tell_2 rfl (lv_at hl 3 rfl) ?_
  obtain ⟨hI, h⟩ := h
  obtain ⟨b2, r3, hb9, h⟩ := h
  refine mm_V (As := [.int x2, .int x3]) (rest := []) C S hl.1 (wk_X17_noted hst0 h) (T := TX17) rfl hI (lw_V q1584 q1585 q1586 q91 q1587) rfl pd_X17_noted ⟨Nat.le_of_ble_eq_true rfl, Nat.le_of_ble_eq_true rfl⟩ rfl rfl (Nat.le_of_ble_eq_true rfl) dX1_tell_3 rfl rfl hk hb9 (fun v9 M1 H locs hP S hk => ?_) (fun E q ce M9 H9 locs9 hX => hX.elim)
  obtain ⟨v4, rfl, h⟩ := hP
  refine W.eq (g2 := F0 m 6 ls [.int v4]) rfl ?_
  refine lv_istore (lv' := [(5, .int v4), (0, .ref a0), (1, .ref a1), (2, .int x2), (3, .int x3), (4, .int x4)]) hx hb dX1_tell_6 hl (by decide) rfl (fun ls hl => ?_)
  refine lv_iload hx hb dX1_tell_8 (lv_at hl 0 rfl) ?_
  refine lv_iconst (v := 1) hx hb dX1_tell_10 (by decide) ?_
  refine lv_iadd hx hb dX1_tell_11 ?_
  refine lv_sipush (v := 1000) hx hb dX1_tell_12 (by decide) ?_
  refine lv_imul hx hb dX1_tell_15 ?_
  refine lv_iconst (v := 1) hx hb dX1_tell_16 (by decide) ?_
  refine lv_isub hx hb dX1_tell_17 ?_
  refine lv_iload hx hb dX1_tell_18 (lv_at hl 5 rfl) ?_
  refine lv_idiv hx hb dX1_tell_20 h.1 ?_
  have h := h.2
  refine lv_istore (lv' := [(6, .int ((((v4 + 1) * 1000) - 1) / x4)), (5, .int v4), (0, .ref a0), (1, .ref a1), (2, .int x2), (3, .int x3), (4, .int x4)]) hx hb dX1_tell_21 hl (by decide) rfl (fun ls hl => ?_)
  refine lv_iconst (v := 4) hx hb dX1_tell_23 (by decide) ?_
  refine lv_aload_n hx hb dX1_tell_24 rfl (lv_at hl 3 rfl) ?_
  refine mm_gfiN C S (ci := 14) (k := 3) rfl in_X17 (by decide) q1503 (fun _ h9 => h9) dX1_tell_25 h (fun v5 h => ?_)
  refine lv_imul hx hb dX1_tell_28 ?_
  refine lv_iload_n hx hb dX1_tell_29 rfl (lv_at hl 5 rfl) ?_
  refine lv_iadd hx hb dX1_tell_30 ?_
  refine lv_istore (lv' := [(7, .int ((4 * v5) + x3)), (6, .int ((((v4 + 1) * 1000) - 1) / x4)), (5, .int v4), (0, .ref a0), (1, .ref a1), (2, .int x2), (3, .int x3), (4, .int x4)]) hx hb dX1_tell_31 hl (by decide) rfl (fun ls hl => ?_)
  refine lv_aload_n hx hb dX1_tell_33 rfl (lv_at hl 3 rfl) ?_
  refine mm_gfa C S (ci := 0) (k := 10) rfl in_X1 (by decide) q225 (fun _ h9 => h9) dX1_tell_34 h (fun u6 h => ?_)
  refine lv_iload hx hb dX1_tell_37 (lv_at hl 0 rfl) ?_
  refine mm_aald C S (t := 8) rfl rfl h dX1_tell_39 (fun u7 h => ?_)
  refine lv_iload_n hx hb dX1_tell_40 rfl (lv_at hl 5 rfl) ?_
  refine lv_aload_n hx hb dX1_tell_41 rfl (lv_at hl 3 rfl) ?_
  refine mm_gfa C S (ci := 0) (k := 10) rfl in_X1 (by decide) q225 (fun _ h9 => h9) dX1_tell_42 h (fun u8 h => ?_)
  refine lv_iload hx hb dX1_tell_45 (lv_at hl 0 rfl) ?_
  refine mm_aald C S (t := 8) rfl rfl h dX1_tell_47 (fun u9 h => ?_)
  refine lv_iload_n hx hb dX1_tell_48 rfl (lv_at hl 5 rfl) ?_
  refine mm_iald C S h dX1_tell_49 (fun v10 h => ?_)
  refine lv_iload hx hb dX1_tell_50 (lv_at hl 2 rfl) ?_
  refine mm_max C hl.1 q327 q328 q68 q329 (Nat.le_of_ble_eq_true rfl) (Nat.le_of_ble_eq_true rfl) (Nat.le_trans (Nat.le_add_right _ _) hk) (Nat.le_trans (Nat.le_add_right _ _) hk) dX1_tell_52 ?_
  refine lv_topi (fun g11 eg11 => ?_)
  have h := h g11 eg11
  refine mm_iast C S h dX1_tell_55 (fun M12 H locs h S => ?_)
  refine lv_aload_n hx hb dX1_tell_56 rfl (lv_at hl 3 rfl) ?_
  refine mm_gfa C S (ci := 0) (k := 11) rfl in_X1 (by decide) q226 (fun _ h9 => h9) dX1_tell_57 h (fun u13 h => ?_)
  refine lv_iload hx hb dX1_tell_60 (lv_at hl 0 rfl) ?_
  refine mm_aald C S (t := 8) rfl rfl h dX1_tell_62 (fun u14 h => ?_)
  refine lv_iload_n hx hb dX1_tell_63 rfl (lv_at hl 5 rfl) ?_
  refine lv_aload_n hx hb dX1_tell_64 rfl (lv_at hl 3 rfl) ?_
  refine mm_gfa C S (ci := 0) (k := 11) rfl in_X1 (by decide) q226 (fun _ h9 => h9) dX1_tell_65 h (fun u15 h => ?_)
  refine lv_iload hx hb dX1_tell_68 (lv_at hl 0 rfl) ?_
  refine mm_aald C S (t := 8) rfl rfl h dX1_tell_70 (fun u16 h => ?_)
  refine lv_iload_n hx hb dX1_tell_71 rfl (lv_at hl 5 rfl) ?_
  refine mm_iald C S h dX1_tell_72 (fun v17 h => ?_)
  refine lv_iconst (v := (-1)) hx hb dX1_tell_73 (by decide) ?_
  refine lv_icmp_ne (tgt := 82) hx hb dX1_tell_74 (by decide) (fun c9 => ?_) (fun c9 => ?_)
  · have h := h.1 c9
    refine lv_aload_n hx hb dX1_tell_82 rfl (lv_at hl 3 rfl) ?_
    refine mm_gfa C S (ci := 0) (k := 11) rfl in_X1 (by decide) q226 (fun _ h9 => h9) dX1_tell_83 h (fun u18 h => ?_)
    refine lv_iload hx hb dX1_tell_86 (lv_at hl 0 rfl) ?_
    refine mm_aald C S (t := 8) rfl rfl h dX1_tell_88 (fun u19 h => ?_)
    refine lv_iload_n hx hb dX1_tell_89 rfl (lv_at hl 5 rfl) ?_
    refine mm_iald C S h dX1_tell_90 (fun v20 h => ?_)
    refine lv_iload hx hb dX1_tell_91 (lv_at hl 1 rfl) ?_
    refine mm_min C hl.1 q341 q331 q68 q332 (Nat.le_of_ble_eq_true rfl) (Nat.le_of_ble_eq_true rfl) (Nat.le_trans (Nat.le_add_right _ _) hk) (Nat.le_trans (Nat.le_add_right _ _) hk) dX1_tell_93 ?_
    refine lv_topi (fun g21 eg21 => ?_)
    have h := h g21 eg21
    exact j96 _ _ _ _ _ _ _ _ _ hk S (lv_sub hl [] rfl) h
  · have h := h.2 c9
    refine lv_iload hx hb dX1_tell_77 (lv_at hl 1 rfl) ?_
    refine lv_goto (tgt := 96) hx hb dX1_tell_79 (by decide) ?_
    exact j96 _ _ _ _ _ _ _ _ _ hk S (lv_sub hl [] rfl) h
/-! X1_tellAll: level 14, alloc -/
def wb_X1_tellAll_120 (G : mG) (P : mM → Prop) (K29 : Nat → mM → Nat → Nat → Nat → Int32 → Int32 → Prop) (r : Nat) (M : mM) (a0 : Nat) (a1 : Nat) (a2 : Nat) (x3 : Int32) (x4 : Int32) : Prop :=
  K29 r M a0 a1 a2 x3 (x4 + 1)
def wb_X1_tellAll_114 (G : mG) (P : mM → Prop) (K29 : Nat → mM → Nat → Nat → Nat → Int32 → Int32 → Prop) (K47 : Nat → mM → Nat → Nat → Nat → Int32 → Int32 → Int32 → Int32 → Prop) (r : Nat) (M : mM) (a0 : Nat) (a1 : Nat) (a2 : Nat) (x3 : Int32) (x4 : Int32) (x5 : Int32) (x6 : Int32) : Prop :=
  K47 r M a0 a1 a2 x3 x4 x5 (x6 + 1)
def wl_X1_tellAll_47 (G : mG) (P : mM → Prop) (K29 : Nat → mM → Nat → Nat → Nat → Int32 → Int32 → Prop) : Nat → Nat → mM → Nat → Nat → Nat → Int32 → Int32 → Int32 → Int32 → Prop
  | 0, _, _, _, _, _, _, _, _, _ => False
  | n + 1, r, M, a0, a1, a2, x3, x4, x5, x6 => (4 ≤ x6 → wb_X1_tellAll_120 G P K29 r M a0 a1 a2 x3 x4) ∧ (¬ 4 ≤ x6 → (3 < x5 → wb_X1_tellAll_120 G P K29 r M a0 a1 a2 x3 x4) ∧ (¬ 3 < x5 → gfa M a0 0 0 fun u12 => lda M 6 u12 x4 fun u13 => gfi M u13 1 1 fun v14 => isc M a0 0 ∧ (∃ b16 r17 : Nat, b16 + r17 = r ∧ wp_X1_curveOf G b16 (fun v18 M15 => gfi M15 a1 14 2 fun v19 => wp_X1_percentOf G 0 (fun v21 M20 => ∀ g22 : Int32, g22 = (((v18 * v21) / 100) * x3) → ((g22 / 1000) < 50 → wb_X1_tellAll_114 G P K29 (wl_X1_tellAll_47 G P K29 n) r17 M20 a0 a1 a2 x3 x4 x5 x6) ∧ (¬ (g22 / 1000) < 50 → isc M20 a0 0 ∧ (∃ b24 r25 : Nat, b24 + r25 = r17 ∧ wp_X1_tell G b24 (fun M23 => wb_X1_tellAll_114 G P K29 (wl_X1_tellAll_47 G P K29 n) r25 M23 a0 a1 a2 x3 x4 x5 x6) M20 a0 a1 x4 x6 (g22 / 1000)))) M15 v19) M a0 x6 v14 x5)))
def wl_X1_tellAll_29 (G : mG) (P : mM → Prop) : Nat → Nat → mM → Nat → Nat → Nat → Int32 → Int32 → Prop
  | 0, _, _, _, _, _, _, _ => False
  | n + 1, r, M, a0, a1, a2, x3, x4 => (36 ≤ x4 → P M) ∧ (¬ 36 ≤ x4 → isc M a2 11 ∧ (wp_X14_distanceOf G 0 (fun v11 M10 => ∃ n47, wl_X1_tellAll_47 G P (wl_X1_tellAll_29 G P n) n47 r M10 a0 a1 a2 x3 x4 v11 0) M a2 x4))
def wp_X1_tellAll (G : mG) (b : Nat) (P : mM → Prop) (M : mM) (a0 : Nat) (a1 : Nat) : Prop :=
  gfa M a0 0 5 fun u1 => gfi M a1 14 1 fun v2 => isc M u1 16 ∧ (wp_J2_get G 0 (fun u4 M3 => isc M3 u4 11 ∧ (gfi M3 a1 14 0 fun v5 => isc M3 a0 0 ∧ (∃ b7 r8 : Nat, b7 + r8 = b ∧ wp_X1_shareOf G b7 (fun v9 M6 => ∃ n29, wl_X1_tellAll_29 G P n29 r8 M6 a0 a1 u4 v9 0) M3 a0 v5))) M u1 v2)
set_option maxHeartbeats 4000000 in
set_option maxRecDepth 100000 in
theorem wk_X1_tellAll {l : Launch} (hst0 : l.stackTraces = false) {G : mG} {b : Nat} {P : mM → Prop} {M : mM} {a0 : Nat} {a1 : Nat} (h : wp_X1_tellAll G b P M a0 a1) : mMet l yX1_tellAll (ws_ yX1_tellAll cX1_tellAll 8 (Option.none : Option Jvm.ClassFile.FieldType)) 14 b G [.ref a0, .ref a1] M (mRv P) (fun _ _ _ => False) := by
  refine mm_met hst0 (by decide) (Nat.le_of_ble_eq_true rfl) ?_
  intro p e s m args below meth c ls C hr hnt hnm hl S
  have hl : lv_has ls 8 [(0, .ref a0), (1, .ref a1)] := hl
  generalize mA M s.heap.size = A at C S ⊢
  have hx := C.hx
  have hb := C.hb
  have hk : 0 + b ≤ b := Nat.le_of_eq (Nat.zero_add b)
  have j29 : ∀ (nf : Nat) (k r : Nat) (M : mM) (H : Heap) (locs : List Loc) (ls : Array Slot) (a0 : Nat) (a1 : Nat) (a2 : Nat) (x3 : Int32) (x4 : Int32), k + r ≤ b → mW G A s M H locs → lv_has ls 8 [(0, .ref a0), (1, .ref a1), (2, .ref a2), (3, .int x3), (4, .int x4)] → wl_X1_tellAll_29 G P nf r M a0 a1 a2 x3 x4 → W p l e (mRm 14 b) s m args below meth c H locs k k (vx_MQ below (mQ G A (mRv P)) (mXC G A (fun _ _ _ => False)) args s b b A) (F0 m 29 ls []) := by
    intro nf
    induction nf with
    | zero =>
      intro k r M H locs ls a0 a1 a2 x3 x4 hk S hl h
      rw [wl_X1_tellAll_29] at h
      exact h.elim
    | succ n29 ih29 =>
      have j120 : ∀ (k r : Nat) (M : mM) (H : Heap) (locs : List Loc) (ls : Array Slot) (a0 : Nat) (a1 : Nat) (a2 : Nat) (x3 : Int32) (x4 : Int32), k + r ≤ b → mW G A s M H locs → lv_has ls 8 [(0, .ref a0), (1, .ref a1), (2, .ref a2), (3, .int x3), (4, .int x4)] → wb_X1_tellAll_120 G P (wl_X1_tellAll_29 G P n29) r M a0 a1 a2 x3 x4 → W p l e (mRm 14 b) s m args below meth c H locs k k (vx_MQ below (mQ G A (mRv P)) (mXC G A (fun _ _ _ => False)) args s b b A) (F0 m 120 ls []) := by
        intro k r M H locs ls a0 a1 a2 x3 x4 hk S hl h
        unfold wb_X1_tellAll_120 at h
        refine lv_iinc (v := (x4 + 1)) (lv' := [(4, .int (x4 + 1)), (0, .ref a0), (1, .ref a1), (2, .ref a2), (3, .int x3)]) hx hb dX1_tellAll_120 hl (k := 4) rfl rfl (by decide) rfl (fun ls hl => ?_)
        refine lv_goto (tgt := 29) hx hb dX1_tellAll_123 (by decide) ?_
        exact ih29 _ _ _ _ _ _ _ _ _ _ _ hk S (lv_sub hl [1, 2, 3, 4, 0] rfl) h
      have j47 : ∀ (nf : Nat) (k r : Nat) (M : mM) (H : Heap) (locs : List Loc) (ls : Array Slot) (a0 : Nat) (a1 : Nat) (a2 : Nat) (x3 : Int32) (x4 : Int32) (x5 : Int32) (x6 : Int32), k + r ≤ b → mW G A s M H locs → lv_has ls 8 [(0, .ref a0), (1, .ref a1), (2, .ref a2), (3, .int x3), (4, .int x4), (5, .int x5), (6, .int x6)] → wl_X1_tellAll_47 G P (wl_X1_tellAll_29 G P n29) nf r M a0 a1 a2 x3 x4 x5 x6 → W p l e (mRm 14 b) s m args below meth c H locs k k (vx_MQ below (mQ G A (mRv P)) (mXC G A (fun _ _ _ => False)) args s b b A) (F0 m 47 ls []) := by
        intro nf
        induction nf with
        | zero =>
          intro k r M H locs ls a0 a1 a2 x3 x4 x5 x6 hk S hl h
          rw [wl_X1_tellAll_47] at h
          exact h.elim
        | succ n47 ih47 =>
          have j114 : ∀ (k r : Nat) (M : mM) (H : Heap) (locs : List Loc) (ls : Array Slot) (a0 : Nat) (a1 : Nat) (a2 : Nat) (x3 : Int32) (x4 : Int32) (x5 : Int32) (x6 : Int32), k + r ≤ b → mW G A s M H locs → lv_has ls 8 [(0, .ref a0), (1, .ref a1), (2, .ref a2), (3, .int x3), (4, .int x4), (5, .int x5), (6, .int x6)] → wb_X1_tellAll_114 G P (wl_X1_tellAll_29 G P n29) (wl_X1_tellAll_47 G P (wl_X1_tellAll_29 G P n29) n47) r M a0 a1 a2 x3 x4 x5 x6 → W p l e (mRm 14 b) s m args below meth c H locs k k (vx_MQ below (mQ G A (mRv P)) (mXC G A (fun _ _ _ => False)) args s b b A) (F0 m 114 ls []) := by
            intro k r M H locs ls a0 a1 a2 x3 x4 x5 x6 hk S hl h
            unfold wb_X1_tellAll_114 at h
            refine lv_iinc (v := (x6 + 1)) (lv' := [(6, .int (x6 + 1)), (0, .ref a0), (1, .ref a1), (2, .ref a2), (3, .int x3), (4, .int x4), (5, .int x5)]) hx hb dX1_tellAll_114 hl (k := 6) rfl rfl (by decide) rfl (fun ls hl => ?_)
            refine lv_goto (tgt := 47) hx hb dX1_tellAll_117 (by decide) ?_
            exact ih47 _ _ _ _ _ _ _ _ _ _ _ _ _ hk S (lv_sub hl [1, 2, 3, 4, 5, 6, 0] rfl) h
          intro k r M H locs ls a0 a1 a2 x3 x4 x5 x6 hk S hl h
          rw [wl_X1_tellAll_47] at h
          refine lv_iload hx hb dX1_tellAll_47 (lv_at hl 6 rfl) ?_
          refine lv_iconst (v := 4) hx hb dX1_tellAll_49 (by decide) ?_
          refine lv_icmp_ge (tgt := 120) hx hb dX1_tellAll_50 (by decide) (fun c9 => ?_) (fun c9 => ?_)
          · have h := h.1 c9
            exact j120 _ _ _ _ _ _ _ _ _ _ _ hk S (lv_sub hl [0, 1, 2, 3, 4] rfl) h
          · have h := h.2 c9
            refine lv_iload hx hb dX1_tellAll_53 (lv_at hl 5 rfl) ?_
            refine lv_iconst (v := 3) hx hb dX1_tellAll_55 (by decide) ?_
            refine lv_icmp_gt (tgt := 120) hx hb dX1_tellAll_56 (by decide) (fun c9 => ?_) (fun c9 => ?_)
            · have h := h.1 c9
              exact j120 _ _ _ _ _ _ _ _ _ _ _ hk S (lv_sub hl [0, 1, 2, 3, 4] rfl) h
            · have h := h.2 c9
              refine lv_aload_n hx hb dX1_tellAll_59 rfl (lv_at hl 0 rfl) ?_
              refine lv_iload hx hb dX1_tellAll_60 (lv_at hl 6 rfl) ?_
              refine lv_aload_n hx hb dX1_tellAll_62 rfl (lv_at hl 0 rfl) ?_
              refine mm_gfa C S (ci := 0) (k := 0) rfl in_X1 (by decide) q215 (fun _ h9 => h9) dX1_tellAll_63 h (fun u12 h => ?_)
              refine lv_iload hx hb dX1_tellAll_66 (lv_at hl 4 rfl) ?_
              refine mm_aald C S (t := 6) rfl rfl h dX1_tellAll_68 (fun u13 h => ?_)
              refine mm_gfiN C S (ci := 1) (k := 1) rfl in_X2 (by decide) q182 (fun _ h9 => h9) dX1_tellAll_69 h (fun v14 h => ?_)
              refine lv_iload hx hb dX1_tellAll_72 (lv_at hl 5 rfl) ?_
              obtain ⟨hI, h⟩ := h
              obtain ⟨b16, r17, hb9, h⟩ := h
              refine mm_V (As := [.int x6, .int v14, .int x5]) (rest := []) C S hl.1 (wk_X1_curveOf hst0 h) (T := TX1) rfl hI (lw_V q1569 q1571 qs19 q48 q1572) rfl pd_X1_curveOf ⟨Nat.le_of_ble_eq_true rfl, Nat.le_of_ble_eq_true rfl⟩ rfl rfl (Nat.le_of_ble_eq_true rfl) dX1_tellAll_74 rfl rfl hk hb9 (fun v9 M15 H locs hP S hk => ?_) (fun E q ce M9 H9 locs9 hX => hX.elim)
              obtain ⟨v18, rfl, h⟩ := hP
              refine W.eq (g2 := F0 m 77 ls [.int v18]) rfl ?_
              refine lv_aload_n hx hb dX1_tellAll_77 rfl (lv_at hl 1 rfl) ?_
              refine mm_gfiN C S (ci := 14) (k := 2) rfl in_X17 (by decide) q1501 (fun _ h9 => h9) dX1_tellAll_78 h (fun v19 h => ?_)
              refine mm_S (As := [.int v19]) (rest := [.int v18]) C S hl.1 (wk_X1_percentOf hst0 h) (lw_S q1577 q1578 q48 q1579) pd_X1_percentOf ⟨Nat.le_of_ble_eq_true rfl, Nat.le_of_ble_eq_true rfl⟩ rfl rfl (Nat.le_of_ble_eq_true rfl) dX1_tellAll_81 rfl rfl hk (Nat.zero_add _) (fun v9 M20 H locs hP S hk => ?_) (fun E q ce M9 H9 locs9 hX => hX.elim)
              obtain ⟨v21, rfl, h⟩ := hP
              refine W.eq (g2 := F0 m 84 ls [.int v21, .int v18]) rfl ?_
              refine lv_imul hx hb dX1_tellAll_84 ?_
              refine lv_bipush (v := 100) hx hb dX1_tellAll_85 (by decide) ?_
              refine lv_idiv hx hb dX1_tellAll_87 (by decide) ?_
              refine lv_iload_n hx hb dX1_tellAll_88 rfl (lv_at hl 3 rfl) ?_
              refine lv_imul hx hb dX1_tellAll_89 ?_
              refine lv_topi (fun g22 eg22 => ?_)
              have h := h g22 eg22
              refine lv_sipush (v := 1000) hx hb dX1_tellAll_90 (by decide) ?_
              refine lv_idiv hx hb dX1_tellAll_93 (by decide) ?_
              refine lv_istore (lv' := [(7, .int (g22 / 1000)), (0, .ref a0), (1, .ref a1), (2, .ref a2), (3, .int x3), (4, .int x4), (5, .int x5), (6, .int x6)]) hx hb dX1_tellAll_94 hl (by decide) rfl (fun ls hl => ?_)
              refine lv_iload hx hb dX1_tellAll_96 (lv_at hl 0 rfl) ?_
              refine lv_bipush (v := 50) hx hb dX1_tellAll_98 (by decide) ?_
              refine lv_icmp_lt (tgt := 114) hx hb dX1_tellAll_100 (by decide) (fun c9 => ?_) (fun c9 => ?_)
              · have h := h.1 c9
                exact j114 _ _ _ _ _ _ _ _ _ _ _ _ _ hk S (lv_sub hl [1, 2, 3, 4, 5, 6, 7] rfl) h
              · have h := h.2 c9
                refine lv_aload_n hx hb dX1_tellAll_103 rfl (lv_at hl 1 rfl) ?_
                refine lv_aload_n hx hb dX1_tellAll_104 rfl (lv_at hl 2 rfl) ?_
                refine lv_iload hx hb dX1_tellAll_105 (lv_at hl 5 rfl) ?_
                refine lv_iload hx hb dX1_tellAll_107 (lv_at hl 7 rfl) ?_
                refine lv_iload hx hb dX1_tellAll_109 (lv_at hl 0 rfl) ?_
                obtain ⟨hI, h⟩ := h
                obtain ⟨b24, r25, hb9, h⟩ := h
                refine mm_V (As := [.ref a1, .int x4, .int x6, .int (g22 / 1000)]) (rest := []) C S hl.1 (wk_X1_tell hst0 h) (T := TX1) rfl hI (lw_V q1580 q1582 qs20 q48 q1583) rfl pd_X1_tell ⟨Nat.le_of_ble_eq_true rfl, Nat.le_of_ble_eq_true rfl⟩ rfl rfl (Nat.le_of_ble_eq_true rfl) dX1_tellAll_111 rfl rfl hk hb9 (fun v9 M23 H locs hP S hk => ?_) (fun E q ce M9 H9 locs9 hX => hX.elim)
                obtain ⟨rfl, h⟩ := hP
                refine W.eq (g2 := F0 m 114 ls []) rfl ?_
                exact j114 _ _ _ _ _ _ _ _ _ _ _ _ _ hk S (lv_sub hl [1, 2, 3, 4, 5, 6, 7] rfl) h
      intro k r M H locs ls a0 a1 a2 x3 x4 hk S hl h
      rw [wl_X1_tellAll_29] at h
      refine lv_iload hx hb dX1_tellAll_29 (lv_at hl 4 rfl) ?_
      refine lv_bipush (v := 36) hx hb dX1_tellAll_31 (by decide) ?_
      refine lv_icmp_ge (tgt := 126) hx hb dX1_tellAll_33 (by decide) (fun c9 => ?_) (fun c9 => ?_)
      · have h := h.1 c9
        exact mm_vret C S hr (Nat.le_trans (Nat.le_add_right _ _) hk) dX1_tellAll_126 h
      · have h := h.2 c9
        refine lv_aload_n hx hb dX1_tellAll_36 rfl (lv_at hl 2 rfl) ?_
        refine lv_iload hx hb dX1_tellAll_37 (lv_at hl 4 rfl) ?_
        obtain ⟨hI, h⟩ := h
        refine mm_V (As := [.int x4]) (rest := []) C S hl.1 (wk_X14_distanceOf hst0 h) (T := TX14) rfl hI (lw_V q317 q318 q319 q87 q320) rfl pd_X14_distanceOf ⟨Nat.le_of_ble_eq_true rfl, Nat.le_of_ble_eq_true rfl⟩ rfl rfl (Nat.le_of_ble_eq_true rfl) dX1_tellAll_39 rfl rfl hk (Nat.zero_add _) (fun v9 M10 H locs hP S hk => ?_) (fun E q ce M9 H9 locs9 hX => hX.elim)
        obtain ⟨v11, rfl, h⟩ := hP
        refine W.eq (g2 := F0 m 42 ls [.int v11]) rfl ?_
        refine lv_istore (lv' := [(5, .int v11), (0, .ref a0), (1, .ref a1), (2, .ref a2), (3, .int x3), (4, .int x4)]) hx hb dX1_tellAll_42 hl (by decide) rfl (fun ls hl => ?_)
        refine lv_iconst (v := 0) hx hb dX1_tellAll_44 (by decide) ?_
        refine lv_istore (lv' := [(6, .int 0), (5, .int v11), (0, .ref a0), (1, .ref a1), (2, .ref a2), (3, .int x3), (4, .int x4)]) hx hb dX1_tellAll_45 hl (by decide) rfl (fun ls hl => ?_)
        obtain ⟨nf, h⟩ := h
        exact j47 nf _ _ _ _ _ _ _ _ _ _ _ _ _ hk S (lv_sub hl [2, 3, 4, 5, 6, 1, 0] rfl) h
  unfold wp_X1_tellAll at h
  refine lv_aload_n hx hb dX1_tellAll_0 rfl (lv_at hl 0 rfl) ?_
  refine mm_gfa C S (ci := 0) (k := 5) rfl in_X1 (by decide) q220 (fun _ h9 => h9) dX1_tellAll_1 h (fun u1 h => ?_)
  refine lv_aload_n hx hb dX1_tellAll_4 rfl (lv_at hl 1 rfl) ?_
  refine mm_gfiN C S (ci := 14) (k := 1) rfl in_X17 (by decide) q1499 (fun _ h9 => h9) dX1_tellAll_5 h (fun v2 h => ?_)
  obtain ⟨hI, h⟩ := h
  refine mm_F (As := [.int v2]) (rest := []) C S hl.1 (x := ⟨"java/util/List", "get", "(I)Ljava/lang/Object;"⟩) (wk_J2_get hst0 h) (T := TJ2) rfl hI (mWsF q294 q297 q299 q51 (lw_meth q301)) (by decide +kernel) pdi_4 ⟨Nat.le_of_ble_eq_true rfl, Nat.le_of_ble_eq_true rfl⟩ rfl rfl (Nat.le_of_ble_eq_true rfl) dX1_tellAll_8 rfl rfl hk (Nat.zero_add _) (fun v9 M3 H locs hP S hk => ?_) (fun E q ce M9 H9 locs9 hX => hX.elim)
  obtain ⟨u4, rfl, h⟩ := hP
  refine W.eq (g2 := F0 m 13 ls [.ref u4]) rfl ?_
  refine mm_castS C S (ci := 11) (T := TX14) rfl rfl q312 h.1 dX1_tellAll_13 ?_
  have h := h.2
  refine lv_astore_n (lv' := [(2, .ref u4), (0, .ref a0), (1, .ref a1)]) hx hb dX1_tellAll_16 rfl hl (by decide) rfl (fun ls hl => ?_)
  refine lv_aload_n hx hb dX1_tellAll_17 rfl (lv_at hl 1 rfl) ?_
  refine lv_aload_n hx hb dX1_tellAll_18 rfl (lv_at hl 2 rfl) ?_
  refine mm_gfiN C S (ci := 14) (k := 0) rfl in_X17 (by decide) q1497 (fun _ h9 => h9) dX1_tellAll_19 h (fun v5 h => ?_)
  obtain ⟨hI, h⟩ := h
  obtain ⟨b7, r8, hb9, h⟩ := h
  refine mm_V (As := [.int v5]) (rest := []) C S hl.1 (wk_X1_shareOf hst0 h) (T := TX1) rfl hI (lw_V q1561 q1563 qs18 q48 q1564) rfl pd_X1_shareOf ⟨Nat.le_of_ble_eq_true rfl, Nat.le_of_ble_eq_true rfl⟩ rfl rfl (Nat.le_of_ble_eq_true rfl) dX1_tellAll_22 rfl rfl hk hb9 (fun v9 M6 H locs hP S hk => ?_) (fun E q ce M9 H9 locs9 hX => hX.elim)
  obtain ⟨v9, rfl, h⟩ := hP
  refine W.eq (g2 := F0 m 25 ls [.int v9]) rfl ?_
  refine lv_istore_n (lv' := [(3, .int v9), (2, .ref u4), (0, .ref a0), (1, .ref a1)]) hx hb dX1_tellAll_25 rfl hl (by decide) rfl (fun ls hl => ?_)
  refine lv_iconst (v := 0) hx hb dX1_tellAll_26 (by decide) ?_
  refine lv_istore (lv' := [(4, .int 0), (3, .int v9), (2, .ref u4), (0, .ref a0), (1, .ref a1)]) hx hb dX1_tellAll_27 hl (by decide) rfl (fun ls hl => ?_)
  obtain ⟨nf, h⟩ := h
  exact j29 nf _ _ _ _ _ _ _ _ _ _ _ hk S (lv_sub hl [3, 4, 2, 1, 0] rfl) h
/-! X18_place: level 10 -/
def wp_X18_place (G : mG) (b : Nat) (P : Int32 → mM → Prop) (M : mM) (a0 : Nat) : Prop :=
  gfi M a0 15 0 fun v1 => P v1 M
set_option maxHeartbeats 4000000 in
set_option maxRecDepth 100000 in
theorem wk_X18_place {l : Launch} (hst0 : l.stackTraces = false) {G : mG} {b : Nat} {P : Int32 → mM → Prop} {M : mM} {a0 : Nat} (h : wp_X18_place G b P M a0) : mMet l yX18_place (ws_ yX18_place cX18_place 1 (Option.some Jvm.ClassFile.FieldType.int)) 10 b G [.ref a0] M (mRi P) (fun _ _ _ => False) := by
  refine mm_met hst0 (by decide) (Nat.le_of_ble_eq_true rfl) ?_
  intro p e s m args below meth c ls C hr hnt hnm hl S
  have hl : lv_has ls 1 [(0, .ref a0)] := hl
  generalize mA M s.heap.size = A at C S ⊢
  have hx := C.hx
  have hb := C.hb
  have hk : 0 + b ≤ b := Nat.le_of_eq (Nat.zero_add b)
  unfold wp_X18_place at h
  refine lv_aload_n hx hb dX18_place_0 rfl (lv_at hl 0 rfl) ?_
  refine mm_gfi C S (ci := 15) (k := 0) rfl in_X18 (by decide) q1537 (fun _ h9 => h9) dX18_place_1 h (fun v1 h => ?_)
  exact mm_iret C S hr (Nat.le_trans (Nat.le_add_right _ _) hk) dX18_place_4 h
/-! X1_addUp: level 13, alloc -/
def wb_X1_addUp_269 (G : mG) (P : mM → Prop) (K189 : Nat → mM → Nat → Nat → Nat → Int32 → Prop) (r : Nat) (M : mM) (a0 : Nat) (a1 : Nat) (a2 : Nat) (x3 : Int32) : Prop :=
  K189 r M a0 a1 a2 (x3 + 1)
def wl_X1_addUp_198 (G : mG) (P : mM → Prop) (K189 : Nat → mM → Nat → Nat → Nat → Int32 → Prop) : Nat → Nat → mM → Nat → Nat → Nat → Int32 → Int32 → Prop
  | 0, _, _, _, _, _, _, _ => False
  | n + 1, r, M, a0, a1, a2, x3, x4 => (4 ≤ x4 → wb_X1_addUp_269 G P K189 r M a0 a1 a2 x3) ∧ (¬ 4 ≤ x4 → isc M a2 11 ∧ (wp_X14_distanceOf G 0 (fun v48 M47 => (1 < v48 → wb_X1_addUp_269 G P K189 r M47 a0 a1 a2 x3) ∧ (¬ 1 < v48 → gfa M47 a0 0 6 fun u49 => gfi M47 a1 14 0 fun v50 => isc M47 u49 16 ∧ (wp_J2_get G 0 (fun u52 M51 => isc M51 u52 13 ∧ (gfa M51 u52 13 0 fun u53 => gfi M51 a1 14 3 fun v54 => lda M51 11 u53 ((4 * v54) + x4) fun u55 => ldi M51 2 u55 x3 fun v56 => isc M51 a1 14 ∧ (∃ b58 r59 : Nat, b58 + r59 = r ∧ wp_X17_noted G b58 (fun v60 M57 => ∀ g61 : Int32, g61 = (if v56 < v60 then v60 else v56) → stn M57 2 u55 .short x3 g61.toInt16.toInt32 fun M62 => (wl_X1_addUp_198 G P K189 n) r59 M62 a0 a1 a2 x3 (x4 + 1)) M51 a1 x3 x4))) M47 u49 v50))) M a2 x3))
def wl_X1_addUp_189 (G : mG) (P : mM → Prop) : Nat → Nat → mM → Nat → Nat → Nat → Int32 → Prop
  | 0, _, _, _, _, _, _ => False
  | n + 1, r, M, a0, a1, a2, x3 => (36 ≤ x3 → P M) ∧ (¬ 36 ≤ x3 → ∃ n198, wl_X1_addUp_198 G P (wl_X1_addUp_189 G P n) n198 r M a0 a1 a2 x3 0)
def wl_X1_addUp_111 (G : mG) (P : mM → Prop) : Nat → Nat → mM → Nat → Nat → Nat → Nat → Prop
  | 0, _, _, _, _, _, _ => False
  | n + 1, r, M, a0, a1, a2, a3 => isc M a3 20 ∧ (wp_J23_hasNext G 0 (fun v14 M13 => (v14 = 0 → ∃ n189, wl_X1_addUp_189 G P n189 r M13 a0 a1 a2 0) ∧ (¬ v14 = 0 → isc M13 a3 20 ∧ (wp_J23_next G 0 (fun u16 M15 => isc M15 u16 15 ∧ (gfa M15 a0 0 9 fun u17 => isc M15 u16 15 ∧ (wp_X18_kind G 0 (fun v19 M18 => gfa M18 a0 0 0 fun u20 => isc M18 u16 15 ∧ (wp_X18_cell G 0 (fun v22 M21 => lda M21 6 u20 v22 fun u23 => gfi M21 u23 1 1 fun v24 => lda M21 8 u17 ((3 * v19) + v24) fun u25 => gfa M21 a2 11 0 fun u26 => isc M21 u16 15 ∧ (wp_X18_place G 0 (fun v28 M27 => ldi M27 0 u26 v28 fun v29 => isc M27 u16 15 ∧ (wp_X18_cell G 0 (fun v31 M30 => wp_X1_distance G 0 (fun v33 M32 => ldi M32 0 u25 v33 fun v34 => isc M32 u16 15 ∧ (wp_X18_many G 0 (fun v36 M35 => sti M35 0 u25 v33 (v34 + v36) fun M37 => (wl_X1_addUp_111 G P n) r M37 a0 a1 a2 a3) M32 u16)) M30 v29 v31) M27 u16)) M21 u16)) M18 u16)) M15 u16))) M13 a3))) M a3)
def wb_X1_addUp_89 (G : mG) (P : mM → Prop) (K29 : Nat → mM → Nat → Nat → Nat → Nat → Int32 → Int32 → Prop) (K45 : Nat → mM → Nat → Nat → Nat → Nat → Int32 → Int32 → Int32 → Int32 → Prop) (r : Nat) (M : mM) (a0 : Nat) (a1 : Nat) (a2 : Nat) (a3 : Nat) (x4 : Int32) (x5 : Int32) (x6 : Int32) (x7 : Int32) : Prop :=
  K45 r M a0 a1 a2 a3 x4 x5 x6 (x7 + 1)
def wl_X1_addUp_45 (G : mG) (P : mM → Prop) (K29 : Nat → mM → Nat → Nat → Nat → Nat → Int32 → Int32 → Prop) : Nat → Nat → mM → Nat → Nat → Nat → Nat → Int32 → Int32 → Int32 → Int32 → Prop
  | 0, _, _, _, _, _, _, _, _, _, _ => False
  | n + 1, r, M, a0, a1, a2, a3, x4, x5, x6, x7 => (36 ≤ x7 → K29 r M a0 a1 a2 a3 x4 (x5 + 1)) ∧ (¬ 36 ≤ x7 → wp_X1_distance G 0 (fun v39 M38 => (3 < v39 → wb_X1_addUp_89 G P K29 (wl_X1_addUp_45 G P K29 n) r M38 a0 a1 a2 a3 x4 x5 x6 x7) ∧ (¬ 3 < v39 → gfa M38 a0 0 8 fun u40 => gfa M38 a0 0 0 fun u41 => lda M38 6 u41 x7 fun u42 => gfi M38 u42 1 1 fun v43 => lda M38 8 u40 v43 fun u44 => ldi M38 0 u44 v39 fun v45 => sti M38 0 u44 v39 (v45 + 1) fun M46 => wb_X1_addUp_89 G P K29 (wl_X1_addUp_45 G P K29 n) r M46 a0 a1 a2 a3 x4 x5 x6 x7)) M x6 x7)
def wl_X1_addUp_29 (G : mG) (P : mM → Prop) : Nat → Nat → mM → Nat → Nat → Nat → Nat → Int32 → Int32 → Prop
  | 0, _, _, _, _, _, _, _, _ => False
  | n + 1, r, M, a0, a1, a2, a3, x4, x5 => (x4 ≤ x5 → gfa M a1 14 5 fun u7 => isc M u7 16 ∧ (∃ b9 r10 : Nat, b9 + r10 = r ∧ wp_J2_iterator G b9 (fun u11 M8 => ∃ n111, wl_X1_addUp_111 G P n111 r10 M8 a0 a1 a2 u11) M u7)) ∧ (¬ x4 ≤ x5 → ldi M 0 a3 x5 fun v12 => ∃ n45, wl_X1_addUp_45 G P (wl_X1_addUp_29 G P n) n45 r M a0 a1 a2 a3 x4 x5 v12 0)
def wp_X1_addUp (G : mG) (b : Nat) (P : mM → Prop) (M : mM) (a0 : Nat) (a1 : Nat) : Prop :=
  gfa M a0 0 5 fun u1 => gfi M a1 14 1 fun v2 => isc M u1 16 ∧ (wp_J2_get G 0 (fun u4 M3 => isc M3 u4 11 ∧ (gfa M3 u4 11 0 fun u5 => aln M3 u5 fun v6 => ∃ n29, wl_X1_addUp_29 G P n29 b M3 a0 a1 u4 u5 v6 0)) M u1 v2)
set_option maxHeartbeats 4000000 in
set_option maxRecDepth 100000 in
theorem wk_X1_addUp {l : Launch} (hst0 : l.stackTraces = false) {G : mG} {b : Nat} {P : mM → Prop} {M : mM} {a0 : Nat} {a1 : Nat} (h : wp_X1_addUp G b P M a0 a1) : mMet l yX1_addUp (ws_ yX1_addUp cX1_addUp 9 (Option.none : Option Jvm.ClassFile.FieldType)) 13 b G [.ref a0, .ref a1] M (mRv P) (fun _ _ _ => False) := by
  refine mm_met hst0 (by decide) (Nat.le_of_ble_eq_true rfl) ?_
  intro p e s m args below meth c ls C hr hnt hnm hl S
  have hl : lv_has ls 9 [(0, .ref a0), (1, .ref a1)] := hl
  generalize mA M s.heap.size = A at C S ⊢
  have hx := C.hx
  have hb := C.hb
  have hk : 0 + b ≤ b := Nat.le_of_eq (Nat.zero_add b)
  have j189 : ∀ (nf : Nat) (k r : Nat) (M : mM) (H : Heap) (locs : List Loc) (ls : Array Slot) (a0 : Nat) (a1 : Nat) (a2 : Nat) (x3 : Int32), k + r ≤ b → mW G A s M H locs → lv_has ls 9 [(0, .ref a0), (1, .ref a1), (2, .ref a2), (3, .int x3)] → wl_X1_addUp_189 G P nf r M a0 a1 a2 x3 → W p l e (mRm 13 b) s m args below meth c H locs k k (vx_MQ below (mQ G A (mRv P)) (mXC G A (fun _ _ _ => False)) args s b b A) (F0 m 189 ls []) := by
    intro nf
    induction nf with
    | zero =>
      intro k r M H locs ls a0 a1 a2 x3 hk S hl h
      rw [wl_X1_addUp_189] at h
      exact h.elim
    | succ n189 ih189 =>
      have j269 : ∀ (k r : Nat) (M : mM) (H : Heap) (locs : List Loc) (ls : Array Slot) (a0 : Nat) (a1 : Nat) (a2 : Nat) (x3 : Int32), k + r ≤ b → mW G A s M H locs → lv_has ls 9 [(0, .ref a0), (1, .ref a1), (2, .ref a2), (3, .int x3)] → wb_X1_addUp_269 G P (wl_X1_addUp_189 G P n189) r M a0 a1 a2 x3 → W p l e (mRm 13 b) s m args below meth c H locs k k (vx_MQ below (mQ G A (mRv P)) (mXC G A (fun _ _ _ => False)) args s b b A) (F0 m 269 ls []) := by
        intro k r M H locs ls a0 a1 a2 x3 hk S hl h
        unfold wb_X1_addUp_269 at h
        refine lv_iinc (v := (x3 + 1)) (lv' := [(3, .int (x3 + 1)), (0, .ref a0), (1, .ref a1), (2, .ref a2)]) hx hb dX1_addUp_269 hl (k := 3) rfl rfl (by decide) rfl (fun ls hl => ?_)
        refine lv_goto (tgt := 189) hx hb dX1_addUp_272 (by decide) ?_
        exact ih189 _ _ _ _ _ _ _ _ _ _ hk S (lv_sub hl [1, 2, 3, 0] rfl) h
      have j198 : ∀ (nf : Nat) (k r : Nat) (M : mM) (H : Heap) (locs : List Loc) (ls : Array Slot) (a0 : Nat) (a1 : Nat) (a2 : Nat) (x3 : Int32) (x4 : Int32), k + r ≤ b → mW G A s M H locs → lv_has ls 9 [(0, .ref a0), (1, .ref a1), (2, .ref a2), (3, .int x3), (4, .int x4)] → wl_X1_addUp_198 G P (wl_X1_addUp_189 G P n189) nf r M a0 a1 a2 x3 x4 → W p l e (mRm 13 b) s m args below meth c H locs k k (vx_MQ below (mQ G A (mRv P)) (mXC G A (fun _ _ _ => False)) args s b b A) (F0 m 198 ls []) := by
        intro nf
        induction nf with
        | zero =>
          intro k r M H locs ls a0 a1 a2 x3 x4 hk S hl h
          rw [wl_X1_addUp_198] at h
          exact h.elim
        | succ n198 ih198 =>
          intro k r M H locs ls a0 a1 a2 x3 x4 hk S hl h
          rw [wl_X1_addUp_198] at h
          refine lv_iload hx hb dX1_addUp_198 (lv_at hl 4 rfl) ?_
          refine lv_iconst (v := 4) hx hb dX1_addUp_200 (by decide) ?_
          refine lv_icmp_ge (tgt := 269) hx hb dX1_addUp_201 (by decide) (fun c9 => ?_) (fun c9 => ?_)
          · have h := h.1 c9
            exact j269 _ _ _ _ _ _ _ _ _ _ hk S (lv_sub hl [0, 1, 2, 3] rfl) h
          · have h := h.2 c9
            refine lv_aload_n hx hb dX1_addUp_204 rfl (lv_at hl 2 rfl) ?_
            refine lv_iload_n hx hb dX1_addUp_205 rfl (lv_at hl 3 rfl) ?_
            obtain ⟨hI, h⟩ := h
            refine mm_V (As := [.int x3]) (rest := []) C S hl.1 (wk_X14_distanceOf hst0 h) (T := TX14) rfl hI (lw_V q317 q318 q319 q87 q320) rfl pd_X14_distanceOf ⟨Nat.le_of_ble_eq_true rfl, Nat.le_of_ble_eq_true rfl⟩ rfl rfl (Nat.le_of_ble_eq_true rfl) dX1_addUp_206 rfl rfl hk (Nat.zero_add _) (fun v9 M47 H locs hP S hk => ?_) (fun E q ce M9 H9 locs9 hX => hX.elim)
            obtain ⟨v48, rfl, h⟩ := hP
            refine W.eq (g2 := F0 m 209 ls [.int v48]) rfl ?_
            refine lv_iconst (v := 1) hx hb dX1_addUp_209 (by decide) ?_
            refine lv_icmp_gt (tgt := 269) hx hb dX1_addUp_210 (by decide) (fun c9 => ?_) (fun c9 => ?_)
            · have h := h.1 c9
              exact j269 _ _ _ _ _ _ _ _ _ _ hk S (lv_sub hl [0, 1, 2, 3] rfl) h
            · have h := h.2 c9
              refine lv_aload_n hx hb dX1_addUp_213 rfl (lv_at hl 0 rfl) ?_
              refine mm_gfa C S (ci := 0) (k := 6) rfl in_X1 (by decide) q221 (fun _ h9 => h9) dX1_addUp_214 h (fun u49 h => ?_)
              refine lv_aload_n hx hb dX1_addUp_217 rfl (lv_at hl 1 rfl) ?_
              refine mm_gfiN C S (ci := 14) (k := 0) rfl in_X17 (by decide) q1497 (fun _ h9 => h9) dX1_addUp_218 h (fun v50 h => ?_)
              obtain ⟨hI, h⟩ := h
              refine mm_F (As := [.int v50]) (rest := []) C S hl.1 (x := ⟨"java/util/List", "get", "(I)Ljava/lang/Object;"⟩) (wk_J2_get hst0 h) (T := TJ2) rfl hI (mWsF q294 q297 q299 q51 (lw_meth q301)) (by decide +kernel) pdi_4 ⟨Nat.le_of_ble_eq_true rfl, Nat.le_of_ble_eq_true rfl⟩ rfl rfl (Nat.le_of_ble_eq_true rfl) dX1_addUp_221 rfl rfl hk (Nat.zero_add _) (fun v9 M51 H locs hP S hk => ?_) (fun E q ce M9 H9 locs9 hX => hX.elim)
              obtain ⟨u52, rfl, h⟩ := hP
              refine W.eq (g2 := F0 m 226 ls [.ref u52]) rfl ?_
              refine mm_castS C S (ci := 13) (T := TX16) rfl rfl q1468 h.1 dX1_addUp_226 ?_
              have h := h.2
              refine mm_gfaN C S (ci := 13) (k := 0) rfl in_X16 (by decide) q1477 (fun _ h9 => h9) dX1_addUp_229 h (fun u53 h => ?_)
              refine lv_iconst (v := 4) hx hb dX1_addUp_232 (by decide) ?_
              refine lv_aload_n hx hb dX1_addUp_233 rfl (lv_at hl 1 rfl) ?_
              refine mm_gfiN C S (ci := 14) (k := 3) rfl in_X17 (by decide) q1503 (fun _ h9 => h9) dX1_addUp_234 h (fun v54 h => ?_)
              refine lv_imul hx hb dX1_addUp_237 ?_
              refine lv_iload hx hb dX1_addUp_238 (lv_at hl 4 rfl) ?_
              refine lv_iadd hx hb dX1_addUp_240 ?_
              refine mm_aald C S (t := 11) rfl rfl h dX1_addUp_241 (fun u55 h => ?_)
              refine lv_astore (lv' := [(5, .ref u55), (0, .ref a0), (1, .ref a1), (2, .ref a2), (3, .int x3), (4, .int x4)]) hx hb dX1_addUp_242 hl (by decide) rfl (fun ls hl => ?_)
              refine lv_aload hx hb dX1_addUp_244 (lv_at hl 0 rfl) ?_
              refine lv_iload_n hx hb dX1_addUp_246 rfl (lv_at hl 4 rfl) ?_
              refine lv_aload hx hb dX1_addUp_247 (lv_at hl 0 rfl) ?_
              refine lv_iload_n hx hb dX1_addUp_249 rfl (lv_at hl 4 rfl) ?_
              refine mm_sald C S h dX1_addUp_250 (fun v56 h => ?_)
              refine lv_aload_n hx hb dX1_addUp_251 rfl (lv_at hl 2 rfl) ?_
              refine lv_iload_n hx hb dX1_addUp_252 rfl (lv_at hl 4 rfl) ?_
              refine lv_iload hx hb dX1_addUp_253 (lv_at hl 5 rfl) ?_
              obtain ⟨hI, h⟩ := h
              obtain ⟨b58, r59, hb9, h⟩ := h
              refine mm_V (As := [.int x3, .int x4]) (rest := [.int v56, .int x3, .ref u55]) C S hl.1 (wk_X17_noted hst0 h) (T := TX17) rfl hI (lw_V q1584 q1585 q1586 q91 q1587) rfl pd_X17_noted ⟨Nat.le_of_ble_eq_true rfl, Nat.le_of_ble_eq_true rfl⟩ rfl rfl (Nat.le_of_ble_eq_true rfl) dX1_addUp_255 rfl rfl hk hb9 (fun v9 M57 H locs hP S hk => ?_) (fun E q ce M9 H9 locs9 hX => hX.elim)
              obtain ⟨v60, rfl, h⟩ := hP
              refine W.eq (g2 := F0 m 258 ls [.int v60, .int v56, .int x3, .ref u55]) rfl ?_
              refine mm_max C hl.1 q327 q328 q68 q329 (Nat.le_of_ble_eq_true rfl) (Nat.le_of_ble_eq_true rfl) (Nat.le_trans (Nat.le_add_right _ _) hk) (Nat.le_trans (Nat.le_add_right _ _) hk) dX1_addUp_258 ?_
              refine lv_topi (fun g61 eg61 => ?_)
              have h := h g61 eg61
              refine lv_i2s hx hb dX1_addUp_261 rfl ?_
              refine mm_sast C S h dX1_addUp_262 (fun M62 H locs h S => ?_)
              refine lv_iinc (v := (x4 + 1)) (lv' := [(4, .int (x4 + 1)), (5, .ref u55), (0, .ref a0), (1, .ref a1), (2, .ref a2), (3, .int x3)]) hx hb dX1_addUp_263 hl (k := 5) rfl rfl (by decide) rfl (fun ls hl => ?_)
              refine lv_goto (tgt := 198) hx hb dX1_addUp_266 (by decide) ?_
              exact ih198 _ _ _ _ _ _ _ _ _ _ _ hk S (lv_sub hl [2, 3, 4, 5, 0] rfl) h
      intro k r M H locs ls a0 a1 a2 x3 hk S hl h
      rw [wl_X1_addUp_189] at h
      refine lv_iload_n hx hb dX1_addUp_189 rfl (lv_at hl 3 rfl) ?_
      refine lv_bipush (v := 36) hx hb dX1_addUp_190 (by decide) ?_
      refine lv_icmp_ge (tgt := 275) hx hb dX1_addUp_192 (by decide) (fun c9 => ?_) (fun c9 => ?_)
      · have h := h.1 c9
        exact mm_vret C S hr (Nat.le_trans (Nat.le_add_right _ _) hk) dX1_addUp_275 h
      · have h := h.2 c9
        refine lv_iconst (v := 0) hx hb dX1_addUp_195 (by decide) ?_
        refine lv_istore (lv' := [(4, .int 0), (0, .ref a0), (1, .ref a1), (2, .ref a2), (3, .int x3)]) hx hb dX1_addUp_196 hl (by decide) rfl (fun ls hl => ?_)
        obtain ⟨nf, h⟩ := h
        exact j198 nf _ _ _ _ _ _ _ _ _ _ _ hk S (lv_sub hl [1, 2, 3, 4, 0] rfl) h
  have j111 : ∀ (nf : Nat) (k r : Nat) (M : mM) (H : Heap) (locs : List Loc) (ls : Array Slot) (a0 : Nat) (a1 : Nat) (a2 : Nat) (a3 : Nat), k + r ≤ b → mW G A s M H locs → lv_has ls 9 [(0, .ref a0), (1, .ref a1), (2, .ref a2), (3, .ref a3)] → wl_X1_addUp_111 G P nf r M a0 a1 a2 a3 → W p l e (mRm 13 b) s m args below meth c H locs k k (vx_MQ below (mQ G A (mRv P)) (mXC G A (fun _ _ _ => False)) args s b b A) (F0 m 111 ls []) := by
    intro nf
    induction nf with
    | zero =>
      intro k r M H locs ls a0 a1 a2 a3 hk S hl h
      rw [wl_X1_addUp_111] at h
      exact h.elim
    | succ n111 ih111 =>
      intro k r M H locs ls a0 a1 a2 a3 hk S hl h
      rw [wl_X1_addUp_111] at h
      refine lv_aload_n hx hb dX1_addUp_111 rfl (lv_at hl 3 rfl) ?_
      obtain ⟨hI, h⟩ := h
      refine mm_F (As := []) (rest := []) C S hl.1 (x := ⟨"java/util/Iterator", "hasNext", "()Z"⟩) (wk_J23_hasNext hst0 h) (T := TJ23) rfl hI (mWsF q379 q383 q385 q85 (lw_meth q387)) (by decide +kernel) pdi_7 ⟨Nat.le_of_ble_eq_true rfl, Nat.le_of_ble_eq_true rfl⟩ rfl rfl (Nat.le_of_ble_eq_true rfl) dX1_addUp_112 rfl rfl hk (Nat.zero_add _) (fun v9 M13 H locs hP S hk => ?_) (fun E q ce M9 H9 locs9 hX => hX.elim)
      obtain ⟨v14, rfl, h⟩ := hP
      refine W.eq (g2 := F0 m 117 ls [.int v14]) rfl ?_
      refine lv_if_eq (tgt := 187) hx hb dX1_addUp_117 (by decide) (fun c9 => ?_) (fun c9 => ?_)
      · have h := h.1 c9
        refine lv_iconst (v := 0) hx hb dX1_addUp_187 (by decide) ?_
        refine lv_istore_n (lv' := [(3, .int 0), (0, .ref a0), (1, .ref a1), (2, .ref a2)]) hx hb dX1_addUp_188 rfl hl (by decide) rfl (fun ls hl => ?_)
        obtain ⟨nf, h⟩ := h
        exact j189 nf _ _ _ _ _ _ _ _ _ _ hk S (lv_sub hl [1, 2, 3, 0] rfl) h
      · have h := h.2 c9
        refine lv_aload_n hx hb dX1_addUp_120 rfl (lv_at hl 3 rfl) ?_
        obtain ⟨hI, h⟩ := h
        refine mm_F (As := []) (rest := []) C S hl.1 (x := ⟨"java/util/Iterator", "next", "()Ljava/lang/Object;"⟩) (wk_J23_next hst0 h) (T := TJ23) rfl hI (mWsF q389 q392 q394 q85 (lw_meth q396)) (by decide +kernel) pdi_6 ⟨Nat.le_of_ble_eq_true rfl, Nat.le_of_ble_eq_true rfl⟩ rfl rfl (Nat.le_of_ble_eq_true rfl) dX1_addUp_121 rfl rfl hk (Nat.zero_add _) (fun v9 M15 H locs hP S hk => ?_) (fun E q ce M9 H9 locs9 hX => hX.elim)
        obtain ⟨u16, rfl, h⟩ := hP
        refine W.eq (g2 := F0 m 126 ls [.ref u16]) rfl ?_
        refine mm_castS C S (ci := 15) (T := TX18) rfl rfl q401 h.1 dX1_addUp_126 ?_
        have h := h.2
        refine lv_astore (lv' := [(4, .ref u16), (0, .ref a0), (1, .ref a1), (2, .ref a2), (3, .ref a3)]) hx hb dX1_addUp_129 hl (by decide) rfl (fun ls hl => ?_)
        refine lv_aload_n hx hb dX1_addUp_131 rfl (lv_at hl 1 rfl) ?_
        refine mm_gfa C S (ci := 0) (k := 9) rfl in_X1 (by decide) q224 (fun _ h9 => h9) dX1_addUp_132 h (fun u17 h => ?_)
        refine lv_iconst (v := 3) hx hb dX1_addUp_135 (by decide) ?_
        refine lv_aload hx hb dX1_addUp_136 (lv_at hl 0 rfl) ?_
        obtain ⟨hI, h⟩ := h
        refine mm_V (As := []) (rest := [.int 3, .ref u17]) C S hl.1 (wk_X18_kind hst0 h) (T := TX18) rfl hI (lw_V q402 q403 q404 q93 q405) rfl pd_X18_kind ⟨Nat.le_of_ble_eq_true rfl, Nat.le_of_ble_eq_true rfl⟩ rfl rfl (Nat.le_of_ble_eq_true rfl) dX1_addUp_138 rfl rfl hk (Nat.zero_add _) (fun v9 M18 H locs hP S hk => ?_) (fun E q ce M9 H9 locs9 hX => hX.elim)
        obtain ⟨v19, rfl, h⟩ := hP
        refine W.eq (g2 := F0 m 141 ls [.int v19, .int 3, .ref u17]) rfl ?_
        refine lv_imul hx hb dX1_addUp_141 ?_
        refine lv_aload_n hx hb dX1_addUp_142 rfl (lv_at hl 1 rfl) ?_
        refine mm_gfa C S (ci := 0) (k := 0) rfl in_X1 (by decide) q215 (fun _ h9 => h9) dX1_addUp_143 h (fun u20 h => ?_)
        refine lv_aload hx hb dX1_addUp_146 (lv_at hl 0 rfl) ?_
        obtain ⟨hI, h⟩ := h
        refine mm_V (As := []) (rest := [.ref u20, .int (3 * v19), .ref u17]) C S hl.1 (wk_X18_cell hst0 h) (T := TX18) rfl hI (lw_V q1605 q1596 q1597 q93 q1598) rfl pd_X18_cell ⟨Nat.le_of_ble_eq_true rfl, Nat.le_of_ble_eq_true rfl⟩ rfl rfl (Nat.le_of_ble_eq_true rfl) dX1_addUp_148 rfl rfl hk (Nat.zero_add _) (fun v9 M21 H locs hP S hk => ?_) (fun E q ce M9 H9 locs9 hX => hX.elim)
        obtain ⟨v22, rfl, h⟩ := hP
        refine W.eq (g2 := F0 m 151 ls [.int v22, .ref u20, .int (3 * v19), .ref u17]) rfl ?_
        refine mm_aald C S (t := 6) rfl rfl h dX1_addUp_151 (fun u23 h => ?_)
        refine mm_gfiN C S (ci := 1) (k := 1) rfl in_X2 (by decide) q182 (fun _ h9 => h9) dX1_addUp_152 h (fun v24 h => ?_)
        refine lv_iadd hx hb dX1_addUp_155 ?_
        refine mm_aald C S (t := 8) rfl rfl h dX1_addUp_156 (fun u25 h => ?_)
        refine lv_aload_n hx hb dX1_addUp_157 rfl (lv_at hl 3 rfl) ?_
        refine mm_gfaN C S (ci := 11) (k := 0) rfl in_X14 (by decide) q1359 (fun _ h9 => h9) dX1_addUp_158 h (fun u26 h => ?_)
        refine lv_aload hx hb dX1_addUp_161 (lv_at hl 0 rfl) ?_
        obtain ⟨hI, h⟩ := h
        refine mm_V (As := []) (rest := [.ref u26, .ref u25]) C S hl.1 (wk_X18_place hst0 h) (T := TX18) rfl hI (lw_V q1606 q1607 q1608 q93 q1609) rfl pd_X18_place ⟨Nat.le_of_ble_eq_true rfl, Nat.le_of_ble_eq_true rfl⟩ rfl rfl (Nat.le_of_ble_eq_true rfl) dX1_addUp_163 rfl rfl hk (Nat.zero_add _) (fun v9 M27 H locs hP S hk => ?_) (fun E q ce M9 H9 locs9 hX => hX.elim)
        obtain ⟨v28, rfl, h⟩ := hP
        refine W.eq (g2 := F0 m 166 ls [.int v28, .ref u26, .ref u25]) rfl ?_
        refine mm_iald C S h dX1_addUp_166 (fun v29 h => ?_)
        refine lv_aload hx hb dX1_addUp_167 (lv_at hl 0 rfl) ?_
        obtain ⟨hI, h⟩ := h
        refine mm_V (As := []) (rest := [.int v29, .ref u25]) C S hl.1 (wk_X18_cell hst0 h) (T := TX18) rfl hI (lw_V q1605 q1596 q1597 q93 q1598) rfl pd_X18_cell ⟨Nat.le_of_ble_eq_true rfl, Nat.le_of_ble_eq_true rfl⟩ rfl rfl (Nat.le_of_ble_eq_true rfl) dX1_addUp_169 rfl rfl hk (Nat.zero_add _) (fun v9 M30 H locs hP S hk => ?_) (fun E q ce M9 H9 locs9 hX => hX.elim)
        obtain ⟨v31, rfl, h⟩ := hP
        refine W.eq (g2 := F0 m 172 ls [.int v31, .int v29, .ref u25]) rfl ?_
        refine mm_S (As := [.int v29, .int v31]) (rest := [.ref u25]) C S hl.1 (wk_X1_distance hst0 h) (lw_S q1528 q322 q48 q323) pd_X1_distance ⟨Nat.le_of_ble_eq_true rfl, Nat.le_of_ble_eq_true rfl⟩ rfl rfl (Nat.le_of_ble_eq_true rfl) dX1_addUp_172 rfl rfl hk (Nat.zero_add _) (fun v9 M32 H locs hP S hk => ?_) (fun E q ce M9 H9 locs9 hX => hX.elim)
        obtain ⟨v33, rfl, h⟩ := hP
        refine W.eq (g2 := F0 m 175 ls [.int v33, .ref u25]) rfl ?_
        refine lv_dup2_11 hx hb dX1_addUp_175 rfl rfl ?_
        refine mm_iald C S h dX1_addUp_176 (fun v34 h => ?_)
        refine lv_aload hx hb dX1_addUp_177 (lv_at hl 0 rfl) ?_
        obtain ⟨hI, h⟩ := h
        refine mm_V (As := []) (rest := [.int v34, .int v33, .ref u25]) C S hl.1 (wk_X18_many hst0 h) (T := TX18) rfl hI (lw_V q406 q407 q408 q93 q409) rfl pd_X18_many ⟨Nat.le_of_ble_eq_true rfl, Nat.le_of_ble_eq_true rfl⟩ rfl rfl (Nat.le_of_ble_eq_true rfl) dX1_addUp_179 rfl rfl hk (Nat.zero_add _) (fun v9 M35 H locs hP S hk => ?_) (fun E q ce M9 H9 locs9 hX => hX.elim)
        obtain ⟨v36, rfl, h⟩ := hP
        refine W.eq (g2 := F0 m 182 ls [.int v36, .int v34, .int v33, .ref u25]) rfl ?_
        refine lv_iadd hx hb dX1_addUp_182 ?_
        refine mm_iast C S h dX1_addUp_183 (fun M37 H locs h S => ?_)
        refine lv_goto (tgt := 111) hx hb dX1_addUp_184 (by decide) ?_
        exact ih111 _ _ _ _ _ _ _ _ _ _ hk S (lv_sub hl [1, 2, 3, 4] rfl) h
  have j29 : ∀ (nf : Nat) (k r : Nat) (M : mM) (H : Heap) (locs : List Loc) (ls : Array Slot) (a0 : Nat) (a1 : Nat) (a2 : Nat) (a3 : Nat) (x4 : Int32) (x5 : Int32), k + r ≤ b → mW G A s M H locs → lv_has ls 9 [(0, .ref a0), (1, .ref a1), (2, .ref a2), (3, .ref a3), (4, .int x4), (5, .int x5)] → wl_X1_addUp_29 G P nf r M a0 a1 a2 a3 x4 x5 → W p l e (mRm 13 b) s m args below meth c H locs k k (vx_MQ below (mQ G A (mRv P)) (mXC G A (fun _ _ _ => False)) args s b b A) (F0 m 29 ls []) := by
    intro nf
    induction nf with
    | zero =>
      intro k r M H locs ls a0 a1 a2 a3 x4 x5 hk S hl h
      rw [wl_X1_addUp_29] at h
      exact h.elim
    | succ n29 ih29 =>
      have j45 : ∀ (nf : Nat) (k r : Nat) (M : mM) (H : Heap) (locs : List Loc) (ls : Array Slot) (a0 : Nat) (a1 : Nat) (a2 : Nat) (a3 : Nat) (x4 : Int32) (x5 : Int32) (x6 : Int32) (x7 : Int32), k + r ≤ b → mW G A s M H locs → lv_has ls 9 [(0, .ref a0), (1, .ref a1), (2, .ref a2), (3, .ref a3), (4, .int x4), (5, .int x5), (6, .int x6), (7, .int x7)] → wl_X1_addUp_45 G P (wl_X1_addUp_29 G P n29) nf r M a0 a1 a2 a3 x4 x5 x6 x7 → W p l e (mRm 13 b) s m args below meth c H locs k k (vx_MQ below (mQ G A (mRv P)) (mXC G A (fun _ _ _ => False)) args s b b A) (F0 m 45 ls []) := by
        intro nf
        induction nf with
        | zero =>
          intro k r M H locs ls a0 a1 a2 a3 x4 x5 x6 x7 hk S hl h
          rw [wl_X1_addUp_45] at h
          exact h.elim
        | succ n45 ih45 =>
          have j89 : ∀ (k r : Nat) (M : mM) (H : Heap) (locs : List Loc) (ls : Array Slot) (a0 : Nat) (a1 : Nat) (a2 : Nat) (a3 : Nat) (x4 : Int32) (x5 : Int32) (x6 : Int32) (x7 : Int32), k + r ≤ b → mW G A s M H locs → lv_has ls 9 [(0, .ref a0), (1, .ref a1), (2, .ref a2), (3, .ref a3), (4, .int x4), (5, .int x5), (6, .int x6), (7, .int x7)] → wb_X1_addUp_89 G P (wl_X1_addUp_29 G P n29) (wl_X1_addUp_45 G P (wl_X1_addUp_29 G P n29) n45) r M a0 a1 a2 a3 x4 x5 x6 x7 → W p l e (mRm 13 b) s m args below meth c H locs k k (vx_MQ below (mQ G A (mRv P)) (mXC G A (fun _ _ _ => False)) args s b b A) (F0 m 89 ls []) := by
            intro k r M H locs ls a0 a1 a2 a3 x4 x5 x6 x7 hk S hl h
            unfold wb_X1_addUp_89 at h
            refine lv_iinc (v := (x7 + 1)) (lv' := [(7, .int (x7 + 1)), (0, .ref a0), (1, .ref a1), (2, .ref a2), (3, .ref a3), (4, .int x4), (5, .int x5), (6, .int x6)]) hx hb dX1_addUp_89 hl (k := 7) rfl rfl (by decide) rfl (fun ls hl => ?_)
            refine lv_goto (tgt := 45) hx hb dX1_addUp_92 (by decide) ?_
            exact ih45 _ _ _ _ _ _ _ _ _ _ _ _ _ _ hk S (lv_sub hl [1, 2, 3, 4, 5, 6, 7, 0] rfl) h
          intro k r M H locs ls a0 a1 a2 a3 x4 x5 x6 x7 hk S hl h
          rw [wl_X1_addUp_45] at h
          refine lv_iload hx hb dX1_addUp_45 (lv_at hl 7 rfl) ?_
          refine lv_bipush (v := 36) hx hb dX1_addUp_47 (by decide) ?_
          refine lv_icmp_ge (tgt := 95) hx hb dX1_addUp_49 (by decide) (fun c9 => ?_) (fun c9 => ?_)
          · have h := h.1 c9
            refine lv_iinc (v := (x5 + 1)) (lv' := [(5, .int (x5 + 1)), (0, .ref a0), (1, .ref a1), (2, .ref a2), (3, .ref a3), (4, .int x4), (6, .int x6), (7, .int x7)]) hx hb dX1_addUp_95 hl (k := 5) rfl rfl (by decide) rfl (fun ls hl => ?_)
            refine lv_goto (tgt := 29) hx hb dX1_addUp_98 (by decide) ?_
            exact ih29 _ _ _ _ _ _ _ _ _ _ _ _ hk S (lv_sub hl [1, 2, 3, 4, 5, 0] rfl) h
          · have h := h.2 c9
            refine lv_iload hx hb dX1_addUp_52 (lv_at hl 6 rfl) ?_
            refine lv_iload hx hb dX1_addUp_54 (lv_at hl 7 rfl) ?_
            refine mm_S (As := [.int x6, .int x7]) (rest := []) C S hl.1 (wk_X1_distance hst0 h) (lw_S q1528 q322 q48 q323) pd_X1_distance ⟨Nat.le_of_ble_eq_true rfl, Nat.le_of_ble_eq_true rfl⟩ rfl rfl (Nat.le_of_ble_eq_true rfl) dX1_addUp_56 rfl rfl hk (Nat.zero_add _) (fun v9 M38 H locs hP S hk => ?_) (fun E q ce M9 H9 locs9 hX => hX.elim)
            obtain ⟨v39, rfl, h⟩ := hP
            refine W.eq (g2 := F0 m 59 ls [.int v39]) rfl ?_
            refine lv_istore (lv' := [(8, .int v39), (0, .ref a0), (1, .ref a1), (2, .ref a2), (3, .ref a3), (4, .int x4), (5, .int x5), (6, .int x6), (7, .int x7)]) hx hb dX1_addUp_59 hl (by decide) rfl (fun ls hl => ?_)
            refine lv_iload hx hb dX1_addUp_61 (lv_at hl 0 rfl) ?_
            refine lv_iconst (v := 3) hx hb dX1_addUp_63 (by decide) ?_
            refine lv_icmp_gt (tgt := 89) hx hb dX1_addUp_64 (by decide) (fun c9 => ?_) (fun c9 => ?_)
            · have h := h.1 c9
              exact j89 _ _ _ _ _ _ _ _ _ _ _ _ _ _ hk S (lv_sub hl [1, 2, 3, 4, 5, 6, 7, 8] rfl) h
            · have h := h.2 c9
              refine lv_aload_n hx hb dX1_addUp_67 rfl (lv_at hl 1 rfl) ?_
              refine mm_gfa C S (ci := 0) (k := 8) rfl in_X1 (by decide) q223 (fun _ h9 => h9) dX1_addUp_68 h (fun u40 h => ?_)
              refine lv_aload_n hx hb dX1_addUp_71 rfl (lv_at hl 1 rfl) ?_
              refine mm_gfa C S (ci := 0) (k := 0) rfl in_X1 (by decide) q215 (fun _ h9 => h9) dX1_addUp_72 h (fun u41 h => ?_)
              refine lv_iload hx hb dX1_addUp_75 (lv_at hl 8 rfl) ?_
              refine mm_aald C S (t := 6) rfl rfl h dX1_addUp_77 (fun u42 h => ?_)
              refine mm_gfiN C S (ci := 1) (k := 1) rfl in_X2 (by decide) q182 (fun _ h9 => h9) dX1_addUp_78 h (fun v43 h => ?_)
              refine mm_aald C S (t := 8) rfl rfl h dX1_addUp_81 (fun u44 h => ?_)
              refine lv_iload hx hb dX1_addUp_82 (lv_at hl 0 rfl) ?_
              refine lv_dup2_11 hx hb dX1_addUp_84 rfl rfl ?_
              refine mm_iald C S h dX1_addUp_85 (fun v45 h => ?_)
              refine lv_iconst (v := 1) hx hb dX1_addUp_86 (by decide) ?_
              refine lv_iadd hx hb dX1_addUp_87 ?_
              refine mm_iast C S h dX1_addUp_88 (fun M46 H locs h S => ?_)
              exact j89 _ _ _ _ _ _ _ _ _ _ _ _ _ _ hk S (lv_sub hl [1, 2, 3, 4, 5, 6, 7, 8] rfl) h
      intro k r M H locs ls a0 a1 a2 a3 x4 x5 hk S hl h
      rw [wl_X1_addUp_29] at h
      refine lv_iload hx hb dX1_addUp_29 (lv_at hl 5 rfl) ?_
      refine lv_iload hx hb dX1_addUp_31 (lv_at hl 4 rfl) ?_
      refine lv_icmp_ge (tgt := 101) hx hb dX1_addUp_33 (by decide) (fun c9 => ?_) (fun c9 => ?_)
      · have h := h.1 c9
        refine lv_aload_n hx hb dX1_addUp_101 rfl (lv_at hl 1 rfl) ?_
        refine mm_gfaN C S (ci := 14) (k := 5) rfl in_X17 (by decide) q1507 (fun _ h9 => h9) dX1_addUp_102 h (fun u7 h => ?_)
        obtain ⟨hI, h⟩ := h
        obtain ⟨b9, r10, hb9, h⟩ := h
        refine mm_F (As := []) (rest := []) C S hl.1 (x := ⟨"java/util/List", "iterator", "()Ljava/util/Iterator;"⟩) (wk_J2_iterator hst0 h) (T := TJ2) rfl hI (mWsF q351 q354 q356 q51 (lw_meth q358)) (by decide +kernel) pdi_5 ⟨Nat.le_of_ble_eq_true rfl, Nat.le_of_ble_eq_true rfl⟩ rfl rfl (Nat.le_of_ble_eq_true rfl) dX1_addUp_105 rfl rfl hk hb9 (fun v9 M8 H locs hP S hk => ?_) (fun E q ce M9 H9 locs9 hX => hX.elim)
        obtain ⟨u11, rfl, h⟩ := hP
        refine W.eq (g2 := F0 m 110 ls [.ref u11]) rfl ?_
        refine lv_astore_n (lv' := [(3, .ref u11), (0, .ref a0), (1, .ref a1), (2, .ref a2), (4, .int x4), (5, .int x5)]) hx hb dX1_addUp_110 rfl hl (by decide) rfl (fun ls hl => ?_)
        obtain ⟨nf, h⟩ := h
        exact j111 nf _ _ _ _ _ _ _ _ _ _ hk S (lv_sub hl [1, 2, 3, 0] rfl) h
      · have h := h.2 c9
        refine lv_aload_n hx hb dX1_addUp_36 rfl (lv_at hl 3 rfl) ?_
        refine lv_iload hx hb dX1_addUp_37 (lv_at hl 5 rfl) ?_
        refine mm_iald C S h dX1_addUp_39 (fun v12 h => ?_)
        refine lv_istore (lv' := [(6, .int v12), (0, .ref a0), (1, .ref a1), (2, .ref a2), (3, .ref a3), (4, .int x4), (5, .int x5)]) hx hb dX1_addUp_40 hl (by decide) rfl (fun ls hl => ?_)
        refine lv_iconst (v := 0) hx hb dX1_addUp_42 (by decide) ?_
        refine lv_istore (lv' := [(7, .int 0), (6, .int v12), (0, .ref a0), (1, .ref a1), (2, .ref a2), (3, .ref a3), (4, .int x4), (5, .int x5)]) hx hb dX1_addUp_43 hl (by decide) rfl (fun ls hl => ?_)
        obtain ⟨nf, h⟩ := h
        exact j45 nf _ _ _ _ _ _ _ _ _ _ _ _ _ _ hk S (lv_sub hl [2, 3, 4, 5, 6, 7, 1, 0] rfl) h
  unfold wp_X1_addUp at h
  refine lv_aload_n hx hb dX1_addUp_0 rfl (lv_at hl 0 rfl) ?_
  refine mm_gfa C S (ci := 0) (k := 5) rfl in_X1 (by decide) q220 (fun _ h9 => h9) dX1_addUp_1 h (fun u1 h => ?_)
  refine lv_aload_n hx hb dX1_addUp_4 rfl (lv_at hl 1 rfl) ?_
  refine mm_gfiN C S (ci := 14) (k := 1) rfl in_X17 (by decide) q1499 (fun _ h9 => h9) dX1_addUp_5 h (fun v2 h => ?_)
  obtain ⟨hI, h⟩ := h
  refine mm_F (As := [.int v2]) (rest := []) C S hl.1 (x := ⟨"java/util/List", "get", "(I)Ljava/lang/Object;"⟩) (wk_J2_get hst0 h) (T := TJ2) rfl hI (mWsF q294 q297 q299 q51 (lw_meth q301)) (by decide +kernel) pdi_4 ⟨Nat.le_of_ble_eq_true rfl, Nat.le_of_ble_eq_true rfl⟩ rfl rfl (Nat.le_of_ble_eq_true rfl) dX1_addUp_8 rfl rfl hk (Nat.zero_add _) (fun v9 M3 H locs hP S hk => ?_) (fun E q ce M9 H9 locs9 hX => hX.elim)
  obtain ⟨u4, rfl, h⟩ := hP
  refine W.eq (g2 := F0 m 13 ls [.ref u4]) rfl ?_
  refine mm_castS C S (ci := 11) (T := TX14) rfl rfl q312 h.1 dX1_addUp_13 ?_
  have h := h.2
  refine lv_astore_n (lv' := [(2, .ref u4), (0, .ref a0), (1, .ref a1)]) hx hb dX1_addUp_16 rfl hl (by decide) rfl (fun ls hl => ?_)
  refine lv_aload_n hx hb dX1_addUp_17 rfl (lv_at hl 0 rfl) ?_
  refine mm_gfaN C S (ci := 11) (k := 0) rfl in_X14 (by decide) q1359 (fun _ h9 => h9) dX1_addUp_18 h (fun u5 h => ?_)
  refine lv_astore_n (lv' := [(3, .ref u5), (2, .ref u4), (0, .ref a0), (1, .ref a1)]) hx hb dX1_addUp_21 rfl hl (by decide) rfl (fun ls hl => ?_)
  refine lv_aload_n hx hb dX1_addUp_22 rfl (lv_at hl 0 rfl) ?_
  refine mm_alen C S h dX1_addUp_23 (fun v6 h => ?_)
  refine lv_istore (lv' := [(4, .int v6), (3, .ref u5), (2, .ref u4), (0, .ref a0), (1, .ref a1)]) hx hb dX1_addUp_24 hl (by decide) rfl (fun ls hl => ?_)
  refine lv_iconst (v := 0) hx hb dX1_addUp_26 (by decide) ?_
  refine lv_istore (lv' := [(5, .int 0), (4, .int v6), (3, .ref u5), (2, .ref u4), (0, .ref a0), (1, .ref a1)]) hx hb dX1_addUp_27 hl (by decide) rfl (fun ls hl => ?_)
  obtain ⟨nf, h⟩ := h
  exact j29 nf _ _ _ _ _ _ _ _ _ _ _ _ hk S (lv_sub hl [4, 5, 3, 2, 1, 0] rfl) h
