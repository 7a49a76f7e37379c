/-! X1_worthOf: level 12 -/
def wb_X1_worthOf_61 (G : mG) (P : Int64 → mM → Prop) (K5 : Nat → mM → Nat → Nat → Int64 → Int32 → Prop) (r : Nat) (M : mM) (a0 : Nat) (a1 : Nat) (y2 : Int64) (x4 : Int32) : Prop :=
  K5 r M a0 a1 y2 (x4 + 1)
def wl_X1_worthOf_25 (G : mG) (P : Int64 → mM → Prop) (K5 : Nat → mM → Nat → Nat → Int64 → Int32 → Prop) : Nat → Nat → mM → Nat → Nat → Int64 → Int32 → Int32 → Prop
  | 0, _, _, _, _, _, _, _ => False
  | n + 1, r, M, a0, a1, y2, x4, x5 => (4 ≤ x5 → wb_X1_worthOf_61 G P K5 r M a0 a1 y2 x4) ∧ (¬ 4 ≤ x5 → gfa M a0 0 1 fun u3 => lda M 7 u3 x5 fun u4 => gfi M u4 2 2 fun v5 => isc M a0 0 ∧ (wp_X1_doubt G 0 (fun v7 M6 => ∀ g8 : Int64, g8 = (v5.toInt64 * v7.toInt64) → (wl_X1_worthOf_25 G P K5 n) r M6 a0 a1 (y2 + g8) x4 (x5 + 1)) M a0 x4 x5))
def wl_X1_worthOf_5 (G : mG) (P : Int64 → mM → Prop) : Nat → Nat → mM → Nat → Nat → Int64 → Int32 → Prop
  | 0, _, _, _, _, _, _ => False
  | n + 1, r, M, a0, a1, y2, x4 => (36 ≤ x4 → P y2 M) ∧ (¬ 36 ≤ x4 → isc M a1 11 ∧ (wp_X14_distanceOf G 0 (fun v2 M1 => (1 < v2 → wb_X1_worthOf_61 G P (wl_X1_worthOf_5 G P n) r M1 a0 a1 y2 x4) ∧ (¬ 1 < v2 → ∃ n25, wl_X1_worthOf_25 G P (wl_X1_worthOf_5 G P n) n25 r M1 a0 a1 y2 x4 0)) M a1 x4))
def wp_X1_worthOf (G : mG) (b : Nat) (P : Int64 → mM → Prop) (M : mM) (a0 : Nat) (a1 : Nat) : Prop :=
  ∃ n5, wl_X1_worthOf_5 G P n5 b M a0 a1 0 0
set_option maxHeartbeats 4000000 in
set_option maxRecDepth 100000 in
theorem wk_X1_worthOf {l : Launch} (hst0 : l.stackTraces = false) {G : mG} {b : Nat} {P : Int64 → mM → Prop} {M : mM} {a0 : Nat} {a1 : Nat} (h : wp_X1_worthOf G b P M a0 a1) : mMet l yX1_worthOf (ws_ yX1_worthOf cX1_worthOf 6 (Option.some Jvm.ClassFile.FieldType.long)) 12 b G [.ref a0, .ref a1] M (mRl P) (fun _ _ _ => False) := by
  refine mm_met hst0 (by decide) (Nat.le_of_ble_eq_true rfl) ?_
  intro p e s m args below meth c ls C hr hnt hnm hl S
  have hl : lv_has ls 6 [(0, .ref a0), (1, .ref a1)] := hl
  generalize mA M s.heap.size = A at C S ⊢
  have hx := C.hx
  have hb := C.hb
  have hk : 0 + b ≤ b := Nat.le_of_eq (Nat.zero_add b)
  have j5 : ∀ (nf : Nat) (k r : Nat) (M : mM) (H : Heap) (locs : List Loc) (ls : Array Slot) (a0 : Nat) (a1 : Nat) (y2 : Int64) (x4 : Int32), k + r ≤ b → mW G A s M H locs → lv_has ls 6 [(0, .ref a0), (1, .ref a1), (2, .long y2), (4, .int x4)] → wl_X1_worthOf_5 G P nf r M a0 a1 y2 x4 → W p l e (mRm 12 b) s m args below meth c H locs k k (vx_MQ below (mQ G A (mRl P)) (mXC G A (fun _ _ _ => False)) args s b b A) (F0 m 5 ls []) := by
    intro nf
    induction nf with
    | zero =>
      intro k r M H locs ls a0 a1 y2 x4 hk S hl h
      rw [wl_X1_worthOf_5] at h
      exact h.elim
    | succ n5 ih5 =>
      have j61 : ∀ (k r : Nat) (M : mM) (H : Heap) (locs : List Loc) (ls : Array Slot) (a0 : Nat) (a1 : Nat) (y2 : Int64) (x4 : Int32), k + r ≤ b → mW G A s M H locs → lv_has ls 6 [(0, .ref a0), (1, .ref a1), (2, .long y2), (4, .int x4)] → wb_X1_worthOf_61 G P (wl_X1_worthOf_5 G P n5) r M a0 a1 y2 x4 → W p l e (mRm 12 b) s m args below meth c H locs k k (vx_MQ below (mQ G A (mRl P)) (mXC G A (fun _ _ _ => False)) args s b b A) (F0 m 61 ls []) := by
        intro k r M H locs ls a0 a1 y2 x4 hk S hl h
        unfold wb_X1_worthOf_61 at h
        refine lv_iinc (v := (x4 + 1)) (lv' := [(4, .int (x4 + 1)), (0, .ref a0), (1, .ref a1), (2, .long y2)]) hx hb dX1_worthOf_61 hl (k := 3) rfl rfl (by decide) rfl (fun ls hl => ?_)
        refine lv_goto (tgt := 5) hx hb dX1_worthOf_64 (by decide) ?_
        exact ih5 _ _ _ _ _ _ _ _ _ _ hk S (lv_sub hl [1, 2, 3, 0] rfl) h
      have j25 : ∀ (nf : Nat) (k r : Nat) (M : mM) (H : Heap) (locs : List Loc) (ls : Array Slot) (a0 : Nat) (a1 : Nat) (y2 : Int64) (x4 : Int32) (x5 : Int32), k + r ≤ b → mW G A s M H locs → lv_has ls 6 [(0, .ref a0), (1, .ref a1), (2, .long y2), (4, .int x4), (5, .int x5)] → wl_X1_worthOf_25 G P (wl_X1_worthOf_5 G P n5) nf r M a0 a1 y2 x4 x5 → W p l e (mRm 12 b) s m args below meth c H locs k k (vx_MQ below (mQ G A (mRl P)) (mXC G A (fun _ _ _ => False)) args s b b A) (F0 m 25 ls []) := by
        intro nf
        induction nf with
        | zero =>
          intro k r M H locs ls a0 a1 y2 x4 x5 hk S hl h
          rw [wl_X1_worthOf_25] at h
          exact h.elim
        | succ n25 ih25 =>
          intro k r M H locs ls a0 a1 y2 x4 x5 hk S hl h
          rw [wl_X1_worthOf_25] at h
          refine lv_iload hx hb dX1_worthOf_25 (lv_at hl 4 rfl) ?_
          refine lv_iconst (v := 4) hx hb dX1_worthOf_27 (by decide) ?_
          refine lv_icmp_ge (tgt := 61) hx hb dX1_worthOf_28 (by decide) (fun c9 => ?_) (fun c9 => ?_)
          · have h := h.1 c9
            exact j61 _ _ _ _ _ _ _ _ _ _ hk S (lv_sub hl [0, 1, 2, 3] rfl) h
          · have h := h.2 c9
            refine lv_lload_n hx hb dX1_worthOf_31 rfl (lv_at hl 2 rfl) ?_
            refine lv_aload_n hx hb dX1_worthOf_32 rfl (lv_at hl 0 rfl) ?_
            refine mm_gfa C S (ci := 0) (k := 1) rfl in_X1 (by decide) q216 (fun _ h9 => h9) dX1_worthOf_33 h (fun u3 h => ?_)
            refine lv_iload hx hb dX1_worthOf_36 (lv_at hl 4 rfl) ?_
            refine mm_aald C S (t := 7) rfl rfl h dX1_worthOf_38 (fun u4 h => ?_)
            refine mm_gfiN C S (ci := 2) (k := 2) rfl in_X3 (by decide) q207 (fun _ h9 => h9) dX1_worthOf_39 h (fun v5 h => ?_)
            refine lv_i2l hx hb dX1_worthOf_42 rfl ?_
            refine lv_aload_n hx hb dX1_worthOf_43 rfl (lv_at hl 0 rfl) ?_
            refine lv_iload hx hb dX1_worthOf_44 (lv_at hl 3 rfl) ?_
            refine lv_iload hx hb dX1_worthOf_46 (lv_at hl 4 rfl) ?_
            obtain ⟨hI, h⟩ := h
            refine mm_V (As := [.int x4, .int x5]) (rest := [.long v5.toInt64, .long y2]) C S hl.1 (wk_X1_doubt hst0 h) (T := TX1) rfl hI (lw_V q333 q335 qs1 q48 q336) rfl pd_X1_doubt ⟨Nat.le_of_ble_eq_true rfl, Nat.le_of_ble_eq_true rfl⟩ rfl rfl (Nat.le_of_ble_eq_true rfl) dX1_worthOf_48 rfl rfl hk (Nat.zero_add _) (fun v9 M6 H locs hP S hk => ?_) (fun E q ce M9 H9 locs9 hX => hX.elim)
            obtain ⟨v7, rfl, h⟩ := hP
            refine W.eq (g2 := F0 m 51 ls [.int v7, .long v5.toInt64, .long y2]) rfl ?_
            refine lv_i2l hx hb dX1_worthOf_51 rfl ?_
            refine lv_lmul hx hb dX1_worthOf_52 ?_
            refine lv_topl (fun g8 eg8 => ?_)
            have h := h g8 eg8
            refine lv_ladd hx hb dX1_worthOf_53 ?_
            refine lv_lstore_n (lv' := [(2, .long (y2 + g8)), (0, .ref a0), (1, .ref a1), (4, .int x4), (5, .int x5)]) hx hb dX1_worthOf_54 rfl hl (by decide) rfl (fun ls hl => ?_)
            refine lv_iinc (v := (x5 + 1)) (lv' := [(5, .int (x5 + 1)), (2, .long (y2 + g8)), (0, .ref a0), (1, .ref a1), (4, .int x4)]) hx hb dX1_worthOf_55 hl (k := 4) rfl rfl (by decide) rfl (fun ls hl => ?_)
            refine lv_goto (tgt := 25) hx hb dX1_worthOf_58 (by decide) ?_
            exact ih25 _ _ _ _ _ _ _ _ _ _ _ hk S (lv_sub hl [2, 3, 1, 4, 0] rfl) h
      intro k r M H locs ls a0 a1 y2 x4 hk S hl h
      rw [wl_X1_worthOf_5] at h
      refine lv_iload hx hb dX1_worthOf_5 (lv_at hl 3 rfl) ?_
      refine lv_bipush (v := 36) hx hb dX1_worthOf_7 (by decide) ?_
      refine lv_icmp_ge (tgt := 67) hx hb dX1_worthOf_9 (by decide) (fun c9 => ?_) (fun c9 => ?_)
      · have h := h.1 c9
        refine lv_lload_n hx hb dX1_worthOf_67 rfl (lv_at hl 2 rfl) ?_
        exact mm_lret C S hr (Nat.le_trans (Nat.le_add_right _ _) hk) dX1_worthOf_68 h
      · have h := h.2 c9
        refine lv_aload_n hx hb dX1_worthOf_12 rfl (lv_at hl 1 rfl) ?_
        refine lv_iload hx hb dX1_worthOf_13 (lv_at hl 3 rfl) ?_
        obtain ⟨hI, h⟩ := h
        refine mm_V (As := [.int x4]) (rest := []) C S hl.1 (wk_X14_distanceOf hst0 h) (T := TX14) rfl hI (lw_V q317 q318 q319 q87 q320) rfl pd_X14_distanceOf ⟨Nat.le_of_ble_eq_true rfl, Nat.le_of_ble_eq_true rfl⟩ rfl rfl (Nat.le_of_ble_eq_true rfl) dX1_worthOf_15 rfl rfl hk (Nat.zero_add _) (fun v9 M1 H locs hP S hk => ?_) (fun E q ce M9 H9 locs9 hX => hX.elim)
        obtain ⟨v2, rfl, h⟩ := hP
        refine W.eq (g2 := F0 m 18 ls [.int v2]) rfl ?_
        refine lv_iconst (v := 1) hx hb dX1_worthOf_18 (by decide) ?_
        refine lv_icmp_gt (tgt := 61) hx hb dX1_worthOf_19 (by decide) (fun c9 => ?_) (fun c9 => ?_)
        · have h := h.1 c9
          exact j61 _ _ _ _ _ _ _ _ _ _ hk S hl h
        · have h := h.2 c9
          refine lv_iconst (v := 0) hx hb dX1_worthOf_22 (by decide) ?_
          refine lv_istore (lv' := [(5, .int 0), (0, .ref a0), (1, .ref a1), (2, .long y2), (4, .int x4)]) hx hb dX1_worthOf_23 hl (by decide) rfl (fun ls hl => ?_)
          obtain ⟨nf, h⟩ := h
          exact j25 nf _ _ _ _ _ _ _ _ _ _ _ hk S (lv_sub hl [1, 2, 3, 4, 0] rfl) h
  unfold wp_X1_worthOf at h
  refine lv_lconst (v := 0) hx hb dX1_worthOf_0 (by decide) ?_
  refine lv_lstore_n (lv' := [(2, .long 0), (0, .ref a0), (1, .ref a1)]) hx hb dX1_worthOf_1 rfl hl (by decide) rfl (fun ls hl => ?_)
  refine lv_iconst (v := 0) hx hb dX1_worthOf_2 (by decide) ?_
  refine lv_istore (lv' := [(4, .int 0), (2, .long 0), (0, .ref a0), (1, .ref a1)]) hx hb dX1_worthOf_3 hl (by decide) rfl (fun ls hl => ?_)
  obtain ⟨nf, h⟩ := h
  exact j5 nf _ _ _ _ _ _ _ _ _ _ hk S (lv_sub hl [2, 3, 1, 0] rfl) h
/-! X1_worth: level 14, alloc, throws java/lang/IndexOutOfBoundsException -/
def wp_X1_worth (G : mG) (b : Nat) (P : Int64 → mM → Prop) (X : String → Nat → mM → Prop) (M : mM) (a0 : Nat) (x1 : Int32) : Prop :=
  gfa M a0 0 5 fun u1 => ∃ b3 r4 : Nat, b3 + r4 = b ∧ wp_X1_at G b3 (fun u5 M2 => isc M2 u5 11 ∧ (isc M2 a0 0 ∧ (wp_X1_worthOf G 0 (fun g7 M6 => P g7 M6) M2 a0 u5))) X M u1 x1
set_option maxHeartbeats 4000000 in
set_option maxRecDepth 100000 in
theorem wk_X1_worth {l : Launch} (hst0 : l.stackTraces = false) {G : mG} {b : Nat} {P : Int64 → mM → Prop} {X : String → Nat → mM → Prop} {M : mM} {a0 : Nat} {x1 : Int32} (h : wp_X1_worth G b P X M a0 x1) : mMet l yX1_worth (ws_ yX1_worth cX1_worth 2 (Option.some Jvm.ClassFile.FieldType.long)) 14 b G [.ref a0, .int x1] M (mRl P) X := by
  refine mm_met hst0 (by decide) (Nat.le_of_ble_eq_true rfl) ?_
  intro p e s m args below meth c ls C hr hnt hnm hl S
  have hl : lv_has ls 2 [(0, .ref a0), (1, .int x1)] := hl
  generalize mA M s.heap.size = A at C S ⊢
  have hx := C.hx
  have hb := C.hb
  have hk : 0 + b ≤ b := Nat.le_of_eq (Nat.zero_add b)
  unfold wp_X1_worth at h
  refine lv_aload_n hx hb dX1_worth_0 rfl (lv_at hl 0 rfl) ?_
  refine lv_aload_n hx hb dX1_worth_1 rfl (lv_at hl 0 rfl) ?_
  refine mm_gfa C S (ci := 0) (k := 5) rfl in_X1 (by decide) q220 (fun _ h9 => h9) dX1_worth_2 h (fun u1 h => ?_)
  refine lv_iload_n hx hb dX1_worth_5 rfl (lv_at hl 1 rfl) ?_
  obtain ⟨b3, r4, hb9, h⟩ := h
  refine mm_S (As := [.ref u1, .int x1]) (rest := [.ref a0]) C S hl.1 (wk_X1_at hst0 h) (lw_S q728 q729 q48 q730) pd_X1_at ⟨Nat.le_of_ble_eq_true rfl, Nat.le_of_ble_eq_true rfl⟩ rfl rfl (Nat.le_of_ble_eq_true rfl) dX1_worth_6 rfl rfl hk hb9 (fun v9 M2 H locs hP S hk => ?_) (fun E q ce M9 H9 locs9 hX S9 hk9 hc9 hv9 hf9 => mm_out C S9 (fun x hx => (hnt x hx).elim) (Nat.le_trans (Nat.le_add_right _ _) hk9) hc9 hv9 hf9 hX)
  obtain ⟨u5, rfl, h⟩ := hP
  refine W.eq (g2 := F0 m 9 ls [.ref u5, .ref a0]) rfl ?_
  refine mm_castS C S (ci := 11) (T := TX14) rfl rfl q312 h.1 dX1_worth_9 ?_
  have h := h.2
  obtain ⟨hI, h⟩ := h
  refine mm_V (As := [.ref u5]) (rest := []) C S hl.1 (wk_X1_worthOf hst0 h) (T := TX1) rfl hI (lw_V q313 q315 qs0 q48 q316) rfl pd_X1_worthOf ⟨Nat.le_of_ble_eq_true rfl, Nat.le_of_ble_eq_true rfl⟩ rfl rfl (Nat.le_of_ble_eq_true rfl) dX1_worth_12 rfl rfl hk (Nat.zero_add _) (fun v9 M6 H locs hP S hk => ?_) (fun E q ce M9 H9 locs9 hX => hX.elim)
  obtain ⟨g7, rfl, h⟩ := hP
  refine W.eq (g2 := F0 m 15 ls [.long g7]) rfl ?_
  exact mm_lret C S hr (Nat.le_trans (Nat.le_add_right _ _) hk) dX1_worth_15 h
/-! X0_worth: level 15, alloc -/
def wb_X0_worth_11 (G : mG) (P : Int32 → mM → Prop) (r : Nat) (M : mM) (s0 : Nat) : Prop :=
  P 1 M
def wp_X0_worth (G : mG) (b : Nat) (P : Int32 → mM → Prop) (M : mM) (a0 : Nat) (x1 : Int32) (a2 : Nat) : Prop :=
  isc M a0 0 ∧ (∃ b2 r3 : Nat, b2 + r3 = b ∧ wp_X1_worth G b2 (fun g4 M1 => stl M1 4 a2 0 g4 fun M5 => P 0 M5) (fun E9 u6 M7 => (E9 = "java/lang/IndexOutOfBoundsException" ∧ wb_X0_worth_11 G P r3 M7 u6)) M a0 x1)
set_option maxHeartbeats 4000000 in
set_option maxRecDepth 100000 in
theorem wk_X0_worth {l : Launch} (hst0 : l.stackTraces = false) {G : mG} {b : Nat} {P : Int32 → mM → Prop} {M : mM} {a0 : Nat} {x1 : Int32} {a2 : Nat} (h : wp_X0_worth G b P M a0 x1 a2) : mMet l yX0_worth (wsW_ yX0_worth cX0_worth 4 (Option.some Jvm.ClassFile.FieldType.int) [((0 : Nat), (8 : Nat), (11 : Nat), (13 : Nat))]) 15 b G [.ref a0, .int x1, .ref a2] M (mRi P) (fun _ _ _ => False) := by
  refine mm_metW hst0 (by decide) (Nat.le_of_ble_eq_true rfl) ?_
  intro p e s m args below meth c ls C hr htab hnm hl S
  have hl : lv_has ls 4 [(0, .ref a0), (1, .int x1), (2, .ref a2)] := hl
  generalize mA M s.heap.size = A at C S ⊢
  have hx := C.hx
  have hb := C.hb
  have hk : 0 + b ≤ b := Nat.le_of_eq (Nat.zero_add b)
  have j11 : ∀ (k r : Nat) (M : mM) (H : Heap) (locs : List Loc) (ls : Array Slot) (s0 : Nat), k + r ≤ b → mW G A s M H locs → lv_has ls 4 [] → wb_X0_worth_11 G P r M s0 → W p l e (mRm 15 b) s m args below meth c H locs k k (vx_MQ below (mQ G A (mRi P)) (mXC G A (fun _ _ _ => False)) args s b b A) (F0 m 11 ls [.ref s0]) := by
    intro k r M H locs ls s0 hk S hl h
    unfold wb_X0_worth_11 at h
    refine lv_astore_n (lv' := [(3, .ref s0)]) hx hb dX0_worth_11 rfl hl (by decide) rfl (fun ls hl => ?_)
    refine lv_iconst (v := 1) hx hb dX0_worth_12 (by decide) ?_
    exact mm_iret C S hr (Nat.le_trans (Nat.le_add_right _ _) hk) dX0_worth_13 h
  unfold wp_X0_worth at h
  refine lv_aload_n hx hb dX0_worth_0 rfl (lv_at hl 2 rfl) ?_
  refine lv_iconst (v := 0) hx hb dX0_worth_1 (by decide) ?_
  refine lv_aload_n hx hb dX0_worth_2 rfl (lv_at hl 0 rfl) ?_
  refine lv_iload_n hx hb dX0_worth_3 rfl (lv_at hl 1 rfl) ?_
  obtain ⟨hI, h⟩ := h
  obtain ⟨b2, r3, hb9, h⟩ := h
  refine mm_V (As := [.int x1]) (rest := [.int 0, .ref a2]) C S hl.1 (wk_X1_worth hst0 h) (T := TX1) rfl hI (lw_V q1457 q1458 q1459 q48 q1460) rfl pd_X1_worth ⟨Nat.le_of_ble_eq_true rfl, Nat.le_of_ble_eq_true rfl⟩ rfl rfl (Nat.le_of_ble_eq_true rfl) dX0_worth_4 rfl rfl hk hb9 (fun v9 M1 H locs hP S hk => ?_) (fun E u6 ce M7 H locs hX S hk hc9 hv9 hf9 => ?_)
  · obtain ⟨g4, rfl, h⟩ := hP
    refine W.eq (g2 := F0 m 7 ls [.long g4, .int 0, .ref a2]) rfl ?_
    refine mm_last C S h dX0_worth_7 (fun M5 H locs h S => ?_)
    refine lv_goto (tgt := 14) hx hb dX0_worth_8 (by decide) ?_
    refine lv_iconst (v := 0) hx hb dX0_worth_14 (by decide) ?_
    exact mm_iret C S hr (Nat.le_trans (Nat.le_add_right _ _) hk) dX0_worth_15 h
  · rcases hX with ⟨rfl, h⟩
    · refine vx_catch (pc := 4) (name := "java/lang/IndexOutOfBoundsException") C.hown [] (⟨0, 8, 11, 13⟩ : ExceptionTableEntry) [] htab mm_pass0 (by decide) (by decide) (C.ts _ q431) (va_Nw.use rfl (C.nw q521 rfl)) hc9 hv9 hf9 ?_
      exact j11 _ _ _ _ _ _ _ hk S (lv_sub hl [] rfl) h
/-! X1_doneShare: level 13 -/
def wb_X1_doneShare_80 (G : mG) (P : UInt32 → mM → Prop) (r : Nat) (M : mM) (s0 : UInt32) : Prop :=
  P s0 M
def wb_X1_doneShare_43 (G : mG) (P : UInt32 → mM → Prop) (K4 : Nat → mM → Nat → Int32 → Int32 → Prop) (r : Nat) (M : mM) (a0 : Nat) (x2 : Int32) (s0 : Int32) (s1 : Int32) : Prop :=
  K4 r M a0 (s0 + s1) (x2 + 1)
def wl_X1_doneShare_4 (G : mG) (P : UInt32 → mM → Prop) : Nat → Nat → mM → Nat → Int32 → Int32 → Prop
  | 0, _, _, _, _, _ => False
  | n + 1, r, M, a0, x1, x2 => gfa M a0 0 7 fun u1 => isc M u1 16 ∧ (wp_J2_size G 0 (fun v3 M2 => (v3 ≤ x2 → gfa M2 a0 0 7 fun u4 => isc M2 u4 16 ∧ (wp_J2_isEmpty G 0 (fun v6 M5 => (v6 = 0 → gfa M5 a0 0 7 fun u7 => isc M5 u7 16 ∧ (wp_J2_size G 0 (fun v9 M8 => vf_n32 (FP.fdiv (FP.i2f x1) (FP.i2f v9)) ∧ (wb_X1_doneShare_80 G P r M8 (FP.fdiv (FP.i2f x1) (FP.i2f v9)))) M5 u7)) ∧ (¬ v6 = 0 → wb_X1_doneShare_80 G P r M5 FP.fconst0)) M2 u4)) ∧ (¬ v3 ≤ x2 → gfa M2 a0 0 7 fun u10 => isc M2 u10 16 ∧ (wp_J2_get G 0 (fun u12 M11 => isc M11 u12 14 ∧ (gfi M11 u12 14 4 fun v13 => (¬ v13 = 1 → wb_X1_doneShare_43 G P (wl_X1_doneShare_4 G P n) r M11 a0 x2 x1 0) ∧ (v13 = 1 → wb_X1_doneShare_43 G P (wl_X1_doneShare_4 G P n) r M11 a0 x2 x1 1))) M2 u10 x2))) M u1)
def wp_X1_doneShare (G : mG) (b : Nat) (P : UInt32 → mM → Prop) (M : mM) (a0 : Nat) : Prop :=
  ∃ n4, wl_X1_doneShare_4 G P n4 b M a0 0 0
set_option maxHeartbeats 4000000 in
set_option maxRecDepth 100000 in
theorem wk_X1_doneShare {l : Launch} (hst0 : l.stackTraces = false) {G : mG} {b : Nat} {P : UInt32 → mM → Prop} {M : mM} {a0 : Nat} (h : wp_X1_doneShare G b P M a0) : mMet l yX1_doneShare (ws_ yX1_doneShare cX1_doneShare 3 (Option.some Jvm.ClassFile.FieldType.float)) 13 b G [.ref a0] M (mRf P) (fun _ _ _ => False) := by
  refine mm_met hst0 (by decide) (Nat.le_of_ble_eq_true rfl) ?_
  intro p e s m args below meth c ls C hr hnt hnm hl S
  have hl : lv_has ls 3 [(0, .ref a0)] := hl
  generalize mA M s.heap.size = A at C S ⊢
  have hx := C.hx
  have hb := C.hb
  have hk : 0 + b ≤ b := Nat.le_of_eq (Nat.zero_add b)
  have j80 : ∀ (k r : Nat) (M : mM) (H : Heap) (locs : List Loc) (ls : Array Slot) (s0 : UInt32), k + r ≤ b → mW G A s M H locs → lv_has ls 3 [] → wb_X1_doneShare_80 G P r M s0 → W p l e (mRm 13 b) s m args below meth c H locs k k (vx_MQ below (mQ G A (mRf P)) (mXC G A (fun _ _ _ => False)) args s b b A) (F0 m 80 ls [.float s0]) := by
    intro k r M H locs ls s0 hk S hl h
    unfold wb_X1_doneShare_80 at h
    exact mm_fret C S hr (Nat.le_trans (Nat.le_add_right _ _) hk) dX1_doneShare_80 h
  have j4 : ∀ (nf : Nat) (k r : Nat) (M : mM) (H : Heap) (locs : List Loc) (ls : Array Slot) (a0 : Nat) (x1 : Int32) (x2 : Int32), k + r ≤ b → mW G A s M H locs → lv_has ls 3 [(0, .ref a0), (1, .int x1), (2, .int x2)] → wl_X1_doneShare_4 G P nf r M a0 x1 x2 → W p l e (mRm 13 b) s m args below meth c H locs k k (vx_MQ below (mQ G A (mRf P)) (mXC G A (fun _ _ _ => False)) args s b b A) (F0 m 4 ls []) := by
    intro nf
    induction nf with
    | zero =>
      intro k r M H locs ls a0 x1 x2 hk S hl h
      rw [wl_X1_doneShare_4] at h
      exact h.elim
    | succ n4 ih4 =>
      have j43 : ∀ (k r : Nat) (M : mM) (H : Heap) (locs : List Loc) (ls : Array Slot) (a0 : Nat) (x2 : Int32) (s0 : Int32) (s1 : Int32), k + r ≤ b → mW G A s M H locs → lv_has ls 3 [(0, .ref a0), (2, .int x2)] → wb_X1_doneShare_43 G P (wl_X1_doneShare_4 G P n4) r M a0 x2 s0 s1 → W p l e (mRm 13 b) s m args below meth c H locs k k (vx_MQ below (mQ G A (mRf P)) (mXC G A (fun _ _ _ => False)) args s b b A) (F0 m 43 ls [.int s1, .int s0]) := by
        intro k r M H locs ls a0 x2 s0 s1 hk S hl h
        unfold wb_X1_doneShare_43 at h
        refine lv_iadd hx hb dX1_doneShare_43 ?_
        refine lv_istore_n (lv' := [(1, .int (s0 + s1)), (0, .ref a0), (2, .int x2)]) hx hb dX1_doneShare_44 rfl hl (by decide) rfl (fun ls hl => ?_)
        refine lv_iinc (v := (x2 + 1)) (lv' := [(2, .int (x2 + 1)), (1, .int (s0 + s1)), (0, .ref a0)]) hx hb dX1_doneShare_45 hl (k := 2) rfl rfl (by decide) rfl (fun ls hl => ?_)
        refine lv_goto (tgt := 4) hx hb dX1_doneShare_48 (by decide) ?_
        exact ih4 _ _ _ _ _ _ _ _ _ hk S (lv_sub hl [2, 1, 0] rfl) h
      intro k r M H locs ls a0 x1 x2 hk S hl h
      rw [wl_X1_doneShare_4] at h
      refine lv_iload_n hx hb dX1_doneShare_4 rfl (lv_at hl 2 rfl) ?_
      refine lv_aload_n hx hb dX1_doneShare_5 rfl (lv_at hl 0 rfl) ?_
      refine mm_gfa C S (ci := 0) (k := 7) rfl in_X1 (by decide) q222 (fun _ h9 => h9) dX1_doneShare_6 h (fun u1 h => ?_)
      obtain ⟨hI, h⟩ := h
      refine mm_F (As := []) (rest := [.int x2]) C S hl.1 (x := ⟨"java/util/List", "size", "()I"⟩) (wk_J2_size hst0 h) (T := TJ2) rfl hI (mWsF q284 q288 q290 q51 (lw_meth q292)) (by decide +kernel) pdi_2 ⟨Nat.le_of_ble_eq_true rfl, Nat.le_of_ble_eq_true rfl⟩ rfl rfl (Nat.le_of_ble_eq_true rfl) dX1_doneShare_9 rfl rfl hk (Nat.zero_add _) (fun v9 M2 H locs hP S hk => ?_) (fun E q ce M9 H9 locs9 hX => hX.elim)
      obtain ⟨v3, rfl, h⟩ := hP
      refine W.eq (g2 := F0 m 14 ls [.int v3, .int x2]) rfl ?_
      refine lv_icmp_ge (tgt := 51) hx hb dX1_doneShare_14 (by decide) (fun c9 => ?_) (fun c9 => ?_)
      · have h := h.1 c9
        refine lv_aload_n hx hb dX1_doneShare_51 rfl (lv_at hl 0 rfl) ?_
        refine mm_gfa C S (ci := 0) (k := 7) rfl in_X1 (by decide) q222 (fun _ h9 => h9) dX1_doneShare_52 h (fun u4 h => ?_)
        obtain ⟨hI, h⟩ := h
        refine mm_F (As := []) (rest := []) C S hl.1 (x := ⟨"java/util/List", "isEmpty", "()Z"⟩) (wk_J2_isEmpty hst0 h) (T := TJ2) rfl hI (mWsF q420 q423 q425 q51 (lw_meth q427)) (by decide +kernel) pdi_8 ⟨Nat.le_of_ble_eq_true rfl, Nat.le_of_ble_eq_true rfl⟩ rfl rfl (Nat.le_of_ble_eq_true rfl) dX1_doneShare_55 rfl rfl hk (Nat.zero_add _) (fun v9 M5 H locs hP S hk => ?_) (fun E q ce M9 H9 locs9 hX => hX.elim)
        obtain ⟨v6, rfl, h⟩ := hP
        refine W.eq (g2 := F0 m 60 ls [.int v6]) rfl ?_
        refine lv_if_eq (tgt := 67) hx hb dX1_doneShare_60 (by decide) (fun c9 => ?_) (fun c9 => ?_)
        · have h := h.1 c9
          refine lv_iload_n hx hb dX1_doneShare_67 rfl (lv_at hl 1 rfl) ?_
          refine lv_i2f hx hb dX1_doneShare_68 ?_
          refine lv_aload_n hx hb dX1_doneShare_69 rfl (lv_at hl 0 rfl) ?_
          refine mm_gfa C S (ci := 0) (k := 7) rfl in_X1 (by decide) q222 (fun _ h9 => h9) dX1_doneShare_70 h (fun u7 h => ?_)
          obtain ⟨hI, h⟩ := h
          refine mm_F (As := []) (rest := [.float (FP.i2f x1)]) C S hl.1 (x := ⟨"java/util/List", "size", "()I"⟩) (wk_J2_size hst0 h) (T := TJ2) rfl hI (mWsF q284 q288 q290 q51 (lw_meth q292)) (by decide +kernel) pdi_2 ⟨Nat.le_of_ble_eq_true rfl, Nat.le_of_ble_eq_true rfl⟩ rfl rfl (Nat.le_of_ble_eq_true rfl) dX1_doneShare_73 rfl rfl hk (Nat.zero_add _) (fun v9 M8 H locs hP S hk => ?_) (fun E q ce M9 H9 locs9 hX => hX.elim)
          obtain ⟨v9, rfl, h⟩ := hP
          refine W.eq (g2 := F0 m 78 ls [.int v9, .float (FP.i2f x1)]) rfl ?_
          refine lv_i2f hx hb dX1_doneShare_78 ?_
          refine lv_fdiv hx hb dX1_doneShare_79 h.1 ?_
          have h := h.2
          exact j80 _ _ _ _ _ _ _ hk S (lv_sub hl [] rfl) h
        · have h := h.2 c9
          refine lv_fconst0 hx hb dX1_doneShare_63 ?_
          refine lv_goto (tgt := 80) hx hb dX1_doneShare_64 (by decide) ?_
          exact j80 _ _ _ _ _ _ _ hk S (lv_sub hl [] rfl) h
      · have h := h.2 c9
        refine lv_iload_n hx hb dX1_doneShare_17 rfl (lv_at hl 1 rfl) ?_
        refine lv_aload_n hx hb dX1_doneShare_18 rfl (lv_at hl 0 rfl) ?_
        refine mm_gfa C S (ci := 0) (k := 7) rfl in_X1 (by decide) q222 (fun _ h9 => h9) dX1_doneShare_19 h (fun u10 h => ?_)
        refine lv_iload_n hx hb dX1_doneShare_22 rfl (lv_at hl 2 rfl) ?_
        obtain ⟨hI, h⟩ := h
        refine mm_F (As := [.int x2]) (rest := [.int x1]) C S hl.1 (x := ⟨"java/util/List", "get", "(I)Ljava/lang/Object;"⟩) (wk_J2_get hst0 h) (T := TJ2) rfl hI (mWsF q294 q297 q299 q51 (lw_meth q301)) (by decide +kernel) pdi_4 ⟨Nat.le_of_ble_eq_true rfl, Nat.le_of_ble_eq_true rfl⟩ rfl rfl (Nat.le_of_ble_eq_true rfl) dX1_doneShare_23 rfl rfl hk (Nat.zero_add _) (fun v9 M11 H locs hP S hk => ?_) (fun E q ce M9 H9 locs9 hX => hX.elim)
        obtain ⟨u12, rfl, h⟩ := hP
        refine W.eq (g2 := F0 m 28 ls [.ref u12, .int x1]) rfl ?_
        refine mm_castS C S (ci := 14) (T := TX17) rfl rfl q349 h.1 dX1_doneShare_28 ?_
        have h := h.2
        refine mm_gfiN C S (ci := 14) (k := 4) rfl in_X17 (by decide) q1505 (fun _ h9 => h9) dX1_doneShare_31 h (fun v13 h => ?_)
        refine lv_iconst (v := 1) hx hb dX1_doneShare_34 (by decide) ?_
        refine lv_icmp_ne (tgt := 42) hx hb dX1_doneShare_35 (by decide) (fun c9 => ?_) (fun c9 => ?_)
        · have h := h.1 c9
          refine lv_iconst (v := 0) hx hb dX1_doneShare_42 (by decide) ?_
          exact j43 _ _ _ _ _ _ _ _ _ _ hk S (lv_sub hl [0, 2] rfl) h
        · have h := h.2 c9
          refine lv_iconst (v := 1) hx hb dX1_doneShare_38 (by decide) ?_
          refine lv_goto (tgt := 43) hx hb dX1_doneShare_39 (by decide) ?_
          exact j43 _ _ _ _ _ _ _ _ _ _ hk S (lv_sub hl [0, 2] rfl) h
  unfold wp_X1_doneShare at h
  refine lv_iconst (v := 0) hx hb dX1_doneShare_0 (by decide) ?_
  refine lv_istore_n (lv' := [(1, .int 0), (0, .ref a0)]) hx hb dX1_doneShare_1 rfl hl (by decide) rfl (fun ls hl => ?_)
  refine lv_iconst (v := 0) hx hb dX1_doneShare_2 (by decide) ?_
  refine lv_istore_n (lv' := [(2, .int 0), (1, .int 0), (0, .ref a0)]) hx hb dX1_doneShare_3 rfl hl (by decide) rfl (fun ls hl => ?_)
  obtain ⟨nf, h⟩ := h
  exact j4 nf _ _ _ _ _ _ _ _ _ hk S (lv_sub hl [2, 1, 0] rfl) h
/-! X1_errorCode: level 10 -/
def wp_X1_errorCode (G : mG) (b : Nat) (P : Int32 → mM → Prop) (M : mM) (a0 : Nat) : Prop :=
  gfi M a0 0 13 fun v1 => P v1 M
set_option maxHeartbeats 4000000 in
set_option maxRecDepth 100000 in
theorem wk_X1_errorCode {l : Launch} (hst0 : l.stackTraces = false) {G : mG} {b : Nat} {P : Int32 → mM → Prop} {M : mM} {a0 : Nat} (h : wp_X1_errorCode G b P M a0) : mMet l yX1_errorCode (ws_ yX1_errorCode cX1_errorCode 1 (Option.some Jvm.ClassFile.FieldType.int)) 10 b G [.ref a0] M (mRi P) (fun _ _ _ => False) := by
  refine mm_met hst0 (by decide) (Nat.le_of_ble_eq_true rfl) ?_
  intro p e s m args below meth c ls C hr hnt hnm hl S
  have hl : lv_has ls 1 [(0, .ref a0)] := hl
  generalize mA M s.heap.size = A at C S ⊢
  have hx := C.hx
  have hb := C.hb
  have hk : 0 + b ≤ b := Nat.le_of_eq (Nat.zero_add b)
  unfold wp_X1_errorCode at h
  refine lv_aload_n hx hb dX1_errorCode_0 rfl (lv_at hl 0 rfl) ?_
  refine mm_gfi C S (ci := 0) (k := 13) rfl in_X1 (by decide) q228 (fun _ h9 => h9) dX1_errorCode_1 h (fun v1 h => ?_)
  exact mm_iret C S hr (Nat.le_trans (Nat.le_add_right _ _) hk) dX1_errorCode_4 h
/-! X1_errorOffset: level 10 -/
def wp_X1_errorOffset (G : mG) (b : Nat) (P : Int32 → mM → Prop) (M : mM) (a0 : Nat) : Prop :=
  gfi M a0 0 14 fun v1 => P v1 M
set_option maxHeartbeats 4000000 in
set_option maxRecDepth 100000 in
theorem wk_X1_errorOffset {l : Launch} (hst0 : l.stackTraces = false) {G : mG} {b : Nat} {P : Int32 → mM → Prop} {M : mM} {a0 : Nat} (h : wp_X1_errorOffset G b P M a0) : mMet l yX1_errorOffset (ws_ yX1_errorOffset cX1_errorOffset 1 (Option.some Jvm.ClassFile.FieldType.int)) 10 b G [.ref a0] M (mRi P) (fun _ _ _ => False) := by
  refine mm_met hst0 (by decide) (Nat.le_of_ble_eq_true rfl) ?_
  intro p e s m args below meth c ls C hr hnt hnm hl S
  have hl : lv_has ls 1 [(0, .ref a0)] := hl
  generalize mA M s.heap.size = A at C S ⊢
  have hx := C.hx
  have hb := C.hb
  have hk : 0 + b ≤ b := Nat.le_of_eq (Nat.zero_add b)
  unfold wp_X1_errorOffset at h
  refine lv_aload_n hx hb dX1_errorOffset_0 rfl (lv_at hl 0 rfl) ?_
  refine mm_gfi C S (ci := 0) (k := 14) rfl in_X1 (by decide) q229 (fun _ h9 => h9) dX1_errorOffset_1 h (fun v1 h => ?_)
  exact mm_iret C S hr (Nat.le_trans (Nat.le_add_right _ _) hk) dX1_errorOffset_4 h
/-! X1_errors: level 13, alloc -/
def wb_X1_errors_257 (G : mG) (P : Int32 → mM → Prop) (K190 : Nat → mM → Nat → Int32 → Int32 → Prop) (r : Nat) (M : mM) (a0 : Nat) (x3 : Int32) (s0 : Int32) (s1 : Int32) : Prop :=
  K190 r M a0 (s0 + s1) (x3 + 1)
def wl_X1_errors_190 (G : mG) (P : Int32 → mM → Prop) : Nat → Nat → mM → Nat → Int32 → Int32 → Prop
  | 0, _, _, _, _, _ => False
  | n + 1, r, M, a0, x2, x3 => gfi M a0 0 17 fun v29 => ((144 * (v29 + 1)) ≤ x3 → P x2 M) ∧ (¬ (144 * (v29 + 1)) ≤ x3 → ∀ g30 : Int32, g30 = ((x3 / 36) - (x3 / 36) / 4 * 4) → isc M a0 0 ∧ (wp_X1_joined G 0 (fun v32 M31 => isc M31 a0 0 ∧ (wp_X1_joined G 0 (fun v34 M33 => (v32 ≤ v34 → wb_X1_errors_257 G P (wl_X1_errors_190 G P n) r M33 a0 x3 x2 0) ∧ (¬ v32 ≤ v34 → wb_X1_errors_257 G P (wl_X1_errors_190 G P n) r M33 a0 x3 x2 1)) M31 a0 (x3 - x3 / 36 * 36) g30 ((x3 / 36) / 4) 1)) M a0 (x3 - x3 / 36 * 36) g30 ((x3 / 36) / 4) 0))
def wb_X1_errors_180 (G : mG) (P : Int32 → mM → Prop) (K109 : Nat → mM → Nat → Nat → Int32 → Int32 → Prop) (r : Nat) (M : mM) (a0 : Nat) (a1 : Nat) (x3 : Int32) (s0 : Int32) (s1 : Int32) : Prop :=
  K109 r M a0 a1 (s0 + s1) (x3 + 1)
def wl_X1_errors_129 (G : mG) (P : Int32 → mM → Prop) (K109 : Nat → mM → Nat → Nat → Int32 → Int32 → Prop) (K120 : Nat → mM → Nat → Nat → Int32 → Int32 → Int32 → Int32 → Prop) : Nat → Nat → mM → Nat → Nat → Int32 → Int32 → Int32 → Int32 → Int32 → Prop
  | 0, _, _, _, _, _, _, _, _, _ => False
  | n + 1, r, M, a0, a1, x2, x3, x4, x5, x6 => (3 < x6 → K120 r M a0 a1 x2 x3 x4 (x5 + 1)) ∧ (¬ 3 < x6 → gfa M a0 0 9 fun u36 => lda M 8 u36 ((3 * x3) + x5) fun u37 => ldi M 0 u37 x6 fun v38 => (wl_X1_errors_129 G P K109 K120 n) r M a0 a1 x2 x3 (x4 + v38) x5 (x6 + 1))
def wl_X1_errors_120 (G : mG) (P : Int32 → mM → Prop) (K109 : Nat → mM → Nat → Nat → Int32 → Int32 → Prop) : Nat → Nat → mM → Nat → Nat → Int32 → Int32 → Int32 → Int32 → Prop
  | 0, _, _, _, _, _, _, _, _ => False
  | n + 1, r, M, a0, a1, x2, x3, x4, x5 => (3 ≤ x5 → ldi M 0 a1 x3 fun v35 => (¬ x4 = v35 → wb_X1_errors_180 G P K109 r M a0 a1 x3 x2 1) ∧ (x4 = v35 → wb_X1_errors_180 G P K109 r M a0 a1 x3 x2 0)) ∧ (¬ 3 ≤ x5 → ∃ n129, wl_X1_errors_129 G P K109 (wl_X1_errors_120 G P K109 n) n129 r M a0 a1 x2 x3 x4 x5 0)
def wl_X1_errors_109 (G : mG) (P : Int32 → mM → Prop) : Nat → Nat → mM → Nat → Nat → Int32 → Int32 → Prop
  | 0, _, _, _, _, _, _ => False
  | n + 1, r, M, a0, a1, x2, x3 => (4 ≤ x3 → ∃ n190, wl_X1_errors_190 G P n190 r M a0 x2 0) ∧ (¬ 4 ≤ x3 → ∃ n120, wl_X1_errors_120 G P (wl_X1_errors_109 G P n) n120 r M a0 a1 x2 x3 0 0)
def wb_X1_errors_99 (G : mG) (P : Int32 → mM → Prop) (K6 : Nat → mM → Nat → Nat → Int32 → Prop) (r : Nat) (M : mM) (a0 : Nat) (a1 : Nat) (x2 : Int32) : Prop :=
  K6 r M a0 a1 (x2 + 1)
def wl_X1_errors_61 (G : mG) (P : Int32 → mM → Prop) (K6 : Nat → mM → Nat → Nat → Int32 → Prop) : Nat → Nat → mM → Nat → Nat → Int32 → Nat → Prop
  | 0, _, _, _, _, _, _ => False
  | n + 1, r, M, a0, a1, x2, a3 => isc M a3 20 ∧ (wp_J23_hasNext G 0 (fun v20 M19 => (v20 = 0 → wb_X1_errors_99 G P K6 r M19 a0 a1 x2) ∧ (¬ v20 = 0 → isc M19 a3 20 ∧ (wp_J23_next G 0 (fun u22 M21 => isc M21 u22 15 ∧ (isc M21 u22 15 ∧ (wp_X18_kind G 0 (fun v24 M23 => ldi M23 0 a1 v24 fun v25 => isc M23 u22 15 ∧ (wp_X18_many G 0 (fun v27 M26 => sti M26 0 a1 v24 (v25 + v27) fun M28 => (wl_X1_errors_61 G P K6 n) r M28 a0 a1 x2 a3) M23 u22)) M21 u22))) M19 a3))) M a3)
def wl_X1_errors_6 (G : mG) (P : Int32 → mM → Prop) : Nat → Nat → mM → Nat → Nat → Int32 → Prop
  | 0, _, _, _, _, _ => False
  | n + 1, r, M, a0, a1, x2 => gfa M a0 0 7 fun u4 => isc M u4 16 ∧ (wp_J2_size G 0 (fun v6 M5 => (v6 ≤ x2 → ∃ n109, wl_X1_errors_109 G P n109 r M5 a0 a1 0 0) ∧ (¬ v6 ≤ x2 → gfa M5 a0 0 7 fun u7 => isc M5 u7 16 ∧ (wp_J2_get G 0 (fun u9 M8 => isc M8 u9 14 ∧ (gfi M8 u9 14 4 fun v10 => (¬ v10 = 1 → wb_X1_errors_99 G P (wl_X1_errors_6 G P n) r M8 a0 a1 x2) ∧ (v10 = 1 → gfa M8 a0 0 7 fun u11 => isc M8 u11 16 ∧ (wp_J2_get G 0 (fun u13 M12 => isc M12 u13 14 ∧ (gfa M12 u13 14 5 fun u14 => isc M12 u14 16 ∧ (∃ b16 r17 : Nat, b16 + r17 = r ∧ wp_J2_iterator G b16 (fun u18 M15 => ∃ n61, wl_X1_errors_61 G P (wl_X1_errors_6 G P n) n61 r17 M15 a0 a1 x2 u18) M12 u14))) M8 u11 x2)))) M5 u7 x2))) M u4)
def wp_X1_errors (G : mG) (b : Nat) (P : Int32 → mM → Prop) (M : mM) (a0 : Nat) : Prop :=
  nwa M b 0 4 (.inl fun _ => 0) fun u1 M2 r3 => ∃ n6, wl_X1_errors_6 G P n6 r3 M2 a0 u1 0
set_option maxHeartbeats 4000000 in
set_option maxRecDepth 100000 in
theorem wk_X1_errors {l : Launch} (hst0 : l.stackTraces = false) {G : mG} {b : Nat} {P : Int32 → mM → Prop} {M : mM} {a0 : Nat} (h : wp_X1_errors G b P M a0) : mMet l yX1_errors (ws_ yX1_errors cX1_errors 7 (Option.some Jvm.ClassFile.FieldType.int)) 13 b G [.ref a0] M (mRi P) (fun _ _ _ => False) := by
  refine mm_met hst0 (by decide) (Nat.le_of_ble_eq_true rfl) ?_
  intro p e s m args below meth c ls C hr hnt hnm hl S
  have hl : lv_has ls 7 [(0, .ref a0)] := hl
  generalize mA M s.heap.size = A at C S ⊢
  have hx := C.hx
  have hb := C.hb
  have hk : 0 + b ≤ b := Nat.le_of_eq (Nat.zero_add b)
  have j190 : ∀ (nf : Nat) (k r : Nat) (M : mM) (H : Heap) (locs : List Loc) (ls : Array Slot) (a0 : Nat) (x2 : Int32) (x3 : Int32), k + r ≤ b → mW G A s M H locs → lv_has ls 7 [(0, .ref a0), (2, .int x2), (3, .int x3)] → wl_X1_errors_190 G P nf r M a0 x2 x3 → W p l e (mRm 13 b) s m args below meth c H locs k k (vx_MQ below (mQ G A (mRi P)) (mXC G A (fun _ _ _ => False)) args s b b A) (F0 m 190 ls []) := by
    intro nf
    induction nf with
    | zero =>
      intro k r M H locs ls a0 x2 x3 hk S hl h
      rw [wl_X1_errors_190] at h
      exact h.elim
    | succ n190 ih190 =>
      have j257 : ∀ (k r : Nat) (M : mM) (H : Heap) (locs : List Loc) (ls : Array Slot) (a0 : Nat) (x3 : Int32) (s0 : Int32) (s1 : Int32), k + r ≤ b → mW G A s M H locs → lv_has ls 7 [(0, .ref a0), (3, .int x3)] → wb_X1_errors_257 G P (wl_X1_errors_190 G P n190) r M a0 x3 s0 s1 → W p l e (mRm 13 b) s m args below meth c H locs k k (vx_MQ below (mQ G A (mRi P)) (mXC G A (fun _ _ _ => False)) args s b b A) (F0 m 257 ls [.int s1, .int s0]) := by
        intro k r M H locs ls a0 x3 s0 s1 hk S hl h
        unfold wb_X1_errors_257 at h
        refine lv_iadd hx hb dX1_errors_257 ?_
        refine lv_istore_n (lv' := [(2, .int (s0 + s1)), (0, .ref a0), (3, .int x3)]) hx hb dX1_errors_258 rfl hl (by decide) rfl (fun ls hl => ?_)
        refine lv_iinc (v := (x3 + 1)) (lv' := [(3, .int (x3 + 1)), (2, .int (s0 + s1)), (0, .ref a0)]) hx hb dX1_errors_259 hl (k := 2) rfl rfl (by decide) rfl (fun ls hl => ?_)
        refine lv_goto (tgt := 190) hx hb dX1_errors_262 (by decide) ?_
        exact ih190 _ _ _ _ _ _ _ _ _ hk S (lv_sub hl [2, 1, 0] rfl) h
      intro k r M H locs ls a0 x2 x3 hk S hl h
      rw [wl_X1_errors_190] at h
      refine lv_iload_n hx hb dX1_errors_190 rfl (lv_at hl 2 rfl) ?_
      refine lv_sipush (v := 144) hx hb dX1_errors_191 (by decide) ?_
      refine lv_aload_n hx hb dX1_errors_194 rfl (lv_at hl 0 rfl) ?_
      refine mm_gfi C S (ci := 0) (k := 17) rfl in_X1 (by decide) q232 (fun _ h9 => h9) dX1_errors_195 h (fun v29 h => ?_)
      refine lv_iconst (v := 1) hx hb dX1_errors_198 (by decide) ?_
      refine lv_iadd hx hb dX1_errors_199 ?_
      refine lv_imul hx hb dX1_errors_200 ?_
      refine lv_icmp_ge (tgt := 265) hx hb dX1_errors_201 (by decide) (fun c9 => ?_) (fun c9 => ?_)
      · have h := h.1 c9
        refine lv_iload_n hx hb dX1_errors_265 rfl (lv_at hl 1 rfl) ?_
        exact mm_iret C S hr (Nat.le_trans (Nat.le_add_right _ _) hk) dX1_errors_266 h
      · have h := h.2 c9
        refine lv_iload_n hx hb dX1_errors_204 rfl (lv_at hl 2 rfl) ?_
        refine lv_bipush (v := 36) hx hb dX1_errors_205 (by decide) ?_
        refine lv_irem hx hb dX1_errors_207 (by decide) ?_
        refine lv_istore (lv' := [(4, .int (x3 - x3 / 36 * 36)), (0, .ref a0), (2, .int x2), (3, .int x3)]) hx hb dX1_errors_208 hl (by decide) rfl (fun ls hl => ?_)
        refine lv_iload_n hx hb dX1_errors_210 rfl (lv_at hl 3 rfl) ?_
        refine lv_bipush (v := 36) hx hb dX1_errors_211 (by decide) ?_
        refine lv_idiv hx hb dX1_errors_213 (by decide) ?_
        refine lv_iconst (v := 4) hx hb dX1_errors_214 (by decide) ?_
        refine lv_irem hx hb dX1_errors_215 (by decide) ?_
        refine lv_topi (fun g30 eg30 => ?_)
        have h := h g30 eg30
        refine lv_istore (lv' := [(5, .int g30), (4, .int (x3 - x3 / 36 * 36)), (0, .ref a0), (2, .int x2), (3, .int x3)]) hx hb dX1_errors_216 hl (by decide) rfl (fun ls hl => ?_)
        refine lv_iload_n hx hb dX1_errors_218 rfl (lv_at hl 4 rfl) ?_
        refine lv_bipush (v := 36) hx hb dX1_errors_219 (by decide) ?_
        refine lv_idiv hx hb dX1_errors_221 (by decide) ?_
        refine lv_iconst (v := 4) hx hb dX1_errors_222 (by decide) ?_
        refine lv_idiv hx hb dX1_errors_223 (by decide) ?_
        refine lv_istore (lv' := [(6, .int ((x3 / 36) / 4)), (5, .int g30), (4, .int (x3 - x3 / 36 * 36)), (0, .ref a0), (2, .int x2), (3, .int x3)]) hx hb dX1_errors_224 hl (by decide) rfl (fun ls hl => ?_)
        refine lv_iload_n hx hb dX1_errors_226 rfl (lv_at hl 4 rfl) ?_
        refine lv_aload_n hx hb dX1_errors_227 rfl (lv_at hl 3 rfl) ?_
        refine lv_iload hx hb dX1_errors_228 (lv_at hl 2 rfl) ?_
        refine lv_iload hx hb dX1_errors_230 (lv_at hl 1 rfl) ?_
        refine lv_iload hx hb dX1_errors_232 (lv_at hl 0 rfl) ?_
        refine lv_iconst (v := 0) hx hb dX1_errors_234 (by decide) ?_
        obtain ⟨hI, h⟩ := h
        refine mm_V (As := [.int (x3 - x3 / 36 * 36), .int g30, .int ((x3 / 36) / 4), .int 0]) (rest := [.int x2]) C S hl.1 (wk_X1_joined hst0 h) (T := TX1) rfl hI (lw_V q337 q339 qs2 q48 q340) rfl pd_X1_joined ⟨Nat.le_of_ble_eq_true rfl, Nat.le_of_ble_eq_true rfl⟩ rfl rfl (Nat.le_of_ble_eq_true rfl) dX1_errors_235 rfl rfl hk (Nat.zero_add _) (fun v9 M31 H locs hP S hk => ?_) (fun E q ce M9 H9 locs9 hX => hX.elim)
        obtain ⟨v32, rfl, h⟩ := hP
        refine W.eq (g2 := F0 m 238 ls [.int v32, .int x2]) rfl ?_
        refine lv_aload_n hx hb dX1_errors_238 rfl (lv_at hl 3 rfl) ?_
        refine lv_iload hx hb dX1_errors_239 (lv_at hl 2 rfl) ?_
        refine lv_iload hx hb dX1_errors_241 (lv_at hl 1 rfl) ?_
        refine lv_iload hx hb dX1_errors_243 (lv_at hl 0 rfl) ?_
        refine lv_iconst (v := 1) hx hb dX1_errors_245 (by decide) ?_
        obtain ⟨hI, h⟩ := h
        refine mm_V (As := [.int (x3 - x3 / 36 * 36), .int g30, .int ((x3 / 36) / 4), .int 1]) (rest := [.int v32, .int x2]) C S hl.1 (wk_X1_joined hst0 h) (T := TX1) rfl hI (lw_V q337 q339 qs2 q48 q340) rfl pd_X1_joined ⟨Nat.le_of_ble_eq_true rfl, Nat.le_of_ble_eq_true rfl⟩ rfl rfl (Nat.le_of_ble_eq_true rfl) dX1_errors_246 rfl rfl hk (Nat.zero_add _) (fun v9 M33 H locs hP S hk => ?_) (fun E q ce M9 H9 locs9 hX => hX.elim)
        obtain ⟨v34, rfl, h⟩ := hP
        refine W.eq (g2 := F0 m 249 ls [.int v34, .int v32, .int x2]) rfl ?_
        refine lv_icmp_le (tgt := 256) hx hb dX1_errors_249 (by decide) (fun c9 => ?_) (fun c9 => ?_)
        · have h := h.1 c9
          refine lv_iconst (v := 0) hx hb dX1_errors_256 (by decide) ?_
          exact j257 _ _ _ _ _ _ _ _ _ _ hk S (lv_sub hl [3, 5] rfl) h
        · have h := h.2 c9
          refine lv_iconst (v := 1) hx hb dX1_errors_252 (by decide) ?_
          refine lv_goto (tgt := 257) hx hb dX1_errors_253 (by decide) ?_
          exact j257 _ _ _ _ _ _ _ _ _ _ hk S (lv_sub hl [3, 5] rfl) h
  have j109 : ∀ (nf : Nat) (k r : Nat) (M : mM) (H : Heap) (locs : List Loc) (ls : Array Slot) (a0 : Nat) (a1 : Nat) (x2 : Int32) (x3 : Int32), k + r ≤ b → mW G A s M H locs → lv_has ls 7 [(0, .ref a0), (1, .ref a1), (2, .int x2), (3, .int x3)] → wl_X1_errors_109 G P nf r M a0 a1 x2 x3 → W p l e (mRm 13 b) s m args below meth c H locs k k (vx_MQ below (mQ G A (mRi P)) (mXC G A (fun _ _ _ => False)) args s b b A) (F0 m 109 ls []) := by
    intro nf
    induction nf with
    | zero =>
      intro k r M H locs ls a0 a1 x2 x3 hk S hl h
      rw [wl_X1_errors_109] at h
      exact h.elim
    | succ n109 ih109 =>
      have j180 : ∀ (k r : Nat) (M : mM) (H : Heap) (locs : List Loc) (ls : Array Slot) (a0 : Nat) (a1 : Nat) (x3 : Int32) (s0 : Int32) (s1 : Int32), k + r ≤ b → mW G A s M H locs → lv_has ls 7 [(0, .ref a0), (1, .ref a1), (3, .int x3)] → wb_X1_errors_180 G P (wl_X1_errors_109 G P n109) r M a0 a1 x3 s0 s1 → W p l e (mRm 13 b) s m args below meth c H locs k k (vx_MQ below (mQ G A (mRi P)) (mXC G A (fun _ _ _ => False)) args s b b A) (F0 m 180 ls [.int s1, .int s0]) := by
        intro k r M H locs ls a0 a1 x3 s0 s1 hk S hl h
        unfold wb_X1_errors_180 at h
        refine lv_iadd hx hb dX1_errors_180 ?_
        refine lv_istore_n (lv' := [(2, .int (s0 + s1)), (0, .ref a0), (1, .ref a1), (3, .int x3)]) hx hb dX1_errors_181 rfl hl (by decide) rfl (fun ls hl => ?_)
        refine lv_iinc (v := (x3 + 1)) (lv' := [(3, .int (x3 + 1)), (2, .int (s0 + s1)), (0, .ref a0), (1, .ref a1)]) hx hb dX1_errors_182 hl (k := 3) rfl rfl (by decide) rfl (fun ls hl => ?_)
        refine lv_goto (tgt := 109) hx hb dX1_errors_185 (by decide) ?_
        exact ih109 _ _ _ _ _ _ _ _ _ _ hk S (lv_sub hl [2, 3, 1, 0] rfl) h
      have j120 : ∀ (nf : Nat) (k r : Nat) (M : mM) (H : Heap) (locs : List Loc) (ls : Array Slot) (a0 : Nat) (a1 : Nat) (x2 : Int32) (x3 : Int32) (x4 : Int32) (x5 : Int32), k + r ≤ b → mW G A s M H locs → lv_has ls 7 [(0, .ref a0), (1, .ref a1), (2, .int x2), (3, .int x3), (4, .int x4), (5, .int x5)] → wl_X1_errors_120 G P (wl_X1_errors_109 G P n109) nf r M a0 a1 x2 x3 x4 x5 → W p l e (mRm 13 b) s m args below meth c H locs k k (vx_MQ below (mQ G A (mRi P)) (mXC G A (fun _ _ _ => False)) args s b b A) (F0 m 120 ls []) := by
        intro nf
        induction nf with
        | zero =>
          intro k r M H locs ls a0 a1 x2 x3 x4 x5 hk S hl h
          rw [wl_X1_errors_120] at h
          exact h.elim
        | succ n120 ih120 =>
          have j129 : ∀ (nf : Nat) (k r : Nat) (M : mM) (H : Heap) (locs : List Loc) (ls : Array Slot) (a0 : Nat) (a1 : Nat) (x2 : Int32) (x3 : Int32) (x4 : Int32) (x5 : Int32) (x6 : Int32), k + r ≤ b → mW G A s M H locs → lv_has ls 7 [(0, .ref a0), (1, .ref a1), (2, .int x2), (3, .int x3), (4, .int x4), (5, .int x5), (6, .int x6)] → wl_X1_errors_129 G P (wl_X1_errors_109 G P n109) (wl_X1_errors_120 G P (wl_X1_errors_109 G P n109) n120) nf r M a0 a1 x2 x3 x4 x5 x6 → W p l e (mRm 13 b) s m args below meth c H locs k k (vx_MQ below (mQ G A (mRi P)) (mXC G A (fun _ _ _ => False)) args s b b A) (F0 m 129 ls []) := by
            intro nf
            induction nf with
            | zero =>
              intro k r M H locs ls a0 a1 x2 x3 x4 x5 x6 hk S hl h
              rw [wl_X1_errors_129] at h
              exact h.elim
            | succ n129 ih129 =>
              intro k r M H locs ls a0 a1 x2 x3 x4 x5 x6 hk S hl h
              rw [wl_X1_errors_129] at h
              refine lv_iload hx hb dX1_errors_129 (lv_at hl 6 rfl) ?_
              refine lv_iconst (v := 3) hx hb dX1_errors_131 (by decide) ?_
              refine lv_icmp_gt (tgt := 160) hx hb dX1_errors_132 (by decide) (fun c9 => ?_) (fun c9 => ?_)
              · have h := h.1 c9
                refine lv_iinc (v := (x5 + 1)) (lv' := [(5, .int (x5 + 1)), (0, .ref a0), (1, .ref a1), (2, .int x2), (3, .int x3), (4, .int x4), (6, .int x6)]) hx hb dX1_errors_160 hl (k := 5) rfl rfl (by decide) rfl (fun ls hl => ?_)
                refine lv_goto (tgt := 120) hx hb dX1_errors_163 (by decide) ?_
                exact ih120 _ _ _ _ _ _ _ _ _ _ _ _ hk S (lv_sub hl [1, 2, 3, 4, 5, 0] rfl) h
              · have h := h.2 c9
                refine lv_iload hx hb dX1_errors_135 (lv_at hl 4 rfl) ?_
                refine lv_aload_n hx hb dX1_errors_137 rfl (lv_at hl 0 rfl) ?_
                refine mm_gfa C S (ci := 0) (k := 9) rfl in_X1 (by decide) q224 (fun _ h9 => h9) dX1_errors_138 h (fun u36 h => ?_)
                refine lv_iconst (v := 3) hx hb dX1_errors_141 (by decide) ?_
                refine lv_iload_n hx hb dX1_errors_142 rfl (lv_at hl 3 rfl) ?_
                refine lv_imul hx hb dX1_errors_143 ?_
                refine lv_iload hx hb dX1_errors_144 (lv_at hl 5 rfl) ?_
                refine lv_iadd hx hb dX1_errors_146 ?_
                refine mm_aald C S (t := 8) rfl rfl h dX1_errors_147 (fun u37 h => ?_)
                refine lv_iload hx hb dX1_errors_148 (lv_at hl 6 rfl) ?_
                refine mm_iald C S h dX1_errors_150 (fun v38 h => ?_)
                refine lv_iadd hx hb dX1_errors_151 ?_
                refine lv_istore (lv' := [(4, .int (x4 + v38)), (0, .ref a0), (1, .ref a1), (2, .int x2), (3, .int x3), (5, .int x5), (6, .int x6)]) hx hb dX1_errors_152 hl (by decide) rfl (fun ls hl => ?_)
                refine lv_iinc (v := (x6 + 1)) (lv' := [(6, .int (x6 + 1)), (4, .int (x4 + v38)), (0, .ref a0), (1, .ref a1), (2, .int x2), (3, .int x3), (5, .int x5)]) hx hb dX1_errors_154 hl (k := 6) rfl rfl (by decide) rfl (fun ls hl => ?_)
                refine lv_goto (tgt := 129) hx hb dX1_errors_157 (by decide) ?_
                exact ih129 _ _ _ _ _ _ _ _ _ _ _ _ _ hk S (lv_sub hl [2, 3, 4, 5, 1, 6, 0] rfl) h
          intro k r M H locs ls a0 a1 x2 x3 x4 x5 hk S hl h
          rw [wl_X1_errors_120] at h
          refine lv_iload hx hb dX1_errors_120 (lv_at hl 5 rfl) ?_
          refine lv_iconst (v := 3) hx hb dX1_errors_122 (by decide) ?_
          refine lv_icmp_ge (tgt := 166) hx hb dX1_errors_123 (by decide) (fun c9 => ?_) (fun c9 => ?_)
          · have h := h.1 c9
            refine lv_iload_n hx hb dX1_errors_166 rfl (lv_at hl 2 rfl) ?_
            refine lv_iload hx hb dX1_errors_167 (lv_at hl 4 rfl) ?_
            refine lv_aload_n hx hb dX1_errors_169 rfl (lv_at hl 1 rfl) ?_
            refine lv_iload_n hx hb dX1_errors_170 rfl (lv_at hl 3 rfl) ?_
            refine mm_iald C S h dX1_errors_171 (fun v35 h => ?_)
            refine lv_icmp_ne (tgt := 179) hx hb dX1_errors_172 (by decide) (fun c9 => ?_) (fun c9 => ?_)
            · have h := h.1 c9
              refine lv_iconst (v := 1) hx hb dX1_errors_179 (by decide) ?_
              exact j180 _ _ _ _ _ _ _ _ _ _ _ hk S (lv_sub hl [0, 1, 3] rfl) h
            · have h := h.2 c9
              refine lv_iconst (v := 0) hx hb dX1_errors_175 (by decide) ?_
              refine lv_goto (tgt := 180) hx hb dX1_errors_176 (by decide) ?_
              exact j180 _ _ _ _ _ _ _ _ _ _ _ hk S (lv_sub hl [0, 1, 3] rfl) h
          · have h := h.2 c9
            refine lv_iconst (v := 0) hx hb dX1_errors_126 (by decide) ?_
            refine lv_istore (lv' := [(6, .int 0), (0, .ref a0), (1, .ref a1), (2, .int x2), (3, .int x3), (4, .int x4), (5, .int x5)]) hx hb dX1_errors_127 hl (by decide) rfl (fun ls hl => ?_)
            obtain ⟨nf, h⟩ := h
            exact j129 nf _ _ _ _ _ _ _ _ _ _ _ _ _ hk S (lv_sub hl [1, 2, 3, 4, 5, 6, 0] rfl) h
      intro k r M H locs ls a0 a1 x2 x3 hk S hl h
      rw [wl_X1_errors_109] at h
      refine lv_iload_n hx hb dX1_errors_109 rfl (lv_at hl 3 rfl) ?_
      refine lv_iconst (v := 4) hx hb dX1_errors_110 (by decide) ?_
      refine lv_icmp_ge (tgt := 188) hx hb dX1_errors_111 (by decide) (fun c9 => ?_) (fun c9 => ?_)
      · have h := h.1 c9
        refine lv_iconst (v := 0) hx hb dX1_errors_188 (by decide) ?_
        refine lv_istore_n (lv' := [(3, .int 0), (0, .ref a0), (1, .ref a1), (2, .int x2)]) hx hb dX1_errors_189 rfl hl (by decide) rfl (fun ls hl => ?_)
        obtain ⟨nf, h⟩ := h
        exact j190 nf _ _ _ _ _ _ _ _ _ hk S (lv_sub hl [1, 3, 0] rfl) h
      · have h := h.2 c9
        refine lv_iconst (v := 0) hx hb dX1_errors_114 (by decide) ?_
        refine lv_istore (lv' := [(4, .int 0), (0, .ref a0), (1, .ref a1), (2, .int x2), (3, .int x3)]) hx hb dX1_errors_115 hl (by decide) rfl (fun ls hl => ?_)
        refine lv_iconst (v := 0) hx hb dX1_errors_117 (by decide) ?_
        refine lv_istore (lv' := [(5, .int 0), (4, .int 0), (0, .ref a0), (1, .ref a1), (2, .int x2), (3, .int x3)]) hx hb dX1_errors_118 hl (by decide) rfl (fun ls hl => ?_)
        obtain ⟨nf, h⟩ := h
        exact j120 nf _ _ _ _ _ _ _ _ _ _ _ _ hk S (lv_sub hl [2, 3, 4, 5, 1, 0] rfl) h
  have j6 : ∀ (nf : Nat) (k r : Nat) (M : mM) (H : Heap) (locs : List Loc) (ls : Array Slot) (a0 : Nat) (a1 : Nat) (x2 : Int32), k + r ≤ b → mW G A s M H locs → lv_has ls 7 [(0, .ref a0), (1, .ref a1), (2, .int x2)] → wl_X1_errors_6 G P nf r M a0 a1 x2 → W p l e (mRm 13 b) s m args below meth c H locs k k (vx_MQ below (mQ G A (mRi P)) (mXC G A (fun _ _ _ => False)) args s b b A) (F0 m 6 ls []) := by
    intro nf
    induction nf with
    | zero =>
      intro k r M H locs ls a0 a1 x2 hk S hl h
      rw [wl_X1_errors_6] at h
      exact h.elim
    | succ n6 ih6 =>
      have j99 : ∀ (k r : Nat) (M : mM) (H : Heap) (locs : List Loc) (ls : Array Slot) (a0 : Nat) (a1 : Nat) (x2 : Int32), k + r ≤ b → mW G A s M H locs → lv_has ls 7 [(0, .ref a0), (1, .ref a1), (2, .int x2)] → wb_X1_errors_99 G P (wl_X1_errors_6 G P n6) r M a0 a1 x2 → W p l e (mRm 13 b) s m args below meth c H locs k k (vx_MQ below (mQ G A (mRi P)) (mXC G A (fun _ _ _ => False)) args s b b A) (F0 m 99 ls []) := by
        intro k r M H locs ls a0 a1 x2 hk S hl h
        unfold wb_X1_errors_99 at h
        refine lv_iinc (v := (x2 + 1)) (lv' := [(2, .int (x2 + 1)), (0, .ref a0), (1, .ref a1)]) hx hb dX1_errors_99 hl (k := 2) rfl rfl (by decide) rfl (fun ls hl => ?_)
        refine lv_goto (tgt := 6) hx hb dX1_errors_102 (by decide) ?_
        exact ih6 _ _ _ _ _ _ _ _ _ hk S (lv_sub hl [1, 2, 0] rfl) h
      have j61 : ∀ (nf : Nat) (k r : Nat) (M : mM) (H : Heap) (locs : List Loc) (ls : Array Slot) (a0 : Nat) (a1 : Nat) (x2 : Int32) (a3 : Nat), k + r ≤ b → mW G A s M H locs → lv_has ls 7 [(0, .ref a0), (1, .ref a1), (2, .int x2), (3, .ref a3)] → wl_X1_errors_61 G P (wl_X1_errors_6 G P n6) nf r M a0 a1 x2 a3 → W p l e (mRm 13 b) s m args below meth c H locs k k (vx_MQ below (mQ G A (mRi P)) (mXC G A (fun _ _ _ => False)) args s b b A) (F0 m 61 ls []) := by
        intro nf
        induction nf with
        | zero =>
          intro k r M H locs ls a0 a1 x2 a3 hk S hl h
          rw [wl_X1_errors_61] at h
          exact h.elim
        | succ n61 ih61 =>
          intro k r M H locs ls a0 a1 x2 a3 hk S hl h
          rw [wl_X1_errors_61] at h
          refine lv_aload_n hx hb dX1_errors_61 rfl (lv_at hl 3 rfl) ?_
          obtain ⟨hI, h⟩ := h
          refine mm_F (As := []) (rest := []) C S hl.1 (x := ⟨"java/util/Iterator", "hasNext", "()Z"⟩) (wk_J23_hasNext hst0 h) (T := TJ23) rfl hI (mWsF q379 q383 q385 q85 (lw_meth q387)) (by decide +kernel) pdi_7 ⟨Nat.le_of_ble_eq_true rfl, Nat.le_of_ble_eq_true rfl⟩ rfl rfl (Nat.le_of_ble_eq_true rfl) dX1_errors_62 rfl rfl hk (Nat.zero_add _) (fun v9 M19 H locs hP S hk => ?_) (fun E q ce M9 H9 locs9 hX => hX.elim)
          obtain ⟨v20, rfl, h⟩ := hP
          refine W.eq (g2 := F0 m 67 ls [.int v20]) rfl ?_
          refine lv_if_eq (tgt := 99) hx hb dX1_errors_67 (by decide) (fun c9 => ?_) (fun c9 => ?_)
          · have h := h.1 c9
            exact j99 _ _ _ _ _ _ _ _ _ hk S (lv_sub hl [0, 1, 2] rfl) h
          · have h := h.2 c9
            refine lv_aload_n hx hb dX1_errors_70 rfl (lv_at hl 3 rfl) ?_
            obtain ⟨hI, h⟩ := h
            refine mm_F (As := []) (rest := []) C S hl.1 (x := ⟨"java/util/Iterator", "next", "()Ljava/lang/Object;"⟩) (wk_J23_next hst0 h) (T := TJ23) rfl hI (mWsF q389 q392 q394 q85 (lw_meth q396)) (by decide +kernel) pdi_6 ⟨Nat.le_of_ble_eq_true rfl, Nat.le_of_ble_eq_true rfl⟩ rfl rfl (Nat.le_of_ble_eq_true rfl) dX1_errors_71 rfl rfl hk (Nat.zero_add _) (fun v9 M21 H locs hP S hk => ?_) (fun E q ce M9 H9 locs9 hX => hX.elim)
            obtain ⟨u22, rfl, h⟩ := hP
            refine W.eq (g2 := F0 m 76 ls [.ref u22]) rfl ?_
            refine mm_castS C S (ci := 15) (T := TX18) rfl rfl q401 h.1 dX1_errors_76 ?_
            have h := h.2
            refine lv_astore (lv' := [(4, .ref u22), (0, .ref a0), (1, .ref a1), (2, .int x2), (3, .ref a3)]) hx hb dX1_errors_79 hl (by decide) rfl (fun ls hl => ?_)
            refine lv_aload_n hx hb dX1_errors_81 rfl (lv_at hl 2 rfl) ?_
            refine lv_aload hx hb dX1_errors_82 (lv_at hl 0 rfl) ?_
            obtain ⟨hI, h⟩ := h
            refine mm_V (As := []) (rest := [.ref a1]) C S hl.1 (wk_X18_kind hst0 h) (T := TX18) rfl hI (lw_V q402 q403 q404 q93 q405) rfl pd_X18_kind ⟨Nat.le_of_ble_eq_true rfl, Nat.le_of_ble_eq_true rfl⟩ rfl rfl (Nat.le_of_ble_eq_true rfl) dX1_errors_84 rfl rfl hk (Nat.zero_add _) (fun v9 M23 H locs hP S hk => ?_) (fun E q ce M9 H9 locs9 hX => hX.elim)
            obtain ⟨v24, rfl, h⟩ := hP
            refine W.eq (g2 := F0 m 87 ls [.int v24, .ref a1]) rfl ?_
            refine lv_dup2_11 hx hb dX1_errors_87 rfl rfl ?_
            refine mm_iald C S h dX1_errors_88 (fun v25 h => ?_)
            refine lv_aload hx hb dX1_errors_89 (lv_at hl 0 rfl) ?_
            obtain ⟨hI, h⟩ := h
            refine mm_V (As := []) (rest := [.int v25, .int v24, .ref a1]) C S hl.1 (wk_X18_many hst0 h) (T := TX18) rfl hI (lw_V q406 q407 q408 q93 q409) rfl pd_X18_many ⟨Nat.le_of_ble_eq_true rfl, Nat.le_of_ble_eq_true rfl⟩ rfl rfl (Nat.le_of_ble_eq_true rfl) dX1_errors_91 rfl rfl hk (Nat.zero_add _) (fun v9 M26 H locs hP S hk => ?_) (fun E q ce M9 H9 locs9 hX => hX.elim)
            obtain ⟨v27, rfl, h⟩ := hP
            refine W.eq (g2 := F0 m 94 ls [.int v27, .int v25, .int v24, .ref a1]) rfl ?_
            refine lv_iadd hx hb dX1_errors_94 ?_
            refine mm_iast C S h dX1_errors_95 (fun M28 H locs h S => ?_)
            refine lv_goto (tgt := 61) hx hb dX1_errors_96 (by decide) ?_
            exact ih61 _ _ _ _ _ _ _ _ _ _ hk S (lv_sub hl [1, 2, 3, 4] rfl) h
      intro k r M H locs ls a0 a1 x2 hk S hl h
      rw [wl_X1_errors_6] at h
      refine lv_iload_n hx hb dX1_errors_6 rfl (lv_at hl 2 rfl) ?_
      refine lv_aload_n hx hb dX1_errors_7 rfl (lv_at hl 0 rfl) ?_
      refine mm_gfa C S (ci := 0) (k := 7) rfl in_X1 (by decide) q222 (fun _ h9 => h9) dX1_errors_8 h (fun u4 h => ?_)
      obtain ⟨hI, h⟩ := h
      refine mm_F (As := []) (rest := [.int x2]) C S hl.1 (x := ⟨"java/util/List", "size", "()I"⟩) (wk_J2_size hst0 h) (T := TJ2) rfl hI (mWsF q284 q288 q290 q51 (lw_meth q292)) (by decide +kernel) pdi_2 ⟨Nat.le_of_ble_eq_true rfl, Nat.le_of_ble_eq_true rfl⟩ rfl rfl (Nat.le_of_ble_eq_true rfl) dX1_errors_11 rfl rfl hk (Nat.zero_add _) (fun v9 M5 H locs hP S hk => ?_) (fun E q ce M9 H9 locs9 hX => hX.elim)
      obtain ⟨v6, rfl, h⟩ := hP
      refine W.eq (g2 := F0 m 16 ls [.int v6, .int x2]) rfl ?_
      refine lv_icmp_ge (tgt := 105) hx hb dX1_errors_16 (by decide) (fun c9 => ?_) (fun c9 => ?_)
      · have h := h.1 c9
        refine lv_iconst (v := 0) hx hb dX1_errors_105 (by decide) ?_
        refine lv_istore_n (lv' := [(2, .int 0), (0, .ref a0), (1, .ref a1)]) hx hb dX1_errors_106 rfl hl (by decide) rfl (fun ls hl => ?_)
        refine lv_iconst (v := 0) hx hb dX1_errors_107 (by decide) ?_
        refine lv_istore_n (lv' := [(3, .int 0), (2, .int 0), (0, .ref a0), (1, .ref a1)]) hx hb dX1_errors_108 rfl hl (by decide) rfl (fun ls hl => ?_)
        obtain ⟨nf, h⟩ := h
        exact j109 nf _ _ _ _ _ _ _ _ _ _ hk S (lv_sub hl [2, 3, 1, 0] rfl) h
      · have h := h.2 c9
        refine lv_aload_n hx hb dX1_errors_19 rfl (lv_at hl 0 rfl) ?_
        refine mm_gfa C S (ci := 0) (k := 7) rfl in_X1 (by decide) q222 (fun _ h9 => h9) dX1_errors_20 h (fun u7 h => ?_)
        refine lv_iload_n hx hb dX1_errors_23 rfl (lv_at hl 2 rfl) ?_
        obtain ⟨hI, h⟩ := h
        refine mm_F (As := [.int x2]) (rest := []) C S hl.1 (x := ⟨"java/util/List", "get", "(I)Ljava/lang/Object;"⟩) (wk_J2_get hst0 h) (T := TJ2) rfl hI (mWsF q294 q297 q299 q51 (lw_meth q301)) (by decide +kernel) pdi_4 ⟨Nat.le_of_ble_eq_true rfl, Nat.le_of_ble_eq_true rfl⟩ rfl rfl (Nat.le_of_ble_eq_true rfl) dX1_errors_24 rfl rfl hk (Nat.zero_add _) (fun v9 M8 H locs hP S hk => ?_) (fun E q ce M9 H9 locs9 hX => hX.elim)
        obtain ⟨u9, rfl, h⟩ := hP
        refine W.eq (g2 := F0 m 29 ls [.ref u9]) rfl ?_
        refine mm_castS C S (ci := 14) (T := TX17) rfl rfl q349 h.1 dX1_errors_29 ?_
        have h := h.2
        refine mm_gfiN C S (ci := 14) (k := 4) rfl in_X17 (by decide) q1505 (fun _ h9 => h9) dX1_errors_32 h (fun v10 h => ?_)
        refine lv_iconst (v := 1) hx hb dX1_errors_35 (by decide) ?_
        refine lv_icmp_ne (tgt := 99) hx hb dX1_errors_36 (by decide) (fun c9 => ?_) (fun c9 => ?_)
        · have h := h.1 c9
          exact j99 _ _ _ _ _ _ _ _ _ hk S hl h
        · have h := h.2 c9
          refine lv_aload_n hx hb dX1_errors_39 rfl (lv_at hl 0 rfl) ?_
          refine mm_gfa C S (ci := 0) (k := 7) rfl in_X1 (by decide) q222 (fun _ h9 => h9) dX1_errors_40 h (fun u11 h => ?_)
          refine lv_iload_n hx hb dX1_errors_43 rfl (lv_at hl 2 rfl) ?_
          obtain ⟨hI, h⟩ := h
          refine mm_F (As := [.int x2]) (rest := []) C S hl.1 (x := ⟨"java/util/List", "get", "(I)Ljava/lang/Object;"⟩) (wk_J2_get hst0 h) (T := TJ2) rfl hI (mWsF q294 q297 q299 q51 (lw_meth q301)) (by decide +kernel) pdi_4 ⟨Nat.le_of_ble_eq_true rfl, Nat.le_of_ble_eq_true rfl⟩ rfl rfl (Nat.le_of_ble_eq_true rfl) dX1_errors_44 rfl rfl hk (Nat.zero_add _) (fun v9 M12 H locs hP S hk => ?_) (fun E q ce M9 H9 locs9 hX => hX.elim)
          obtain ⟨u13, rfl, h⟩ := hP
          refine W.eq (g2 := F0 m 49 ls [.ref u13]) rfl ?_
          refine mm_castS C S (ci := 14) (T := TX17) rfl rfl q349 h.1 dX1_errors_49 ?_
          have h := h.2
          refine mm_gfaN C S (ci := 14) (k := 5) rfl in_X17 (by decide) q1507 (fun _ h9 => h9) dX1_errors_52 h (fun u14 h => ?_)
          obtain ⟨hI, h⟩ := h
          obtain ⟨b16, r17, hb9, h⟩ := h
          refine mm_F (As := []) (rest := []) C S hl.1 (x := ⟨"java/util/List", "iterator", "()Ljava/util/Iterator;"⟩) (wk_J2_iterator hst0 h) (T := TJ2) rfl hI (mWsF q351 q354 q356 q51 (lw_meth q358)) (by decide +kernel) pdi_5 ⟨Nat.le_of_ble_eq_true rfl, Nat.le_of_ble_eq_true rfl⟩ rfl rfl (Nat.le_of_ble_eq_true rfl) dX1_errors_55 rfl rfl hk hb9 (fun v9 M15 H locs hP S hk => ?_) (fun E q ce M9 H9 locs9 hX => hX.elim)
          obtain ⟨u18, rfl, h⟩ := hP
          refine W.eq (g2 := F0 m 60 ls [.ref u18]) rfl ?_
          refine lv_astore_n (lv' := [(3, .ref u18), (0, .ref a0), (1, .ref a1), (2, .int x2)]) hx hb dX1_errors_60 rfl hl (by decide) rfl (fun ls hl => ?_)
          obtain ⟨nf, h⟩ := h
          exact j61 nf _ _ _ _ _ _ _ _ _ _ hk S (lv_sub hl [1, 2, 3, 0] rfl) h
  unfold wp_X1_errors at h
  refine lv_iconst (v := 4) hx hb dX1_errors_0 (by decide) ?_
  refine mm_newa C S (t := 0) (ty := .int) (atype := .int) rfl rfl (by decide) q135 (fun _ h9 => h9) (fun _ => rfl) (by decide) dX1_errors_1 rfl rfl hk h (fun u1 M2 r3 k H h S hk => ?_)
  refine lv_astore_n (lv' := [(1, .ref u1), (0, .ref a0)]) hx hb dX1_errors_3 rfl hl (by decide) rfl (fun ls hl => ?_)
  refine lv_iconst (v := 0) hx hb dX1_errors_4 (by decide) ?_
  refine lv_istore_n (lv' := [(2, .int 0), (1, .ref u1), (0, .ref a0)]) hx hb dX1_errors_5 rfl hl (by decide) rfl (fun ls hl => ?_)
  obtain ⟨nf, h⟩ := h
  exact j6 nf _ _ _ _ _ _ _ _ _ hk S (lv_sub hl [2, 1, 0] rfl) h
/-! X2_init: level 11 -/
def wp_X2_init (G : mG) (b : Nat) (P : mM → Prop) (M : mM) (a0 : Nat) : Prop :=
  wp_X2_init_2 G 0 (fun M1 => P M1) M a0 0 0 (-1)
set_option maxHeartbeats 4000000 in
set_option maxRecDepth 100000 in
theorem wk_X2_init {l : Launch} (hst0 : l.stackTraces = false) {G : mG} {b : Nat} {P : mM → Prop} {M : mM} {a0 : Nat} (h : wp_X2_init G b P M a0) : mMet l yX2_init (ws_ yX2_init cX2_init 1 (Option.none : Option Jvm.ClassFile.FieldType)) 11 b G [.ref a0] M (mRv P) (fun _ _ _ => False) := by
  refine mm_met hst0 (by decide) (Nat.le_of_ble_eq_true rfl) ?_
  intro p e s m args below meth c ls C hr hnt hnm hl S
  have hl : lv_has ls 1 [(0, .ref a0)] := hl
  generalize mA M s.heap.size = A at C S ⊢
  have hx := C.hx
  have hb := C.hb
  have hk : 0 + b ≤ b := Nat.le_of_eq (Nat.zero_add b)
  unfold wp_X2_init at h
  refine lv_aload_n hx hb dX2_init_0 rfl (lv_at hl 0 rfl) ?_
  refine lv_iconst (v := 0) hx hb dX2_init_1 (by decide) ?_
  refine lv_iconst (v := 0) hx hb dX2_init_2 (by decide) ?_
  refine lv_iconst (v := (-1)) hx hb dX2_init_3 (by decide) ?_
  refine mm_I (As := [.int 0, .int 0, .int (-1)]) (rest := []) C S hl.1 (wk_X2_init_2 hst0 h) q177 q56 q175 q176 rfl pd_X2_init_2 ⟨Nat.le_of_ble_eq_true rfl, Nat.le_of_ble_eq_true rfl⟩ rfl rfl (Nat.le_of_ble_eq_true rfl) dX2_init_4 rfl rfl hk (Nat.zero_add _) (fun v9 M1 H locs hP S hk => ?_) (fun E q ce M9 H9 locs9 hX => hX.elim)
  obtain ⟨rfl, h⟩ := hP
  refine W.eq (g2 := F0 m 7 ls []) rfl ?_
  exact mm_vret C S hr (Nat.le_trans (Nat.le_add_right _ _) hk) dX2_init_7 h
/-! X3_init: level 10 -/
def wp_X3_init (G : mG) (b : Nat) (P : mM → Prop) (M : mM) (a0 : Nat) : Prop :=
  pfi M a0 2 1 2 fun M1 => pfi M1 a0 2 2 1 fun M2 => P M2
set_option maxHeartbeats 4000000 in
set_option maxRecDepth 100000 in
theorem wk_X3_init {l : Launch} (hst0 : l.stackTraces = false) {G : mG} {b : Nat} {P : mM → Prop} {M : mM} {a0 : Nat} (h : wp_X3_init G b P M a0) : mMet l yX3_init (ws_ yX3_init cX3_init 1 (Option.none : Option Jvm.ClassFile.FieldType)) 10 b G [.ref a0] M (mRv P) (fun _ _ _ => False) := by
  refine mm_met hst0 (by decide) (Nat.le_of_ble_eq_true rfl) ?_
  intro p e s m args below meth c ls C hr hnt hnm hl S
  have hl : lv_has ls 1 [(0, .ref a0)] := hl
  generalize mA M s.heap.size = A at C S ⊢
  have hx := C.hx
  have hb := C.hb
  have hk : 0 + b ≤ b := Nat.le_of_eq (Nat.zero_add b)
  unfold wp_X3_init at h
  refine lv_aload_n hx hb dX3_init_0 rfl (lv_at hl 0 rfl) ?_
  refine mm_init C hl.1 q202 q100 q101 dX3_init_1 (Nat.le_of_ble_eq_true rfl) (Nat.le_of_ble_eq_true rfl) ?_
  refine lv_aload_n hx hb dX3_init_4 rfl (lv_at hl 0 rfl) ?_
  refine lv_iconst (v := 2) hx hb dX3_init_5 (by decide) ?_
  refine mm_pfi C S (ci := 2) (k := 1) rfl in_X3 tyX3_ok nmX3 (by decide) q204 (fun _ h9 => h9) rfl dX3_init_6 rfl h (fun M1 H locs h S => ?_)
  refine lv_aload_n hx hb dX3_init_9 rfl (lv_at hl 0 rfl) ?_
  refine lv_iconst (v := 1) hx hb dX3_init_10 (by decide) ?_
  refine mm_pfi C S (ci := 2) (k := 2) rfl in_X3 tyX3_ok nmX3 (by decide) q206 (fun _ h9 => h9) rfl dX3_init_11 rfl h (fun M2 H locs h S => ?_)
  exact mm_vret C S hr (Nat.le_trans (Nat.le_add_right _ _) hk) dX3_init_14 h
/-! X1_init: level 13, alloc -/
def wl_X1_init_203 (G : mG) (P : mM → Prop) (K195 : Nat → mM → Nat → Int32 → Prop) : Nat → Nat → mM → Nat → Int32 → Int32 → Prop
  | 0, _, _, _, _, _ => False
  | n + 1, r, M, a0, x1, x2 => (36 ≤ x2 → K195 r M a0 (x1 + 1)) ∧ (¬ 36 ≤ x2 → gfa M a0 0 10 fun u73 => lda M 8 u73 x1 fun u74 => sti M 0 u74 x2 (-1) fun M75 => gfa M75 a0 0 11 fun u76 => lda M75 8 u76 x1 fun u77 => sti M75 0 u77 x2 (-1) fun M78 => (wl_X1_init_203 G P K195 n) r M78 a0 x1 (x2 + 1))
def wl_X1_init_195 (G : mG) (P : mM → Prop) : Nat → Nat → mM → Nat → Int32 → Prop
  | 0, _, _, _, _ => False
  | n + 1, r, M, a0, x1 => (40 ≤ x1 → P M) ∧ (¬ 40 ≤ x1 → ∃ n203, wl_X1_init_203 G P (wl_X1_init_195 G P n) n203 r M a0 x1 0)
def wl_X1_init_169 (G : mG) (P : mM → Prop) : Nat → Nat → mM → Nat → Int32 → Prop
  | 0, _, _, _, _ => False
  | n + 1, r, M, a0, x1 => (4 ≤ x1 → ∃ n195, wl_X1_init_195 G P n195 r M a0 0) ∧ (¬ 4 ≤ x1 → gfa M a0 0 1 fun u67 => nwo M r 2 3 dfsX3 fun u68 M69 r70 => wp_X3_init G 0 (fun M71 => isc M71 u68 2 ∧ sta M71 7 u67 x1 u68 fun M72 => (wl_X1_init_169 G P n) r70 M72 a0 (x1 + 1)) M69 u68)
def wl_X1_init_142 (G : mG) (P : mM → Prop) : Nat → Nat → mM → Nat → Int32 → Prop
  | 0, _, _, _, _ => False
  | n + 1, r, M, a0, x1 => (36 ≤ x1 → ∃ n169, wl_X1_init_169 G P n169 r M a0 0) ∧ (¬ 36 ≤ x1 → gfa M a0 0 0 fun u61 => nwo M r 1 5 dfsX2 fun u62 M63 r64 => wp_X2_init G 0 (fun M65 => isc M65 u62 1 ∧ sta M65 6 u61 x1 u62 fun M66 => (wl_X1_init_142 G P n) r64 M66 a0 (x1 + 1)) M63 u62)
def wp_X1_init (G : mG) (b : Nat) (P : mM → Prop) (M : mM) (a0 : Nat) : Prop :=
  nwa M b 6 36 (.inr (.inr (.inr (.inr fun _ => none)))) fun u1 M2 r3 => pfq M2 a0 0 0 (some u1) fun M4 => nwa M4 r3 7 4 (.inr (.inr (.inr (.inr fun _ => none)))) fun u5 M6 r7 => pfq M6 a0 0 1 (some u5) fun M8 => nwa M8 r7 0 4 (.inl fun _ => 0) fun u9 M10 r11 => pfq M10 a0 0 2 (some u9) fun M12 => nwa M12 r11 0 4 (.inl fun _ => 0) fun u13 M14 r15 => pfq M14 a0 0 3 (some u13) fun M16 => nwo M16 r15 16 3 dfsJ2 fun u17 M18 r19 => wp_J2_init G 0 (fun M20 => pfq M20 a0 0 4 (some u17) fun M21 => nwo M21 r19 16 3 dfsJ2 fun u22 M23 r24 => wp_J2_init G 0 (fun M25 => pfq M25 a0 0 5 (some u22) fun M26 => nwo M26 r24 16 3 dfsJ2 fun u27 M28 r29 => wp_J2_init G 0 (fun M30 => pfq M30 a0 0 6 (some u27) fun M31 => nwo M31 r29 16 3 dfsJ2 fun u32 M33 r34 => wp_J2_init G 0 (fun M35 => pfq M35 a0 0 7 (some u32) fun M36 => nwm2 M36 r34 8 0 3 4 fun u37 M38 r39 => pfq M38 a0 0 8 (some u37) fun M40 => nwm2 M40 r39 8 0 12 4 fun u41 M42 r43 => pfq M42 a0 0 9 (some u41) fun M44 => nwm2 M44 r43 8 0 40 36 fun u45 M46 r47 => pfq M46 a0 0 10 (some u45) fun M48 => nwm2 M48 r47 8 0 40 36 fun u49 M50 r51 => pfq M50 a0 0 11 (some u49) fun M52 => nwo M52 r51 17 4 dfsJ4 fun u53 M54 r55 => ∃ b57 r58 : Nat, b57 + r58 = r55 ∧ wp_J4_init G b57 (fun M56 => pfq M56 a0 0 12 (some u53) fun M59 => pfi M59 a0 0 14 (-1) fun M60 => ∃ n142, wl_X1_init_142 G P n142 r58 M60 a0 0) M54 u53) M33 u32) M28 u27) M23 u22) M18 u17
set_option maxHeartbeats 4000000 in
set_option maxRecDepth 100000 in
theorem wk_X1_init {l : Launch} (hst0 : l.stackTraces = false) {G : mG} {b : Nat} {P : mM → Prop} {M : mM} {a0 : Nat} (h : wp_X1_init G b P M a0) : mMet l yX1_init (ws_ yX1_init cX1_init 3 (Option.none : Option Jvm.ClassFile.FieldType)) 13 b G [.ref a0] M (mRv P) (fun _ _ _ => False) := by
  refine mm_met hst0 (by decide) (Nat.le_of_ble_eq_true rfl) ?_
  intro p e s m args below meth c ls C hr hnt hnm hl S
  have hl : lv_has ls 3 [(0, .ref a0)] := hl
  generalize mA M s.heap.size = A at C S ⊢
  have hx := C.hx
  have hb := C.hb
  have hk : 0 + b ≤ b := Nat.le_of_eq (Nat.zero_add b)
  have j195 : ∀ (nf : Nat) (k r : Nat) (M : mM) (H : Heap) (locs : List Loc) (ls : Array Slot) (a0 : Nat) (x1 : Int32), k + r ≤ b → mW G A s M H locs → lv_has ls 3 [(0, .ref a0), (1, .int x1)] → wl_X1_init_195 G P nf r M a0 x1 → W p l e (mRm 13 b) s m args below meth c H locs k k (vx_MQ below (mQ G A (mRv P)) (mXC G A (fun _ _ _ => False)) args s b b A) (F0 m 195 ls []) := by
    intro nf
    induction nf with
    | zero =>
      intro k r M H locs ls a0 x1 hk S hl h
      rw [wl_X1_init_195] at h
      exact h.elim
    | succ n195 ih195 =>
      have j203 : ∀ (nf : Nat) (k r : Nat) (M : mM) (H : Heap) (locs : List Loc) (ls : Array Slot) (a0 : Nat) (x1 : Int32) (x2 : Int32), k + r ≤ b → mW G A s M H locs → lv_has ls 3 [(0, .ref a0), (1, .int x1), (2, .int x2)] → wl_X1_init_203 G P (wl_X1_init_195 G P n195) nf r M a0 x1 x2 → W p l e (mRm 13 b) s m args below meth c H locs k k (vx_MQ below (mQ G A (mRv P)) (mXC G A (fun _ _ _ => False)) args s b b A) (F0 m 203 ls []) := by
        intro nf
        induction nf with
        | zero =>
          intro k r M H locs ls a0 x1 x2 hk S hl h
          rw [wl_X1_init_203] at h
          exact h.elim
        | succ n203 ih203 =>
          intro k r M H locs ls a0 x1 x2 hk S hl h
          rw [wl_X1_init_203] at h
          refine lv_iload_n hx hb dX1_init_203 rfl (lv_at hl 2 rfl) ?_
          refine lv_bipush (v := 36) hx hb dX1_init_204 (by decide) ?_
          refine lv_icmp_ge (tgt := 233) hx hb dX1_init_206 (by decide) (fun c9 => ?_) (fun c9 => ?_)
          · have h := h.1 c9
            refine lv_iinc (v := (x1 + 1)) (lv' := [(1, .int (x1 + 1)), (0, .ref a0), (2, .int x2)]) hx hb dX1_init_233 hl (k := 1) rfl rfl (by decide) rfl (fun ls hl => ?_)
            refine lv_goto (tgt := 195) hx hb dX1_init_236 (by decide) ?_
            exact ih195 _ _ _ _ _ _ _ _ hk S (lv_sub hl [1, 0] rfl) h
          · have h := h.2 c9
            refine lv_aload_n hx hb dX1_init_209 rfl (lv_at hl 0 rfl) ?_
            refine mm_gfa C S (ci := 0) (k := 10) rfl in_X1 (by decide) q225 (fun _ h9 => h9) dX1_init_210 h (fun u73 h => ?_)
            refine lv_iload_n hx hb dX1_init_213 rfl (lv_at hl 1 rfl) ?_
            refine mm_aald C S (t := 8) rfl rfl h dX1_init_214 (fun u74 h => ?_)
            refine lv_iload_n hx hb dX1_init_215 rfl (lv_at hl 2 rfl) ?_
            refine lv_iconst (v := (-1)) hx hb dX1_init_216 (by decide) ?_
            refine mm_iast C S h dX1_init_217 (fun M75 H locs h S => ?_)
            refine lv_aload_n hx hb dX1_init_218 rfl (lv_at hl 0 rfl) ?_
            refine mm_gfa C S (ci := 0) (k := 11) rfl in_X1 (by decide) q226 (fun _ h9 => h9) dX1_init_219 h (fun u76 h => ?_)
            refine lv_iload_n hx hb dX1_init_222 rfl (lv_at hl 1 rfl) ?_
            refine mm_aald C S (t := 8) rfl rfl h dX1_init_223 (fun u77 h => ?_)
            refine lv_iload_n hx hb dX1_init_224 rfl (lv_at hl 2 rfl) ?_
            refine lv_iconst (v := (-1)) hx hb dX1_init_225 (by decide) ?_
            refine mm_iast C S h dX1_init_226 (fun M78 H locs h S => ?_)
            refine lv_iinc (v := (x2 + 1)) (lv' := [(2, .int (x2 + 1)), (0, .ref a0), (1, .int x1)]) hx hb dX1_init_227 hl (k := 2) rfl rfl (by decide) rfl (fun ls hl => ?_)
            refine lv_goto (tgt := 203) hx hb dX1_init_230 (by decide) ?_
            exact ih203 _ _ _ _ _ _ _ _ _ hk S (lv_sub hl [1, 2, 0] rfl) h
      intro k r M H locs ls a0 x1 hk S hl h
      rw [wl_X1_init_195] at h
      refine lv_iload_n hx hb dX1_init_195 rfl (lv_at hl 1 rfl) ?_
      refine lv_bipush (v := 40) hx hb dX1_init_196 (by decide) ?_
      refine lv_icmp_ge (tgt := 239) hx hb dX1_init_198 (by decide) (fun c9 => ?_) (fun c9 => ?_)
      · have h := h.1 c9
        exact mm_vret C S hr (Nat.le_trans (Nat.le_add_right _ _) hk) dX1_init_239 h
      · have h := h.2 c9
        refine lv_iconst (v := 0) hx hb dX1_init_201 (by decide) ?_
        refine lv_istore_n (lv' := [(2, .int 0), (0, .ref a0), (1, .int x1)]) hx hb dX1_init_202 rfl hl (by decide) rfl (fun ls hl => ?_)
        obtain ⟨nf, h⟩ := h
        exact j203 nf _ _ _ _ _ _ _ _ _ hk S (lv_sub hl [1, 2, 0] rfl) h
  have j169 : ∀ (nf : Nat) (k r : Nat) (M : mM) (H : Heap) (locs : List Loc) (ls : Array Slot) (a0 : Nat) (x1 : Int32), k + r ≤ b → mW G A s M H locs → lv_has ls 3 [(0, .ref a0), (1, .int x1)] → wl_X1_init_169 G P nf r M a0 x1 → W p l e (mRm 13 b) s m args below meth c H locs k k (vx_MQ below (mQ G A (mRv P)) (mXC G A (fun _ _ _ => False)) args s b b A) (F0 m 169 ls []) := by
    intro nf
    induction nf with
    | zero =>
      intro k r M H locs ls a0 x1 hk S hl h
      rw [wl_X1_init_169] at h
      exact h.elim
    | succ n169 ih169 =>
      intro k r M H locs ls a0 x1 hk S hl h
      rw [wl_X1_init_169] at h
      refine lv_iload_n hx hb dX1_init_169 rfl (lv_at hl 1 rfl) ?_
      refine lv_iconst (v := 4) hx hb dX1_init_170 (by decide) ?_
      refine lv_icmp_ge (tgt := 193) hx hb dX1_init_171 (by decide) (fun c9 => ?_) (fun c9 => ?_)
      · have h := h.1 c9
        refine lv_iconst (v := 0) hx hb dX1_init_193 (by decide) ?_
        refine lv_istore_n (lv' := [(1, .int 0), (0, .ref a0)]) hx hb dX1_init_194 rfl hl (by decide) rfl (fun ls hl => ?_)
        obtain ⟨nf, h⟩ := h
        exact j195 nf _ _ _ _ _ _ _ _ hk S (lv_sub hl [1, 0] rfl) h
      · have h := h.2 c9
        refine lv_aload_n hx hb dX1_init_174 rfl (lv_at hl 0 rfl) ?_
        refine mm_gfa C S (ci := 0) (k := 1) rfl in_X1 (by decide) q216 (fun _ h9 => h9) dX1_init_175 h (fun u67 h => ?_)
        refine lv_iload_n hx hb dX1_init_178 rfl (lv_at hl 1 rfl) ?_
        refine mm_new C S (ci := 2) (T := TX3) rfl in_X3 tyX3_ok q104 q198 q57 dfX3 (by decide) dX1_init_179 rfl rfl hk h (fun u68 M69 r70 H h S hk => ?_)
        refine lv_dup hx hb dX1_init_182 rfl ?_
        refine mm_IN (As := []) (rest := [.ref u68, .int x1, .ref u67]) C S hl.1 (wk_X3_init hst0 h) q201 q57 q199 q200 rfl pd_X3_init ⟨Nat.le_of_ble_eq_true rfl, Nat.le_of_ble_eq_true rfl⟩ rfl rfl (Nat.le_of_ble_eq_true rfl) dX1_init_183 rfl rfl hk (Nat.zero_add _) (fun v9 M71 H locs hP S hk => ?_) (fun E q ce M9 H9 locs9 hX => hX.elim)
        obtain ⟨rfl, h⟩ := hP
        refine W.eq (g2 := F0 m 186 ls [.ref u68, .int x1, .ref u67]) rfl ?_
        refine mm_aastC C S (t := 7) (ci := 2) rfl (by decide) rfl h dX1_init_186 (fun M72 H locs h S => ?_)
        refine lv_iinc (v := (x1 + 1)) (lv' := [(1, .int (x1 + 1)), (0, .ref a0)]) hx hb dX1_init_187 hl (k := 1) rfl rfl (by decide) rfl (fun ls hl => ?_)
        refine lv_goto (tgt := 169) hx hb dX1_init_190 (by decide) ?_
        exact ih169 _ _ _ _ _ _ _ _ hk S (lv_sub hl [1, 0] rfl) h
  have j142 : ∀ (nf : Nat) (k r : Nat) (M : mM) (H : Heap) (locs : List Loc) (ls : Array Slot) (a0 : Nat) (x1 : Int32), k + r ≤ b → mW G A s M H locs → lv_has ls 3 [(0, .ref a0), (1, .int x1)] → wl_X1_init_142 G P nf r M a0 x1 → W p l e (mRm 13 b) s m args below meth c H locs k k (vx_MQ below (mQ G A (mRv P)) (mXC G A (fun _ _ _ => False)) args s b b A) (F0 m 142 ls []) := by
    intro nf
    induction nf with
    | zero =>
      intro k r M H locs ls a0 x1 hk S hl h
      rw [wl_X1_init_142] at h
      exact h.elim
    | succ n142 ih142 =>
      intro k r M H locs ls a0 x1 hk S hl h
      rw [wl_X1_init_142] at h
      refine lv_iload_n hx hb dX1_init_142 rfl (lv_at hl 1 rfl) ?_
      refine lv_bipush (v := 36) hx hb dX1_init_143 (by decide) ?_
      refine lv_icmp_ge (tgt := 167) hx hb dX1_init_145 (by decide) (fun c9 => ?_) (fun c9 => ?_)
      · have h := h.1 c9
        refine lv_iconst (v := 0) hx hb dX1_init_167 (by decide) ?_
        refine lv_istore_n (lv' := [(1, .int 0), (0, .ref a0)]) hx hb dX1_init_168 rfl hl (by decide) rfl (fun ls hl => ?_)
        obtain ⟨nf, h⟩ := h
        exact j169 nf _ _ _ _ _ _ _ _ hk S (lv_sub hl [1, 0] rfl) h
      · have h := h.2 c9
        refine lv_aload_n hx hb dX1_init_148 rfl (lv_at hl 0 rfl) ?_
        refine mm_gfa C S (ci := 0) (k := 0) rfl in_X1 (by decide) q215 (fun _ h9 => h9) dX1_init_149 h (fun u61 h => ?_)
        refine lv_iload_n hx hb dX1_init_152 rfl (lv_at hl 1 rfl) ?_
        refine mm_new C S (ci := 1) (T := TX2) rfl in_X2 tyX2_ok q102 q171 q56 dfX2 (by decide) dX1_init_153 rfl rfl hk h (fun u62 M63 r64 H h S hk => ?_)
        refine lv_dup hx hb dX1_init_156 rfl ?_
        refine mm_I (As := []) (rest := [.ref u62, .int x1, .ref u61]) C S hl.1 (wk_X2_init hst0 h) q174 q56 q172 q173 rfl pd_X2_init ⟨Nat.le_of_ble_eq_true rfl, Nat.le_of_ble_eq_true rfl⟩ rfl rfl (Nat.le_of_ble_eq_true rfl) dX1_init_157 rfl rfl hk (Nat.zero_add _) (fun v9 M65 H locs hP S hk => ?_) (fun E q ce M9 H9 locs9 hX => hX.elim)
        obtain ⟨rfl, h⟩ := hP
        refine W.eq (g2 := F0 m 160 ls [.ref u62, .int x1, .ref u61]) rfl ?_
        refine mm_aastC C S (t := 6) (ci := 1) rfl (by decide) rfl h dX1_init_160 (fun M66 H locs h S => ?_)
        refine lv_iinc (v := (x1 + 1)) (lv' := [(1, .int (x1 + 1)), (0, .ref a0)]) hx hb dX1_init_161 hl (k := 1) rfl rfl (by decide) rfl (fun ls hl => ?_)
        refine lv_goto (tgt := 142) hx hb dX1_init_164 (by decide) ?_
        exact ih142 _ _ _ _ _ _ _ _ hk S (lv_sub hl [1, 0] rfl) h
  unfold wp_X1_init at h
  refine lv_aload_n hx hb dX1_init_0 rfl (lv_at hl 0 rfl) ?_
  refine mm_init C hl.1 q99 q100 q101 dX1_init_1 (Nat.le_of_ble_eq_true rfl) (Nat.le_of_ble_eq_true rfl) ?_
  refine lv_aload_n hx hb dX1_init_4 rfl (lv_at hl 0 rfl) ?_
  refine lv_bipush (v := 36) hx hb dX1_init_5 (by decide) ?_
  refine mm_anew C S (t := 6) rfl (by decide) q102 (by decide) dX1_init_7 rfl rfl hk h (fun u1 M2 r3 k H h S hk => ?_)
  refine mm_pfqF C S (ci := 0) (k := 0) (v := (some u1)) rfl in_X1 tyX1_ok nmX1 (by decide) q215 (fun _ h9 => h9) rfl (hnm.trans rfl) rfl dX1_init_10 rfl h (fun M4 H locs h S => ?_)
  refine lv_aload_n hx hb dX1_init_13 rfl (lv_at hl 0 rfl) ?_
  refine lv_iconst (v := 4) hx hb dX1_init_14 (by decide) ?_
  refine mm_anew C S (t := 7) rfl (by decide) q104 (by decide) dX1_init_15 rfl rfl hk h (fun u5 M6 r7 k H h S hk => ?_)
  refine mm_pfqF C S (ci := 0) (k := 1) (v := (some u5)) rfl in_X1 tyX1_ok nmX1 (by decide) q216 (fun _ h9 => h9) rfl (hnm.trans rfl) rfl dX1_init_18 rfl h (fun M8 H locs h S => ?_)
  refine lv_aload_n hx hb dX1_init_21 rfl (lv_at hl 0 rfl) ?_
  refine lv_iconst (v := 4) hx hb dX1_init_22 (by decide) ?_
  refine mm_newa C S (t := 0) (ty := .int) (atype := .int) rfl rfl (by decide) q135 (fun _ h9 => h9) (fun _ => rfl) (by decide) dX1_init_23 rfl rfl hk h (fun u9 M10 r11 k H h S hk => ?_)
  refine mm_pfqF C S (ci := 0) (k := 2) (v := (some u9)) rfl in_X1 tyX1_ok nmX1 (by decide) q217 (fun _ h9 => h9) rfl (hnm.trans rfl) rfl dX1_init_25 rfl h (fun M12 H locs h S => ?_)
  refine lv_aload_n hx hb dX1_init_28 rfl (lv_at hl 0 rfl) ?_
  refine lv_iconst (v := 4) hx hb dX1_init_29 (by decide) ?_
  refine mm_newa C S (t := 0) (ty := .int) (atype := .int) rfl rfl (by decide) q135 (fun _ h9 => h9) (fun _ => rfl) (by decide) dX1_init_30 rfl rfl hk h (fun u13 M14 r15 k H h S hk => ?_)
  refine mm_pfqF C S (ci := 0) (k := 3) (v := (some u13)) rfl in_X1 tyX1_ok nmX1 (by decide) q218 (fun _ h9 => h9) rfl (hnm.trans rfl) rfl dX1_init_32 rfl h (fun M16 H locs h S => ?_)
  refine lv_aload_n hx hb dX1_init_35 rfl (lv_at hl 0 rfl) ?_
  refine mm_new C S (ci := 16) (T := TJ2) rfl in_J2 tyJ2_ok q106 q107 q51 dfJ2 (by decide) dX1_init_36 rfl rfl hk h (fun u17 M18 r19 H h S hk => ?_)
  refine lv_dup hx hb dX1_init_39 rfl ?_
  refine mm_I (As := []) (rest := [.ref u17, .ref a0]) C S hl.1 (wk_J2_init hst0 h) q110 q51 q108 q109 rfl pd_J2_init ⟨Nat.le_of_ble_eq_true rfl, Nat.le_of_ble_eq_true rfl⟩ rfl rfl (Nat.le_of_ble_eq_true rfl) dX1_init_40 rfl rfl hk (Nat.zero_add _) (fun v9 M20 H locs hP S hk => ?_) (fun E q ce M9 H9 locs9 hX => hX.elim)
  obtain ⟨rfl, h⟩ := hP
  refine W.eq (g2 := F0 m 43 ls [.ref u17, .ref a0]) rfl ?_
  refine mm_pfqF C S (ci := 0) (k := 4) (v := (some u17)) rfl in_X1 tyX1_ok nmX1 (by decide) q219 (fun _ h9 => h9) rfl (hnm.trans rfl) rfl dX1_init_43 rfl h (fun M21 H locs h S => ?_)
  refine lv_aload_n hx hb dX1_init_46 rfl (lv_at hl 0 rfl) ?_
  refine mm_new C S (ci := 16) (T := TJ2) rfl in_J2 tyJ2_ok q106 q107 q51 dfJ2 (by decide) dX1_init_47 rfl rfl hk h (fun u22 M23 r24 H h S hk => ?_)
  refine lv_dup hx hb dX1_init_50 rfl ?_
  refine mm_I (As := []) (rest := [.ref u22, .ref a0]) C S hl.1 (wk_J2_init hst0 h) q110 q51 q108 q109 rfl pd_J2_init ⟨Nat.le_of_ble_eq_true rfl, Nat.le_of_ble_eq_true rfl⟩ rfl rfl (Nat.le_of_ble_eq_true rfl) dX1_init_51 rfl rfl hk (Nat.zero_add _) (fun v9 M25 H locs hP S hk => ?_) (fun E q ce M9 H9 locs9 hX => hX.elim)
  obtain ⟨rfl, h⟩ := hP
  refine W.eq (g2 := F0 m 54 ls [.ref u22, .ref a0]) rfl ?_
  refine mm_pfqF C S (ci := 0) (k := 5) (v := (some u22)) rfl in_X1 tyX1_ok nmX1 (by decide) q220 (fun _ h9 => h9) rfl (hnm.trans rfl) rfl dX1_init_54 rfl h (fun M26 H locs h S => ?_)
  refine lv_aload_n hx hb dX1_init_57 rfl (lv_at hl 0 rfl) ?_
  refine mm_new C S (ci := 16) (T := TJ2) rfl in_J2 tyJ2_ok q106 q107 q51 dfJ2 (by decide) dX1_init_58 rfl rfl hk h (fun u27 M28 r29 H h S hk => ?_)
  refine lv_dup hx hb dX1_init_61 rfl ?_
  refine mm_I (As := []) (rest := [.ref u27, .ref a0]) C S hl.1 (wk_J2_init hst0 h) q110 q51 q108 q109 rfl pd_J2_init ⟨Nat.le_of_ble_eq_true rfl, Nat.le_of_ble_eq_true rfl⟩ rfl rfl (Nat.le_of_ble_eq_true rfl) dX1_init_62 rfl rfl hk (Nat.zero_add _) (fun v9 M30 H locs hP S hk => ?_) (fun E q ce M9 H9 locs9 hX => hX.elim)
  obtain ⟨rfl, h⟩ := hP
  refine W.eq (g2 := F0 m 65 ls [.ref u27, .ref a0]) rfl ?_
  refine mm_pfqF C S (ci := 0) (k := 6) (v := (some u27)) rfl in_X1 tyX1_ok nmX1 (by decide) q221 (fun _ h9 => h9) rfl (hnm.trans rfl) rfl dX1_init_65 rfl h (fun M31 H locs h S => ?_)
  refine lv_aload_n hx hb dX1_init_68 rfl (lv_at hl 0 rfl) ?_
  refine mm_new C S (ci := 16) (T := TJ2) rfl in_J2 tyJ2_ok q106 q107 q51 dfJ2 (by decide) dX1_init_69 rfl rfl hk h (fun u32 M33 r34 H h S hk => ?_)
  refine lv_dup hx hb dX1_init_72 rfl ?_
  refine mm_I (As := []) (rest := [.ref u32, .ref a0]) C S hl.1 (wk_J2_init hst0 h) q110 q51 q108 q109 rfl pd_J2_init ⟨Nat.le_of_ble_eq_true rfl, Nat.le_of_ble_eq_true rfl⟩ rfl rfl (Nat.le_of_ble_eq_true rfl) dX1_init_73 rfl rfl hk (Nat.zero_add _) (fun v9 M35 H locs hP S hk => ?_) (fun E q ce M9 H9 locs9 hX => hX.elim)
  obtain ⟨rfl, h⟩ := hP
  refine W.eq (g2 := F0 m 76 ls [.ref u32, .ref a0]) rfl ?_
  refine mm_pfqF C S (ci := 0) (k := 7) (v := (some u32)) rfl in_X1 tyX1_ok nmX1 (by decide) q222 (fun _ h9 => h9) rfl (hnm.trans rfl) rfl dX1_init_76 rfl h (fun M36 H locs h S => ?_)
  refine lv_aload_n hx hb dX1_init_79 rfl (lv_at hl 0 rfl) ?_
  refine lv_iconst (v := 3) hx hb dX1_init_80 (by decide) ?_
  refine lv_iconst (v := 4) hx hb dX1_init_81 (by decide) ?_
  refine mm_mnew2 C S (t0 := 8) (t1 := 0) (ty := .int) rfl (by decide) rfl (by decide) (fun _ h9 => h9) q135 rfl rfl (by decide) q136 rfl dX1_init_82 rfl rfl hk h (fun u37 M38 r39 k H h S hk => ?_)
  refine mm_pfqF C S (ci := 0) (k := 8) (v := (some u37)) rfl in_X1 tyX1_ok nmX1 (by decide) q223 (fun _ h9 => h9) rfl (hnm.trans rfl) rfl dX1_init_86 rfl h (fun M40 H locs h S => ?_)
  refine lv_aload_n hx hb dX1_init_89 rfl (lv_at hl 0 rfl) ?_
  refine lv_bipush (v := 12) hx hb dX1_init_90 (by decide) ?_
  refine lv_iconst (v := 4) hx hb dX1_init_92 (by decide) ?_
  refine mm_mnew2 C S (t0 := 8) (t1 := 0) (ty := .int) rfl (by decide) rfl (by decide) (fun _ h9 => h9) q135 rfl rfl (by decide) q136 rfl dX1_init_93 rfl rfl hk h (fun u41 M42 r43 k H h S hk => ?_)
  refine mm_pfqF C S (ci := 0) (k := 9) (v := (some u41)) rfl in_X1 tyX1_ok nmX1 (by decide) q224 (fun _ h9 => h9) rfl (hnm.trans rfl) rfl dX1_init_97 rfl h (fun M44 H locs h S => ?_)
  refine lv_aload_n hx hb dX1_init_100 rfl (lv_at hl 0 rfl) ?_
  refine lv_bipush (v := 40) hx hb dX1_init_101 (by decide) ?_
  refine lv_bipush (v := 36) hx hb dX1_init_103 (by decide) ?_
  refine mm_mnew2 C S (t0 := 8) (t1 := 0) (ty := .int) rfl (by decide) rfl (by decide) (fun _ h9 => h9) q135 rfl rfl (by decide) q136 rfl dX1_init_105 rfl rfl hk h (fun u45 M46 r47 k H h S hk => ?_)
  refine mm_pfqF C S (ci := 0) (k := 10) (v := (some u45)) rfl in_X1 tyX1_ok nmX1 (by decide) q225 (fun _ h9 => h9) rfl (hnm.trans rfl) rfl dX1_init_109 rfl h (fun M48 H locs h S => ?_)
  refine lv_aload_n hx hb dX1_init_112 rfl (lv_at hl 0 rfl) ?_
  refine lv_bipush (v := 40) hx hb dX1_init_113 (by decide) ?_
  refine lv_bipush (v := 36) hx hb dX1_init_115 (by decide) ?_
  refine mm_mnew2 C S (t0 := 8) (t1 := 0) (ty := .int) rfl (by decide) rfl (by decide) (fun _ h9 => h9) q135 rfl rfl (by decide) q136 rfl dX1_init_117 rfl rfl hk h (fun u49 M50 r51 k H h S hk => ?_)
  refine mm_pfqF C S (ci := 0) (k := 11) (v := (some u49)) rfl in_X1 tyX1_ok nmX1 (by decide) q226 (fun _ h9 => h9) rfl (hnm.trans rfl) rfl dX1_init_121 rfl h (fun M52 H locs h S => ?_)
  refine lv_aload_n hx hb dX1_init_124 rfl (lv_at hl 0 rfl) ?_
  refine mm_new C S (ci := 17) (T := TJ4) rfl in_J4 tyJ4_ok q138 q139 q53 dfJ4 (by decide) dX1_init_125 rfl rfl hk h (fun u53 M54 r55 H h S hk => ?_)
  refine lv_dup hx hb dX1_init_128 rfl ?_
  obtain ⟨b57, r58, hb9, h⟩ := h
  refine mm_I (As := []) (rest := [.ref u53, .ref a0]) C S hl.1 (wk_J4_init hst0 h) q142 q53 q140 q141 rfl pd_J4_init ⟨Nat.le_of_ble_eq_true rfl, Nat.le_of_ble_eq_true rfl⟩ rfl rfl (Nat.le_of_ble_eq_true rfl) dX1_init_129 rfl rfl hk hb9 (fun v9 M56 H locs hP S hk => ?_) (fun E q ce M9 H9 locs9 hX => hX.elim)
  obtain ⟨rfl, h⟩ := hP
  refine W.eq (g2 := F0 m 132 ls [.ref u53, .ref a0]) rfl ?_
  refine mm_pfqF C S (ci := 0) (k := 12) (v := (some u53)) rfl in_X1 tyX1_ok nmX1 (by decide) q227 (fun _ h9 => h9) rfl (hnm.trans rfl) rfl dX1_init_132 rfl h (fun M59 H locs h S => ?_)
  refine lv_aload_n hx hb dX1_init_135 rfl (lv_at hl 0 rfl) ?_
  refine lv_iconst (v := (-1)) hx hb dX1_init_136 (by decide) ?_
  refine mm_pfi C S (ci := 0) (k := 14) rfl in_X1 tyX1_ok nmX1 (by decide) q229 (fun _ h9 => h9) rfl dX1_init_137 rfl h (fun M60 H locs h S => ?_)
  refine lv_iconst (v := 0) hx hb dX1_init_140 (by decide) ?_
  refine lv_istore_n (lv' := [(1, .int 0), (0, .ref a0)]) hx hb dX1_init_141 rfl hl (by decide) rfl (fun ls hl => ?_)
  obtain ⟨nf, h⟩ := h
  exact j142 nf _ _ _ _ _ _ _ _ hk S (lv_sub hl [1, 0] rfl) h
/-! X1_meanDoubt: level 12 -/
def wl_X1_meanDoubt_13 (G : mG) (P : UInt64 → mM → Prop) (K4 : Nat → mM → Nat → Int64 → Int32 → Prop) : Nat → Nat → mM → Nat → Int64 → Int32 → Int32 → Prop
  | 0, _, _, _, _, _, _ => False
  | n + 1, r, M, a0, y1, x3, x4 => (4 ≤ x4 → K4 r M a0 y1 (x3 + 1)) ∧ (¬ 4 ≤ x4 → isc M a0 0 ∧ (wp_X1_doubt G 0 (fun v2 M1 => (wl_X1_meanDoubt_13 G P K4 n) r M1 a0 (y1 + v2.toInt64) x3 (x4 + 1)) M a0 x3 x4))
def wl_X1_meanDoubt_4 (G : mG) (P : UInt64 → mM → Prop) : Nat → Nat → mM → Nat → Int64 → Int32 → Prop
  | 0, _, _, _, _, _ => False
  | n + 1, r, M, a0, y1, x3 => (36 ≤ x3 → vf_n64 (FP.ddiv (FP.l2d y1) (4639270566145032192 : UInt64)) ∧ (P (FP.ddiv (FP.l2d y1) (4639270566145032192 : UInt64)) M)) ∧ (¬ 36 ≤ x3 → ∃ n13, wl_X1_meanDoubt_13 G P (wl_X1_meanDoubt_4 G P n) n13 r M a0 y1 x3 0)
def wp_X1_meanDoubt (G : mG) (b : Nat) (P : UInt64 → mM → Prop) (M : mM) (a0 : Nat) : Prop :=
  ∃ n4, wl_X1_meanDoubt_4 G P n4 b M a0 0 0
set_option maxHeartbeats 4000000 in
set_option maxRecDepth 100000 in
theorem wk_X1_meanDoubt {l : Launch} (hst0 : l.stackTraces = false) {G : mG} {b : Nat} {P : UInt64 → mM → Prop} {M : mM} {a0 : Nat} (h : wp_X1_meanDoubt G b P M a0) : mMet l yX1_meanDoubt (ws_ yX1_meanDoubt cX1_meanDoubt 5 (Option.some Jvm.ClassFile.FieldType.double)) 12 b G [.ref a0] M (mRd P) (fun _ _ _ => False) := by
  refine mm_met hst0 (by decide) (Nat.le_of_ble_eq_true rfl) ?_
  intro p e s m args below meth c ls C hr hnt hnm hl S
  have hl : lv_has ls 5 [(0, .ref a0)] := hl
  generalize mA M s.heap.size = A at C S ⊢
  have hx := C.hx
  have hb := C.hb
  have hk : 0 + b ≤ b := Nat.le_of_eq (Nat.zero_add b)
  have j4 : ∀ (nf : Nat) (k r : Nat) (M : mM) (H : Heap) (locs : List Loc) (ls : Array Slot) (a0 : Nat) (y1 : Int64) (x3 : Int32), k + r ≤ b → mW G A s M H locs → lv_has ls 5 [(0, .ref a0), (1, .long y1), (3, .int x3)] → wl_X1_meanDoubt_4 G P nf r M a0 y1 x3 → W p l e (mRm 12 b) s m args below meth c H locs k k (vx_MQ below (mQ G A (mRd P)) (mXC G A (fun _ _ _ => False)) args s b b A) (F0 m 4 ls []) := by
    intro nf
    induction nf with
    | zero =>
      intro k r M H locs ls a0 y1 x3 hk S hl h
      rw [wl_X1_meanDoubt_4] at h
      exact h.elim
    | succ n4 ih4 =>
      have j13 : ∀ (nf : Nat) (k r : Nat) (M : mM) (H : Heap) (locs : List Loc) (ls : Array Slot) (a0 : Nat) (y1 : Int64) (x3 : Int32) (x4 : Int32), k + r ≤ b → mW G A s M H locs → lv_has ls 5 [(0, .ref a0), (1, .long y1), (3, .int x3), (4, .int x4)] → wl_X1_meanDoubt_13 G P (wl_X1_meanDoubt_4 G P n4) nf r M a0 y1 x3 x4 → W p l e (mRm 12 b) s m args below meth c H locs k k (vx_MQ below (mQ G A (mRd P)) (mXC G A (fun _ _ _ => False)) args s b b A) (F0 m 13 ls []) := by
        intro nf
        induction nf with
        | zero =>
          intro k r M H locs ls a0 y1 x3 x4 hk S hl h
          rw [wl_X1_meanDoubt_13] at h
          exact h.elim
        | succ n13 ih13 =>
          intro k r M H locs ls a0 y1 x3 x4 hk S hl h
          rw [wl_X1_meanDoubt_13] at h
          refine lv_iload hx hb dX1_meanDoubt_13 (lv_at hl 3 rfl) ?_
          refine lv_iconst (v := 4) hx hb dX1_meanDoubt_15 (by decide) ?_
          refine lv_icmp_ge (tgt := 36) hx hb dX1_meanDoubt_16 (by decide) (fun c9 => ?_) (fun c9 => ?_)
          · have h := h.1 c9
            refine lv_iinc (v := (x3 + 1)) (lv' := [(3, .int (x3 + 1)), (0, .ref a0), (1, .long y1), (4, .int x4)]) hx hb dX1_meanDoubt_36 hl (k := 2) rfl rfl (by decide) rfl (fun ls hl => ?_)
            refine lv_goto (tgt := 4) hx hb dX1_meanDoubt_39 (by decide) ?_
            exact ih4 _ _ _ _ _ _ _ _ _ hk S (lv_sub hl [1, 2, 0] rfl) h
          · have h := h.2 c9
            refine lv_lload_n hx hb dX1_meanDoubt_19 rfl (lv_at hl 1 rfl) ?_
            refine lv_aload_n hx hb dX1_meanDoubt_20 rfl (lv_at hl 0 rfl) ?_
            refine lv_iload_n hx hb dX1_meanDoubt_21 rfl (lv_at hl 2 rfl) ?_
            refine lv_iload hx hb dX1_meanDoubt_22 (lv_at hl 3 rfl) ?_
            obtain ⟨hI, h⟩ := h
            refine mm_V (As := [.int x3, .int x4]) (rest := [.long y1]) C S hl.1 (wk_X1_doubt hst0 h) (T := TX1) rfl hI (lw_V q333 q335 qs1 q48 q336) rfl pd_X1_doubt ⟨Nat.le_of_ble_eq_true rfl, Nat.le_of_ble_eq_true rfl⟩ rfl rfl (Nat.le_of_ble_eq_true rfl) dX1_meanDoubt_24 rfl rfl hk (Nat.zero_add _) (fun v9 M1 H locs hP S hk => ?_) (fun E q ce M9 H9 locs9 hX => hX.elim)
            obtain ⟨v2, rfl, h⟩ := hP
            refine W.eq (g2 := F0 m 27 ls [.int v2, .long y1]) rfl ?_
            refine lv_i2l hx hb dX1_meanDoubt_27 rfl ?_
            refine lv_ladd hx hb dX1_meanDoubt_28 ?_
            refine lv_lstore_n (lv' := [(1, .long (y1 + v2.toInt64)), (0, .ref a0), (3, .int x3), (4, .int x4)]) hx hb dX1_meanDoubt_29 rfl hl (by decide) rfl (fun ls hl => ?_)
            refine lv_iinc (v := (x4 + 1)) (lv' := [(4, .int (x4 + 1)), (1, .long (y1 + v2.toInt64)), (0, .ref a0), (3, .int x3)]) hx hb dX1_meanDoubt_30 hl (k := 3) rfl rfl (by decide) rfl (fun ls hl => ?_)
            refine lv_goto (tgt := 13) hx hb dX1_meanDoubt_33 (by decide) ?_
            exact ih13 _ _ _ _ _ _ _ _ _ _ hk S (lv_sub hl [2, 1, 3, 0] rfl) h
      intro k r M H locs ls a0 y1 x3 hk S hl h
      rw [wl_X1_meanDoubt_4] at h
      refine lv_iload_n hx hb dX1_meanDoubt_4 rfl (lv_at hl 2 rfl) ?_
      refine lv_bipush (v := 36) hx hb dX1_meanDoubt_5 (by decide) ?_
      refine lv_icmp_ge (tgt := 42) hx hb dX1_meanDoubt_7 (by decide) (fun c9 => ?_) (fun c9 => ?_)
      · have h := h.1 c9
        refine lv_lload_n hx hb dX1_meanDoubt_42 rfl (lv_at hl 1 rfl) ?_
        refine lv_l2d hx hb dX1_meanDoubt_43 ?_
        refine lv_ldc2d hx hb C.hown (C.ts _ q414) dX1_meanDoubt_44 ?_
        refine lv_ddiv hx hb dX1_meanDoubt_47 h.1 ?_
        have h := h.2
        exact mm_dret C S hr (Nat.le_trans (Nat.le_add_right _ _) hk) dX1_meanDoubt_48 h
      · have h := h.2 c9
        refine lv_iconst (v := 0) hx hb dX1_meanDoubt_10 (by decide) ?_
        refine lv_istore (lv' := [(4, .int 0), (0, .ref a0), (1, .long y1), (3, .int x3)]) hx hb dX1_meanDoubt_11 hl (by decide) rfl (fun ls hl => ?_)
        obtain ⟨nf, h⟩ := h
        exact j13 nf _ _ _ _ _ _ _ _ _ _ hk S (lv_sub hl [1, 2, 3, 0] rfl) h
  unfold wp_X1_meanDoubt at h
  refine lv_lconst (v := 0) hx hb dX1_meanDoubt_0 (by decide) ?_
  refine lv_lstore_n (lv' := [(1, .long 0), (0, .ref a0)]) hx hb dX1_meanDoubt_1 rfl hl (by decide) rfl (fun ls hl => ?_)
  refine lv_iconst (v := 0) hx hb dX1_meanDoubt_2 (by decide) ?_
  refine lv_istore_n (lv' := [(3, .int 0), (1, .long 0), (0, .ref a0)]) hx hb dX1_meanDoubt_3 rfl hl (by decide) rfl (fun ls hl => ?_)
  obtain ⟨nf, h⟩ := h
  exact j4 nf _ _ _ _ _ _ _ _ _ hk S (lv_sub hl [2, 1, 0] rfl) h
/-! X1_nextRoute: level 13 -/
def wb_X1_nextRoute_56 (G : mG) (P : Int32 → mM → Prop) (K9 : Nat → mM → Nat → Int32 → Int64 → Int32 → Prop) (r : Nat) (M : mM) (a0 : Nat) (y2 : Int64) (x4 : Int32) (y5 : Int64) (s0 : Int32) : Prop :=
  ∀ g9 : Int64, g9 = (if y5 < y2 then y2 else y5) → K9 r M a0 s0 g9 (x4 + 1)
def wl_X1_nextRoute_9 (G : mG) (P : Int32 → mM → Prop) : Nat → Nat → mM → Nat → Int32 → Int64 → Int32 → Prop
  | 0, _, _, _, _, _, _ => False
  | n + 1, r, M, a0, x1, y2, x4 => gfa M a0 0 5 fun u1 => isc M u1 16 ∧ (wp_J2_size G 0 (fun v3 M2 => (v3 ≤ x4 → P x1 M2) ∧ (¬ v3 ≤ x4 → gfa M2 a0 0 5 fun u4 => isc M2 u4 16 ∧ (wp_J2_get G 0 (fun u6 M5 => isc M5 u6 11 ∧ (isc M5 a0 0 ∧ (wp_X1_worthOf G 0 (fun g8 M7 => ((lg_cmp g8 y2) ≤ 0 → wb_X1_nextRoute_56 G P (wl_X1_nextRoute_9 G P n) r M7 a0 y2 x4 g8 x1) ∧ (¬ (lg_cmp g8 y2) ≤ 0 → wb_X1_nextRoute_56 G P (wl_X1_nextRoute_9 G P n) r M7 a0 y2 x4 g8 x4)) M5 a0 u6))) M2 u4 x4))) M u1)
def wp_X1_nextRoute (G : mG) (b : Nat) (P : Int32 → mM → Prop) (M : mM) (a0 : Nat) : Prop :=
  ∃ n9, wl_X1_nextRoute_9 G P n9 b M a0 (-1) (-1) 0
set_option maxHeartbeats 4000000 in
set_option maxRecDepth 100000 in
theorem wk_X1_nextRoute {l : Launch} (hst0 : l.stackTraces = false) {G : mG} {b : Nat} {P : Int32 → mM → Prop} {M : mM} {a0 : Nat} (h : wp_X1_nextRoute G b P M a0) : mMet l yX1_nextRoute (ws_ yX1_nextRoute cX1_nextRoute 7 (Option.some Jvm.ClassFile.FieldType.int)) 13 b G [.ref a0] M (mRi P) (fun _ _ _ => False) := by
  refine mm_met hst0 (by decide) (Nat.le_of_ble_eq_true rfl) ?_
  intro p e s m args below meth c ls C hr hnt hnm hl S
  have hl : lv_has ls 7 [(0, .ref a0)] := hl
  generalize mA M s.heap.size = A at C S ⊢
  have hx := C.hx
  have hb := C.hb
  have hk : 0 + b ≤ b := Nat.le_of_eq (Nat.zero_add b)
  have j9 : ∀ (nf : Nat) (k r : Nat) (M : mM) (H : Heap) (locs : List Loc) (ls : Array Slot) (a0 : Nat) (x1 : Int32) (y2 : Int64) (x4 : Int32), k + r ≤ b → mW G A s M H locs → lv_has ls 7 [(0, .ref a0), (1, .int x1), (2, .long y2), (4, .int x4)] → wl_X1_nextRoute_9 G P nf r M a0 x1 y2 x4 → W p l e (mRm 13 b) s m args below meth c H locs k k (vx_MQ below (mQ G A (mRi P)) (mXC G A (fun _ _ _ => False)) args s b b A) (F0 m 9 ls []) := by
    intro nf
    induction nf with
    | zero =>
      intro k r M H locs ls a0 x1 y2 x4 hk S hl h
      rw [wl_X1_nextRoute_9] at h
      exact h.elim
    | succ n9 ih9 =>
      have j56 : ∀ (k r : Nat) (M : mM) (H : Heap) (locs : List Loc) (ls : Array Slot) (a0 : Nat) (y2 : Int64) (x4 : Int32) (y5 : Int64) (s0 : Int32), k + r ≤ b → mW G A s M H locs → lv_has ls 7 [(0, .ref a0), (2, .long y2), (4, .int x4), (5, .long y5)] → wb_X1_nextRoute_56 G P (wl_X1_nextRoute_9 G P n9) r M a0 y2 x4 y5 s0 → W p l e (mRm 13 b) s m args below meth c H locs k k (vx_MQ below (mQ G A (mRi P)) (mXC G A (fun _ _ _ => False)) args s b b A) (F0 m 56 ls [.int s0]) := by
        intro k r M H locs ls a0 y2 x4 y5 s0 hk S hl h
        unfold wb_X1_nextRoute_56 at h
        refine lv_istore_n (lv' := [(1, .int s0), (0, .ref a0), (2, .long y2), (4, .int x4), (5, .long y5)]) hx hb dX1_nextRoute_56 rfl hl (by decide) rfl (fun ls hl => ?_)
        refine lv_lload_n hx hb dX1_nextRoute_57 rfl (lv_at hl 2 rfl) ?_
        refine lv_lload hx hb dX1_nextRoute_58 (lv_at hl 4 rfl) ?_
        refine mm_maxl C hl.1 q342 q343 q68 q344 (Nat.le_of_ble_eq_true rfl) (Nat.le_of_ble_eq_true rfl) (Nat.le_trans (Nat.le_add_right _ _) hk) (Nat.le_trans (Nat.le_add_right _ _) hk) dX1_nextRoute_60 ?_
        refine lv_topl (fun g9 eg9 => ?_)
        have h := h g9 eg9
        refine lv_lstore_n (lv' := [(2, .long g9), (1, .int s0), (0, .ref a0), (4, .int x4), (5, .long y5)]) hx hb dX1_nextRoute_63 rfl hl (by decide) rfl (fun ls hl => ?_)
        refine lv_iinc (v := (x4 + 1)) (lv' := [(4, .int (x4 + 1)), (2, .long g9), (1, .int s0), (0, .ref a0), (5, .long y5)]) hx hb dX1_nextRoute_64 hl (k := 3) rfl rfl (by decide) rfl (fun ls hl => ?_)
        refine lv_goto (tgt := 9) hx hb dX1_nextRoute_67 (by decide) ?_
        exact ih9 _ _ _ _ _ _ _ _ _ _ hk S (lv_sub hl [3, 2, 1, 0] rfl) h
      intro k r M H locs ls a0 x1 y2 x4 hk S hl h
      rw [wl_X1_nextRoute_9] at h
      refine lv_iload hx hb dX1_nextRoute_9 (lv_at hl 3 rfl) ?_
      refine lv_aload_n hx hb dX1_nextRoute_11 rfl (lv_at hl 0 rfl) ?_
      refine mm_gfa C S (ci := 0) (k := 5) rfl in_X1 (by decide) q220 (fun _ h9 => h9) dX1_nextRoute_12 h (fun u1 h => ?_)
      obtain ⟨hI, h⟩ := h
      refine mm_F (As := []) (rest := [.int x4]) C S hl.1 (x := ⟨"java/util/List", "size", "()I"⟩) (wk_J2_size hst0 h) (T := TJ2) rfl hI (mWsF q284 q288 q290 q51 (lw_meth q292)) (by decide +kernel) pdi_2 ⟨Nat.le_of_ble_eq_true rfl, Nat.le_of_ble_eq_true rfl⟩ rfl rfl (Nat.le_of_ble_eq_true rfl) dX1_nextRoute_15 rfl rfl hk (Nat.zero_add _) (fun v9 M2 H locs hP S hk => ?_) (fun E q ce M9 H9 locs9 hX => hX.elim)
      obtain ⟨v3, rfl, h⟩ := hP
      refine W.eq (g2 := F0 m 20 ls [.int v3, .int x4]) rfl ?_
      refine lv_icmp_ge (tgt := 70) hx hb dX1_nextRoute_20 (by decide) (fun c9 => ?_) (fun c9 => ?_)
      · have h := h.1 c9
        refine lv_iload_n hx hb dX1_nextRoute_70 rfl (lv_at hl 1 rfl) ?_
        exact mm_iret C S hr (Nat.le_trans (Nat.le_add_right _ _) hk) dX1_nextRoute_71 h
      · have h := h.2 c9
        refine lv_aload_n hx hb dX1_nextRoute_23 rfl (lv_at hl 0 rfl) ?_
        refine lv_aload_n hx hb dX1_nextRoute_24 rfl (lv_at hl 0 rfl) ?_
        refine mm_gfa C S (ci := 0) (k := 5) rfl in_X1 (by decide) q220 (fun _ h9 => h9) dX1_nextRoute_25 h (fun u4 h => ?_)
        refine lv_iload hx hb dX1_nextRoute_28 (lv_at hl 3 rfl) ?_
        obtain ⟨hI, h⟩ := h
        refine mm_F (As := [.int x4]) (rest := [.ref a0]) C S hl.1 (x := ⟨"java/util/List", "get", "(I)Ljava/lang/Object;"⟩) (wk_J2_get hst0 h) (T := TJ2) rfl hI (mWsF q294 q297 q299 q51 (lw_meth q301)) (by decide +kernel) pdi_4 ⟨Nat.le_of_ble_eq_true rfl, Nat.le_of_ble_eq_true rfl⟩ rfl rfl (Nat.le_of_ble_eq_true rfl) dX1_nextRoute_30 rfl rfl hk (Nat.zero_add _) (fun v9 M5 H locs hP S hk => ?_) (fun E q ce M9 H9 locs9 hX => hX.elim)
        obtain ⟨u6, rfl, h⟩ := hP
        refine W.eq (g2 := F0 m 35 ls [.ref u6, .ref a0]) rfl ?_
        refine mm_castS C S (ci := 11) (T := TX14) rfl rfl q312 h.1 dX1_nextRoute_35 ?_
        have h := h.2
        obtain ⟨hI, h⟩ := h
        refine mm_V (As := [.ref u6]) (rest := []) C S hl.1 (wk_X1_worthOf hst0 h) (T := TX1) rfl hI (lw_V q313 q315 qs0 q48 q316) rfl pd_X1_worthOf ⟨Nat.le_of_ble_eq_true rfl, Nat.le_of_ble_eq_true rfl⟩ rfl rfl (Nat.le_of_ble_eq_true rfl) dX1_nextRoute_38 rfl rfl hk (Nat.zero_add _) (fun v9 M7 H locs hP S hk => ?_) (fun E q ce M9 H9 locs9 hX => hX.elim)
        obtain ⟨g8, rfl, h⟩ := hP
        refine W.eq (g2 := F0 m 41 ls [.long g8]) rfl ?_
        refine lv_lstore (lv' := [(5, .long g8), (0, .ref a0), (1, .int x1), (2, .long y2), (4, .int x4)]) hx hb dX1_nextRoute_41 hl (by decide) rfl (fun ls hl => ?_)
        refine lv_lload hx hb dX1_nextRoute_43 (lv_at hl 0 rfl) ?_
        refine lv_lload_n hx hb dX1_nextRoute_45 rfl (lv_at hl 3 rfl) ?_
        refine W.lcmp hx hb dX1_nextRoute_46 ?_
        refine lv_if_le (tgt := 55) hx hb dX1_nextRoute_47 (by decide) (fun c9 => ?_) (fun c9 => ?_)
        · have h := h.1 c9
          refine lv_iload_n hx hb dX1_nextRoute_55 rfl (lv_at hl 2 rfl) ?_
          exact j56 _ _ _ _ _ _ _ _ _ _ _ hk S (lv_sub hl [1, 3, 4, 0] rfl) h
        · have h := h.2 c9
          refine lv_iload hx hb dX1_nextRoute_50 (lv_at hl 4 rfl) ?_
          refine lv_goto (tgt := 56) hx hb dX1_nextRoute_52 (by decide) ?_
          exact j56 _ _ _ _ _ _ _ _ _ _ _ hk S (lv_sub hl [1, 3, 4, 0] rfl) h
  unfold wp_X1_nextRoute at h
  refine lv_iconst (v := (-1)) hx hb dX1_nextRoute_0 (by decide) ?_
  refine lv_istore_n (lv' := [(1, .int (-1)), (0, .ref a0)]) hx hb dX1_nextRoute_1 rfl hl (by decide) rfl (fun ls hl => ?_)
  refine lv_ldc2 hx hb C.hown (C.ts _ q282) dX1_nextRoute_2 ?_
  refine lv_lstore_n (lv' := [(2, .long (-1)), (1, .int (-1)), (0, .ref a0)]) hx hb dX1_nextRoute_5 rfl hl (by decide) rfl (fun ls hl => ?_)
  refine lv_iconst (v := 0) hx hb dX1_nextRoute_6 (by decide) ?_
  refine lv_istore (lv' := [(4, .int 0), (2, .long (-1)), (1, .int (-1)), (0, .ref a0)]) hx hb dX1_nextRoute_7 hl (by decide) rfl (fun ls hl => ?_)
  obtain ⟨nf, h⟩ := h
  exact j9 nf _ _ _ _ _ _ _ _ _ _ hk S (lv_sub hl [3, 2, 1, 0] rfl) h
/-! X4_distance: level 10 -/
def wp_X4_distance (G : mG) (b : Nat) (P : Int32 → mM → Prop) (M : mM) (x0 : Int32) (x1 : Int32) : Prop :=
  ∀ g1 : Int32, g1 = (if 0 ≤ ((x0 / 6) - (x1 / 6)) then ((x0 / 6) - (x1 / 6)) else 0 - ((x0 / 6) - (x1 / 6))) → ∀ g2 : Int32, g2 = ((x0 - x0 / 6 * 6) - (x1 - x1 / 6 * 6)) → ∀ g3 : Int32, g3 = (if 0 ≤ g2 then g2 else 0 - g2) → ∀ g4 : Int32, g4 = (if g1 < g3 then g3 else g1) → P g4 M
set_option maxHeartbeats 4000000 in
set_option maxRecDepth 100000 in
theorem wk_X4_distance {l : Launch} (hst0 : l.stackTraces = false) {G : mG} {b : Nat} {P : Int32 → mM → Prop} {M : mM} {x0 : Int32} {x1 : Int32} (h : wp_X4_distance G b P M x0 x1) : mMet l yX4_distance (ws_ yX4_distance cX4_distance 2 (Option.some Jvm.ClassFile.FieldType.int)) 10 b G [.int x0, .int x1] M (mRi P) (fun _ _ _ => False) := by
  refine mm_met hst0 (by decide) (Nat.le_of_ble_eq_true rfl) ?_
  intro p e s m args below meth c ls C hr hnt hnm hl S
  have hl : lv_has ls 2 [(0, .int x0), (1, .int x1)] := hl
  generalize mA M s.heap.size = A at C S ⊢
  have hx := C.hx
  have hb := C.hb
  have hk : 0 + b ≤ b := Nat.le_of_eq (Nat.zero_add b)
  unfold wp_X4_distance at h
  refine lv_iload_n hx hb dX4_distance_0 rfl (lv_at hl 0 rfl) ?_
  refine lv_bipush (v := 6) hx hb dX4_distance_1 (by decide) ?_
  refine lv_idiv hx hb dX4_distance_3 (by decide) ?_
  refine lv_iload_n hx hb dX4_distance_4 rfl (lv_at hl 1 rfl) ?_
  refine lv_bipush (v := 6) hx hb dX4_distance_5 (by decide) ?_
  refine lv_idiv hx hb dX4_distance_7 (by decide) ?_
  refine lv_isub hx hb dX4_distance_8 ?_
  refine mm_abs C hl.1 q1968 q325 q68 q326 (Nat.le_of_ble_eq_true rfl) (Nat.le_of_ble_eq_true rfl) (Nat.le_trans (Nat.le_add_right _ _) hk) (Nat.le_trans (Nat.le_add_right _ _) hk) dX4_distance_9 ?_
  refine lv_topi (fun g1 eg1 => ?_)
  have h := h g1 eg1
  refine lv_iload_n hx hb dX4_distance_12 rfl (lv_at hl 0 rfl) ?_
  refine lv_bipush (v := 6) hx hb dX4_distance_13 (by decide) ?_
  refine lv_irem hx hb dX4_distance_15 (by decide) ?_
  refine lv_iload_n hx hb dX4_distance_16 rfl (lv_at hl 1 rfl) ?_
  refine lv_bipush (v := 6) hx hb dX4_distance_17 (by decide) ?_
  refine lv_irem hx hb dX4_distance_19 (by decide) ?_
  refine lv_isub hx hb dX4_distance_20 ?_
  refine lv_topi (fun g2 eg2 => ?_)
  have h := h g2 eg2
  refine mm_abs C hl.1 q1968 q325 q68 q326 (Nat.le_of_ble_eq_true rfl) (Nat.le_of_ble_eq_true rfl) (Nat.le_trans (Nat.le_add_right _ _) hk) (Nat.le_trans (Nat.le_add_right _ _) hk) dX4_distance_21 ?_
  refine lv_topi (fun g3 eg3 => ?_)
  have h := h g3 eg3
  refine mm_max C hl.1 q1880 q328 q68 q329 (Nat.le_of_ble_eq_true rfl) (Nat.le_of_ble_eq_true rfl) (Nat.le_trans (Nat.le_add_right _ _) hk) (Nat.le_trans (Nat.le_add_right _ _) hk) dX4_distance_24 ?_
  refine lv_topi (fun g4 eg4 => ?_)
  have h := h g4 eg4
  exact mm_iret C S hr (Nat.le_trans (Nat.le_add_right _ _) hk) dX4_distance_27 h
/-! X4_far: level 11 -/
def wl_X4_far_6 (G : mG) (P : Int32 → mM → Prop) : Nat → Nat → mM → Nat → Int32 → Int32 → Int32 → Int32 → Prop
  | 0, _, _, _, _, _, _, _ => False
  | n + 1, r, M, a0, x1, x2, x3, x4 => gfa M a0 3 23 fun u1 => ldi M 0 u1 x1 fun v2 => (v2 ≤ x4 → P x3 M) ∧ (¬ v2 ≤ x4 → gfa M a0 3 26 fun u3 => lda M 8 u3 x1 fun u4 => ldi M 0 u4 x4 fun v5 => wp_X4_distance G 0 (fun v7 M6 => ∀ g8 : Int32, g8 = (if v7 < x3 then v7 else x3) → (wl_X4_far_6 G P n) r M6 a0 x1 x2 g8 (x4 + 1)) M v5 x2)
def wp_X4_far (G : mG) (b : Nat) (P : Int32 → mM → Prop) (M : mM) (a0 : Nat) (x1 : Int32) (x2 : Int32) : Prop :=
  ∃ n6, wl_X4_far_6 G P n6 b M a0 x1 x2 36 0
set_option maxHeartbeats 4000000 in
set_option maxRecDepth 100000 in
theorem wk_X4_far {l : Launch} (hst0 : l.stackTraces = false) {G : mG} {b : Nat} {P : Int32 → mM → Prop} {M : mM} {a0 : Nat} {x1 : Int32} {x2 : Int32} (h : wp_X4_far G b P M a0 x1 x2) : mMet l yX4_far (ws_ yX4_far cX4_far 5 (Option.some Jvm.ClassFile.FieldType.int)) 11 b G [.ref a0, .int x1, .int x2] M (mRi P) (fun _ _ _ => False) := by
  refine mm_met hst0 (by decide) (Nat.le_of_ble_eq_true rfl) ?_
  intro p e s m args below meth c ls C hr hnt hnm hl S
  have hl : lv_has ls 5 [(0, .ref a0), (1, .int x1), (2, .int x2)] := hl
  generalize mA M s.heap.size = A at C S ⊢
  have hx := C.hx
  have hb := C.hb
  have hk : 0 + b ≤ b := Nat.le_of_eq (Nat.zero_add b)
  have j6 : ∀ (nf : Nat) (k r : Nat) (M : mM) (H : Heap) (locs : List Loc) (ls : Array Slot) (a0 : Nat) (x1 : Int32) (x2 : Int32) (x3 : Int32) (x4 : Int32), k + r ≤ b → mW G A s M H locs → lv_has ls 5 [(0, .ref a0), (1, .int x1), (2, .int x2), (3, .int x3), (4, .int x4)] → wl_X4_far_6 G P nf r M a0 x1 x2 x3 x4 → W p l e (mRm 11 b) s m args below meth c H locs k k (vx_MQ below (mQ G A (mRi P)) (mXC G A (fun _ _ _ => False)) args s b b A) (F0 m 6 ls []) := by
    intro nf
    induction nf with
    | zero =>
      intro k r M H locs ls a0 x1 x2 x3 x4 hk S hl h
      rw [wl_X4_far_6] at h
      exact h.elim
    | succ n6 ih6 =>
      intro k r M H locs ls a0 x1 x2 x3 x4 hk S hl h
      rw [wl_X4_far_6] at h
      refine lv_iload hx hb dX4_far_6 (lv_at hl 4 rfl) ?_
      refine lv_aload_n hx hb dX4_far_8 rfl (lv_at hl 0 rfl) ?_
      refine mm_gfa C S (ci := 3) (k := 23) rfl in_X4 (by decide) q1693 (fun _ h9 => h9) dX4_far_9 h (fun u1 h => ?_)
      refine lv_iload_n hx hb dX4_far_12 rfl (lv_at hl 1 rfl) ?_
      refine mm_iald C S h dX4_far_13 (fun v2 h => ?_)
      refine lv_icmp_ge (tgt := 41) hx hb dX4_far_14 (by decide) (fun c9 => ?_) (fun c9 => ?_)
      · have h := h.1 c9
        refine lv_iload_n hx hb dX4_far_41 rfl (lv_at hl 3 rfl) ?_
        exact mm_iret C S hr (Nat.le_trans (Nat.le_add_right _ _) hk) dX4_far_42 h
      · have h := h.2 c9
        refine lv_iload_n hx hb dX4_far_17 rfl (lv_at hl 3 rfl) ?_
        refine lv_aload_n hx hb dX4_far_18 rfl (lv_at hl 0 rfl) ?_
        refine mm_gfa C S (ci := 3) (k := 26) rfl in_X4 (by decide) q1696 (fun _ h9 => h9) dX4_far_19 h (fun u3 h => ?_)
        refine lv_iload_n hx hb dX4_far_22 rfl (lv_at hl 1 rfl) ?_
        refine mm_aald C S (t := 8) rfl rfl h dX4_far_23 (fun u4 h => ?_)
        refine lv_iload hx hb dX4_far_24 (lv_at hl 4 rfl) ?_
        refine mm_iald C S h dX4_far_26 (fun v5 h => ?_)
        refine lv_iload_n hx hb dX4_far_27 rfl (lv_at hl 2 rfl) ?_
        refine mm_S (As := [.int v5, .int x2]) (rest := [.int x3]) C S hl.1 (wk_X4_distance hst0 h) (lw_S q1965 q1966 q58 q1967) pd_X4_distance ⟨Nat.le_of_ble_eq_true rfl, Nat.le_of_ble_eq_true rfl⟩ rfl rfl (Nat.le_of_ble_eq_true rfl) dX4_far_28 rfl rfl hk (Nat.zero_add _) (fun v9 M6 H locs hP S hk => ?_) (fun E q ce M9 H9 locs9 hX => hX.elim)
        obtain ⟨v7, rfl, h⟩ := hP
        refine W.eq (g2 := F0 m 31 ls [.int v7, .int x3]) rfl ?_
        refine mm_min C hl.1 q1879 q331 q68 q332 (Nat.le_of_ble_eq_true rfl) (Nat.le_of_ble_eq_true rfl) (Nat.le_trans (Nat.le_add_right _ _) hk) (Nat.le_trans (Nat.le_add_right _ _) hk) dX4_far_31 ?_
        refine lv_topi (fun g8 eg8 => ?_)
        have h := h g8 eg8
        refine lv_istore_n (lv' := [(3, .int g8), (0, .ref a0), (1, .int x1), (2, .int x2), (4, .int x4)]) hx hb dX4_far_34 rfl hl (by decide) rfl (fun ls hl => ?_)
        refine lv_iinc (v := (x4 + 1)) (lv' := [(4, .int (x4 + 1)), (3, .int g8), (0, .ref a0), (1, .int x1), (2, .int x2)]) hx hb dX4_far_35 hl (k := 4) rfl rfl (by decide) rfl (fun ls hl => ?_)
        refine lv_goto (tgt := 6) hx hb dX4_far_38 (by decide) ?_
        exact ih6 _ _ _ _ _ _ _ _ _ _ _ hk S (lv_sub hl [2, 3, 4, 1, 0] rfl) h
  unfold wp_X4_far at h
  refine lv_bipush (v := 36) hx hb dX4_far_0 (by decide) ?_
  refine lv_istore_n (lv' := [(3, .int 36), (0, .ref a0), (1, .int x1), (2, .int x2)]) hx hb dX4_far_2 rfl hl (by decide) rfl (fun ls hl => ?_)
  refine lv_iconst (v := 0) hx hb dX4_far_3 (by decide) ?_
  refine lv_istore (lv' := [(4, .int 0), (3, .int 36), (0, .ref a0), (1, .int x1), (2, .int x2)]) hx hb dX4_far_4 hl (by decide) rfl (fun ls hl => ?_)
  obtain ⟨nf, h⟩ := h
  exact j6 nf _ _ _ _ _ _ _ _ _ _ _ hk S (lv_sub hl [2, 3, 4, 1, 0] rfl) h
/-! X4_add: level 12 -/
def wb_X4_add_199 (G : mG) (P : mM → Prop) (K171 : Nat → mM → Nat → Int32 → Int32 → Int32 → Prop) (r : Nat) (M : mM) (a0 : Nat) (x1 : Int32) (x2 : Int32) (x3 : Int32) (s0 : Nat) (s1 : Int32) (s2 : Int32) : Prop :=
  stn M 1 s0 .boolean s1 s2 fun M50 => K171 r M50 a0 x1 x2 (x3 + 1)
def wl_X4_add_171 (G : mG) (P : mM → Prop) : Nat → Nat → mM → Nat → Int32 → Int32 → Int32 → Prop
  | 0, _, _, _, _, _, _ => False
  | n + 1, r, M, a0, x1, x2, x3 => (36 ≤ x3 → P M) ∧ (¬ 36 ≤ x3 → gfa M a0 3 42 fun u46 => lda M 10 u46 x1 fun u47 => isc M a0 3 ∧ (wp_X4_far G 0 (fun v49 M48 => (1 < v49 → wb_X4_add_199 G P (wl_X4_add_171 G P n) r M48 a0 x1 x2 x3 u47 x3 0) ∧ (¬ 1 < v49 → wb_X4_add_199 G P (wl_X4_add_171 G P n) r M48 a0 x1 x2 x3 u47 x3 1)) M a0 x2 x3))
def wb_X4_add_163 (G : mG) (P : mM → Prop) (K90 : Nat → mM → Nat → Int32 → Int32 → Int32 → Prop) (r : Nat) (M : mM) (a0 : Nat) (x1 : Int32) (x2 : Int32) (x3 : Int32) : Prop :=
  K90 r M a0 x1 x2 (x3 + 1)
def wl_X4_add_90 (G : mG) (P : mM → Prop) : Nat → Nat → mM → Nat → Int32 → Int32 → Int32 → Prop
  | 0, _, _, _, _, _, _ => False
  | n + 1, r, M, a0, x1, x2, x3 => gfi M a0 3 29 fun v5 => (v5 ≤ x3 → ∃ n171, wl_X4_add_171 G P n171 r M a0 x1 x2 0) ∧ (¬ v5 ≤ x3 → gfa M a0 3 36 fun u6 => ldi M 0 u6 x3 fun v7 => (¬ v7 = x1 → wb_X4_add_163 G P (wl_X4_add_90 G P n) r M a0 x1 x2 x3) ∧ (v7 = x1 → gfa M a0 3 44 fun u8 => gfa M a0 3 39 fun u9 => ldi M 0 u9 x3 fun v10 => lda M 9 u8 v10 fun u11 => gfa M a0 3 4 fun u12 => gfa M a0 3 38 fun u13 => ldi M 0 u13 x3 fun v14 => ldi M 0 u12 v14 fun v15 => lda M 8 u11 v15 fun u16 => gfa M a0 3 26 fun u17 => lda M 8 u17 x2 fun u18 => gfa M a0 3 37 fun u19 => ldi M 0 u19 x3 fun v20 => ldi M 0 u18 v20 fun v21 => gfa M a0 3 38 fun u22 => ldi M 0 u22 x3 fun v23 => wp_X4_distance G 0 (fun v25 M24 => ldi M24 0 u16 v25 fun v26 => gfa M24 a0 3 40 fun u27 => ldi M24 0 u27 x3 fun v28 => sti M24 0 u16 v25 (v26 + v28) fun M29 => wb_X4_add_163 G P (wl_X4_add_90 G P n) r M29 a0 x1 x2 x3) M v21 v23))
def wb_X4_add_76 (G : mG) (P : mM → Prop) (K9 : Nat → mM → Nat → Int32 → Int32 → Int32 → Prop) (K22 : Nat → mM → Nat → Int32 → Int32 → Int32 → Int32 → Prop) (r : Nat) (M : mM) (a0 : Nat) (x1 : Int32) (x2 : Int32) (x3 : Int32) (x4 : Int32) : Prop :=
  K22 r M a0 x1 x2 x3 (x4 + 1)
def wl_X4_add_22 (G : mG) (P : mM → Prop) (K9 : Nat → mM → Nat → Int32 → Int32 → Int32 → Prop) : Nat → Nat → mM → Nat → Int32 → Int32 → Int32 → Int32 → Prop
  | 0, _, _, _, _, _, _, _ => False
  | n + 1, r, M, a0, x1, x2, x3, x4 => (36 ≤ x4 → K9 r M a0 x1 x2 (x3 + 1)) ∧ (¬ 36 ≤ x4 → gfa M a0 3 26 fun u30 => lda M 8 u30 x2 fun u31 => ldi M 0 u31 x3 fun v32 => wp_X4_distance G 0 (fun v34 M33 => (3 < v34 → wb_X4_add_76 G P K9 (wl_X4_add_22 G P K9 n) r M33 a0 x1 x2 x3 x4) ∧ (¬ 3 < v34 → gfa M33 a0 3 43 fun u35 => gfa M33 a0 3 4 fun u36 => ldi M33 0 u36 x4 fun v37 => lda M33 8 u35 v37 fun u38 => gfa M33 a0 3 26 fun u39 => lda M33 8 u39 x2 fun u40 => ldi M33 0 u40 x3 fun v41 => wp_X4_distance G 0 (fun v43 M42 => ldi M42 0 u38 v43 fun v44 => sti M42 0 u38 v43 (v44 + 1) fun M45 => wb_X4_add_76 G P K9 (wl_X4_add_22 G P K9 n) r M45 a0 x1 x2 x3 x4) M33 v41 x4)) M v32 x4)
def wl_X4_add_9 (G : mG) (P : mM → Prop) : Nat → Nat → mM → Nat → Int32 → Int32 → Int32 → Prop
  | 0, _, _, _, _, _, _ => False
  | n + 1, r, M, a0, x1, x2, x3 => gfa M a0 3 23 fun u3 => ldi M 0 u3 x2 fun v4 => (v4 ≤ x3 → ∃ n90, wl_X4_add_90 G P n90 r M a0 x1 x2 0) ∧ (¬ v4 ≤ x3 → ∃ n22, wl_X4_add_22 G P (wl_X4_add_9 G P n) n22 r M a0 x1 x2 x3 0)
def wp_X4_add (G : mG) (b : Nat) (P : mM → Prop) (M : mM) (a0 : Nat) (x1 : Int32) : Prop :=
  gfa M a0 3 31 fun u1 => ldi M 0 u1 x1 fun v2 => ∃ n9, wl_X4_add_9 G P n9 b M a0 x1 v2 0
set_option maxHeartbeats 4000000 in
set_option maxRecDepth 100000 in
theorem wk_X4_add {l : Launch} (hst0 : l.stackTraces = false) {G : mG} {b : Nat} {P : mM → Prop} {M : mM} {a0 : Nat} {x1 : Int32} (h : wp_X4_add G b P M a0 x1) : mMet l yX4_add (ws_ yX4_add cX4_add 5 (Option.none : Option Jvm.ClassFile.FieldType)) 12 b G [.ref a0, .int x1] M (mRv P) (fun _ _ _ => False) := by
  refine mm_met hst0 (by decide) (Nat.le_of_ble_eq_true rfl) ?_
  intro p e s m args below meth c ls C hr hnt hnm hl S
  have hl : lv_has ls 5 [(0, .ref a0), (1, .int x1)] := hl
  generalize mA M s.heap.size = A at C S ⊢
  have hx := C.hx
  have hb := C.hb
  have hk : 0 + b ≤ b := Nat.le_of_eq (Nat.zero_add b)
  have j171 : ∀ (nf : Nat) (k r : Nat) (M : mM) (H : Heap) (locs : List Loc) (ls : Array Slot) (a0 : Nat) (x1 : Int32) (x2 : Int32) (x3 : Int32), k + r ≤ b → mW G A s M H locs → lv_has ls 5 [(0, .ref a0), (1, .int x1), (2, .int x2), (3, .int x3)] → wl_X4_add_171 G P nf r M a0 x1 x2 x3 → W p l e (mRm 12 b) s m args below meth c H locs k k (vx_MQ below (mQ G A (mRv P)) (mXC G A (fun _ _ _ => False)) args s b b A) (F0 m 171 ls []) := by
    intro nf
    induction nf with
    | zero =>
      intro k r M H locs ls a0 x1 x2 x3 hk S hl h
      rw [wl_X4_add_171] at h
      exact h.elim
    | succ n171 ih171 =>
      have j199 : ∀ (k r : Nat) (M : mM) (H : Heap) (locs : List Loc) (ls : Array Slot) (a0 : Nat) (x1 : Int32) (x2 : Int32) (x3 : Int32) (s0 : Nat) (s1 : Int32) (s2 : Int32), k + r ≤ b → mW G A s M H locs → lv_has ls 5 [(0, .ref a0), (1, .int x1), (2, .int x2), (3, .int x3)] → wb_X4_add_199 G P (wl_X4_add_171 G P n171) r M a0 x1 x2 x3 s0 s1 s2 → W p l e (mRm 12 b) s m args below meth c H locs k k (vx_MQ below (mQ G A (mRv P)) (mXC G A (fun _ _ _ => False)) args s b b A) (F0 m 199 ls [.int s2, .int s1, .ref s0]) := by
        intro k r M H locs ls a0 x1 x2 x3 s0 s1 s2 hk S hl h
        unfold wb_X4_add_199 at h
        refine mm_zast C S h dX4_add_199 (fun M50 H locs h S => ?_)
        refine lv_iinc (v := (x3 + 1)) (lv' := [(3, .int (x3 + 1)), (0, .ref a0), (1, .int x1), (2, .int x2)]) hx hb dX4_add_200 hl (k := 3) rfl rfl (by decide) rfl (fun ls hl => ?_)
        refine lv_goto (tgt := 171) hx hb dX4_add_203 (by decide) ?_
        exact ih171 _ _ _ _ _ _ _ _ _ _ hk S (lv_sub hl [1, 2, 3, 0] rfl) h
      intro k r M H locs ls a0 x1 x2 x3 hk S hl h
      rw [wl_X4_add_171] at h
      refine lv_iload_n hx hb dX4_add_171 rfl (lv_at hl 3 rfl) ?_
      refine lv_bipush (v := 36) hx hb dX4_add_172 (by decide) ?_
      refine lv_icmp_ge (tgt := 206) hx hb dX4_add_174 (by decide) (fun c9 => ?_) (fun c9 => ?_)
      · have h := h.1 c9
        exact mm_vret C S hr (Nat.le_trans (Nat.le_add_right _ _) hk) dX4_add_206 h
      · have h := h.2 c9
        refine lv_aload_n hx hb dX4_add_177 rfl (lv_at hl 0 rfl) ?_
        refine mm_gfa C S (ci := 3) (k := 42) rfl in_X4 (by decide) q1712 (fun _ h9 => h9) dX4_add_178 h (fun u46 h => ?_)
        refine lv_iload_n hx hb dX4_add_181 rfl (lv_at hl 1 rfl) ?_
        refine mm_aald C S (t := 10) rfl rfl h dX4_add_182 (fun u47 h => ?_)
        refine lv_iload_n hx hb dX4_add_183 rfl (lv_at hl 3 rfl) ?_
        refine lv_aload_n hx hb dX4_add_184 rfl (lv_at hl 0 rfl) ?_
        refine lv_iload_n hx hb dX4_add_185 rfl (lv_at hl 2 rfl) ?_
        refine lv_iload_n hx hb dX4_add_186 rfl (lv_at hl 3 rfl) ?_
        obtain ⟨hI, h⟩ := h
        refine mm_V (As := [.int x2, .int x3]) (rest := [.int x3, .ref u47]) C S hl.1 (wk_X4_far hst0 h) (T := TX4) rfl hI (lw_V q1961 q1963 qs37 q58 q1964) rfl pd_X4_far ⟨Nat.le_of_ble_eq_true rfl, Nat.le_of_ble_eq_true rfl⟩ rfl rfl (Nat.le_of_ble_eq_true rfl) dX4_add_187 rfl rfl hk (Nat.zero_add _) (fun v9 M48 H locs hP S hk => ?_) (fun E q ce M9 H9 locs9 hX => hX.elim)
        obtain ⟨v49, rfl, h⟩ := hP
        refine W.eq (g2 := F0 m 190 ls [.int v49, .int x3, .ref u47]) rfl ?_
        refine lv_iconst (v := 1) hx hb dX4_add_190 (by decide) ?_
        refine lv_icmp_gt (tgt := 198) hx hb dX4_add_191 (by decide) (fun c9 => ?_) (fun c9 => ?_)
        · have h := h.1 c9
          refine lv_iconst (v := 0) hx hb dX4_add_198 (by decide) ?_
          exact j199 _ _ _ _ _ _ _ _ _ _ _ _ _ hk S hl h
        · have h := h.2 c9
          refine lv_iconst (v := 1) hx hb dX4_add_194 (by decide) ?_
          refine lv_goto (tgt := 199) hx hb dX4_add_195 (by decide) ?_
          exact j199 _ _ _ _ _ _ _ _ _ _ _ _ _ hk S hl h
  have j90 : ∀ (nf : Nat) (k r : Nat) (M : mM) (H : Heap) (locs : List Loc) (ls : Array Slot) (a0 : Nat) (x1 : Int32) (x2 : Int32) (x3 : Int32), k + r ≤ b → mW G A s M H locs → lv_has ls 5 [(0, .ref a0), (1, .int x1), (2, .int x2), (3, .int x3)] → wl_X4_add_90 G P nf r M a0 x1 x2 x3 → W p l e (mRm 12 b) s m args below meth c H locs k k (vx_MQ below (mQ G A (mRv P)) (mXC G A (fun _ _ _ => False)) args s b b A) (F0 m 90 ls []) := by
    intro nf
    induction nf with
    | zero =>
      intro k r M H locs ls a0 x1 x2 x3 hk S hl h
      rw [wl_X4_add_90] at h
      exact h.elim
    | succ n90 ih90 =>
      have j163 : ∀ (k r : Nat) (M : mM) (H : Heap) (locs : List Loc) (ls : Array Slot) (a0 : Nat) (x1 : Int32) (x2 : Int32) (x3 : Int32), k + r ≤ b → mW G A s M H locs → lv_has ls 5 [(0, .ref a0), (1, .int x1), (2, .int x2), (3, .int x3)] → wb_X4_add_163 G P (wl_X4_add_90 G P n90) r M a0 x1 x2 x3 → W p l e (mRm 12 b) s m args below meth c H locs k k (vx_MQ below (mQ G A (mRv P)) (mXC G A (fun _ _ _ => False)) args s b b A) (F0 m 163 ls []) := by
        intro k r M H locs ls a0 x1 x2 x3 hk S hl h
        unfold wb_X4_add_163 at h
        refine lv_iinc (v := (x3 + 1)) (lv' := [(3, .int (x3 + 1)), (0, .ref a0), (1, .int x1), (2, .int x2)]) hx hb dX4_add_163 hl (k := 3) rfl rfl (by decide) rfl (fun ls hl => ?_)
        refine lv_goto (tgt := 90) hx hb dX4_add_166 (by decide) ?_
        exact ih90 _ _ _ _ _ _ _ _ _ _ hk S (lv_sub hl [1, 2, 3, 0] rfl) h
      intro k r M H locs ls a0 x1 x2 x3 hk S hl h
      rw [wl_X4_add_90] at h
      refine lv_iload_n hx hb dX4_add_90 rfl (lv_at hl 3 rfl) ?_
      refine lv_aload_n hx hb dX4_add_91 rfl (lv_at hl 0 rfl) ?_
      refine mm_gfi C S (ci := 3) (k := 29) rfl in_X4 (by decide) q1699 (fun _ h9 => h9) dX4_add_92 h (fun v5 h => ?_)
      refine lv_icmp_ge (tgt := 169) hx hb dX4_add_95 (by decide) (fun c9 => ?_) (fun c9 => ?_)
      · have h := h.1 c9
        refine lv_iconst (v := 0) hx hb dX4_add_169 (by decide) ?_
        refine lv_istore_n (lv' := [(3, .int 0), (0, .ref a0), (1, .int x1), (2, .int x2)]) hx hb dX4_add_170 rfl hl (by decide) rfl (fun ls hl => ?_)
        obtain ⟨nf, h⟩ := h
        exact j171 nf _ _ _ _ _ _ _ _ _ _ hk S (lv_sub hl [1, 2, 3, 0] rfl) h
      · have h := h.2 c9
        refine lv_aload_n hx hb dX4_add_98 rfl (lv_at hl 0 rfl) ?_
        refine mm_gfa C S (ci := 3) (k := 36) rfl in_X4 (by decide) q1706 (fun _ h9 => h9) dX4_add_99 h (fun u6 h => ?_)
        refine lv_iload_n hx hb dX4_add_102 rfl (lv_at hl 3 rfl) ?_
        refine mm_iald C S h dX4_add_103 (fun v7 h => ?_)
        refine lv_iload_n hx hb dX4_add_104 rfl (lv_at hl 1 rfl) ?_
        refine lv_icmp_ne (tgt := 163) hx hb dX4_add_105 (by decide) (fun c9 => ?_) (fun c9 => ?_)
        · have h := h.1 c9
          exact j163 _ _ _ _ _ _ _ _ _ _ hk S hl h
        · have h := h.2 c9
          refine lv_aload_n hx hb dX4_add_108 rfl (lv_at hl 0 rfl) ?_
          refine mm_gfa C S (ci := 3) (k := 44) rfl in_X4 (by decide) q1714 (fun _ h9 => h9) dX4_add_109 h (fun u8 h => ?_)
          refine lv_aload_n hx hb dX4_add_112 rfl (lv_at hl 0 rfl) ?_
          refine mm_gfa C S (ci := 3) (k := 39) rfl in_X4 (by decide) q1709 (fun _ h9 => h9) dX4_add_113 h (fun u9 h => ?_)
          refine lv_iload_n hx hb dX4_add_116 rfl (lv_at hl 3 rfl) ?_
          refine mm_iald C S h dX4_add_117 (fun v10 h => ?_)
          refine mm_aald C S (t := 9) rfl rfl h dX4_add_118 (fun u11 h => ?_)
          refine lv_aload_n hx hb dX4_add_119 rfl (lv_at hl 0 rfl) ?_
          refine mm_gfa C S (ci := 3) (k := 4) rfl in_X4 (by decide) q1674 (fun _ h9 => h9) dX4_add_120 h (fun u12 h => ?_)
          refine lv_aload_n hx hb dX4_add_123 rfl (lv_at hl 0 rfl) ?_
          refine mm_gfa C S (ci := 3) (k := 38) rfl in_X4 (by decide) q1708 (fun _ h9 => h9) dX4_add_124 h (fun u13 h => ?_)
          refine lv_iload_n hx hb dX4_add_127 rfl (lv_at hl 3 rfl) ?_
          refine mm_iald C S h dX4_add_128 (fun v14 h => ?_)
          refine mm_iald C S h dX4_add_129 (fun v15 h => ?_)
          refine mm_aald C S (t := 8) rfl rfl h dX4_add_130 (fun u16 h => ?_)
          refine lv_aload_n hx hb dX4_add_131 rfl (lv_at hl 0 rfl) ?_
          refine mm_gfa C S (ci := 3) (k := 26) rfl in_X4 (by decide) q1696 (fun _ h9 => h9) dX4_add_132 h (fun u17 h => ?_)
          refine lv_iload_n hx hb dX4_add_135 rfl (lv_at hl 2 rfl) ?_
          refine mm_aald C S (t := 8) rfl rfl h dX4_add_136 (fun u18 h => ?_)
          refine lv_aload_n hx hb dX4_add_137 rfl (lv_at hl 0 rfl) ?_
          refine mm_gfa C S (ci := 3) (k := 37) rfl in_X4 (by decide) q1707 (fun _ h9 => h9) dX4_add_138 h (fun u19 h => ?_)
          refine lv_iload_n hx hb dX4_add_141 rfl (lv_at hl 3 rfl) ?_
          refine mm_iald C S h dX4_add_142 (fun v20 h => ?_)
          refine mm_iald C S h dX4_add_143 (fun v21 h => ?_)
          refine lv_aload_n hx hb dX4_add_144 rfl (lv_at hl 0 rfl) ?_
          refine mm_gfa C S (ci := 3) (k := 38) rfl in_X4 (by decide) q1708 (fun _ h9 => h9) dX4_add_145 h (fun u22 h => ?_)
          refine lv_iload_n hx hb dX4_add_148 rfl (lv_at hl 3 rfl) ?_
          refine mm_iald C S h dX4_add_149 (fun v23 h => ?_)
          refine mm_S (As := [.int v21, .int v23]) (rest := [.ref u16]) C S hl.1 (wk_X4_distance hst0 h) (lw_S q1965 q1966 q58 q1967) pd_X4_distance ⟨Nat.le_of_ble_eq_true rfl, Nat.le_of_ble_eq_true rfl⟩ rfl rfl (Nat.le_of_ble_eq_true rfl) dX4_add_150 rfl rfl hk (Nat.zero_add _) (fun v9 M24 H locs hP S hk => ?_) (fun E q ce M9 H9 locs9 hX => hX.elim)
          obtain ⟨v25, rfl, h⟩ := hP
          refine W.eq (g2 := F0 m 153 ls [.int v25, .ref u16]) rfl ?_
          refine lv_dup2_11 hx hb dX4_add_153 rfl rfl ?_
          refine mm_iald C S h dX4_add_154 (fun v26 h => ?_)
          refine lv_aload_n hx hb dX4_add_155 rfl (lv_at hl 0 rfl) ?_
          refine mm_gfa C S (ci := 3) (k := 40) rfl in_X4 (by decide) q1710 (fun _ h9 => h9) dX4_add_156 h (fun u27 h => ?_)
          refine lv_iload_n hx hb dX4_add_159 rfl (lv_at hl 3 rfl) ?_
          refine mm_iald C S h dX4_add_160 (fun v28 h => ?_)
          refine lv_iadd hx hb dX4_add_161 ?_
          refine mm_iast C S h dX4_add_162 (fun M29 H locs h S => ?_)
          exact j163 _ _ _ _ _ _ _ _ _ _ hk S hl h
  have j9 : ∀ (nf : Nat) (k r : Nat) (M : mM) (H : Heap) (locs : List Loc) (ls : Array Slot) (a0 : Nat) (x1 : Int32) (x2 : Int32) (x3 : Int32), k + r ≤ b → mW G A s M H locs → lv_has ls 5 [(0, .ref a0), (1, .int x1), (2, .int x2), (3, .int x3)] → wl_X4_add_9 G P nf r M a0 x1 x2 x3 → W p l e (mRm 12 b) s m args below meth c H locs k k (vx_MQ below (mQ G A (mRv P)) (mXC G A (fun _ _ _ => False)) args s b b A) (F0 m 9 ls []) := by
    intro nf
    induction nf with
    | zero =>
      intro k r M H locs ls a0 x1 x2 x3 hk S hl h
      rw [wl_X4_add_9] at h
      exact h.elim
    | succ n9 ih9 =>
      have j22 : ∀ (nf : Nat) (k r : Nat) (M : mM) (H : Heap) (locs : List Loc) (ls : Array Slot) (a0 : Nat) (x1 : Int32) (x2 : Int32) (x3 : Int32) (x4 : Int32), k + r ≤ b → mW G A s M H locs → lv_has ls 5 [(0, .ref a0), (1, .int x1), (2, .int x2), (3, .int x3), (4, .int x4)] → wl_X4_add_22 G P (wl_X4_add_9 G P n9) nf r M a0 x1 x2 x3 x4 → W p l e (mRm 12 b) s m args below meth c H locs k k (vx_MQ below (mQ G A (mRv P)) (mXC G A (fun _ _ _ => False)) args s b b A) (F0 m 22 ls []) := by
        intro nf
        induction nf with
        | zero =>
          intro k r M H locs ls a0 x1 x2 x3 x4 hk S hl h
          rw [wl_X4_add_22] at h
          exact h.elim
        | succ n22 ih22 =>
          have j76 : ∀ (k r : Nat) (M : mM) (H : Heap) (locs : List Loc) (ls : Array Slot) (a0 : Nat) (x1 : Int32) (x2 : Int32) (x3 : Int32) (x4 : Int32), k + r ≤ b → mW G A s M H locs → lv_has ls 5 [(0, .ref a0), (1, .int x1), (2, .int x2), (3, .int x3), (4, .int x4)] → wb_X4_add_76 G P (wl_X4_add_9 G P n9) (wl_X4_add_22 G P (wl_X4_add_9 G P n9) n22) r M a0 x1 x2 x3 x4 → W p l e (mRm 12 b) s m args below meth c H locs k k (vx_MQ below (mQ G A (mRv P)) (mXC G A (fun _ _ _ => False)) args s b b A) (F0 m 76 ls []) := by
            intro k r M H locs ls a0 x1 x2 x3 x4 hk S hl h
            unfold wb_X4_add_76 at h
            refine lv_iinc (v := (x4 + 1)) (lv' := [(4, .int (x4 + 1)), (0, .ref a0), (1, .int x1), (2, .int x2), (3, .int x3)]) hx hb dX4_add_76 hl (k := 4) rfl rfl (by decide) rfl (fun ls hl => ?_)
            refine lv_goto (tgt := 22) hx hb dX4_add_79 (by decide) ?_
            exact ih22 _ _ _ _ _ _ _ _ _ _ _ hk S (lv_sub hl [1, 2, 3, 4, 0] rfl) h
          intro k r M H locs ls a0 x1 x2 x3 x4 hk S hl h
          rw [wl_X4_add_22] at h
          refine lv_iload hx hb dX4_add_22 (lv_at hl 4 rfl) ?_
          refine lv_bipush (v := 36) hx hb dX4_add_24 (by decide) ?_
          refine lv_icmp_ge (tgt := 82) hx hb dX4_add_26 (by decide) (fun c9 => ?_) (fun c9 => ?_)
          · have h := h.1 c9
            refine lv_iinc (v := (x3 + 1)) (lv' := [(3, .int (x3 + 1)), (0, .ref a0), (1, .int x1), (2, .int x2), (4, .int x4)]) hx hb dX4_add_82 hl (k := 3) rfl rfl (by decide) rfl (fun ls hl => ?_)
            refine lv_goto (tgt := 9) hx hb dX4_add_85 (by decide) ?_
            exact ih9 _ _ _ _ _ _ _ _ _ _ hk S (lv_sub hl [1, 2, 3, 0] rfl) h
          · have h := h.2 c9
            refine lv_aload_n hx hb dX4_add_29 rfl (lv_at hl 0 rfl) ?_
            refine mm_gfa C S (ci := 3) (k := 26) rfl in_X4 (by decide) q1696 (fun _ h9 => h9) dX4_add_30 h (fun u30 h => ?_)
            refine lv_iload_n hx hb dX4_add_33 rfl (lv_at hl 2 rfl) ?_
            refine mm_aald C S (t := 8) rfl rfl h dX4_add_34 (fun u31 h => ?_)
            refine lv_iload_n hx hb dX4_add_35 rfl (lv_at hl 3 rfl) ?_
            refine mm_iald C S h dX4_add_36 (fun v32 h => ?_)
            refine lv_iload hx hb dX4_add_37 (lv_at hl 4 rfl) ?_
            refine mm_S (As := [.int v32, .int x4]) (rest := []) C S hl.1 (wk_X4_distance hst0 h) (lw_S q1965 q1966 q58 q1967) pd_X4_distance ⟨Nat.le_of_ble_eq_true rfl, Nat.le_of_ble_eq_true rfl⟩ rfl rfl (Nat.le_of_ble_eq_true rfl) dX4_add_39 rfl rfl hk (Nat.zero_add _) (fun v9 M33 H locs hP S hk => ?_) (fun E q ce M9 H9 locs9 hX => hX.elim)
            obtain ⟨v34, rfl, h⟩ := hP
            refine W.eq (g2 := F0 m 42 ls [.int v34]) rfl ?_
            refine lv_iconst (v := 3) hx hb dX4_add_42 (by decide) ?_
            refine lv_icmp_gt (tgt := 76) hx hb dX4_add_43 (by decide) (fun c9 => ?_) (fun c9 => ?_)
            · have h := h.1 c9
              exact j76 _ _ _ _ _ _ _ _ _ _ _ hk S hl h
            · have h := h.2 c9
              refine lv_aload_n hx hb dX4_add_46 rfl (lv_at hl 0 rfl) ?_
              refine mm_gfa C S (ci := 3) (k := 43) rfl in_X4 (by decide) q1713 (fun _ h9 => h9) dX4_add_47 h (fun u35 h => ?_)
              refine lv_aload_n hx hb dX4_add_50 rfl (lv_at hl 0 rfl) ?_
              refine mm_gfa C S (ci := 3) (k := 4) rfl in_X4 (by decide) q1674 (fun _ h9 => h9) dX4_add_51 h (fun u36 h => ?_)
              refine lv_iload hx hb dX4_add_54 (lv_at hl 4 rfl) ?_
              refine mm_iald C S h dX4_add_56 (fun v37 h => ?_)
              refine mm_aald C S (t := 8) rfl rfl h dX4_add_57 (fun u38 h => ?_)
              refine lv_aload_n hx hb dX4_add_58 rfl (lv_at hl 0 rfl) ?_
              refine mm_gfa C S (ci := 3) (k := 26) rfl in_X4 (by decide) q1696 (fun _ h9 => h9) dX4_add_59 h (fun u39 h => ?_)
              refine lv_iload_n hx hb dX4_add_62 rfl (lv_at hl 2 rfl) ?_
              refine mm_aald C S (t := 8) rfl rfl h dX4_add_63 (fun u40 h => ?_)
              refine lv_iload_n hx hb dX4_add_64 rfl (lv_at hl 3 rfl) ?_
              refine mm_iald C S h dX4_add_65 (fun v41 h => ?_)
              refine lv_iload hx hb dX4_add_66 (lv_at hl 4 rfl) ?_
              refine mm_S (As := [.int v41, .int x4]) (rest := [.ref u38]) C S hl.1 (wk_X4_distance hst0 h) (lw_S q1965 q1966 q58 q1967) pd_X4_distance ⟨Nat.le_of_ble_eq_true rfl, Nat.le_of_ble_eq_true rfl⟩ rfl rfl (Nat.le_of_ble_eq_true rfl) dX4_add_68 rfl rfl hk (Nat.zero_add _) (fun v9 M42 H locs hP S hk => ?_) (fun E q ce M9 H9 locs9 hX => hX.elim)
              obtain ⟨v43, rfl, h⟩ := hP
              refine W.eq (g2 := F0 m 71 ls [.int v43, .ref u38]) rfl ?_
              refine lv_dup2_11 hx hb dX4_add_71 rfl rfl ?_
              refine mm_iald C S h dX4_add_72 (fun v44 h => ?_)
              refine lv_iconst (v := 1) hx hb dX4_add_73 (by decide) ?_
              refine lv_iadd hx hb dX4_add_74 ?_
              refine mm_iast C S h dX4_add_75 (fun M45 H locs h S => ?_)
              exact j76 _ _ _ _ _ _ _ _ _ _ _ hk S hl h
      intro k r M H locs ls a0 x1 x2 x3 hk S hl h
      rw [wl_X4_add_9] at h
      refine lv_iload_n hx hb dX4_add_9 rfl (lv_at hl 3 rfl) ?_
      refine lv_aload_n hx hb dX4_add_10 rfl (lv_at hl 0 rfl) ?_
      refine mm_gfa C S (ci := 3) (k := 23) rfl in_X4 (by decide) q1693 (fun _ h9 => h9) dX4_add_11 h (fun u3 h => ?_)
      refine lv_iload_n hx hb dX4_add_14 rfl (lv_at hl 2 rfl) ?_
      refine mm_iald C S h dX4_add_15 (fun v4 h => ?_)
      refine lv_icmp_ge (tgt := 88) hx hb dX4_add_16 (by decide) (fun c9 => ?_) (fun c9 => ?_)
      · have h := h.1 c9
        refine lv_iconst (v := 0) hx hb dX4_add_88 (by decide) ?_
        refine lv_istore_n (lv' := [(3, .int 0), (0, .ref a0), (1, .int x1), (2, .int x2)]) hx hb dX4_add_89 rfl hl (by decide) rfl (fun ls hl => ?_)
        obtain ⟨nf, h⟩ := h
        exact j90 nf _ _ _ _ _ _ _ _ _ _ hk S (lv_sub hl [1, 2, 3, 0] rfl) h
      · have h := h.2 c9
        refine lv_iconst (v := 0) hx hb dX4_add_19 (by decide) ?_
        refine lv_istore (lv' := [(4, .int 0), (0, .ref a0), (1, .int x1), (2, .int x2), (3, .int x3)]) hx hb dX4_add_20 hl (by decide) rfl (fun ls hl => ?_)
        obtain ⟨nf, h⟩ := h
        exact j22 nf _ _ _ _ _ _ _ _ _ _ _ hk S (lv_sub hl [1, 2, 3, 4, 0] rfl) h
  unfold wp_X4_add at h
  refine lv_aload_n hx hb dX4_add_0 rfl (lv_at hl 0 rfl) ?_
  refine mm_gfa C S (ci := 3) (k := 31) rfl in_X4 (by decide) q1701 (fun _ h9 => h9) dX4_add_1 h (fun u1 h => ?_)
  refine lv_iload_n hx hb dX4_add_4 rfl (lv_at hl 1 rfl) ?_
  refine mm_iald C S h dX4_add_5 (fun v2 h => ?_)
  refine lv_istore_n (lv' := [(2, .int v2), (0, .ref a0), (1, .int x1)]) hx hb dX4_add_6 rfl hl (by decide) rfl (fun ls hl => ?_)
  refine lv_iconst (v := 0) hx hb dX4_add_7 (by decide) ?_
  refine lv_istore_n (lv' := [(3, .int 0), (2, .int v2), (0, .ref a0), (1, .int x1)]) hx hb dX4_add_8 rfl hl (by decide) rfl (fun ls hl => ?_)
  obtain ⟨nf, h⟩ := h
  exact j9 nf _ _ _ _ _ _ _ _ _ _ hk S (lv_sub hl [2, 3, 1, 0] rfl) h
/-! X4_isIn: level 10 -/
def wb_X4_isIn_15 (G : mG) (P : Int32 → mM → Prop) (r : Nat) (M : mM) (s0 : Int32) : Prop :=
  narrow .boolean (.int s0) = .int s0 ∧ P s0 M
def wb_X4_isIn_14 (G : mG) (P : Int32 → mM → Prop) (r : Nat) (M : mM) : Prop :=
  wb_X4_isIn_15 G P r M 0
def wp_X4_isIn (G : mG) (b : Nat) (P : Int32 → mM → Prop) (M : mM) (x0 : Int32) (x1 : Int32) (x2 : Int32) : Prop :=
  (x0 < x1 → wb_X4_isIn_14 G P b M) ∧ (¬ x0 < x1 → (x2 < x0 → wb_X4_isIn_14 G P b M) ∧ (¬ x2 < x0 → wb_X4_isIn_15 G P b M 1))
set_option maxHeartbeats 4000000 in
set_option maxRecDepth 100000 in
theorem wk_X4_isIn {l : Launch} (hst0 : l.stackTraces = false) {G : mG} {b : Nat} {P : Int32 → mM → Prop} {M : mM} {x0 : Int32} {x1 : Int32} {x2 : Int32} (h : wp_X4_isIn G b P M x0 x1 x2) : mMet l yX4_isIn (ws_ yX4_isIn cX4_isIn 3 (Option.some Jvm.ClassFile.FieldType.boolean)) 10 b G [.int x0, .int x1, .int x2] M (mRi P) (fun _ _ _ => False) := by
  refine mm_met hst0 (by decide) (Nat.le_of_ble_eq_true rfl) ?_
  intro p e s m args below meth c ls C hr hnt hnm hl S
  have hl : lv_has ls 3 [(0, .int x0), (1, .int x1), (2, .int x2)] := hl
  generalize mA M s.heap.size = A at C S ⊢
  have hx := C.hx
  have hb := C.hb
  have hk : 0 + b ≤ b := Nat.le_of_eq (Nat.zero_add b)
  have j15 : ∀ (k r : Nat) (M : mM) (H : Heap) (locs : List Loc) (ls : Array Slot) (s0 : Int32), k + r ≤ b → mW G A s M H locs → lv_has ls 3 [] → wb_X4_isIn_15 G P r M s0 → W p l e (mRm 10 b) s m args below meth c H locs k k (vx_MQ below (mQ G A (mRi P)) (mXC G A (fun _ _ _ => False)) args s b b A) (F0 m 15 ls [.int s0]) := by
    intro k r M H locs ls s0 hk S hl h
    unfold wb_X4_isIn_15 at h
    exact mm_zret C S hr (Nat.le_trans (Nat.le_add_right _ _) hk) dX4_isIn_15 h
  have j14 : ∀ (k r : Nat) (M : mM) (H : Heap) (locs : List Loc) (ls : Array Slot), k + r ≤ b → mW G A s M H locs → lv_has ls 3 [] → wb_X4_isIn_14 G P r M → W p l e (mRm 10 b) s m args below meth c H locs k k (vx_MQ below (mQ G A (mRi P)) (mXC G A (fun _ _ _ => False)) args s b b A) (F0 m 14 ls []) := by
    intro k r M H locs ls  hk S hl h
    unfold wb_X4_isIn_14 at h
    refine lv_iconst (v := 0) hx hb dX4_isIn_14 (by decide) ?_
    exact j15 _ _ _ _ _ _ _ hk S hl h
  unfold wp_X4_isIn at h
  refine lv_iload_n hx hb dX4_isIn_0 rfl (lv_at hl 0 rfl) ?_
  refine lv_iload_n hx hb dX4_isIn_1 rfl (lv_at hl 1 rfl) ?_
  refine lv_icmp_lt (tgt := 14) hx hb dX4_isIn_2 (by decide) (fun c9 => ?_) (fun c9 => ?_)
  · have h := h.1 c9
    exact j14 _ _ _ _ _ _ hk S (lv_sub hl [] rfl) h
  · have h := h.2 c9
    refine lv_iload_n hx hb dX4_isIn_5 rfl (lv_at hl 0 rfl) ?_
    refine lv_iload_n hx hb dX4_isIn_6 rfl (lv_at hl 2 rfl) ?_
    refine lv_icmp_gt (tgt := 14) hx hb dX4_isIn_7 (by decide) (fun c9 => ?_) (fun c9 => ?_)
    · have h := h.1 c9
      exact j14 _ _ _ _ _ _ hk S (lv_sub hl [] rfl) h
    · have h := h.2 c9
      refine lv_iconst (v := 1) hx hb dX4_isIn_10 (by decide) ?_
      refine lv_goto (tgt := 15) hx hb dX4_isIn_11 (by decide) ?_
      exact j15 _ _ _ _ _ _ _ hk S (lv_sub hl [] rfl) h
/-! X4_noPond: level 11 -/
def wb_X4_noPond_14 (G : mG) (P : Int32 → mM → Prop) (r : Nat) (M : mM) (s0 : Int32) : Prop :=
  narrow .boolean (.int s0) = .int s0 ∧ P s0 M
def wp_X4_noPond (G : mG) (b : Nat) (P : Int32 → mM → Prop) (M : mM) (x0 : Int32) : Prop :=
  wp_X4_isIn G 0 (fun v2 M1 => (¬ v2 = 0 → wb_X4_noPond_14 G P b M1 0) ∧ (v2 = 0 → wb_X4_noPond_14 G P b M1 1)) M x0 0 3
set_option maxHeartbeats 4000000 in
set_option maxRecDepth 100000 in
theorem wk_X4_noPond {l : Launch} (hst0 : l.stackTraces = false) {G : mG} {b : Nat} {P : Int32 → mM → Prop} {M : mM} {x0 : Int32} (h : wp_X4_noPond G b P M x0) : mMet l yX4_noPond (ws_ yX4_noPond cX4_noPond 1 (Option.some Jvm.ClassFile.FieldType.boolean)) 11 b G [.int x0] M (mRi P) (fun _ _ _ => False) := by
  refine mm_met hst0 (by decide) (Nat.le_of_ble_eq_true rfl) ?_
  intro p e s m args below meth c ls C hr hnt hnm hl S
  have hl : lv_has ls 1 [(0, .int x0)] := hl
  generalize mA M s.heap.size = A at C S ⊢
  have hx := C.hx
  have hb := C.hb
  have hk : 0 + b ≤ b := Nat.le_of_eq (Nat.zero_add b)
  have j14 : ∀ (k r : Nat) (M : mM) (H : Heap) (locs : List Loc) (ls : Array Slot) (s0 : Int32), k + r ≤ b → mW G A s M H locs → lv_has ls 1 [] → wb_X4_noPond_14 G P r M s0 → W p l e (mRm 11 b) s m args below meth c H locs k k (vx_MQ below (mQ G A (mRi P)) (mXC G A (fun _ _ _ => False)) args s b b A) (F0 m 14 ls [.int s0]) := by
    intro k r M H locs ls s0 hk S hl h
    unfold wb_X4_noPond_14 at h
    exact mm_zret C S hr (Nat.le_trans (Nat.le_add_right _ _) hk) dX4_noPond_14 h
  unfold wp_X4_noPond at h
  refine lv_iload_n hx hb dX4_noPond_0 rfl (lv_at hl 0 rfl) ?_
  refine lv_iconst (v := 0) hx hb dX4_noPond_1 (by decide) ?_
  refine lv_iconst (v := 3) hx hb dX4_noPond_2 (by decide) ?_
  refine mm_S (As := [.int x0, .int 0, .int 3]) (rest := []) C S hl.1 (wk_X4_isIn hst0 h) (lw_S q1830 q1831 q58 q1832) pd_X4_isIn ⟨Nat.le_of_ble_eq_true rfl, Nat.le_of_ble_eq_true rfl⟩ rfl rfl (Nat.le_of_ble_eq_true rfl) dX4_noPond_3 rfl rfl hk (Nat.zero_add _) (fun v9 M1 H locs hP S hk => ?_) (fun E q ce M9 H9 locs9 hX => hX.elim)
  obtain ⟨v2, rfl, h⟩ := hP
  refine W.eq (g2 := F0 m 6 ls [.int v2]) rfl ?_
  refine lv_if_ne (tgt := 13) hx hb dX4_noPond_6 (by decide) (fun c9 => ?_) (fun c9 => ?_)
  · have h := h.1 c9
    refine lv_iconst (v := 0) hx hb dX4_noPond_13 (by decide) ?_
    exact j14 _ _ _ _ _ _ _ hk S (lv_sub hl [] rfl) h
  · have h := h.2 c9
    refine lv_iconst (v := 1) hx hb dX4_noPond_9 (by decide) ?_
    refine lv_goto (tgt := 14) hx hb dX4_noPond_10 (by decide) ?_
    exact j14 _ _ _ _ _ _ _ hk S (lv_sub hl [] rfl) h
/-! X4_fails: level 10 -/
def wb_X4_fails_41 (G : mG) (P : Int32 → mM → Prop) (r : Nat) (M : mM) (s0 : Int32) : Prop :=
  narrow .boolean (.int s0) = .int s0 ∧ P s0 M
def wb_X4_fails_26 (G : mG) (P : Int32 → mM → Prop) (r : Nat) (M : mM) (a0 : Nat) (s0 : Nat) (s1 : Int32) : Prop :=
  pfi M s0 3 0 s1 fun M1 => gfi M1 a0 3 0 fun v2 => (v2 ≤ 0 → wb_X4_fails_41 G P r M1 0) ∧ (¬ v2 ≤ 0 → wb_X4_fails_41 G P r M1 1)
def wp_X4_fails (G : mG) (b : Nat) (P : Int32 → mM → Prop) (M : mM) (a0 : Nat) (x1 : Int32) (x2 : Int32) (x3 : Int32) : Prop :=
  (x1 = 0 → (x2 = 0 → (x3 = 0 → wb_X4_fails_26 G P b M a0 a0 0) ∧ (¬ x3 = 0 → wb_X4_fails_26 G P b M a0 a0 3)) ∧ (¬ x2 = 0 → wb_X4_fails_26 G P b M a0 a0 2)) ∧ (¬ x1 = 0 → wb_X4_fails_26 G P b M a0 a0 1)
set_option maxHeartbeats 4000000 in
set_option maxRecDepth 100000 in
theorem wk_X4_fails {l : Launch} (hst0 : l.stackTraces = false) {G : mG} {b : Nat} {P : Int32 → mM → Prop} {M : mM} {a0 : Nat} {x1 : Int32} {x2 : Int32} {x3 : Int32} (h : wp_X4_fails G b P M a0 x1 x2 x3) : mMet l yX4_fails (ws_ yX4_fails cX4_fails 4 (Option.some Jvm.ClassFile.FieldType.boolean)) 10 b G [.ref a0, .int x1, .int x2, .int x3] M (mRi P) (fun _ _ _ => False) := by
  refine mm_met hst0 (by decide) (Nat.le_of_ble_eq_true rfl) ?_
  intro p e s m args below meth c ls C hr hnt hnm hl S
  have hl : lv_has ls 4 [(0, .ref a0), (1, .int x1), (2, .int x2), (3, .int x3)] := hl
  generalize mA M s.heap.size = A at C S ⊢
  have hx := C.hx
  have hb := C.hb
  have hk : 0 + b ≤ b := Nat.le_of_eq (Nat.zero_add b)
  have j41 : ∀ (k r : Nat) (M : mM) (H : Heap) (locs : List Loc) (ls : Array Slot) (s0 : Int32), k + r ≤ b → mW G A s M H locs → lv_has ls 4 [] → wb_X4_fails_41 G P r M s0 → W p l e (mRm 10 b) s m args below meth c H locs k k (vx_MQ below (mQ G A (mRi P)) (mXC G A (fun _ _ _ => False)) args s b b A) (F0 m 41 ls [.int s0]) := by
    intro k r M H locs ls s0 hk S hl h
    unfold wb_X4_fails_41 at h
    exact mm_zret C S hr (Nat.le_trans (Nat.le_add_right _ _) hk) dX4_fails_41 h
  have j26 : ∀ (k r : Nat) (M : mM) (H : Heap) (locs : List Loc) (ls : Array Slot) (a0 : Nat) (s0 : Nat) (s1 : Int32), k + r ≤ b → mW G A s M H locs → lv_has ls 4 [(0, .ref a0)] → wb_X4_fails_26 G P r M a0 s0 s1 → W p l e (mRm 10 b) s m args below meth c H locs k k (vx_MQ below (mQ G A (mRi P)) (mXC G A (fun _ _ _ => False)) args s b b A) (F0 m 26 ls [.int s1, .ref s0]) := by
    intro k r M H locs ls a0 s0 s1 hk S hl h
    unfold wb_X4_fails_26 at h
    refine mm_pfi C S (ci := 3) (k := 0) rfl in_X4 tyX4_ok nmX4 (by decide) q1670 (fun _ h9 => h9) rfl dX4_fails_26 rfl h (fun M1 H locs h S => ?_)
    refine lv_aload_n hx hb dX4_fails_29 rfl (lv_at hl 0 rfl) ?_
    refine mm_gfi C S (ci := 3) (k := 0) rfl in_X4 (by decide) q1670 (fun _ h9 => h9) dX4_fails_30 h (fun v2 h => ?_)
    refine lv_if_le (tgt := 40) hx hb dX4_fails_33 (by decide) (fun c9 => ?_) (fun c9 => ?_)
    · have h := h.1 c9
      refine lv_iconst (v := 0) hx hb dX4_fails_40 (by decide) ?_
      exact j41 _ _ _ _ _ _ _ hk S (lv_sub hl [] rfl) h
    · have h := h.2 c9
      refine lv_iconst (v := 1) hx hb dX4_fails_36 (by decide) ?_
      refine lv_goto (tgt := 41) hx hb dX4_fails_37 (by decide) ?_
      exact j41 _ _ _ _ _ _ _ hk S (lv_sub hl [] rfl) h
  unfold wp_X4_fails at h
  refine lv_aload_n hx hb dX4_fails_0 rfl (lv_at hl 0 rfl) ?_
  refine lv_iload_n hx hb dX4_fails_1 rfl (lv_at hl 1 rfl) ?_
  refine lv_if_eq (tgt := 9) hx hb dX4_fails_2 (by decide) (fun c9 => ?_) (fun c9 => ?_)
  · have h := h.1 c9
    refine lv_iload_n hx hb dX4_fails_9 rfl (lv_at hl 2 rfl) ?_
    refine lv_if_eq (tgt := 17) hx hb dX4_fails_10 (by decide) (fun c9 => ?_) (fun c9 => ?_)
    · have h := h.1 c9
      refine lv_iload_n hx hb dX4_fails_17 rfl (lv_at hl 3 rfl) ?_
      refine lv_if_eq (tgt := 25) hx hb dX4_fails_18 (by decide) (fun c9 => ?_) (fun c9 => ?_)
      · have h := h.1 c9
        refine lv_iconst (v := 0) hx hb dX4_fails_25 (by decide) ?_
        exact j26 _ _ _ _ _ _ _ _ _ hk S (lv_sub hl [0] rfl) h
      · have h := h.2 c9
        refine lv_iconst (v := 3) hx hb dX4_fails_21 (by decide) ?_
        refine lv_goto (tgt := 26) hx hb dX4_fails_22 (by decide) ?_
        exact j26 _ _ _ _ _ _ _ _ _ hk S (lv_sub hl [0] rfl) h
    · have h := h.2 c9
      refine lv_iconst (v := 2) hx hb dX4_fails_13 (by decide) ?_
      refine lv_goto (tgt := 26) hx hb dX4_fails_14 (by decide) ?_
      exact j26 _ _ _ _ _ _ _ _ _ hk S (lv_sub hl [0] rfl) h
  · have h := h.2 c9
    refine lv_iconst (v := 1) hx hb dX4_fails_5 (by decide) ?_
    refine lv_goto (tgt := 26) hx hb dX4_fails_6 (by decide) ?_
    exact j26 _ _ _ _ _ _ _ _ _ hk S (lv_sub hl [0] rfl) h
/-! X4_addSluice: level 12 -/
def wb_X4_addSluice_59 (G : mG) (P : Int32 → mM → Prop) (r : Nat) (M : mM) (a0 : Nat) (x1 : Int32) (x2 : Int32) (x3 : Int32) (s0 : Nat) (s1 : Int32) (s2 : Int32) (s3 : Int32) : Prop :=
  isc M s0 3 ∧ (wp_X4_fails G 0 (fun v9 M8 => (v9 = 0 → gfa M8 a0 3 14 fun u10 => gfi M8 a0 3 13 fun v11 => sti M8 0 u10 v11 x1 fun M12 => gfa M12 a0 3 15 fun u13 => gfi M12 a0 3 13 fun v14 => sti M12 0 u13 v14 x2 fun M15 => gfa M15 a0 3 16 fun u16 => gfi M15 a0 3 13 fun v17 => sti M15 0 u16 v17 x3 fun M18 => gfa M18 a0 3 17 fun u19 => gfi M18 a0 3 13 fun v20 => stn M18 1 u19 .boolean v20 1 fun M21 => gfi M21 a0 3 13 fun v22 => pfi M21 a0 3 13 (v22 + 1) fun M23 => P v22 M23) ∧ (¬ v9 = 0 → P 0 M8)) M s0 s1 s2 s3)
def wb_X4_addSluice_45 (G : mG) (P : Int32 → mM → Prop) (r : Nat) (M : mM) (a0 : Nat) (x1 : Int32) (x2 : Int32) (x3 : Int32) (s0 : Nat) (s1 : Int32) (s2 : Int32) : Prop :=
  gfi M a0 3 13 fun v7 => (¬ v7 = 8 → wb_X4_addSluice_59 G P r M a0 x1 x2 x3 s0 s1 s2 0) ∧ (v7 = 8 → wb_X4_addSluice_59 G P r M a0 x1 x2 x3 s0 s1 s2 1)
def wb_X4_addSluice_40 (G : mG) (P : Int32 → mM → Prop) (r : Nat) (M : mM) (a0 : Nat) (x1 : Int32) (x2 : Int32) (x3 : Int32) (s0 : Nat) (s1 : Int32) : Prop :=
  wb_X4_addSluice_45 G P r M a0 x1 x2 x3 s0 s1 1
def wb_X4_addSluice_25 (G : mG) (P : Int32 → mM → Prop) (r : Nat) (M : mM) (a0 : Nat) (x1 : Int32) (x2 : Int32) (x3 : Int32) (s0 : Nat) (s1 : Int32) : Prop :=
  (x1 = x2 → wb_X4_addSluice_40 G P r M a0 x1 x2 x3 s0 s1) ∧ (¬ x1 = x2 → wp_X4_isIn G 0 (fun v6 M5 => (¬ v6 = 0 → wb_X4_addSluice_45 G P r M5 a0 x1 x2 x3 s0 s1 0) ∧ (v6 = 0 → wb_X4_addSluice_40 G P r M5 a0 x1 x2 x3 s0 s1)) M x3 0 9)
def wb_X4_addSluice_20 (G : mG) (P : Int32 → mM → Prop) (r : Nat) (M : mM) (a0 : Nat) (x1 : Int32) (x2 : Int32) (x3 : Int32) (s0 : Nat) : Prop :=
  wb_X4_addSluice_25 G P r M a0 x1 x2 x3 s0 1
def wb_X4_addSluice_24 (G : mG) (P : Int32 → mM → Prop) (r : Nat) (M : mM) (a0 : Nat) (x1 : Int32) (x2 : Int32) (x3 : Int32) (s0 : Nat) : Prop :=
  wb_X4_addSluice_25 G P r M a0 x1 x2 x3 s0 0
def wp_X4_addSluice (G : mG) (b : Nat) (P : Int32 → mM → Prop) (M : mM) (a0 : Nat) (x1 : Int32) (x2 : Int32) (x3 : Int32) : Prop :=
  wp_X4_noPond G 0 (fun v2 M1 => (¬ v2 = 0 → wb_X4_addSluice_20 G P b M1 a0 x1 x2 x3 a0) ∧ (v2 = 0 → (x2 = (-1) → wb_X4_addSluice_24 G P b M1 a0 x1 x2 x3 a0) ∧ (¬ x2 = (-1) → wp_X4_noPond G 0 (fun v4 M3 => (v4 = 0 → wb_X4_addSluice_24 G P b M3 a0 x1 x2 x3 a0) ∧ (¬ v4 = 0 → wb_X4_addSluice_20 G P b M3 a0 x1 x2 x3 a0)) M1 x2))) M x1
set_option maxHeartbeats 4000000 in
set_option maxRecDepth 100000 in
theorem wk_X4_addSluice {l : Launch} (hst0 : l.stackTraces = false) {G : mG} {b : Nat} {P : Int32 → mM → Prop} {M : mM} {a0 : Nat} {x1 : Int32} {x2 : Int32} {x3 : Int32} (h : wp_X4_addSluice G b P M a0 x1 x2 x3) : mMet l yX4_addSluice (ws_ yX4_addSluice cX4_addSluice 4 (Option.some Jvm.ClassFile.FieldType.int)) 12 b G [.ref a0, .int x1, .int x2, .int x3] M (mRi P) (fun _ _ _ => False) := by
  refine mm_met hst0 (by decide) (Nat.le_of_ble_eq_true rfl) ?_
  intro p e s m args below meth c ls C hr hnt hnm hl S
  have hl : lv_has ls 4 [(0, .ref a0), (1, .int x1), (2, .int x2), (3, .int x3)] := hl
  generalize mA M s.heap.size = A at C S ⊢
  have hx := C.hx
  have hb := C.hb
  have hk : 0 + b ≤ b := Nat.le_of_eq (Nat.zero_add b)
  have j59 : ∀ (k r : Nat) (M : mM) (H : Heap) (locs : List Loc) (ls : Array Slot) (a0 : Nat) (x1 : Int32) (x2 : Int32) (x3 : Int32) (s0 : Nat) (s1 : Int32) (s2 : Int32) (s3 : Int32), k + r ≤ b → mW G A s M H locs → lv_has ls 4 [(0, .ref a0), (1, .int x1), (2, .int x2), (3, .int x3)] → wb_X4_addSluice_59 G P r M a0 x1 x2 x3 s0 s1 s2 s3 → W p l e (mRm 12 b) s m args below meth c H locs k k (vx_MQ below (mQ G A (mRi P)) (mXC G A (fun _ _ _ => False)) args s b b A) (F0 m 59 ls [.int s3, .int s2, .int s1, .ref s0]) := by
    intro k r M H locs ls a0 x1 x2 x3 s0 s1 s2 s3 hk S hl h
    unfold wb_X4_addSluice_59 at h
    obtain ⟨hI, h⟩ := h
    refine mm_V (As := [.int s1, .int s2, .int s3]) (rest := []) C S hl.1 (wk_X4_fails hst0 h) (T := TX4) rfl hI (lw_V q1836 q1838 qs22 q58 q1839) rfl pd_X4_fails ⟨Nat.le_of_ble_eq_true rfl, Nat.le_of_ble_eq_true rfl⟩ rfl rfl (Nat.le_of_ble_eq_true rfl) dX4_addSluice_59 rfl rfl hk (Nat.zero_add _) (fun v9 M8 H locs hP S hk => ?_) (fun E q ce M9 H9 locs9 hX => hX.elim)
    obtain ⟨v9, rfl, h⟩ := hP
    refine W.eq (g2 := F0 m 62 ls [.int v9]) rfl ?_
    refine lv_if_eq (tgt := 67) hx hb dX4_addSluice_62 (by decide) (fun c9 => ?_) (fun c9 => ?_)
    · have h := h.1 c9
      refine lv_aload_n hx hb dX4_addSluice_67 rfl (lv_at hl 0 rfl) ?_
      refine mm_gfa C S (ci := 3) (k := 14) rfl in_X4 (by decide) q1684 (fun _ h9 => h9) dX4_addSluice_68 h (fun u10 h => ?_)
      refine lv_aload_n hx hb dX4_addSluice_71 rfl (lv_at hl 0 rfl) ?_
      refine mm_gfi C S (ci := 3) (k := 13) rfl in_X4 (by decide) q1683 (fun _ h9 => h9) dX4_addSluice_72 h (fun v11 h => ?_)
      refine lv_iload_n hx hb dX4_addSluice_75 rfl (lv_at hl 1 rfl) ?_
      refine mm_iast C S h dX4_addSluice_76 (fun M12 H locs h S => ?_)
      refine lv_aload_n hx hb dX4_addSluice_77 rfl (lv_at hl 0 rfl) ?_
      refine mm_gfa C S (ci := 3) (k := 15) rfl in_X4 (by decide) q1685 (fun _ h9 => h9) dX4_addSluice_78 h (fun u13 h => ?_)
      refine lv_aload_n hx hb dX4_addSluice_81 rfl (lv_at hl 0 rfl) ?_
      refine mm_gfi C S (ci := 3) (k := 13) rfl in_X4 (by decide) q1683 (fun _ h9 => h9) dX4_addSluice_82 h (fun v14 h => ?_)
      refine lv_iload_n hx hb dX4_addSluice_85 rfl (lv_at hl 2 rfl) ?_
      refine mm_iast C S h dX4_addSluice_86 (fun M15 H locs h S => ?_)
      refine lv_aload_n hx hb dX4_addSluice_87 rfl (lv_at hl 0 rfl) ?_
      refine mm_gfa C S (ci := 3) (k := 16) rfl in_X4 (by decide) q1686 (fun _ h9 => h9) dX4_addSluice_88 h (fun u16 h => ?_)
      refine lv_aload_n hx hb dX4_addSluice_91 rfl (lv_at hl 0 rfl) ?_
      refine mm_gfi C S (ci := 3) (k := 13) rfl in_X4 (by decide) q1683 (fun _ h9 => h9) dX4_addSluice_92 h (fun v17 h => ?_)
      refine lv_iload_n hx hb dX4_addSluice_95 rfl (lv_at hl 3 rfl) ?_
      refine mm_iast C S h dX4_addSluice_96 (fun M18 H locs h S => ?_)
      refine lv_aload_n hx hb dX4_addSluice_97 rfl (lv_at hl 0 rfl) ?_
      refine mm_gfa C S (ci := 3) (k := 17) rfl in_X4 (by decide) q1687 (fun _ h9 => h9) dX4_addSluice_98 h (fun u19 h => ?_)
      refine lv_aload_n hx hb dX4_addSluice_101 rfl (lv_at hl 0 rfl) ?_
      refine mm_gfi C S (ci := 3) (k := 13) rfl in_X4 (by decide) q1683 (fun _ h9 => h9) dX4_addSluice_102 h (fun v20 h => ?_)
      refine lv_iconst (v := 1) hx hb dX4_addSluice_105 (by decide) ?_
      refine mm_zast C S h dX4_addSluice_106 (fun M21 H locs h S => ?_)
      refine lv_aload_n hx hb dX4_addSluice_107 rfl (lv_at hl 0 rfl) ?_
      refine lv_dup hx hb dX4_addSluice_108 rfl ?_
      refine mm_gfi C S (ci := 3) (k := 13) rfl in_X4 (by decide) q1683 (fun _ h9 => h9) dX4_addSluice_109 h (fun v22 h => ?_)
      refine lv_dup_x1 hx hb dX4_addSluice_112 rfl rfl ?_
      refine lv_iconst (v := 1) hx hb dX4_addSluice_113 (by decide) ?_
      refine lv_iadd hx hb dX4_addSluice_114 ?_
      refine mm_pfi C S (ci := 3) (k := 13) rfl in_X4 tyX4_ok nmX4 (by decide) q1683 (fun _ h9 => h9) rfl dX4_addSluice_115 rfl h (fun M23 H locs h S => ?_)
      exact mm_iret C S hr (Nat.le_trans (Nat.le_add_right _ _) hk) dX4_addSluice_118 h
    · have h := h.2 c9
      refine lv_iconst (v := 0) hx hb dX4_addSluice_65 (by decide) ?_
      exact mm_iret C S hr (Nat.le_trans (Nat.le_add_right _ _) hk) dX4_addSluice_66 h
  have j45 : ∀ (k r : Nat) (M : mM) (H : Heap) (locs : List Loc) (ls : Array Slot) (a0 : Nat) (x1 : Int32) (x2 : Int32) (x3 : Int32) (s0 : Nat) (s1 : Int32) (s2 : Int32), k + r ≤ b → mW G A s M H locs → lv_has ls 4 [(0, .ref a0), (1, .int x1), (2, .int x2), (3, .int x3)] → wb_X4_addSluice_45 G P r M a0 x1 x2 x3 s0 s1 s2 → W p l e (mRm 12 b) s m args below meth c H locs k k (vx_MQ below (mQ G A (mRi P)) (mXC G A (fun _ _ _ => False)) args s b b A) (F0 m 45 ls [.int s2, .int s1, .ref s0]) := by
    intro k r M H locs ls a0 x1 x2 x3 s0 s1 s2 hk S hl h
    unfold wb_X4_addSluice_45 at h
    refine lv_aload_n hx hb dX4_addSluice_45 rfl (lv_at hl 0 rfl) ?_
    refine mm_gfi C S (ci := 3) (k := 13) rfl in_X4 (by decide) q1683 (fun _ h9 => h9) dX4_addSluice_46 h (fun v7 h => ?_)
    refine lv_bipush (v := 8) hx hb dX4_addSluice_49 (by decide) ?_
    refine lv_icmp_ne (tgt := 58) hx hb dX4_addSluice_51 (by decide) (fun c9 => ?_) (fun c9 => ?_)
    · have h := h.1 c9
      refine lv_iconst (v := 0) hx hb dX4_addSluice_58 (by decide) ?_
      exact j59 _ _ _ _ _ _ _ _ _ _ _ _ _ _ hk S hl h
    · have h := h.2 c9
      refine lv_iconst (v := 1) hx hb dX4_addSluice_54 (by decide) ?_
      refine lv_goto (tgt := 59) hx hb dX4_addSluice_55 (by decide) ?_
      exact j59 _ _ _ _ _ _ _ _ _ _ _ _ _ _ hk S hl h
  have j40 : ∀ (k r : Nat) (M : mM) (H : Heap) (locs : List Loc) (ls : Array Slot) (a0 : Nat) (x1 : Int32) (x2 : Int32) (x3 : Int32) (s0 : Nat) (s1 : Int32), k + r ≤ b → mW G A s M H locs → lv_has ls 4 [(0, .ref a0), (1, .int x1), (2, .int x2), (3, .int x3)] → wb_X4_addSluice_40 G P r M a0 x1 x2 x3 s0 s1 → W p l e (mRm 12 b) s m args below meth c H locs k k (vx_MQ below (mQ G A (mRi P)) (mXC G A (fun _ _ _ => False)) args s b b A) (F0 m 40 ls [.int s1, .ref s0]) := by
    intro k r M H locs ls a0 x1 x2 x3 s0 s1 hk S hl h
    unfold wb_X4_addSluice_40 at h
    refine lv_iconst (v := 1) hx hb dX4_addSluice_40 (by decide) ?_
    refine lv_goto (tgt := 45) hx hb dX4_addSluice_41 (by decide) ?_
    exact j45 _ _ _ _ _ _ _ _ _ _ _ _ _ hk S hl h
  have j25 : ∀ (k r : Nat) (M : mM) (H : Heap) (locs : List Loc) (ls : Array Slot) (a0 : Nat) (x1 : Int32) (x2 : Int32) (x3 : Int32) (s0 : Nat) (s1 : Int32), k + r ≤ b → mW G A s M H locs → lv_has ls 4 [(0, .ref a0), (1, .int x1), (2, .int x2), (3, .int x3)] → wb_X4_addSluice_25 G P r M a0 x1 x2 x3 s0 s1 → W p l e (mRm 12 b) s m args below meth c H locs k k (vx_MQ below (mQ G A (mRi P)) (mXC G A (fun _ _ _ => False)) args s b b A) (F0 m 25 ls [.int s1, .ref s0]) := by
    intro k r M H locs ls a0 x1 x2 x3 s0 s1 hk S hl h
    unfold wb_X4_addSluice_25 at h
    refine lv_iload_n hx hb dX4_addSluice_25 rfl (lv_at hl 1 rfl) ?_
    refine lv_iload_n hx hb dX4_addSluice_26 rfl (lv_at hl 2 rfl) ?_
    refine lv_icmp_eq (tgt := 40) hx hb dX4_addSluice_27 (by decide) (fun c9 => ?_) (fun c9 => ?_)
    · have h := h.1 c9
      exact j40 _ _ _ _ _ _ _ _ _ _ _ _ hk S hl h
    · have h := h.2 c9
      refine lv_iload_n hx hb dX4_addSluice_30 rfl (lv_at hl 3 rfl) ?_
      refine lv_iconst (v := 0) hx hb dX4_addSluice_31 (by decide) ?_
      refine lv_bipush (v := 9) hx hb dX4_addSluice_32 (by decide) ?_
      refine mm_S (As := [.int x3, .int 0, .int 9]) (rest := [.int s1, .ref s0]) C S hl.1 (wk_X4_isIn hst0 h) (lw_S q1830 q1831 q58 q1832) pd_X4_isIn ⟨Nat.le_of_ble_eq_true rfl, Nat.le_of_ble_eq_true rfl⟩ rfl rfl (Nat.le_of_ble_eq_true rfl) dX4_addSluice_34 rfl rfl hk (Nat.zero_add _) (fun v9 M5 H locs hP S hk => ?_) (fun E q ce M9 H9 locs9 hX => hX.elim)
      obtain ⟨v6, rfl, h⟩ := hP
      refine W.eq (g2 := F0 m 37 ls [.int v6, .int s1, .ref s0]) rfl ?_
      refine lv_if_ne (tgt := 44) hx hb dX4_addSluice_37 (by decide) (fun c9 => ?_) (fun c9 => ?_)
      · have h := h.1 c9
        refine lv_iconst (v := 0) hx hb dX4_addSluice_44 (by decide) ?_
        exact j45 _ _ _ _ _ _ _ _ _ _ _ _ _ hk S hl h
      · have h := h.2 c9
        exact j40 _ _ _ _ _ _ _ _ _ _ _ _ hk S hl h
  have j20 : ∀ (k r : Nat) (M : mM) (H : Heap) (locs : List Loc) (ls : Array Slot) (a0 : Nat) (x1 : Int32) (x2 : Int32) (x3 : Int32) (s0 : Nat), k + r ≤ b → mW G A s M H locs → lv_has ls 4 [(0, .ref a0), (1, .int x1), (2, .int x2), (3, .int x3)] → wb_X4_addSluice_20 G P r M a0 x1 x2 x3 s0 → W p l e (mRm 12 b) s m args below meth c H locs k k (vx_MQ below (mQ G A (mRi P)) (mXC G A (fun _ _ _ => False)) args s b b A) (F0 m 20 ls [.ref s0]) := by
    intro k r M H locs ls a0 x1 x2 x3 s0 hk S hl h
    unfold wb_X4_addSluice_20 at h
    refine lv_iconst (v := 1) hx hb dX4_addSluice_20 (by decide) ?_
    refine lv_goto (tgt := 25) hx hb dX4_addSluice_21 (by decide) ?_
    exact j25 _ _ _ _ _ _ _ _ _ _ _ _ hk S hl h
  have j24 : ∀ (k r : Nat) (M : mM) (H : Heap) (locs : List Loc) (ls : Array Slot) (a0 : Nat) (x1 : Int32) (x2 : Int32) (x3 : Int32) (s0 : Nat), k + r ≤ b → mW G A s M H locs → lv_has ls 4 [(0, .ref a0), (1, .int x1), (2, .int x2), (3, .int x3)] → wb_X4_addSluice_24 G P r M a0 x1 x2 x3 s0 → W p l e (mRm 12 b) s m args below meth c H locs k k (vx_MQ below (mQ G A (mRi P)) (mXC G A (fun _ _ _ => False)) args s b b A) (F0 m 24 ls [.ref s0]) := by
    intro k r M H locs ls a0 x1 x2 x3 s0 hk S hl h
    unfold wb_X4_addSluice_24 at h
    refine lv_iconst (v := 0) hx hb dX4_addSluice_24 (by decide) ?_
    exact j25 _ _ _ _ _ _ _ _ _ _ _ _ hk S hl h
  unfold wp_X4_addSluice at h
  refine lv_aload_n hx hb dX4_addSluice_0 rfl (lv_at hl 0 rfl) ?_
  refine lv_iload_n hx hb dX4_addSluice_1 rfl (lv_at hl 1 rfl) ?_
  refine mm_S (As := [.int x1]) (rest := [.ref a0]) C S hl.1 (wk_X4_noPond hst0 h) (lw_S q1833 q1834 q58 q1835) pd_X4_noPond ⟨Nat.le_of_ble_eq_true rfl, Nat.le_of_ble_eq_true rfl⟩ rfl rfl (Nat.le_of_ble_eq_true rfl) dX4_addSluice_2 rfl rfl hk (Nat.zero_add _) (fun v9 M1 H locs hP S hk => ?_) (fun E q ce M9 H9 locs9 hX => hX.elim)
  obtain ⟨v2, rfl, h⟩ := hP
  refine W.eq (g2 := F0 m 5 ls [.int v2, .ref a0]) rfl ?_
  refine lv_if_ne (tgt := 20) hx hb dX4_addSluice_5 (by decide) (fun c9 => ?_) (fun c9 => ?_)
  · have h := h.1 c9
    exact j20 _ _ _ _ _ _ _ _ _ _ _ hk S hl h
  · have h := h.2 c9
    refine lv_iload_n hx hb dX4_addSluice_8 rfl (lv_at hl 2 rfl) ?_
    refine lv_iconst (v := (-1)) hx hb dX4_addSluice_9 (by decide) ?_
    refine lv_icmp_eq (tgt := 24) hx hb dX4_addSluice_10 (by decide) (fun c9 => ?_) (fun c9 => ?_)
    · have h := h.1 c9
      exact j24 _ _ _ _ _ _ _ _ _ _ _ hk S hl h
    · have h := h.2 c9
      refine lv_iload_n hx hb dX4_addSluice_13 rfl (lv_at hl 2 rfl) ?_
      refine mm_S (As := [.int x2]) (rest := [.ref a0]) C S hl.1 (wk_X4_noPond hst0 h) (lw_S q1833 q1834 q58 q1835) pd_X4_noPond ⟨Nat.le_of_ble_eq_true rfl, Nat.le_of_ble_eq_true rfl⟩ rfl rfl (Nat.le_of_ble_eq_true rfl) dX4_addSluice_14 rfl rfl hk (Nat.zero_add _) (fun v9 M3 H locs hP S hk => ?_) (fun E q ce M9 H9 locs9 hX => hX.elim)
      obtain ⟨v4, rfl, h⟩ := hP
      refine W.eq (g2 := F0 m 17 ls [.int v4, .ref a0]) rfl ?_
      refine lv_if_eq (tgt := 24) hx hb dX4_addSluice_17 (by decide) (fun c9 => ?_) (fun c9 => ?_)
      · have h := h.1 c9
        exact j24 _ _ _ _ _ _ _ _ _ _ _ hk S hl h
      · have h := h.2 c9
        exact j20 _ _ _ _ _ _ _ _ _ _ _ hk S hl h
/-! X4_addWalker: level 11 -/
def wb_X4_addWalker_38 (G : mG) (P : Int32 → mM → Prop) (r : Nat) (M : mM) (s0 : Int32) : Prop :=
  P s0 M
def wb_X4_addWalker_15 (G : mG) (P : Int32 → mM → Prop) (r : Nat) (M : mM) (a0 : Nat) (s0 : Nat) (s1 : Int32) : Prop :=
  isc M s0 3 ∧ (wp_X4_fails G 0 (fun v3 M2 => (v3 = 0 → gfi M2 a0 3 27 fun v4 => pfi M2 a0 3 27 (v4 + 1) fun M5 => wb_X4_addWalker_38 G P r M5 v4) ∧ (¬ v3 = 0 → wb_X4_addWalker_38 G P r M2 0)) M s0 s1 0 0)
def wp_X4_addWalker (G : mG) (b : Nat) (P : Int32 → mM → Prop) (M : mM) (a0 : Nat) : Prop :=
  gfi M a0 3 27 fun v1 => (¬ v1 = 6 → wb_X4_addWalker_15 G P b M a0 a0 0) ∧ (v1 = 6 → wb_X4_addWalker_15 G P b M a0 a0 1)
set_option maxHeartbeats 4000000 in
set_option maxRecDepth 100000 in
theorem wk_X4_addWalker {l : Launch} (hst0 : l.stackTraces = false) {G : mG} {b : Nat} {P : Int32 → mM → Prop} {M : mM} {a0 : Nat} (h : wp_X4_addWalker G b P M a0) : mMet l yX4_addWalker (ws_ yX4_addWalker cX4_addWalker 1 (Option.some Jvm.ClassFile.FieldType.int)) 11 b G [.ref a0] M (mRi P) (fun _ _ _ => False) := by
  refine mm_met hst0 (by decide) (Nat.le_of_ble_eq_true rfl) ?_
  intro p e s m args below meth c ls C hr hnt hnm hl S
  have hl : lv_has ls 1 [(0, .ref a0)] := hl
  generalize mA M s.heap.size = A at C S ⊢
  have hx := C.hx
  have hb := C.hb
  have hk : 0 + b ≤ b := Nat.le_of_eq (Nat.zero_add b)
  have j38 : ∀ (k r : Nat) (M : mM) (H : Heap) (locs : List Loc) (ls : Array Slot) (s0 : Int32), k + r ≤ b → mW G A s M H locs → lv_has ls 1 [] → wb_X4_addWalker_38 G P r M s0 → W p l e (mRm 11 b) s m args below meth c H locs k k (vx_MQ below (mQ G A (mRi P)) (mXC G A (fun _ _ _ => False)) args s b b A) (F0 m 38 ls [.int s0]) := by
    intro k r M H locs ls s0 hk S hl h
    unfold wb_X4_addWalker_38 at h
    exact mm_iret C S hr (Nat.le_trans (Nat.le_add_right _ _) hk) dX4_addWalker_38 h
  have j15 : ∀ (k r : Nat) (M : mM) (H : Heap) (locs : List Loc) (ls : Array Slot) (a0 : Nat) (s0 : Nat) (s1 : Int32), k + r ≤ b → mW G A s M H locs → lv_has ls 1 [(0, .ref a0)] → wb_X4_addWalker_15 G P r M a0 s0 s1 → W p l e (mRm 11 b) s m args below meth c H locs k k (vx_MQ below (mQ G A (mRi P)) (mXC G A (fun _ _ _ => False)) args s b b A) (F0 m 15 ls [.int s1, .ref s0]) := by
    intro k r M H locs ls a0 s0 s1 hk S hl h
    unfold wb_X4_addWalker_15 at h
    refine lv_iconst (v := 0) hx hb dX4_addWalker_15 (by decide) ?_
    refine lv_iconst (v := 0) hx hb dX4_addWalker_16 (by decide) ?_
    obtain ⟨hI, h⟩ := h
    refine mm_V (As := [.int s1, .int 0, .int 0]) (rest := []) C S hl.1 (wk_X4_fails hst0 h) (T := TX4) rfl hI (lw_V q1836 q1838 qs22 q58 q1839) rfl pd_X4_fails ⟨Nat.le_of_ble_eq_true rfl, Nat.le_of_ble_eq_true rfl⟩ rfl rfl (Nat.le_of_ble_eq_true rfl) dX4_addWalker_17 rfl rfl hk (Nat.zero_add _) (fun v9 M2 H locs hP S hk => ?_) (fun E q ce M9 H9 locs9 hX => hX.elim)
    obtain ⟨v3, rfl, h⟩ := hP
    refine W.eq (g2 := F0 m 20 ls [.int v3]) rfl ?_
    refine lv_if_eq (tgt := 27) hx hb dX4_addWalker_20 (by decide) (fun c9 => ?_) (fun c9 => ?_)
    · have h := h.1 c9
      refine lv_aload_n hx hb dX4_addWalker_27 rfl (lv_at hl 0 rfl) ?_
      refine lv_dup hx hb dX4_addWalker_28 rfl ?_
      refine mm_gfi C S (ci := 3) (k := 27) rfl in_X4 (by decide) q1697 (fun _ h9 => h9) dX4_addWalker_29 h (fun v4 h => ?_)
      refine lv_dup_x1 hx hb dX4_addWalker_32 rfl rfl ?_
      refine lv_iconst (v := 1) hx hb dX4_addWalker_33 (by decide) ?_
      refine lv_iadd hx hb dX4_addWalker_34 ?_
      refine mm_pfi C S (ci := 3) (k := 27) rfl in_X4 tyX4_ok nmX4 (by decide) q1697 (fun _ h9 => h9) rfl dX4_addWalker_35 rfl h (fun M5 H locs h S => ?_)
      exact j38 _ _ _ _ _ _ _ hk S (lv_sub hl [] rfl) h
    · have h := h.2 c9
      refine lv_iconst (v := 0) hx hb dX4_addWalker_23 (by decide) ?_
      refine lv_goto (tgt := 38) hx hb dX4_addWalker_24 (by decide) ?_
      exact j38 _ _ _ _ _ _ _ hk S (lv_sub hl [] rfl) h
  unfold wp_X4_addWalker at h
  refine lv_aload_n hx hb dX4_addWalker_0 rfl (lv_at hl 0 rfl) ?_
  refine lv_aload_n hx hb dX4_addWalker_1 rfl (lv_at hl 0 rfl) ?_
  refine mm_gfi C S (ci := 3) (k := 27) rfl in_X4 (by decide) q1697 (fun _ h9 => h9) dX4_addWalker_2 h (fun v1 h => ?_)
  refine lv_bipush (v := 6) hx hb dX4_addWalker_5 (by decide) ?_
  refine lv_icmp_ne (tgt := 14) hx hb dX4_addWalker_7 (by decide) (fun c9 => ?_) (fun c9 => ?_)
  · have h := h.1 c9
    refine lv_iconst (v := 0) hx hb dX4_addWalker_14 (by decide) ?_
    exact j15 _ _ _ _ _ _ _ _ _ hk S hl h
  · have h := h.2 c9
    refine lv_iconst (v := 1) hx hb dX4_addWalker_10 (by decide) ?_
    refine lv_goto (tgt := 15) hx hb dX4_addWalker_11 (by decide) ?_
    exact j15 _ _ _ _ _ _ _ _ _ hk S hl h
/-! X4_answered: level 10 -/
def wp_X4_answered (G : mG) (b : Nat) (P : Int32 → mM → Prop) (M : mM) (a0 : Nat) (x1 : Int32) : Prop :=
  pfi M a0 3 0 0 fun M1 => P x1 M1
set_option maxHeartbeats 4000000 in
set_option maxRecDepth 100000 in
theorem wk_X4_answered {l : Launch} (hst0 : l.stackTraces = false) {G : mG} {b : Nat} {P : Int32 → mM → Prop} {M : mM} {a0 : Nat} {x1 : Int32} (h : wp_X4_answered G b P M a0 x1) : mMet l yX4_answered (ws_ yX4_answered cX4_answered 2 (Option.some Jvm.ClassFile.FieldType.int)) 10 b G [.ref a0, .int x1] M (mRi P) (fun _ _ _ => False) := by
  refine mm_met hst0 (by decide) (Nat.le_of_ble_eq_true rfl) ?_
  intro p e s m args below meth c ls C hr hnt hnm hl S
  have hl : lv_has ls 2 [(0, .ref a0), (1, .int x1)] := hl
  generalize mA M s.heap.size = A at C S ⊢
  have hx := C.hx
  have hb := C.hb
  have hk : 0 + b ≤ b := Nat.le_of_eq (Nat.zero_add b)
  unfold wp_X4_answered at h
  refine lv_aload_n hx hb dX4_answered_0 rfl (lv_at hl 0 rfl) ?_
  refine lv_iconst (v := 0) hx hb dX4_answered_1 (by decide) ?_
  refine mm_pfi C S (ci := 3) (k := 0) rfl in_X4 tyX4_ok nmX4 (by decide) q1670 (fun _ h9 => h9) rfl dX4_answered_2 rfl h (fun M1 H locs h S => ?_)
  refine lv_iload_n hx hb dX4_answered_5 rfl (lv_at hl 1 rfl) ?_
  exact mm_iret C S hr (Nat.le_trans (Nat.le_add_right _ _) hk) dX4_answered_6 h
/-! X4_noCell: level 11 -/
def wb_X4_noCell_15 (G : mG) (P : Int32 → mM → Prop) (r : Nat) (M : mM) (s0 : Int32) : Prop :=
  narrow .boolean (.int s0) = .int s0 ∧ P s0 M
def wp_X4_noCell (G : mG) (b : Nat) (P : Int32 → mM → Prop) (M : mM) (x0 : Int32) : Prop :=
  wp_X4_isIn G 0 (fun v2 M1 => (¬ v2 = 0 → wb_X4_noCell_15 G P b M1 0) ∧ (v2 = 0 → wb_X4_noCell_15 G P b M1 1)) M x0 0 35
set_option maxHeartbeats 4000000 in
set_option maxRecDepth 100000 in
theorem wk_X4_noCell {l : Launch} (hst0 : l.stackTraces = false) {G : mG} {b : Nat} {P : Int32 → mM → Prop} {M : mM} {x0 : Int32} (h : wp_X4_noCell G b P M x0) : mMet l yX4_noCell (ws_ yX4_noCell cX4_noCell 1 (Option.some Jvm.ClassFile.FieldType.boolean)) 11 b G [.int x0] M (mRi P) (fun _ _ _ => False) := by
  refine mm_met hst0 (by decide) (Nat.le_of_ble_eq_true rfl) ?_
  intro p e s m args below meth c ls C hr hnt hnm hl S
  have hl : lv_has ls 1 [(0, .int x0)] := hl
  generalize mA M s.heap.size = A at C S ⊢
  have hx := C.hx
  have hb := C.hb
  have hk : 0 + b ≤ b := Nat.le_of_eq (Nat.zero_add b)
  have j15 : ∀ (k r : Nat) (M : mM) (H : Heap) (locs : List Loc) (ls : Array Slot) (s0 : Int32), k + r ≤ b → mW G A s M H locs → lv_has ls 1 [] → wb_X4_noCell_15 G P r M s0 → W p l e (mRm 11 b) s m args below meth c H locs k k (vx_MQ below (mQ G A (mRi P)) (mXC G A (fun _ _ _ => False)) args s b b A) (F0 m 15 ls [.int s0]) := by
    intro k r M H locs ls s0 hk S hl h
    unfold wb_X4_noCell_15 at h
    exact mm_zret C S hr (Nat.le_trans (Nat.le_add_right _ _) hk) dX4_noCell_15 h
  unfold wp_X4_noCell at h
  refine lv_iload_n hx hb dX4_noCell_0 rfl (lv_at hl 0 rfl) ?_
  refine lv_iconst (v := 0) hx hb dX4_noCell_1 (by decide) ?_
  refine lv_bipush (v := 35) hx hb dX4_noCell_2 (by decide) ?_
  refine mm_S (As := [.int x0, .int 0, .int 35]) (rest := []) C S hl.1 (wk_X4_isIn hst0 h) (lw_S q1830 q1831 q58 q1832) pd_X4_isIn ⟨Nat.le_of_ble_eq_true rfl, Nat.le_of_ble_eq_true rfl⟩ rfl rfl (Nat.le_of_ble_eq_true rfl) dX4_noCell_4 rfl rfl hk (Nat.zero_add _) (fun v9 M1 H locs hP S hk => ?_) (fun E q ce M9 H9 locs9 hX => hX.elim)
  obtain ⟨v2, rfl, h⟩ := hP
  refine W.eq (g2 := F0 m 7 ls [.int v2]) rfl ?_
  refine lv_if_ne (tgt := 14) hx hb dX4_noCell_7 (by decide) (fun c9 => ?_) (fun c9 => ?_)
  · have h := h.1 c9
    refine lv_iconst (v := 0) hx hb dX4_noCell_14 (by decide) ?_
    exact j15 _ _ _ _ _ _ _ hk S (lv_sub hl [] rfl) h
  · have h := h.2 c9
    refine lv_iconst (v := 1) hx hb dX4_noCell_10 (by decide) ?_
    refine lv_goto (tgt := 15) hx hb dX4_noCell_11 (by decide) ?_
    exact j15 _ _ _ _ _ _ _ hk S (lv_sub hl [] rfl) h
/-! X4_depth: level 10 -/
def wp_X4_depth (G : mG) (b : Nat) (P : Int32 → mM → Prop) (M : mM) (a0 : Nat) (x1 : Int32) : Prop :=
  gfa M a0 3 8 fun u1 => gfa M a0 3 5 fun u2 => ldi M 0 u2 x1 fun v3 => ldi M 0 u1 v3 fun v4 => gfa M a0 3 3 fun u5 => ldi M 0 u5 x1 fun v6 => P (v4 - v6) M
set_option maxHeartbeats 4000000 in
set_option maxRecDepth 100000 in
theorem wk_X4_depth {l : Launch} (hst0 : l.stackTraces = false) {G : mG} {b : Nat} {P : Int32 → mM → Prop} {M : mM} {a0 : Nat} {x1 : Int32} (h : wp_X4_depth G b P M a0 x1) : mMet l yX4_depth (ws_ yX4_depth cX4_depth 2 (Option.some Jvm.ClassFile.FieldType.int)) 10 b G [.ref a0, .int x1] M (mRi P) (fun _ _ _ => False) := by
  refine mm_met hst0 (by decide) (Nat.le_of_ble_eq_true rfl) ?_
  intro p e s m args below meth c ls C hr hnt hnm hl S
  have hl : lv_has ls 2 [(0, .ref a0), (1, .int x1)] := hl
  generalize mA M s.heap.size = A at C S ⊢
  have hx := C.hx
  have hb := C.hb
  have hk : 0 + b ≤ b := Nat.le_of_eq (Nat.zero_add b)
  unfold wp_X4_depth at h
  refine lv_aload_n hx hb dX4_depth_0 rfl (lv_at hl 0 rfl) ?_
  refine mm_gfa C S (ci := 3) (k := 8) rfl in_X4 (by decide) q1678 (fun _ h9 => h9) dX4_depth_1 h (fun u1 h => ?_)
  refine lv_aload_n hx hb dX4_depth_4 rfl (lv_at hl 0 rfl) ?_
  refine mm_gfa C S (ci := 3) (k := 5) rfl in_X4 (by decide) q1675 (fun _ h9 => h9) dX4_depth_5 h (fun u2 h => ?_)
  refine lv_iload_n hx hb dX4_depth_8 rfl (lv_at hl 1 rfl) ?_
  refine mm_iald C S h dX4_depth_9 (fun v3 h => ?_)
  refine mm_iald C S h dX4_depth_10 (fun v4 h => ?_)
  refine lv_aload_n hx hb dX4_depth_11 rfl (lv_at hl 0 rfl) ?_
  refine mm_gfa C S (ci := 3) (k := 3) rfl in_X4 (by decide) q1673 (fun _ h9 => h9) dX4_depth_12 h (fun u5 h => ?_)
  refine lv_iload_n hx hb dX4_depth_15 rfl (lv_at hl 1 rfl) ?_
  refine mm_iald C S h dX4_depth_16 (fun v6 h => ?_)
  refine lv_isub hx hb dX4_depth_17 ?_
  exact mm_iret C S hr (Nat.le_trans (Nat.le_add_right _ _) hk) dX4_depth_18 h
/-! X4_suits: level 11 -/
def wb_X4_suits_38 (G : mG) (P : Int32 → mM → Prop) (r : Nat) (M : mM) (s0 : Int32) : Prop :=
  narrow .boolean (.int s0) = .int s0 ∧ P s0 M
def wb_X4_suits_37 (G : mG) (P : Int32 → mM → Prop) (r : Nat) (M : mM) : Prop :=
  wb_X4_suits_38 G P r M 0
def wp_X4_suits (G : mG) (b : Nat) (P : Int32 → mM → Prop) (M : mM) (a0 : Nat) (x1 : Int32) (x2 : Int32) : Prop :=
  gfa M a0 3 5 fun u1 => ldi M 0 u1 x1 fun v2 => (v2 = (-1) → wb_X4_suits_37 G P b M) ∧ (¬ v2 = (-1) → isc M a0 3 ∧ (wp_X4_depth G 0 (fun v4 M3 => gfa M3 a0 3 10 fun u5 => ldi M3 0 u5 x2 fun v6 => gfa M3 a0 3 11 fun u7 => ldi M3 0 u7 x2 fun v8 => wp_X4_isIn G 0 (fun v10 M9 => (v10 = 0 → wb_X4_suits_37 G P b M9) ∧ (¬ v10 = 0 → wb_X4_suits_38 G P b M9 1)) M3 v4 v6 v8) M a0 x1))
set_option maxHeartbeats 4000000 in
set_option maxRecDepth 100000 in
theorem wk_X4_suits {l : Launch} (hst0 : l.stackTraces = false) {G : mG} {b : Nat} {P : Int32 → mM → Prop} {M : mM} {a0 : Nat} {x1 : Int32} {x2 : Int32} (h : wp_X4_suits G b P M a0 x1 x2) : mMet l yX4_suits (ws_ yX4_suits cX4_suits 3 (Option.some Jvm.ClassFile.FieldType.boolean)) 11 b G [.ref a0, .int x1, .int x2] M (mRi P) (fun _ _ _ => False) := by
  refine mm_met hst0 (by decide) (Nat.le_of_ble_eq_true rfl) ?_
  intro p e s m args below meth c ls C hr hnt hnm hl S
  have hl : lv_has ls 3 [(0, .ref a0), (1, .int x1), (2, .int x2)] := hl
  generalize mA M s.heap.size = A at C S ⊢
  have hx := C.hx
  have hb := C.hb
  have hk : 0 + b ≤ b := Nat.le_of_eq (Nat.zero_add b)
  have j38 : ∀ (k r : Nat) (M : mM) (H : Heap) (locs : List Loc) (ls : Array Slot) (s0 : Int32), k + r ≤ b → mW G A s M H locs → lv_has ls 3 [] → wb_X4_suits_38 G P r M s0 → W p l e (mRm 11 b) s m args below meth c H locs k k (vx_MQ below (mQ G A (mRi P)) (mXC G A (fun _ _ _ => False)) args s b b A) (F0 m 38 ls [.int s0]) := by
    intro k r M H locs ls s0 hk S hl h
    unfold wb_X4_suits_38 at h
    exact mm_zret C S hr (Nat.le_trans (Nat.le_add_right _ _) hk) dX4_suits_38 h
  have j37 : ∀ (k r : Nat) (M : mM) (H : Heap) (locs : List Loc) (ls : Array Slot), k + r ≤ b → mW G A s M H locs → lv_has ls 3 [] → wb_X4_suits_37 G P r M → W p l e (mRm 11 b) s m args below meth c H locs k k (vx_MQ below (mQ G A (mRi P)) (mXC G A (fun _ _ _ => False)) args s b b A) (F0 m 37 ls []) := by
    intro k r M H locs ls  hk S hl h
    unfold wb_X4_suits_37 at h
    refine lv_iconst (v := 0) hx hb dX4_suits_37 (by decide) ?_
    exact j38 _ _ _ _ _ _ _ hk S hl h
  unfold wp_X4_suits at h
  refine lv_aload_n hx hb dX4_suits_0 rfl (lv_at hl 0 rfl) ?_
  refine mm_gfa C S (ci := 3) (k := 5) rfl in_X4 (by decide) q1675 (fun _ h9 => h9) dX4_suits_1 h (fun u1 h => ?_)
  refine lv_iload_n hx hb dX4_suits_4 rfl (lv_at hl 1 rfl) ?_
  refine mm_iald C S h dX4_suits_5 (fun v2 h => ?_)
  refine lv_iconst (v := (-1)) hx hb dX4_suits_6 (by decide) ?_
  refine lv_icmp_eq (tgt := 37) hx hb dX4_suits_7 (by decide) (fun c9 => ?_) (fun c9 => ?_)
  · have h := h.1 c9
    exact j37 _ _ _ _ _ _ hk S (lv_sub hl [] rfl) h
  · have h := h.2 c9
    refine lv_aload_n hx hb dX4_suits_10 rfl (lv_at hl 0 rfl) ?_
    refine lv_iload_n hx hb dX4_suits_11 rfl (lv_at hl 1 rfl) ?_
    obtain ⟨hI, h⟩ := h
    refine mm_V (As := [.int x1]) (rest := []) C S hl.1 (wk_X4_depth hst0 h) (T := TX4) rfl hI (lw_V q1848 q1850 qs24 q58 q1851) rfl pd_X4_depth ⟨Nat.le_of_ble_eq_true rfl, Nat.le_of_ble_eq_true rfl⟩ rfl rfl (Nat.le_of_ble_eq_true rfl) dX4_suits_12 rfl rfl hk (Nat.zero_add _) (fun v9 M3 H locs hP S hk => ?_) (fun E q ce M9 H9 locs9 hX => hX.elim)
    obtain ⟨v4, rfl, h⟩ := hP
    refine W.eq (g2 := F0 m 15 ls [.int v4]) rfl ?_
    refine lv_aload_n hx hb dX4_suits_15 rfl (lv_at hl 0 rfl) ?_
    refine mm_gfa C S (ci := 3) (k := 10) rfl in_X4 (by decide) q1680 (fun _ h9 => h9) dX4_suits_16 h (fun u5 h => ?_)
    refine lv_iload_n hx hb dX4_suits_19 rfl (lv_at hl 2 rfl) ?_
    refine mm_iald C S h dX4_suits_20 (fun v6 h => ?_)
    refine lv_aload_n hx hb dX4_suits_21 rfl (lv_at hl 0 rfl) ?_
    refine mm_gfa C S (ci := 3) (k := 11) rfl in_X4 (by decide) q1681 (fun _ h9 => h9) dX4_suits_22 h (fun u7 h => ?_)
    refine lv_iload_n hx hb dX4_suits_25 rfl (lv_at hl 2 rfl) ?_
    refine mm_iald C S h dX4_suits_26 (fun v8 h => ?_)
    refine mm_S (As := [.int v4, .int v6, .int v8]) (rest := []) C S hl.1 (wk_X4_isIn hst0 h) (lw_S q1830 q1831 q58 q1832) pd_X4_isIn ⟨Nat.le_of_ble_eq_true rfl, Nat.le_of_ble_eq_true rfl⟩ rfl rfl (Nat.le_of_ble_eq_true rfl) dX4_suits_27 rfl rfl hk (Nat.zero_add _) (fun v9 M9 H locs hP S hk => ?_) (fun E q ce M9 H9 locs9 hX => hX.elim)
    obtain ⟨v10, rfl, h⟩ := hP
    refine W.eq (g2 := F0 m 30 ls [.int v10]) rfl ?_
    refine lv_if_eq (tgt := 37) hx hb dX4_suits_30 (by decide) (fun c9 => ?_) (fun c9 => ?_)
    · have h := h.1 c9
      exact j37 _ _ _ _ _ _ hk S (lv_sub hl [] rfl) h
    · have h := h.2 c9
      refine lv_iconst (v := 1) hx hb dX4_suits_33 (by decide) ?_
      refine lv_goto (tgt := 38) hx hb dX4_suits_34 (by decide) ?_
      exact j38 _ _ _ _ _ _ _ hk S (lv_sub hl [] rfl) h
