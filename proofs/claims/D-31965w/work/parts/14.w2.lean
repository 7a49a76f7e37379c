/-! J20_init_J21: level 10 -/
def wp_J20_init_J21 (G : mG) (b : Nat) (P : mM → Prop) (M : mM) (a0 : Nat) : Prop :=
  P M
set_option maxHeartbeats 4000000 in
set_option maxRecDepth 100000 in
theorem wk_J20_init_J21 {l : Launch} (hst0 : l.stackTraces = false) {G : mG} {b : Nat} {P : mM → Prop} {M : mM} {a0 : Nat} (h : wp_J20_init_J21 G b P M a0) : mMet l yJ20_init (ws_ yJ20_init cJ20_init 1 (Option.none : Option Jvm.ClassFile.FieldType)) 10 b G [.ref a0] M (mRv P) (fun _ _ _ => False) := by
  refine mm_met hst0 (by decide) (Nat.le_of_ble_eq_true rfl) ?_
  intro p e s m args below meth c ls C hr hnt hnm hl S
  have hl : lv_has ls 1 [(0, .ref a0)] := hl
  generalize mA M s.heap.size = A at C S ⊢
  have hx := C.hx
  have hb := C.hb
  have hk : 0 + b ≤ b := Nat.le_of_eq (Nat.zero_add b)
  unfold wp_J20_init_J21 at h
  refine lv_aload_n hx hb dJ20_init_0 rfl (lv_at hl 0 rfl) ?_
  refine mm_init C hl.1 q1278 q100 q101 dJ20_init_1 (Nat.le_of_ble_eq_true rfl) (Nat.le_of_ble_eq_true rfl) ?_
  exact mm_vret C S hr (Nat.le_trans (Nat.le_add_right _ _) hk) dJ20_init_4 h
/-! J21_getChars: level 10 -/
def wl_J21_getChars_22 (G : mG) (P : Int32 → mM → Prop) : Nat → Nat → mM → Int32 → Nat → Int32 → Int32 → Prop
  | 0, _, _, _, _, _, _ => False
  | n + 1, r, M, x0, a2, x5, x6 => ((-100) < x0 → False) ∧ (¬ (-100) < x0 → ∀ g1 : Int32, g1 = (((x0 / 100) * 100) - x0) → False)
def wb_J21_getChars_12 (G : mG) (P : Int32 → mM → Prop) (r : Nat) (M : mM) (x0 : Int32) (a2 : Nat) (x5 : Int32) (s0 : Int32) : Prop :=
  (¬ s0 = 0 → ∃ n22, wl_J21_getChars_22 G P n22 r M x0 a2 x5 s0) ∧ (s0 = 0 → ∃ n22, wl_J21_getChars_22 G P n22 r M (-x0) a2 x5 s0)
def wp_J21_getChars (G : mG) (b : Nat) (P : Int32 → mM → Prop) (M : mM) (x0 : Int32) (x1 : Int32) (a2 : Nat) : Prop :=
  (0 ≤ x0 → wb_J21_getChars_12 G P b M x0 a2 x1 0) ∧ (¬ 0 ≤ x0 → wb_J21_getChars_12 G P b M x0 a2 x1 1)
set_option maxHeartbeats 4000000 in
set_option maxRecDepth 100000 in
theorem wk_J21_getChars {l : Launch} (hst0 : l.stackTraces = false) {G : mG} {b : Nat} {P : Int32 → mM → Prop} {M : mM} {x0 : Int32} {x1 : Int32} {a2 : Nat} (h : wp_J21_getChars G b P M x0 x1 a2) : mMet l yJ21_getChars (ws_ yJ21_getChars cJ21_getChars 7 (Option.some Jvm.ClassFile.FieldType.int)) 10 b G [.int x0, .int x1, .ref a2] M (mRi P) (fun _ _ _ => False) := by
  refine mm_met hst0 (by decide) (Nat.le_of_ble_eq_true rfl) ?_
  intro p e s m args below meth c ls C hr hnt hnm hl S
  have hl : lv_has ls 7 [(0, .int x0), (1, .int x1), (2, .ref a2)] := hl
  generalize mA M s.heap.size = A at C S ⊢
  have hx := C.hx
  have hb := C.hb
  have hk : 0 + b ≤ b := Nat.le_of_eq (Nat.zero_add b)
  have j22 : ∀ (nf : Nat) (k r : Nat) (M : mM) (H : Heap) (locs : List Loc) (ls : Array Slot) (x0 : Int32) (a2 : Nat) (x5 : Int32) (x6 : Int32), k + r ≤ b → mW G A s M H locs → lv_has ls 7 [(0, .int x0), (2, .ref a2), (5, .int x5), (6, .int x6)] → wl_J21_getChars_22 G P nf r M x0 a2 x5 x6 → W p l e (mRm 10 b) s m args below meth c H locs k k (vx_MQ below (mQ G A (mRi P)) (mXC G A (fun _ _ _ => False)) args s b b A) (F0 m 22 ls []) := by
    intro nf
    induction nf with
    | zero =>
      intro k r M H locs ls x0 a2 x5 x6 hk S hl h
      rw [wl_J21_getChars_22] at h
      exact h.elim
    | succ n22 ih22 =>
      intro k r M H locs ls x0 a2 x5 x6 hk S hl h
      rw [wl_J21_getChars_22] at h
      refine lv_iload_n hx hb dJ21_getChars_22 rfl (lv_at hl 0 rfl) ?_
      refine lv_bipush (v := (-100)) hx hb dJ21_getChars_23 (by decide) ?_
      refine lv_icmp_gt (tgt := 72) hx hb dJ21_getChars_25 (by decide) (fun c9 => ?_) (fun c9 => ?_)
      · have h := h.1 c9
        refine lv_aload_n hx hb dJ21_getChars_72 rfl (lv_at hl 1 rfl) ?_
        refine lv_iinc (v := (x5 + (-1))) (lv' := [(5, .int (x5 + (-1))), (0, .int x0), (2, .ref a2), (6, .int x6)]) hx hb dJ21_getChars_73 hl (k := 2) rfl rfl (by decide) rfl (fun ls hl => ?_)
        refine lv_iload hx hb dJ21_getChars_76 (lv_at hl 0 rfl) ?_
        exact h.elim
      · have h := h.2 c9
        refine lv_iload_n hx hb dJ21_getChars_28 rfl (lv_at hl 0 rfl) ?_
        refine lv_bipush (v := 100) hx hb dJ21_getChars_29 (by decide) ?_
        refine lv_idiv hx hb dJ21_getChars_31 (by decide) ?_
        refine lv_istore_n (lv' := [(3, .int (x0 / 100)), (0, .int x0), (2, .ref a2), (5, .int x5), (6, .int x6)]) hx hb dJ21_getChars_32 rfl hl (by decide) rfl (fun ls hl => ?_)
        refine lv_iload_n hx hb dJ21_getChars_33 rfl (lv_at hl 0 rfl) ?_
        refine lv_bipush (v := 100) hx hb dJ21_getChars_34 (by decide) ?_
        refine lv_imul hx hb dJ21_getChars_36 ?_
        refine lv_iload_n hx hb dJ21_getChars_37 rfl (lv_at hl 1 rfl) ?_
        refine lv_isub hx hb dJ21_getChars_38 ?_
        refine lv_topi (fun g1 eg1 => ?_)
        have h := h g1 eg1
        refine lv_istore (lv' := [(4, .int g1), (3, .int (x0 / 100)), (0, .int x0), (2, .ref a2), (5, .int x5), (6, .int x6)]) hx hb dJ21_getChars_39 hl (by decide) rfl (fun ls hl => ?_)
        refine lv_iload_n hx hb dJ21_getChars_41 rfl (lv_at hl 1 rfl) ?_
        refine lv_istore_n (lv' := [(0, .int (x0 / 100)), (4, .int g1), (3, .int (x0 / 100)), (2, .ref a2), (5, .int x5), (6, .int x6)]) hx hb dJ21_getChars_42 rfl hl (by decide) rfl (fun ls hl => ?_)
        refine lv_aload_n hx hb dJ21_getChars_43 rfl (lv_at hl 3 rfl) ?_
        refine lv_iinc (v := (x5 + (-1))) (lv' := [(5, .int (x5 + (-1))), (0, .int (x0 / 100)), (4, .int g1), (3, .int (x0 / 100)), (2, .ref a2), (6, .int x6)]) hx hb dJ21_getChars_44 hl (k := 4) rfl rfl (by decide) rfl (fun ls hl => ?_)
        refine lv_iload hx hb dJ21_getChars_47 (lv_at hl 0 rfl) ?_
        exact h.elim
  have j12 : ∀ (k r : Nat) (M : mM) (H : Heap) (locs : List Loc) (ls : Array Slot) (x0 : Int32) (a2 : Nat) (x5 : Int32) (s0 : Int32), k + r ≤ b → mW G A s M H locs → lv_has ls 7 [(0, .int x0), (2, .ref a2), (5, .int x5)] → wb_J21_getChars_12 G P r M x0 a2 x5 s0 → W p l e (mRm 10 b) s m args below meth c H locs k k (vx_MQ below (mQ G A (mRi P)) (mXC G A (fun _ _ _ => False)) args s b b A) (F0 m 12 ls [.int s0]) := by
    intro k r M H locs ls x0 a2 x5 s0 hk S hl h
    unfold wb_J21_getChars_12 at h
    refine lv_istore (lv' := [(6, .int s0), (0, .int x0), (2, .ref a2), (5, .int x5)]) hx hb dJ21_getChars_12 hl (by decide) rfl (fun ls hl => ?_)
    refine lv_iload hx hb dJ21_getChars_14 (lv_at hl 0 rfl) ?_
    refine lv_if_ne (tgt := 22) hx hb dJ21_getChars_16 (by decide) (fun c9 => ?_) (fun c9 => ?_)
    · have h := h.1 c9
      obtain ⟨nf, h⟩ := h
      exact j22 nf _ _ _ _ _ _ _ _ _ _ hk S (lv_sub hl [1, 2, 3, 0] rfl) h
    · have h := h.2 c9
      refine lv_iload_n hx hb dJ21_getChars_19 rfl (lv_at hl 1 rfl) ?_
      refine lv_ineg hx hb dJ21_getChars_20 ?_
      refine lv_istore_n (lv' := [(0, .int (-x0)), (6, .int s0), (2, .ref a2), (5, .int x5)]) hx hb dJ21_getChars_21 rfl hl (by decide) rfl (fun ls hl => ?_)
      obtain ⟨nf, h⟩ := h
      exact j22 nf _ _ _ _ _ _ _ _ _ _ hk S (lv_sub hl [0, 2, 3, 1] rfl) h
  unfold wp_J21_getChars at h
  refine lv_iload_n hx hb dJ21_getChars_0 rfl (lv_at hl 1 rfl) ?_
  refine lv_istore (lv' := [(5, .int x1), (0, .int x0), (1, .int x1), (2, .ref a2)]) hx hb dJ21_getChars_1 hl (by decide) rfl (fun ls hl => ?_)
  refine lv_iload_n hx hb dJ21_getChars_3 rfl (lv_at hl 1 rfl) ?_
  refine lv_if_ge (tgt := 11) hx hb dJ21_getChars_4 (by decide) (fun c9 => ?_) (fun c9 => ?_)
  · have h := h.1 c9
    refine lv_iconst (v := 0) hx hb dJ21_getChars_11 (by decide) ?_
    exact j12 _ _ _ _ _ _ _ _ _ _ hk S (lv_sub hl [1, 3, 0] rfl) h
  · have h := h.2 c9
    refine lv_iconst (v := 1) hx hb dJ21_getChars_7 (by decide) ?_
    refine lv_goto (tgt := 12) hx hb dJ21_getChars_8 (by decide) ?_
    exact j12 _ _ _ _ _ _ _ _ _ _ hk S (lv_sub hl [1, 3, 0] rfl) h
/-! J21_init: level 11 -/
def wp_J21_init (G : mG) (b : Nat) (P : mM → Prop) (M : mM) (a0 : Nat) (x1 : Int32) : Prop :=
  wp_J20_init_J21 G 0 (fun M1 => pfi M1 a0 19 0 x1 fun M2 => P M2) M a0
set_option maxHeartbeats 4000000 in
set_option maxRecDepth 100000 in
theorem wk_J21_init {l : Launch} (hst0 : l.stackTraces = false) {G : mG} {b : Nat} {P : mM → Prop} {M : mM} {a0 : Nat} {x1 : Int32} (h : wp_J21_init G b P M a0 x1) : mMet l yJ21_init (ws_ yJ21_init cJ21_init 2 (Option.none : Option Jvm.ClassFile.FieldType)) 11 b G [.ref a0, .int x1] M (mRv P) (fun _ _ _ => False) := by
  refine mm_met hst0 (by decide) (Nat.le_of_ble_eq_true rfl) ?_
  intro p e s m args below meth c ls C hr hnt hnm hl S
  have hl : lv_has ls 2 [(0, .ref a0), (1, .int x1)] := hl
  generalize mA M s.heap.size = A at C S ⊢
  have hx := C.hx
  have hb := C.hb
  have hk : 0 + b ≤ b := Nat.le_of_eq (Nat.zero_add b)
  unfold wp_J21_init at h
  refine lv_aload_n hx hb dJ21_init_0 rfl (lv_at hl 0 rfl) ?_
  refine mm_I (As := []) (rest := []) C S hl.1 (wk_J20_init_J21 hst0 h) q1277 q75 q1275 q1276 rfl pd_J20_init ⟨Nat.le_of_ble_eq_true rfl, Nat.le_of_ble_eq_true rfl⟩ rfl rfl (Nat.le_of_ble_eq_true rfl) dJ21_init_1 rfl rfl hk (Nat.zero_add _) (fun v9 M1 H locs hP S hk => ?_) (fun E q ce M9 H9 locs9 hX => hX.elim)
  obtain ⟨rfl, h⟩ := hP
  refine W.eq (g2 := F0 m 4 ls []) rfl ?_
  refine lv_aload_n hx hb dJ21_init_4 rfl (lv_at hl 0 rfl) ?_
  refine lv_iload_n hx hb dJ21_init_5 rfl (lv_at hl 1 rfl) ?_
  refine mm_pfiF C S (ci := 19) (k := 0) rfl in_J21 tyJ21_ok nmJ21 (by decide) q1279 (fun _ h9 => h9) rfl (hnm.trans rfl) rfl dJ21_init_6 rfl h (fun M2 H locs h S => ?_)
  exact mm_vret C S hr (Nat.le_trans (Nat.le_add_right _ _) hk) dJ21_init_9 h
/-! J21_intValue: level 10 -/
def wp_J21_intValue (G : mG) (b : Nat) (P : Int32 → mM → Prop) (M : mM) (a0 : Nat) : Prop :=
  gfi M a0 19 0 fun v1 => P v1 M
set_option maxHeartbeats 4000000 in
set_option maxRecDepth 100000 in
theorem wk_J21_intValue {l : Launch} (hst0 : l.stackTraces = false) {G : mG} {b : Nat} {P : Int32 → mM → Prop} {M : mM} {a0 : Nat} (h : wp_J21_intValue G b P M a0) : mMet l yJ21_intValue (ws_ yJ21_intValue cJ21_intValue 1 (Option.some Jvm.ClassFile.FieldType.int)) 10 b G [.ref a0] M (mRi P) (fun _ _ _ => False) := by
  refine mm_met hst0 (by decide) (Nat.le_of_ble_eq_true rfl) ?_
  intro p e s m args below meth c ls C hr hnt hnm hl S
  have hl : lv_has ls 1 [(0, .ref a0)] := hl
  generalize mA M s.heap.size = A at C S ⊢
  have hx := C.hx
  have hb := C.hb
  have hk : 0 + b ≤ b := Nat.le_of_eq (Nat.zero_add b)
  unfold wp_J21_intValue at h
  refine lv_aload_n hx hb dJ21_intValue_0 rfl (lv_at hl 0 rfl) ?_
  refine mm_gfi C S (ci := 19) (k := 0) rfl in_J21 (by decide) q1279 (fun _ h9 => h9) dJ21_intValue_1 h (fun v1 h => ?_)
  exact mm_iret C S hr (Nat.le_trans (Nat.le_add_right _ _) hk) dJ21_intValue_4 h
/-! J21_stringSize: level 10 -/
def wl_J21_stringSize_16 (G : mG) (P : Int32 → mM → Prop) : Nat → Nat → mM → Int32 → Int32 → Int32 → Int32 → Prop
  | 0, _, _, _, _, _, _ => False
  | n + 1, r, M, x0, x1, x2, x3 => (10 ≤ x3 → P (10 + x1) M) ∧ (¬ 10 ≤ x3 → (x0 ≤ x2 → (wl_J21_stringSize_16 G P n) r M x0 x1 (10 * x2) (x3 + 1)) ∧ (¬ x0 ≤ x2 → P (x3 + x1) M))
def wb_J21_stringSize_11 (G : mG) (P : Int32 → mM → Prop) (r : Nat) (M : mM) (x0 : Int32) (x1 : Int32) : Prop :=
  ∃ n16, wl_J21_stringSize_16 G P n16 r M x0 x1 (-10) 1
def wp_J21_stringSize (G : mG) (b : Nat) (P : Int32 → mM → Prop) (M : mM) (x0 : Int32) : Prop :=
  (x0 < 0 → wb_J21_stringSize_11 G P b M x0 1) ∧ (¬ x0 < 0 → wb_J21_stringSize_11 G P b M (-x0) 0)
set_option maxHeartbeats 4000000 in
set_option maxRecDepth 100000 in
theorem wk_J21_stringSize {l : Launch} (hst0 : l.stackTraces = false) {G : mG} {b : Nat} {P : Int32 → mM → Prop} {M : mM} {x0 : Int32} (h : wp_J21_stringSize G b P M x0) : mMet l yJ21_stringSize (ws_ yJ21_stringSize cJ21_stringSize 4 (Option.some Jvm.ClassFile.FieldType.int)) 10 b G [.int x0] M (mRi P) (fun _ _ _ => False) := by
  refine mm_met hst0 (by decide) (Nat.le_of_ble_eq_true rfl) ?_
  intro p e s m args below meth c ls C hr hnt hnm hl S
  have hl : lv_has ls 4 [(0, .int x0)] := hl
  generalize mA M s.heap.size = A at C S ⊢
  have hx := C.hx
  have hb := C.hb
  have hk : 0 + b ≤ b := Nat.le_of_eq (Nat.zero_add b)
  have j16 : ∀ (nf : Nat) (k r : Nat) (M : mM) (H : Heap) (locs : List Loc) (ls : Array Slot) (x0 : Int32) (x1 : Int32) (x2 : Int32) (x3 : Int32), k + r ≤ b → mW G A s M H locs → lv_has ls 4 [(0, .int x0), (1, .int x1), (2, .int x2), (3, .int x3)] → wl_J21_stringSize_16 G P nf r M x0 x1 x2 x3 → W p l e (mRm 10 b) s m args below meth c H locs k k (vx_MQ below (mQ G A (mRi P)) (mXC G A (fun _ _ _ => False)) args s b b A) (F0 m 16 ls []) := by
    intro nf
    induction nf with
    | zero =>
      intro k r M H locs ls x0 x1 x2 x3 hk S hl h
      rw [wl_J21_stringSize_16] at h
      exact h.elim
    | succ n16 ih16 =>
      intro k r M H locs ls x0 x1 x2 x3 hk S hl h
      rw [wl_J21_stringSize_16] at h
      refine lv_iload_n hx hb dJ21_stringSize_16 rfl (lv_at hl 3 rfl) ?_
      refine lv_bipush (v := 10) hx hb dJ21_stringSize_17 (by decide) ?_
      refine lv_icmp_ge (tgt := 42) hx hb dJ21_stringSize_19 (by decide) (fun c9 => ?_) (fun c9 => ?_)
      · have h := h.1 c9
        refine lv_bipush (v := 10) hx hb dJ21_stringSize_42 (by decide) ?_
        refine lv_iload_n hx hb dJ21_stringSize_44 rfl (lv_at hl 1 rfl) ?_
        refine lv_iadd hx hb dJ21_stringSize_45 ?_
        exact mm_iret C S hr (Nat.le_trans (Nat.le_add_right _ _) hk) dJ21_stringSize_46 h
      · have h := h.2 c9
        refine lv_iload_n hx hb dJ21_stringSize_22 rfl (lv_at hl 0 rfl) ?_
        refine lv_iload_n hx hb dJ21_stringSize_23 rfl (lv_at hl 2 rfl) ?_
        refine lv_icmp_le (tgt := 31) hx hb dJ21_stringSize_24 (by decide) (fun c9 => ?_) (fun c9 => ?_)
        · have h := h.1 c9
          refine lv_bipush (v := 10) hx hb dJ21_stringSize_31 (by decide) ?_
          refine lv_iload_n hx hb dJ21_stringSize_33 rfl (lv_at hl 2 rfl) ?_
          refine lv_imul hx hb dJ21_stringSize_34 ?_
          refine lv_istore_n (lv' := [(2, .int (10 * x2)), (0, .int x0), (1, .int x1), (3, .int x3)]) hx hb dJ21_stringSize_35 rfl hl (by decide) rfl (fun ls hl => ?_)
          refine lv_iinc (v := (x3 + 1)) (lv' := [(3, .int (x3 + 1)), (2, .int (10 * x2)), (0, .int x0), (1, .int x1)]) hx hb dJ21_stringSize_36 hl (k := 3) rfl rfl (by decide) rfl (fun ls hl => ?_)
          refine lv_goto (tgt := 16) hx hb dJ21_stringSize_39 (by decide) ?_
          exact ih16 _ _ _ _ _ _ _ _ _ _ hk S (lv_sub hl [2, 3, 1, 0] rfl) h
        · have h := h.2 c9
          refine lv_iload_n hx hb dJ21_stringSize_27 rfl (lv_at hl 3 rfl) ?_
          refine lv_iload_n hx hb dJ21_stringSize_28 rfl (lv_at hl 1 rfl) ?_
          refine lv_iadd hx hb dJ21_stringSize_29 ?_
          exact mm_iret C S hr (Nat.le_trans (Nat.le_add_right _ _) hk) dJ21_stringSize_30 h
  have j11 : ∀ (k r : Nat) (M : mM) (H : Heap) (locs : List Loc) (ls : Array Slot) (x0 : Int32) (x1 : Int32), k + r ≤ b → mW G A s M H locs → lv_has ls 4 [(0, .int x0), (1, .int x1)] → wb_J21_stringSize_11 G P r M x0 x1 → W p l e (mRm 10 b) s m args below meth c H locs k k (vx_MQ below (mQ G A (mRi P)) (mXC G A (fun _ _ _ => False)) args s b b A) (F0 m 11 ls []) := by
    intro k r M H locs ls x0 x1 hk S hl h
    unfold wb_J21_stringSize_11 at h
    refine lv_bipush (v := (-10)) hx hb dJ21_stringSize_11 (by decide) ?_
    refine lv_istore_n (lv' := [(2, .int (-10)), (0, .int x0), (1, .int x1)]) hx hb dJ21_stringSize_13 rfl hl (by decide) rfl (fun ls hl => ?_)
    refine lv_iconst (v := 1) hx hb dJ21_stringSize_14 (by decide) ?_
    refine lv_istore_n (lv' := [(3, .int 1), (2, .int (-10)), (0, .int x0), (1, .int x1)]) hx hb dJ21_stringSize_15 rfl hl (by decide) rfl (fun ls hl => ?_)
    obtain ⟨nf, h⟩ := h
    exact j16 nf _ _ _ _ _ _ _ _ _ _ hk S (lv_sub hl [2, 3, 1, 0] rfl) h
  unfold wp_J21_stringSize at h
  refine lv_iconst (v := 1) hx hb dJ21_stringSize_0 (by decide) ?_
  refine lv_istore_n (lv' := [(1, .int 1), (0, .int x0)]) hx hb dJ21_stringSize_1 rfl hl (by decide) rfl (fun ls hl => ?_)
  refine lv_iload_n hx hb dJ21_stringSize_2 rfl (lv_at hl 1 rfl) ?_
  refine lv_if_lt (tgt := 11) hx hb dJ21_stringSize_3 (by decide) (fun c9 => ?_) (fun c9 => ?_)
  · have h := h.1 c9
    exact j11 _ _ _ _ _ _ _ _ hk S (lv_sub hl [1, 0] rfl) h
  · have h := h.2 c9
    refine lv_iconst (v := 0) hx hb dJ21_stringSize_6 (by decide) ?_
    refine lv_istore_n (lv' := [(1, .int 0), (0, .int x0)]) hx hb dJ21_stringSize_7 rfl hl (by decide) rfl (fun ls hl => ?_)
    refine lv_iload_n hx hb dJ21_stringSize_8 rfl (lv_at hl 1 rfl) ?_
    refine lv_ineg hx hb dJ21_stringSize_9 ?_
    refine lv_istore_n (lv' := [(0, .int (-x0)), (1, .int 0)]) hx hb dJ21_stringSize_10 rfl hl (by decide) rfl (fun ls hl => ?_)
    exact j11 _ _ _ _ _ _ _ _ hk S hl h
/-! J21_valueOf: level 12, alloc -/
def wb_J21_valueOf_23 (G : mG) (P : Nat → mM → Prop) (r : Nat) (M : mM) (x0 : Int32) : Prop :=
  nwo M r 19 1 dfsJ21 fun u2 M3 r4 => wp_J21_init G 0 (fun M5 => P u2 M5) M3 u2 x0
def wp_J21_valueOf (G : mG) (b : Nat) (P : Nat → mM → Prop) (M : mM) (x0 : Int32) : Prop :=
  (x0 < (-128) → wb_J21_valueOf_23 G P b M x0) ∧ (¬ x0 < (-128) → (127 < x0 → wb_J21_valueOf_23 G P b M x0) ∧ (¬ 127 < x0 → lda M 12 (G.2.2 1) (x0 + 128) fun u1 => P u1 M))
set_option maxHeartbeats 4000000 in
set_option maxRecDepth 100000 in
theorem wk_J21_valueOf {l : Launch} (hst0 : l.stackTraces = false) {G : mG} {b : Nat} {P : Nat → mM → Prop} {M : mM} {x0 : Int32} (h : wp_J21_valueOf G b P M x0) : mMet l yJ21_valueOf (ws_ yJ21_valueOf cJ21_valueOf 1 (Option.some (Jvm.ClassFile.FieldType.object "java/lang/Integer"))) 12 b G [.int x0] M (mRa P) (fun _ _ _ => False) := by
  refine mm_met hst0 (by decide) (Nat.le_of_ble_eq_true rfl) ?_
  intro p e s m args below meth c ls C hr hnt hnm hl S
  have hl : lv_has ls 1 [(0, .int x0)] := hl
  generalize mA M s.heap.size = A at C S ⊢
  have hx := C.hx
  have hb := C.hb
  have hk : 0 + b ≤ b := Nat.le_of_eq (Nat.zero_add b)
  have j23 : ∀ (k r : Nat) (M : mM) (H : Heap) (locs : List Loc) (ls : Array Slot) (x0 : Int32), k + r ≤ b → mW G A s M H locs → lv_has ls 1 [(0, .int x0)] → wb_J21_valueOf_23 G P r M x0 → W p l e (mRm 12 b) s m args below meth c H locs k k (vx_MQ below (mQ G A (mRa P)) (mXC G A (fun _ _ _ => False)) args s b b A) (F0 m 23 ls []) := by
    intro k r M H locs ls x0 hk S hl h
    unfold wb_J21_valueOf_23 at h
    refine mm_new C S (ci := 19) (T := TJ21) rfl in_J21 tyJ21_ok q1270 q1271 q76 dfJ21 (by decide) dJ21_valueOf_23 rfl rfl hk h (fun u2 M3 r4 H h S hk => ?_)
    refine lv_dup hx hb dJ21_valueOf_26 rfl ?_
    refine lv_iload_n hx hb dJ21_valueOf_27 rfl (lv_at hl 0 rfl) ?_
    refine mm_I (As := [.int x0]) (rest := [.ref u2]) C S hl.1 (wk_J21_init hst0 h) q1274 q76 q1272 q1273 rfl pd_J21_init ⟨Nat.le_of_ble_eq_true rfl, Nat.le_of_ble_eq_true rfl⟩ rfl rfl (Nat.le_of_ble_eq_true rfl) dJ21_valueOf_28 rfl rfl hk (Nat.zero_add _) (fun v9 M5 H locs hP S hk => ?_) (fun E q ce M9 H9 locs9 hX => hX.elim)
    obtain ⟨rfl, h⟩ := hP
    refine W.eq (g2 := F0 m 31 ls [.ref u2]) rfl ?_
    exact mm_aret C S hr (Or.inl ⟨_, rfl⟩) (Nat.le_trans (Nat.le_add_right _ _) hk) dJ21_valueOf_31 h
  unfold wp_J21_valueOf at h
  refine lv_iload_n hx hb dJ21_valueOf_0 rfl (lv_at hl 0 rfl) ?_
  refine lv_bipush (v := (-128)) hx hb dJ21_valueOf_1 (by decide) ?_
  refine lv_icmp_lt (tgt := 23) hx hb dJ21_valueOf_3 (by decide) (fun c9 => ?_) (fun c9 => ?_)
  · have h := h.1 c9
    exact j23 _ _ _ _ _ _ _ hk S hl h
  · have h := h.2 c9
    refine lv_iload_n hx hb dJ21_valueOf_6 rfl (lv_at hl 0 rfl) ?_
    refine mm_gets C S C.ks.2.2.1 q1266 (fun _ h9 => h9) dJ21_valueOf_7 ?_
    refine lv_icmp_gt (tgt := 23) hx hb dJ21_valueOf_10 (by decide) (fun c9 => ?_) (fun c9 => ?_)
    · have h := h.1 c9
      exact j23 _ _ _ _ _ _ _ hk S hl h
    · have h := h.2 c9
      refine mm_gets C S C.ks.2.2.2.1 q1268 (fun _ h9 => h9) dJ21_valueOf_13 ?_
      refine lv_iload_n hx hb dJ21_valueOf_16 rfl (lv_at hl 0 rfl) ?_
      refine lv_sipush (v := 128) hx hb dJ21_valueOf_17 (by decide) ?_
      refine lv_iadd hx hb dJ21_valueOf_20 ?_
      refine mm_aald C S (t := 12) rfl rfl h dJ21_valueOf_21 (fun u1 h => ?_)
      exact mm_aret C S hr (Or.inl ⟨_, rfl⟩) (Nat.le_trans (Nat.le_add_right _ _) hk) dJ21_valueOf_22 h
/-! J22_highSurrogate: level 10 -/
def wp_J22_highSurrogate (G : mG) (b : Nat) (P : Int32 → mM → Prop) (M : mM) (x0 : Int32) : Prop :=
  ∀ g1 : Int32, g1 = ((x0.toUInt32 >>> ((10 : Int32).toUInt32 &&& Int32.toUInt32 31)).toInt32) → narrow .char (.int (((g1 + 55232).toUInt32 % 65536).toInt32)) = .int (((g1 + 55232).toUInt32 % 65536).toInt32) ∧ P (((g1 + 55232).toUInt32 % 65536).toInt32) M
set_option maxHeartbeats 4000000 in
set_option maxRecDepth 100000 in
theorem wk_J22_highSurrogate {l : Launch} (hst0 : l.stackTraces = false) {G : mG} {b : Nat} {P : Int32 → mM → Prop} {M : mM} {x0 : Int32} (h : wp_J22_highSurrogate G b P M x0) : mMet l yJ22_highSurrogate (ws_ yJ22_highSurrogate cJ22_highSurrogate 1 (Option.some Jvm.ClassFile.FieldType.char)) 10 b G [.int x0] M (mRi P) (fun _ _ _ => False) := by
  refine mm_met hst0 (by decide) (Nat.le_of_ble_eq_true rfl) ?_
  intro p e s m args below meth c ls C hr hnt hnm hl S
  have hl : lv_has ls 1 [(0, .int x0)] := hl
  generalize mA M s.heap.size = A at C S ⊢
  have hx := C.hx
  have hb := C.hb
  have hk : 0 + b ≤ b := Nat.le_of_eq (Nat.zero_add b)
  unfold wp_J22_highSurrogate at h
  refine lv_iload_n hx hb dJ22_highSurrogate_0 rfl (lv_at hl 0 rfl) ?_
  refine lv_bipush (v := 10) hx hb dJ22_highSurrogate_1 (by decide) ?_
  refine lv_iushr hx hb dJ22_highSurrogate_3 rfl ?_
  refine lv_topi (fun g1 eg1 => ?_)
  have h := h g1 eg1
  refine lv_ldc hx hb C.hown (C.ts _ q1195) dJ22_highSurrogate_4 ?_
  refine lv_iadd hx hb dJ22_highSurrogate_6 ?_
  refine lv_i2c hx hb dJ22_highSurrogate_7 rfl ?_
  exact mm_zret C S hr (Nat.le_trans (Nat.le_add_right _ _) hk) dJ22_highSurrogate_8 h
/-! J22_isValidCodePoint: level 10 -/
def wb_J22_isValidCodePoint_16 (G : mG) (P : Int32 → mM → Prop) (r : Nat) (M : mM) (s0 : Int32) : Prop :=
  narrow .boolean (.int s0) = .int s0 ∧ P s0 M
def wp_J22_isValidCodePoint (G : mG) (b : Nat) (P : Int32 → mM → Prop) (M : mM) (x0 : Int32) : Prop :=
  ∀ g1 : Int32, g1 = ((x0.toUInt32 >>> ((16 : Int32).toUInt32 &&& Int32.toUInt32 31)).toInt32) → (17 ≤ g1 → wb_J22_isValidCodePoint_16 G P b M 0) ∧ (¬ 17 ≤ g1 → wb_J22_isValidCodePoint_16 G P b M 1)
set_option maxHeartbeats 4000000 in
set_option maxRecDepth 100000 in
theorem wk_J22_isValidCodePoint {l : Launch} (hst0 : l.stackTraces = false) {G : mG} {b : Nat} {P : Int32 → mM → Prop} {M : mM} {x0 : Int32} (h : wp_J22_isValidCodePoint G b P M x0) : mMet l yJ22_isValidCodePoint (ws_ yJ22_isValidCodePoint cJ22_isValidCodePoint 2 (Option.some Jvm.ClassFile.FieldType.boolean)) 10 b G [.int x0] M (mRi P) (fun _ _ _ => False) := by
  refine mm_met hst0 (by decide) (Nat.le_of_ble_eq_true rfl) ?_
  intro p e s m args below meth c ls C hr hnt hnm hl S
  have hl : lv_has ls 2 [(0, .int x0)] := hl
  generalize mA M s.heap.size = A at C S ⊢
  have hx := C.hx
  have hb := C.hb
  have hk : 0 + b ≤ b := Nat.le_of_eq (Nat.zero_add b)
  have j16 : ∀ (k r : Nat) (M : mM) (H : Heap) (locs : List Loc) (ls : Array Slot) (s0 : Int32), k + r ≤ b → mW G A s M H locs → lv_has ls 2 [] → wb_J22_isValidCodePoint_16 G P r M s0 → W p l e (mRm 10 b) s m args below meth c H locs k k (vx_MQ below (mQ G A (mRi P)) (mXC G A (fun _ _ _ => False)) args s b b A) (F0 m 16 ls [.int s0]) := by
    intro k r M H locs ls s0 hk S hl h
    unfold wb_J22_isValidCodePoint_16 at h
    exact mm_zret C S hr (Nat.le_trans (Nat.le_add_right _ _) hk) dJ22_isValidCodePoint_16 h
  unfold wp_J22_isValidCodePoint at h
  refine lv_iload_n hx hb dJ22_isValidCodePoint_0 rfl (lv_at hl 0 rfl) ?_
  refine lv_bipush (v := 16) hx hb dJ22_isValidCodePoint_1 (by decide) ?_
  refine lv_iushr hx hb dJ22_isValidCodePoint_3 rfl ?_
  refine lv_topi (fun g1 eg1 => ?_)
  have h := h g1 eg1
  refine lv_istore_n (lv' := [(1, .int g1), (0, .int x0)]) hx hb dJ22_isValidCodePoint_4 rfl hl (by decide) rfl (fun ls hl => ?_)
  refine lv_iload_n hx hb dJ22_isValidCodePoint_5 rfl (lv_at hl 0 rfl) ?_
  refine lv_bipush (v := 17) hx hb dJ22_isValidCodePoint_6 (by decide) ?_
  refine lv_icmp_ge (tgt := 15) hx hb dJ22_isValidCodePoint_8 (by decide) (fun c9 => ?_) (fun c9 => ?_)
  · have h := h.1 c9
    refine lv_iconst (v := 0) hx hb dJ22_isValidCodePoint_15 (by decide) ?_
    exact j16 _ _ _ _ _ _ _ hk S (lv_sub hl [] rfl) h
  · have h := h.2 c9
    refine lv_iconst (v := 1) hx hb dJ22_isValidCodePoint_11 (by decide) ?_
    refine lv_goto (tgt := 16) hx hb dJ22_isValidCodePoint_12 (by decide) ?_
    exact j16 _ _ _ _ _ _ _ hk S (lv_sub hl [] rfl) h
/-! J22_lowSurrogate: level 10 -/
def wp_J22_lowSurrogate (G : mG) (b : Nat) (P : Int32 → mM → Prop) (M : mM) (x0 : Int32) : Prop :=
  narrow .char (.int ((((x0 &&& 1023) + 56320).toUInt32 % 65536).toInt32)) = .int ((((x0 &&& 1023) + 56320).toUInt32 % 65536).toInt32) ∧ P ((((x0 &&& 1023) + 56320).toUInt32 % 65536).toInt32) M
set_option maxHeartbeats 4000000 in
set_option maxRecDepth 100000 in
theorem wk_J22_lowSurrogate {l : Launch} (hst0 : l.stackTraces = false) {G : mG} {b : Nat} {P : Int32 → mM → Prop} {M : mM} {x0 : Int32} (h : wp_J22_lowSurrogate G b P M x0) : mMet l yJ22_lowSurrogate (ws_ yJ22_lowSurrogate cJ22_lowSurrogate 1 (Option.some Jvm.ClassFile.FieldType.char)) 10 b G [.int x0] M (mRi P) (fun _ _ _ => False) := by
  refine mm_met hst0 (by decide) (Nat.le_of_ble_eq_true rfl) ?_
  intro p e s m args below meth c ls C hr hnt hnm hl S
  have hl : lv_has ls 1 [(0, .int x0)] := hl
  generalize mA M s.heap.size = A at C S ⊢
  have hx := C.hx
  have hb := C.hb
  have hk : 0 + b ≤ b := Nat.le_of_eq (Nat.zero_add b)
  unfold wp_J22_lowSurrogate at h
  refine lv_iload_n hx hb dJ22_lowSurrogate_0 rfl (lv_at hl 0 rfl) ?_
  refine lv_sipush (v := 1023) hx hb dJ22_lowSurrogate_1 (by decide) ?_
  refine lv_iand hx hb dJ22_lowSurrogate_4 ?_
  refine lv_ldc hx hb C.hown (C.ts _ q1199) dJ22_lowSurrogate_5 ?_
  refine lv_iadd hx hb dJ22_lowSurrogate_7 ?_
  refine lv_i2c hx hb dJ22_lowSurrogate_8 rfl ?_
  exact mm_zret C S hr (Nat.le_trans (Nat.le_add_right _ _) hk) dJ22_lowSurrogate_9 h
/-! J23_checkForComodification: level 10 -/
def wp_J23_checkForComodification (G : mG) (b : Nat) (P : mM → Prop) (M : mM) (a0 : Nat) : Prop :=
  gfa M a0 20 3 fun u1 => gfi M u1 16 0 fun v2 => gfi M a0 20 2 fun v3 => (v2 = v3 → P M) ∧ (¬ v2 = v3 → False)
set_option maxHeartbeats 4000000 in
set_option maxRecDepth 100000 in
theorem wk_J23_checkForComodification {l : Launch} (hst0 : l.stackTraces = false) {G : mG} {b : Nat} {P : mM → Prop} {M : mM} {a0 : Nat} (h : wp_J23_checkForComodification G b P M a0) : mMet l yJ23_checkForComodification (ws_ yJ23_checkForComodification cJ23_checkForComodification 1 (Option.none : Option Jvm.ClassFile.FieldType)) 10 b G [.ref a0] M (mRv P) (fun _ _ _ => False) := by
  refine mm_met hst0 (by decide) (Nat.le_of_ble_eq_true rfl) ?_
  intro p e s m args below meth c ls C hr hnt hnm hl S
  have hl : lv_has ls 1 [(0, .ref a0)] := hl
  generalize mA M s.heap.size = A at C S ⊢
  have hx := C.hx
  have hb := C.hb
  have hk : 0 + b ≤ b := Nat.le_of_eq (Nat.zero_add b)
  unfold wp_J23_checkForComodification at h
  refine lv_aload_n hx hb dJ23_checkForComodification_0 rfl (lv_at hl 0 rfl) ?_
  refine mm_gfa C S (ci := 20) (k := 3) rfl in_J23 (by decide) q368 (fun _ h9 => h9) dJ23_checkForComodification_1 h (fun u1 h => ?_)
  refine mm_gfi C S (ci := 16) (k := 0) rfl in_J2 (by decide) q125 (fun x h9 => u_same (C.ts _ q126) x h9) dJ23_checkForComodification_4 h (fun v2 h => ?_)
  refine lv_aload_n hx hb dJ23_checkForComodification_7 rfl (lv_at hl 0 rfl) ?_
  refine mm_gfi C S (ci := 20) (k := 2) rfl in_J23 (by decide) q367 (fun _ h9 => h9) dJ23_checkForComodification_8 h (fun v3 h => ?_)
  refine lv_icmp_eq (tgt := 22) hx hb dJ23_checkForComodification_11 (by decide) (fun c9 => ?_) (fun c9 => ?_)
  · have h := h.1 c9
    exact mm_vret C S hr (Nat.le_trans (Nat.le_add_right _ _) hk) dJ23_checkForComodification_22 h
  · have h := h.2 c9
    exact h.elim
/-! J23_hasNext: level 10 -/
def wb_J23_hasNext_19 (G : mG) (P : Int32 → mM → Prop) (r : Nat) (M : mM) (s0 : Int32) : Prop :=
  narrow .boolean (.int s0) = .int s0 ∧ P s0 M
def wp_J23_hasNext (G : mG) (b : Nat) (P : Int32 → mM → Prop) (M : mM) (a0 : Nat) : Prop :=
  gfi M a0 20 0 fun v1 => gfa M a0 20 3 fun u2 => gfi M u2 16 2 fun v3 => (v1 = v3 → wb_J23_hasNext_19 G P b M 0) ∧ (¬ v1 = v3 → wb_J23_hasNext_19 G P b M 1)
set_option maxHeartbeats 4000000 in
set_option maxRecDepth 100000 in
theorem wk_J23_hasNext {l : Launch} (hst0 : l.stackTraces = false) {G : mG} {b : Nat} {P : Int32 → mM → Prop} {M : mM} {a0 : Nat} (h : wp_J23_hasNext G b P M a0) : mMet l yJ23_hasNext (ws_ yJ23_hasNext cJ23_hasNext 1 (Option.some Jvm.ClassFile.FieldType.boolean)) 10 b G [.ref a0] M (mRi P) (fun _ _ _ => False) := by
  refine mm_met hst0 (by decide) (Nat.le_of_ble_eq_true rfl) ?_
  intro p e s m args below meth c ls C hr hnt hnm hl S
  have hl : lv_has ls 1 [(0, .ref a0)] := hl
  generalize mA M s.heap.size = A at C S ⊢
  have hx := C.hx
  have hb := C.hb
  have hk : 0 + b ≤ b := Nat.le_of_eq (Nat.zero_add b)
  have j19 : ∀ (k r : Nat) (M : mM) (H : Heap) (locs : List Loc) (ls : Array Slot) (s0 : Int32), k + r ≤ b → mW G A s M H locs → lv_has ls 1 [] → wb_J23_hasNext_19 G P r M s0 → W p l e (mRm 10 b) s m args below meth c H locs k k (vx_MQ below (mQ G A (mRi P)) (mXC G A (fun _ _ _ => False)) args s b b A) (F0 m 19 ls [.int s0]) := by
    intro k r M H locs ls s0 hk S hl h
    unfold wb_J23_hasNext_19 at h
    exact mm_zret C S hr (Nat.le_trans (Nat.le_add_right _ _) hk) dJ23_hasNext_19 h
  unfold wp_J23_hasNext at h
  refine lv_aload_n hx hb dJ23_hasNext_0 rfl (lv_at hl 0 rfl) ?_
  refine mm_gfi C S (ci := 20) (k := 0) rfl in_J23 (by decide) q365 (fun _ h9 => h9) dJ23_hasNext_1 h (fun v1 h => ?_)
  refine lv_aload_n hx hb dJ23_hasNext_4 rfl (lv_at hl 0 rfl) ?_
  refine mm_gfa C S (ci := 20) (k := 3) rfl in_J23 (by decide) q368 (fun _ h9 => h9) dJ23_hasNext_5 h (fun u2 h => ?_)
  refine mm_gfiN C S (ci := 16) (k := 2) rfl in_J2 (by decide) q122 (fun _ h9 => h9) dJ23_hasNext_8 h (fun v3 h => ?_)
  refine lv_icmp_eq (tgt := 18) hx hb dJ23_hasNext_11 (by decide) (fun c9 => ?_) (fun c9 => ?_)
  · have h := h.1 c9
    refine lv_iconst (v := 0) hx hb dJ23_hasNext_18 (by decide) ?_
    exact j19 _ _ _ _ _ _ _ hk S (lv_sub hl [] rfl) h
  · have h := h.2 c9
    refine lv_iconst (v := 1) hx hb dJ23_hasNext_14 (by decide) ?_
    refine lv_goto (tgt := 19) hx hb dJ23_hasNext_15 (by decide) ?_
    exact j19 _ _ _ _ _ _ _ hk S (lv_sub hl [] rfl) h
/-! J23_init: level 10 -/
def wp_J23_init (G : mG) (b : Nat) (P : mM → Prop) (M : mM) (a0 : Nat) (a1 : Nat) : Prop :=
  pfq M a0 20 3 (some a1) fun M1 => pfi M1 a0 20 1 (-1) fun M2 => gfa M2 a0 20 3 fun u3 => gfi M2 u3 16 0 fun v4 => pfi M2 a0 20 2 v4 fun M5 => P M5
set_option maxHeartbeats 4000000 in
set_option maxRecDepth 100000 in
theorem wk_J23_init {l : Launch} (hst0 : l.stackTraces = false) {G : mG} {b : Nat} {P : mM → Prop} {M : mM} {a0 : Nat} {a1 : Nat} (h : wp_J23_init G b P M a0 a1) : mMet l yJ23_init (ws_ yJ23_init cJ23_init 2 (Option.none : Option Jvm.ClassFile.FieldType)) 10 b G [.ref a0, .ref a1] M (mRv P) (fun _ _ _ => False) := by
  refine mm_met hst0 (by decide) (Nat.le_of_ble_eq_true rfl) ?_
  intro p e s m args below meth c ls C hr hnt hnm hl S
  have hl : lv_has ls 2 [(0, .ref a0), (1, .ref a1)] := hl
  generalize mA M s.heap.size = A at C S ⊢
  have hx := C.hx
  have hb := C.hb
  have hk : 0 + b ≤ b := Nat.le_of_eq (Nat.zero_add b)
  unfold wp_J23_init at h
  refine lv_aload_n hx hb dJ23_init_0 rfl (lv_at hl 0 rfl) ?_
  refine lv_aload_n hx hb dJ23_init_1 rfl (lv_at hl 1 rfl) ?_
  refine mm_pfqF C S (ci := 20) (k := 3) (v := (some a1)) rfl in_J23 tyJ23_ok nmJ23 (by decide) q368 (fun _ h9 => h9) rfl (hnm.trans rfl) rfl dJ23_init_2 rfl h (fun M1 H locs h S => ?_)
  refine lv_aload_n hx hb dJ23_init_5 rfl (lv_at hl 0 rfl) ?_
  refine mm_init C hl.1 q364 q100 q101 dJ23_init_6 (Nat.le_of_ble_eq_true rfl) (Nat.le_of_ble_eq_true rfl) ?_
  refine lv_aload_n hx hb dJ23_init_9 rfl (lv_at hl 0 rfl) ?_
  refine lv_iconst (v := (-1)) hx hb dJ23_init_10 (by decide) ?_
  refine mm_pfi C S (ci := 20) (k := 1) rfl in_J23 tyJ23_ok nmJ23 (by decide) q366 (fun _ h9 => h9) rfl dJ23_init_11 rfl h (fun M2 H locs h S => ?_)
  refine lv_aload_n hx hb dJ23_init_14 rfl (lv_at hl 0 rfl) ?_
  refine lv_aload_n hx hb dJ23_init_15 rfl (lv_at hl 0 rfl) ?_
  refine mm_gfa C S (ci := 20) (k := 3) rfl in_J23 (by decide) q368 (fun _ h9 => h9) dJ23_init_16 h (fun u3 h => ?_)
  refine mm_gfi C S (ci := 16) (k := 0) rfl in_J2 (by decide) q125 (fun x h9 => u_same (C.ts _ q126) x h9) dJ23_init_19 h (fun v4 h => ?_)
  refine mm_pfi C S (ci := 20) (k := 2) rfl in_J23 tyJ23_ok nmJ23 (by decide) q367 (fun _ h9 => h9) rfl dJ23_init_22 rfl h (fun M5 H locs h S => ?_)
  exact mm_vret C S hr (Nat.le_trans (Nat.le_add_right _ _) hk) dJ23_init_25 h
/-! J23_next: level 11 -/
def wp_J23_next (G : mG) (b : Nat) (P : Nat → mM → Prop) (M : mM) (a0 : Nat) : Prop :=
  isc M a0 20 ∧ (wp_J23_checkForComodification G 0 (fun M1 => gfi M1 a0 20 0 fun v2 => gfa M1 a0 20 3 fun u3 => gfi M1 u3 16 2 fun v4 => (v2 < v4 → gfa M1 a0 20 3 fun u5 => gfa M1 u5 16 1 fun u6 => aln M1 u6 fun v7 => (v2 < v7 → pfi M1 a0 20 0 (v2 + 1) fun M8 => pfi M8 a0 20 1 v2 fun M9 => lda M9 5 u6 v2 fun u10 => P u10 M9) ∧ (¬ v2 < v7 → False)) ∧ (¬ v2 < v4 → False)) M a0)
set_option maxHeartbeats 4000000 in
set_option maxRecDepth 100000 in
theorem wk_J23_next {l : Launch} (hst0 : l.stackTraces = false) {G : mG} {b : Nat} {P : Nat → mM → Prop} {M : mM} {a0 : Nat} (h : wp_J23_next G b P M a0) : mMet l yJ23_next (ws_ yJ23_next cJ23_next 3 (Option.some (Jvm.ClassFile.FieldType.object "java/lang/Object"))) 11 b G [.ref a0] M (mRa P) (fun _ _ _ => False) := by
  refine mm_met hst0 (by decide) (Nat.le_of_ble_eq_true rfl) ?_
  intro p e s m args below meth c ls C hr hnt hnm hl S
  have hl : lv_has ls 3 [(0, .ref a0)] := hl
  generalize mA M s.heap.size = A at C S ⊢
  have hx := C.hx
  have hb := C.hb
  have hk : 0 + b ≤ b := Nat.le_of_eq (Nat.zero_add b)
  unfold wp_J23_next at h
  refine lv_aload_n hx hb dJ23_next_0 rfl (lv_at hl 0 rfl) ?_
  obtain ⟨hI, h⟩ := h
  refine mm_V (As := []) (rest := []) C S hl.1 (wk_J23_checkForComodification hst0 h) (T := TJ23) rfl hI (lw_V q397 q398 q399 q85 q400) rfl pd_J23_checkForComodification ⟨Nat.le_of_ble_eq_true rfl, Nat.le_of_ble_eq_true rfl⟩ rfl rfl (Nat.le_of_ble_eq_true rfl) dJ23_next_1 rfl rfl hk (Nat.zero_add _) (fun v9 M1 H locs hP S hk => ?_) (fun E q ce M9 H9 locs9 hX => hX.elim)
  obtain ⟨rfl, h⟩ := hP
  refine W.eq (g2 := F0 m 4 ls []) rfl ?_
  refine lv_aload_n hx hb dJ23_next_4 rfl (lv_at hl 0 rfl) ?_
  refine mm_gfi C S (ci := 20) (k := 0) rfl in_J23 (by decide) q365 (fun _ h9 => h9) dJ23_next_5 h (fun v2 h => ?_)
  refine lv_istore_n (lv' := [(1, .int v2), (0, .ref a0)]) hx hb dJ23_next_8 rfl hl (by decide) rfl (fun ls hl => ?_)
  refine lv_iload_n hx hb dJ23_next_9 rfl (lv_at hl 0 rfl) ?_
  refine lv_aload_n hx hb dJ23_next_10 rfl (lv_at hl 1 rfl) ?_
  refine mm_gfa C S (ci := 20) (k := 3) rfl in_J23 (by decide) q368 (fun _ h9 => h9) dJ23_next_11 h (fun u3 h => ?_)
  refine mm_gfiN C S (ci := 16) (k := 2) rfl in_J2 (by decide) q122 (fun _ h9 => h9) dJ23_next_14 h (fun v4 h => ?_)
  refine lv_icmp_lt (tgt := 28) hx hb dJ23_next_17 (by decide) (fun c9 => ?_) (fun c9 => ?_)
  · have h := h.1 c9
    refine lv_aload_n hx hb dJ23_next_28 rfl (lv_at hl 1 rfl) ?_
    refine mm_gfa C S (ci := 20) (k := 3) rfl in_J23 (by decide) q368 (fun _ h9 => h9) dJ23_next_29 h (fun u5 h => ?_)
    refine mm_gfa C S (ci := 16) (k := 1) rfl in_J2 (by decide) q121 (fun _ h9 => h9) dJ23_next_32 h (fun u6 h => ?_)
    refine lv_astore_n (lv' := [(2, .ref u6), (1, .int v2), (0, .ref a0)]) hx hb dJ23_next_35 rfl hl (by decide) rfl (fun ls hl => ?_)
    refine lv_iload_n hx hb dJ23_next_36 rfl (lv_at hl 1 rfl) ?_
    refine lv_aload_n hx hb dJ23_next_37 rfl (lv_at hl 0 rfl) ?_
    refine mm_alen C S h dJ23_next_38 (fun v7 h => ?_)
    refine lv_icmp_lt (tgt := 50) hx hb dJ23_next_39 (by decide) (fun c9 => ?_) (fun c9 => ?_)
    · have h := h.1 c9
      refine lv_aload_n hx hb dJ23_next_50 rfl (lv_at hl 2 rfl) ?_
      refine lv_iload_n hx hb dJ23_next_51 rfl (lv_at hl 1 rfl) ?_
      refine lv_iconst (v := 1) hx hb dJ23_next_52 (by decide) ?_
      refine lv_iadd hx hb dJ23_next_53 ?_
      refine mm_pfi C S (ci := 20) (k := 0) rfl in_J23 tyJ23_ok nmJ23 (by decide) q365 (fun _ h9 => h9) rfl dJ23_next_54 rfl h (fun M8 H locs h S => ?_)
      refine lv_aload_n hx hb dJ23_next_57 rfl (lv_at hl 0 rfl) ?_
      refine lv_aload_n hx hb dJ23_next_58 rfl (lv_at hl 2 rfl) ?_
      refine lv_iload_n hx hb dJ23_next_59 rfl (lv_at hl 1 rfl) ?_
      refine lv_dup_x1 hx hb dJ23_next_60 rfl rfl ?_
      refine mm_pfi C S (ci := 20) (k := 1) rfl in_J23 tyJ23_ok nmJ23 (by decide) q366 (fun _ h9 => h9) rfl dJ23_next_61 rfl h (fun M9 H locs h S => ?_)
      refine mm_aald C S (t := 5) rfl rfl h dJ23_next_64 (fun u10 h => ?_)
      exact mm_aret C S hr (Or.inl ⟨_, rfl⟩) (Nat.le_trans (Nat.le_add_right _ _) hk) dJ23_next_65 h
    · have h := h.2 c9
      exact h.elim
  · have h := h.2 c9
    exact h.elim
/-! J3_init_J4: level 10, alloc -/
def wp_J3_init_J4 (G : mG) (b : Nat) (P : mM → Prop) (M : mM) (a0 : Nat) (x1 : Int32) : Prop :=
  nwa M b 3 x1 (.inl fun _ => 0) fun u1 M2 r3 => pfq M2 a0 17 0 (some u1) fun M4 => pfn M4 a0 17 1 .byte 0 fun M5 => P M5
set_option maxHeartbeats 4000000 in
set_option maxRecDepth 100000 in
theorem wk_J3_init_J4 {l : Launch} (hst0 : l.stackTraces = false) {G : mG} {b : Nat} {P : mM → Prop} {M : mM} {a0 : Nat} {x1 : Int32} (h : wp_J3_init_J4 G b P M a0 x1) : mMet l yJ3_init (ws_ yJ3_init cJ3_init 2 (Option.none : Option Jvm.ClassFile.FieldType)) 10 b G [.ref a0, .int x1] M (mRv P) (fun _ _ _ => False) := by
  refine mm_met hst0 (by decide) (Nat.le_of_ble_eq_true rfl) ?_
  intro p e s m args below meth c ls C hr hnt hnm hl S
  have hl : lv_has ls 2 [(0, .ref a0), (1, .int x1)] := hl
  generalize mA M s.heap.size = A at C S ⊢
  have hx := C.hx
  have hb := C.hb
  have hk : 0 + b ≤ b := Nat.le_of_eq (Nat.zero_add b)
  unfold wp_J3_init_J4 at h
  refine lv_aload_n hx hb dJ3_init_0 rfl (lv_at hl 0 rfl) ?_
  refine mm_init C hl.1 q146 q100 q101 dJ3_init_1 (Nat.le_of_ble_eq_true rfl) (Nat.le_of_ble_eq_true rfl) ?_
  refine mm_gets C S C.ks.2.1 q147 (fun _ h9 => h9) dJ3_init_4 ?_
  refine lv_if_eq (tgt := 25) hx hb dJ3_init_7 (by decide) (fun c9 => ?_) (fun c9 => ?_)
  · exact absurd c9 (by decide)
  · refine lv_aload_n hx hb dJ3_init_10 rfl (lv_at hl 0 rfl) ?_
    refine lv_iload_n hx hb dJ3_init_11 rfl (lv_at hl 1 rfl) ?_
    refine mm_newa C S (t := 3) (ty := .byte) (atype := .byte) rfl rfl (by decide) q170 (fun _ h9 => h9) (fun _ => rfl) (by decide) dJ3_init_12 rfl rfl hk h (fun u1 M2 r3 k H h S hk => ?_)
    refine mm_pfq C S (ci := 17) (k := 0) (v := (some u1)) rfl in_J4 tyJ4_ok nmJ4 (by decide) q156 (fun _ h9 => h9) rfl dJ3_init_14 rfl h (fun M4 H locs h S => ?_)
    refine lv_aload_n hx hb dJ3_init_17 rfl (lv_at hl 0 rfl) ?_
    refine lv_iconst (v := 0) hx hb dJ3_init_18 (by decide) ?_
    refine mm_pfn C S (ci := 17) (k := 1) rfl in_J4 tyJ4_ok nmJ4 (by decide) q157 (fun _ h9 => h9) rfl dJ3_init_19 rfl h (fun M5 H locs h S => ?_)
    refine lv_goto (tgt := 38) hx hb dJ3_init_22 (by decide) ?_
    exact mm_vret C S hr (Nat.le_trans (Nat.le_add_right _ _) hk) dJ3_init_38 h
/-! J4_init: level 11, alloc -/
def wp_J4_init (G : mG) (b : Nat) (P : mM → Prop) (M : mM) (a0 : Nat) : Prop :=
  ∃ b2 r3 : Nat, b2 + r3 = b ∧ wp_J3_init_J4 G b2 (fun M1 => P M1) M a0 16
set_option maxHeartbeats 4000000 in
set_option maxRecDepth 100000 in
theorem wk_J4_init {l : Launch} (hst0 : l.stackTraces = false) {G : mG} {b : Nat} {P : mM → Prop} {M : mM} {a0 : Nat} (h : wp_J4_init G b P M a0) : mMet l yJ4_init (ws_ yJ4_init cJ4_init 1 (Option.none : Option Jvm.ClassFile.FieldType)) 11 b G [.ref a0] M (mRv P) (fun _ _ _ => False) := by
  refine mm_met hst0 (by decide) (Nat.le_of_ble_eq_true rfl) ?_
  intro p e s m args below meth c ls C hr hnt hnm hl S
  have hl : lv_has ls 1 [(0, .ref a0)] := hl
  generalize mA M s.heap.size = A at C S ⊢
  have hx := C.hx
  have hb := C.hb
  have hk : 0 + b ≤ b := Nat.le_of_eq (Nat.zero_add b)
  unfold wp_J4_init at h
  refine lv_aload_n hx hb dJ4_init_0 rfl (lv_at hl 0 rfl) ?_
  refine lv_bipush (v := 16) hx hb dJ4_init_1 (by decide) ?_
  obtain ⟨b2, r3, hb9, h⟩ := h
  refine mm_I (As := [.int 16]) (rest := []) C S hl.1 (wk_J3_init_J4 hst0 h) q145 q52 q143 q144 rfl pd_J3_init ⟨Nat.le_of_ble_eq_true rfl, Nat.le_of_ble_eq_true rfl⟩ rfl rfl (Nat.le_of_ble_eq_true rfl) dJ4_init_3 rfl rfl hk hb9 (fun v9 M1 H locs hP S hk => ?_) (fun E q ce M9 H9 locs9 hX => hX.elim)
  obtain ⟨rfl, h⟩ := hP
  refine W.eq (g2 := F0 m 6 ls []) rfl ?_
  exact mm_vret C S hr (Nat.le_trans (Nat.le_add_right _ _) hk) dJ4_init_6 h
/-! J24_init: level 12, alloc -/
def wp_J24_init (G : mG) (b : Nat) (P : mM → Prop) (M : mM) (a0 : Nat) (x1 : Int32) : Prop :=
  nwo M b 17 4 dfsJ4 fun u1 M2 r3 => ∃ b5 r6 : Nat, b5 + r6 = r3 ∧ wp_J4_init G b5 (fun M4 => False) M2 u1
set_option maxHeartbeats 4000000 in
set_option maxRecDepth 100000 in
theorem wk_J24_init {l : Launch} (hst0 : l.stackTraces = false) {G : mG} {b : Nat} {P : mM → Prop} {M : mM} {a0 : Nat} {x1 : Int32} (h : wp_J24_init G b P M a0 x1) : mMet l yJ24_init (ws_ yJ24_init cJ24_init 2 (Option.none : Option Jvm.ClassFile.FieldType)) 12 b G [.ref a0, .int x1] M (mRv P) (fun _ _ _ => False) := by
  refine mm_met hst0 (by decide) (Nat.le_of_ble_eq_true rfl) ?_
  intro p e s m args below meth c ls C hr hnt hnm hl S
  have hl : lv_has ls 2 [(0, .ref a0), (1, .int x1)] := hl
  generalize mA M s.heap.size = A at C S ⊢
  have hx := C.hx
  have hb := C.hb
  have hk : 0 + b ≤ b := Nat.le_of_eq (Nat.zero_add b)
  unfold wp_J24_init at h
  refine lv_aload_n hx hb dJ24_init_0 rfl (lv_at hl 0 rfl) ?_
  refine mm_new C S (ci := 17) (T := TJ4) rfl in_J4 tyJ4_ok q1375 q139 q53 dfJ4 (by decide) dJ24_init_1 rfl rfl hk h (fun u1 M2 r3 H h S hk => ?_)
  refine lv_dup hx hb dJ24_init_4 rfl ?_
  obtain ⟨b5, r6, hb9, h⟩ := h
  refine mm_I (As := []) (rest := [.ref u1, .ref a0]) C S hl.1 (wk_J4_init hst0 h) q142 q53 q1376 q141 rfl pd_J4_init ⟨Nat.le_of_ble_eq_true rfl, Nat.le_of_ble_eq_true rfl⟩ rfl rfl (Nat.le_of_ble_eq_true rfl) dJ24_init_5 rfl rfl hk hb9 (fun v9 M4 H locs hP S hk => ?_) (fun E q ce M9 H9 locs9 hX => hX.elim)
  obtain ⟨rfl, h⟩ := hP
  refine W.eq (g2 := F0 m 8 ls [.ref u1, .ref a0]) rfl ?_
  exact h.elim
/-! J25_init_X18: level 10 -/
def wp_J25_init_X18 (G : mG) (b : Nat) (P : mM → Prop) (M : mM) (a0 : Nat) : Prop :=
  P M
set_option maxHeartbeats 4000000 in
set_option maxRecDepth 100000 in
theorem wk_J25_init_X18 {l : Launch} (hst0 : l.stackTraces = false) {G : mG} {b : Nat} {P : mM → Prop} {M : mM} {a0 : Nat} (h : wp_J25_init_X18 G b P M a0) : mMet l yJ25_init (ws_ yJ25_init cJ25_init 1 (Option.none : Option Jvm.ClassFile.FieldType)) 10 b G [.ref a0] M (mRv P) (fun _ _ _ => False) := by
  refine mm_met hst0 (by decide) (Nat.le_of_ble_eq_true rfl) ?_
  intro p e s m args below meth c ls C hr hnt hnm hl S
  have hl : lv_has ls 1 [(0, .ref a0)] := hl
  generalize mA M s.heap.size = A at C S ⊢
  have hx := C.hx
  have hb := C.hb
  have hk : 0 + b ≤ b := Nat.le_of_eq (Nat.zero_add b)
  unfold wp_J25_init_X18 at h
  refine lv_aload_n hx hb dJ25_init_0 rfl (lv_at hl 0 rfl) ?_
  refine mm_init C hl.1 q1536 q100 q101 dJ25_init_1 (Nat.le_of_ble_eq_true rfl) (Nat.le_of_ble_eq_true rfl) ?_
  exact mm_vret C S hr (Nat.le_trans (Nat.le_add_right _ _) hk) dJ25_init_4 h
/-! J2_grow_2: level 12, alloc -/
def wb_J2_grow_2_20 (G : mG) (P : Nat → mM → Prop) (r : Nat) (M : mM) (a0 : Nat) (x1 : Int32) (x2 : Int32) : Prop :=
  wp_J14_newLength G 0 (fun v10 M9 => gfa M9 a0 16 1 fun u11 => ∃ b13 r14 : Nat, b13 + r14 = r ∧ wp_J16_copyOf G b13 (fun u15 M12 => pfq M12 a0 16 1 (some u15) fun M16 => P u15 M16) M9 u11 v10) M x2 (x1 - x2) (x2 >>> (1 &&& 31))
def wp_J2_grow_2 (G : mG) (b : Nat) (P : Nat → mM → Prop) (M : mM) (a0 : Nat) (x1 : Int32) : Prop :=
  gfa M a0 16 1 fun u1 => aln M u1 fun v2 => (0 < v2 → wb_J2_grow_2_20 G P b M a0 x1 v2) ∧ (¬ 0 < v2 → gfa M a0 16 1 fun u3 => (u3 = (G.2.2 0) → ∀ g4 : Int32, g4 = (if (10 : Int32) < x1 then x1 else (10 : Int32)) → nwa M b 5 g4 (.inr (.inr (.inr (.inr fun _ => none)))) fun u5 M6 r7 => pfq M6 a0 16 1 (some u5) fun M8 => P u5 M8) ∧ (¬ u3 = (G.2.2 0) → wb_J2_grow_2_20 G P b M a0 x1 v2))
set_option maxHeartbeats 4000000 in
set_option maxRecDepth 100000 in
theorem wk_J2_grow_2 {l : Launch} (hst0 : l.stackTraces = false) {G : mG} {b : Nat} {P : Nat → mM → Prop} {M : mM} {a0 : Nat} {x1 : Int32} (h : wp_J2_grow_2 G b P M a0 x1) : mMet l yJ2_grow_2 (ws_ yJ2_grow_2 cJ2_grow_2 4 (Option.some (Jvm.ClassFile.FieldType.array (Jvm.ClassFile.FieldType.object "java/lang/Object")))) 12 b G [.ref a0, .int x1] M (mRa P) (fun _ _ _ => False) := by
  refine mm_met hst0 (by decide) (Nat.le_of_ble_eq_true rfl) ?_
  intro p e s m args below meth c ls C hr hnt hnm hl S
  have hl : lv_has ls 4 [(0, .ref a0), (1, .int x1)] := hl
  generalize mA M s.heap.size = A at C S ⊢
  have hx := C.hx
  have hb := C.hb
  have hk : 0 + b ≤ b := Nat.le_of_eq (Nat.zero_add b)
  have j20 : ∀ (k r : Nat) (M : mM) (H : Heap) (locs : List Loc) (ls : Array Slot) (a0 : Nat) (x1 : Int32) (x2 : Int32), k + r ≤ b → mW G A s M H locs → lv_has ls 4 [(0, .ref a0), (1, .int x1), (2, .int x2)] → wb_J2_grow_2_20 G P r M a0 x1 x2 → W p l e (mRm 12 b) s m args below meth c H locs k k (vx_MQ below (mQ G A (mRa P)) (mXC G A (fun _ _ _ => False)) args s b b A) (F0 m 20 ls []) := by
    intro k r M H locs ls a0 x1 x2 hk S hl h
    unfold wb_J2_grow_2_20 at h
    refine lv_iload_n hx hb dJ2_grow_2_20 rfl (lv_at hl 2 rfl) ?_
    refine lv_iload_n hx hb dJ2_grow_2_21 rfl (lv_at hl 1 rfl) ?_
    refine lv_iload_n hx hb dJ2_grow_2_22 rfl (lv_at hl 2 rfl) ?_
    refine lv_isub hx hb dJ2_grow_2_23 ?_
    refine lv_iload_n hx hb dJ2_grow_2_24 rfl (lv_at hl 2 rfl) ?_
    refine lv_iconst (v := 1) hx hb dJ2_grow_2_25 (by decide) ?_
    refine lv_ishr hx hb dJ2_grow_2_26 ?_
    refine mm_S (As := [.int x2, .int (x1 - x2), .int (x2 >>> (1 &&& 31))]) (rest := []) C S hl.1 (wk_J14_newLength hst0 h) (lw_S q668 q669 q67 q670) pd_J14_newLength ⟨Nat.le_of_ble_eq_true rfl, Nat.le_of_ble_eq_true rfl⟩ rfl rfl (Nat.le_of_ble_eq_true rfl) dJ2_grow_2_27 rfl rfl hk (Nat.zero_add _) (fun v9 M9 H locs hP S hk => ?_) (fun E q ce M9 H9 locs9 hX => hX.elim)
    obtain ⟨v10, rfl, h⟩ := hP
    refine W.eq (g2 := F0 m 30 ls [.int v10]) rfl ?_
    refine lv_istore_n (lv' := [(3, .int v10), (0, .ref a0), (1, .int x1), (2, .int x2)]) hx hb dJ2_grow_2_30 rfl hl (by decide) rfl (fun ls hl => ?_)
    refine lv_aload_n hx hb dJ2_grow_2_31 rfl (lv_at hl 1 rfl) ?_
    refine lv_aload_n hx hb dJ2_grow_2_32 rfl (lv_at hl 1 rfl) ?_
    refine mm_gfa C S (ci := 16) (k := 1) rfl in_J2 (by decide) q120 (fun _ h9 => h9) dJ2_grow_2_33 h (fun u11 h => ?_)
    refine lv_iload_n hx hb dJ2_grow_2_36 rfl (lv_at hl 0 rfl) ?_
    obtain ⟨b13, r14, hb9, h⟩ := h
    refine mm_S (As := [.ref u11, .int v10]) (rest := [.ref a0]) C S hl.1 (wk_J16_copyOf hst0 h) (lw_S q676 q677 q69 q678) pd_J16_copyOf ⟨Nat.le_of_ble_eq_true rfl, Nat.le_of_ble_eq_true rfl⟩ rfl rfl (Nat.le_of_ble_eq_true rfl) dJ2_grow_2_37 rfl rfl hk hb9 (fun v9 M12 H locs hP S hk => ?_) (fun E q ce M9 H9 locs9 hX => hX.elim)
    obtain ⟨u15, rfl, h⟩ := hP
    refine W.eq (g2 := F0 m 40 ls [.ref u15, .ref a0]) rfl ?_
    refine lv_dup_x1 hx hb dJ2_grow_2_40 rfl rfl ?_
    refine mm_pfq C S (ci := 16) (k := 1) (v := (some u15)) rfl in_J2 tyJ2_ok nmJ2 (by decide) q120 (fun _ h9 => h9) rfl dJ2_grow_2_41 rfl h (fun M16 H locs h S => ?_)
    exact mm_aret C S hr (Or.inr ⟨_, rfl⟩) (Nat.le_trans (Nat.le_add_right _ _) hk) dJ2_grow_2_44 h
  unfold wp_J2_grow_2 at h
  refine lv_aload_n hx hb dJ2_grow_2_0 rfl (lv_at hl 0 rfl) ?_
  refine mm_gfa C S (ci := 16) (k := 1) rfl in_J2 (by decide) q120 (fun _ h9 => h9) dJ2_grow_2_1 h (fun u1 h => ?_)
  refine mm_alen C S h dJ2_grow_2_4 (fun v2 h => ?_)
  refine lv_istore_n (lv' := [(2, .int v2), (0, .ref a0), (1, .int x1)]) hx hb dJ2_grow_2_5 rfl hl (by decide) rfl (fun ls hl => ?_)
  refine lv_iload_n hx hb dJ2_grow_2_6 rfl (lv_at hl 0 rfl) ?_
  refine lv_if_gt (tgt := 20) hx hb dJ2_grow_2_7 (by decide) (fun c9 => ?_) (fun c9 => ?_)
  · have h := h.1 c9
    exact j20 _ _ _ _ _ _ _ _ _ hk S (lv_sub hl [1, 2, 0] rfl) h
  · have h := h.2 c9
    refine lv_aload_n hx hb dJ2_grow_2_10 rfl (lv_at hl 1 rfl) ?_
    refine mm_gfa C S (ci := 16) (k := 1) rfl in_J2 (by decide) q120 (fun _ h9 => h9) dJ2_grow_2_11 h (fun u3 h => ?_)
    refine mm_gets C S C.ks.1 q118 (fun _ h9 => h9) dJ2_grow_2_14 ?_
    refine lv_acmp_eq (rx := some u3) (ry := some (G.2.2 0)) (tgt := 45) hx hb dJ2_grow_2_17 (by decide) (fun c9 => ?_) (fun c9 => ?_)
    · have h := h.1 (Option.some.inj c9)
      refine lv_aload_n hx hb dJ2_grow_2_45 rfl (lv_at hl 1 rfl) ?_
      refine lv_bipush (v := 10) hx hb dJ2_grow_2_46 (by decide) ?_
      refine lv_iload_n hx hb dJ2_grow_2_48 rfl (lv_at hl 2 rfl) ?_
      refine mm_max C hl.1 q719 q328 q68 q329 (Nat.le_of_ble_eq_true rfl) (Nat.le_of_ble_eq_true rfl) (Nat.le_trans (Nat.le_add_right _ _) hk) (Nat.le_trans (Nat.le_add_right _ _) hk) dJ2_grow_2_49 ?_
      refine lv_topi (fun g4 eg4 => ?_)
      have h := h g4 eg4
      refine mm_anew C S (t := 5) rfl (by decide) q720 (by decide) dJ2_grow_2_52 rfl rfl hk h (fun u5 M6 r7 k H h S hk => ?_)
      refine lv_dup_x1 hx hb dJ2_grow_2_55 rfl rfl ?_
      refine mm_pfq C S (ci := 16) (k := 1) (v := (some u5)) rfl in_J2 tyJ2_ok nmJ2 (by decide) q120 (fun _ h9 => h9) rfl dJ2_grow_2_56 rfl h (fun M8 H locs h S => ?_)
      exact mm_aret C S hr (Or.inr ⟨_, rfl⟩) (Nat.le_trans (Nat.le_add_right _ _) hk) dJ2_grow_2_59 h
    · have h := h.2 (fun z => c9 (congrArg some z))
      exact j20 _ _ _ _ _ _ _ _ _ hk S (lv_sub hl [1, 2, 0] rfl) h
/-! J2_grow: level 13, alloc -/
def wp_J2_grow (G : mG) (b : Nat) (P : Nat → mM → Prop) (M : mM) (a0 : Nat) : Prop :=
  gfi M a0 16 2 fun v1 => isc M a0 16 ∧ (∃ b3 r4 : Nat, b3 + r4 = b ∧ wp_J2_grow_2 G b3 (fun u5 M2 => P u5 M2) M a0 (v1 + 1))
set_option maxHeartbeats 4000000 in
set_option maxRecDepth 100000 in
theorem wk_J2_grow {l : Launch} (hst0 : l.stackTraces = false) {G : mG} {b : Nat} {P : Nat → mM → Prop} {M : mM} {a0 : Nat} (h : wp_J2_grow G b P M a0) : mMet l yJ2_grow (ws_ yJ2_grow cJ2_grow 1 (Option.some (Jvm.ClassFile.FieldType.array (Jvm.ClassFile.FieldType.object "java/lang/Object")))) 13 b G [.ref a0] M (mRa P) (fun _ _ _ => False) := by
  refine mm_met hst0 (by decide) (Nat.le_of_ble_eq_true rfl) ?_
  intro p e s m args below meth c ls C hr hnt hnm hl S
  have hl : lv_has ls 1 [(0, .ref a0)] := hl
  generalize mA M s.heap.size = A at C S ⊢
  have hx := C.hx
  have hb := C.hb
  have hk : 0 + b ≤ b := Nat.le_of_eq (Nat.zero_add b)
  unfold wp_J2_grow at h
  refine lv_aload_n hx hb dJ2_grow_0 rfl (lv_at hl 0 rfl) ?_
  refine lv_aload_n hx hb dJ2_grow_1 rfl (lv_at hl 0 rfl) ?_
  refine mm_gfi C S (ci := 16) (k := 2) rfl in_J2 (by decide) q123 (fun _ h9 => h9) dJ2_grow_2 h (fun v1 h => ?_)
  refine lv_iconst (v := 1) hx hb dJ2_grow_5 (by decide) ?_
  refine lv_iadd hx hb dJ2_grow_6 ?_
  obtain ⟨hI, h⟩ := h
  obtain ⟨b3, r4, hb9, h⟩ := h
  refine mm_V (As := [.int (v1 + 1)]) (rest := []) C S hl.1 (wk_J2_grow_2 hst0 h) (T := TJ2) rfl hI (lw_V q664 q666 qs8 q51 q667) rfl pd_J2_grow_2 ⟨Nat.le_of_ble_eq_true rfl, Nat.le_of_ble_eq_true rfl⟩ rfl rfl (Nat.le_of_ble_eq_true rfl) dJ2_grow_7 rfl rfl hk hb9 (fun v9 M2 H locs hP S hk => ?_) (fun E q ce M9 H9 locs9 hX => hX.elim)
  obtain ⟨u5, rfl, h⟩ := hP
  refine W.eq (g2 := F0 m 10 ls [.ref u5]) rfl ?_
  exact mm_aret C S hr (Or.inr ⟨_, rfl⟩) (Nat.le_trans (Nat.le_add_right _ _) hk) dJ2_grow_10 h
/-! J2_add_2: level 14, alloc -/
def wb_J2_add_2_11 (G : mG) (P : mM → Prop) (r : Nat) (M : mM) (a0 : Nat) (a1 : Nat) (a2 : Nat) (x3 : Int32) : Prop :=
  iso M a1 ∧ sta M 5 a2 x3 a1 fun M6 => pfi M6 a0 16 2 (x3 + 1) fun M7 => P M7
def wp_J2_add_2 (G : mG) (b : Nat) (P : mM → Prop) (M : mM) (a0 : Nat) (a1 : Nat) (a2 : Nat) (x3 : Int32) : Prop :=
  aln M a2 fun v1 => (¬ x3 = v1 → wb_J2_add_2_11 G P b M a0 a1 a2 x3) ∧ (x3 = v1 → isc M a0 16 ∧ (∃ b3 r4 : Nat, b3 + r4 = b ∧ wp_J2_grow G b3 (fun u5 M2 => wb_J2_add_2_11 G P r4 M2 a0 a1 u5 x3) M a0))
set_option maxHeartbeats 4000000 in
set_option maxRecDepth 100000 in
theorem wk_J2_add_2 {l : Launch} (hst0 : l.stackTraces = false) {G : mG} {b : Nat} {P : mM → Prop} {M : mM} {a0 : Nat} {a1 : Nat} {a2 : Nat} {x3 : Int32} (h : wp_J2_add_2 G b P M a0 a1 a2 x3) : mMet l yJ2_add_2 (ws_ yJ2_add_2 cJ2_add_2 4 (Option.none : Option Jvm.ClassFile.FieldType)) 14 b G [.ref a0, .ref a1, .ref a2, .int x3] M (mRv P) (fun _ _ _ => False) := by
  refine mm_met hst0 (by decide) (Nat.le_of_ble_eq_true rfl) ?_
  intro p e s m args below meth c ls C hr hnt hnm hl S
  have hl : lv_has ls 4 [(0, .ref a0), (1, .ref a1), (2, .ref a2), (3, .int x3)] := hl
  generalize mA M s.heap.size = A at C S ⊢
  have hx := C.hx
  have hb := C.hb
  have hk : 0 + b ≤ b := Nat.le_of_eq (Nat.zero_add b)
  have j11 : ∀ (k r : Nat) (M : mM) (H : Heap) (locs : List Loc) (ls : Array Slot) (a0 : Nat) (a1 : Nat) (a2 : Nat) (x3 : Int32), k + r ≤ b → mW G A s M H locs → lv_has ls 4 [(0, .ref a0), (1, .ref a1), (2, .ref a2), (3, .int x3)] → wb_J2_add_2_11 G P r M a0 a1 a2 x3 → W p l e (mRm 14 b) s m args below meth c H locs k k (vx_MQ below (mQ G A (mRv P)) (mXC G A (fun _ _ _ => False)) args s b b A) (F0 m 11 ls []) := by
    intro k r M H locs ls a0 a1 a2 x3 hk S hl h
    unfold wb_J2_add_2_11 at h
    refine lv_aload_n hx hb dJ2_add_2_11 rfl (lv_at hl 2 rfl) ?_
    refine lv_iload_n hx hb dJ2_add_2_12 rfl (lv_at hl 3 rfl) ?_
    refine lv_aload_n hx hb dJ2_add_2_13 rfl (lv_at hl 1 rfl) ?_
    refine mm_aastO C S h dJ2_add_2_14 (fun M6 H locs h S => ?_)
    refine lv_aload_n hx hb dJ2_add_2_15 rfl (lv_at hl 0 rfl) ?_
    refine lv_iload_n hx hb dJ2_add_2_16 rfl (lv_at hl 3 rfl) ?_
    refine lv_iconst (v := 1) hx hb dJ2_add_2_17 (by decide) ?_
    refine lv_iadd hx hb dJ2_add_2_18 ?_
    refine mm_pfi C S (ci := 16) (k := 2) rfl in_J2 tyJ2_ok nmJ2 (by decide) q123 (fun _ h9 => h9) rfl dJ2_add_2_19 rfl h (fun M7 H locs h S => ?_)
    exact mm_vret C S hr (Nat.le_trans (Nat.le_add_right _ _) hk) dJ2_add_2_22 h
  unfold wp_J2_add_2 at h
  refine lv_iload_n hx hb dJ2_add_2_0 rfl (lv_at hl 3 rfl) ?_
  refine lv_aload_n hx hb dJ2_add_2_1 rfl (lv_at hl 2 rfl) ?_
  refine mm_alen C S h dJ2_add_2_2 (fun v1 h => ?_)
  refine lv_icmp_ne (tgt := 11) hx hb dJ2_add_2_3 (by decide) (fun c9 => ?_) (fun c9 => ?_)
  · have h := h.1 c9
    exact j11 _ _ _ _ _ _ _ _ _ _ hk S hl h
  · have h := h.2 c9
    refine lv_aload_n hx hb dJ2_add_2_6 rfl (lv_at hl 0 rfl) ?_
    obtain ⟨hI, h⟩ := h
    obtain ⟨b3, r4, hb9, h⟩ := h
    refine mm_V (As := []) (rest := []) C S hl.1 (wk_J2_grow hst0 h) (T := TJ2) rfl hI (lw_V q660 q662 qs7 q51 q663) rfl pd_J2_grow ⟨Nat.le_of_ble_eq_true rfl, Nat.le_of_ble_eq_true rfl⟩ rfl rfl (Nat.le_of_ble_eq_true rfl) dJ2_add_2_7 rfl rfl hk hb9 (fun v9 M2 H locs hP S hk => ?_) (fun E q ce M9 H9 locs9 hX => hX.elim)
    obtain ⟨u5, rfl, h⟩ := hP
    refine W.eq (g2 := F0 m 10 ls [.ref u5]) rfl ?_
    refine lv_astore_n (lv' := [(2, .ref u5), (0, .ref a0), (1, .ref a1), (3, .int x3)]) hx hb dJ2_add_2_10 rfl hl (by decide) rfl (fun ls hl => ?_)
    exact j11 _ _ _ _ _ _ _ _ _ _ hk S (lv_sub hl [1, 2, 0, 3] rfl) h
/-! J2_add: level 15, alloc -/
def wp_J2_add (G : mG) (b : Nat) (P : Int32 → mM → Prop) (M : mM) (a0 : Nat) (a1 : Nat) : Prop :=
  gfi M a0 16 0 fun v1 => pfi M a0 16 0 (v1 + 1) fun M2 => gfa M2 a0 16 1 fun u3 => gfi M2 a0 16 2 fun v4 => isc M2 a0 16 ∧ (∃ b6 r7 : Nat, b6 + r7 = b ∧ wp_J2_add_2 G b6 (fun M5 => narrow .boolean (.int 1) = .int 1 ∧ P 1 M5) M2 a0 a1 u3 v4)
set_option maxHeartbeats 4000000 in
set_option maxRecDepth 100000 in
theorem wk_J2_add {l : Launch} (hst0 : l.stackTraces = false) {G : mG} {b : Nat} {P : Int32 → mM → Prop} {M : mM} {a0 : Nat} {a1 : Nat} (h : wp_J2_add G b P M a0 a1) : mMet l yJ2_add (ws_ yJ2_add cJ2_add 2 (Option.some Jvm.ClassFile.FieldType.boolean)) 15 b G [.ref a0, .ref a1] M (mRi P) (fun _ _ _ => False) := by
  refine mm_met hst0 (by decide) (Nat.le_of_ble_eq_true rfl) ?_
  intro p e s m args below meth c ls C hr hnt hnm hl S
  have hl : lv_has ls 2 [(0, .ref a0), (1, .ref a1)] := hl
  generalize mA M s.heap.size = A at C S ⊢
  have hx := C.hx
  have hb := C.hb
  have hk : 0 + b ≤ b := Nat.le_of_eq (Nat.zero_add b)
  unfold wp_J2_add at h
  refine lv_aload_n hx hb dJ2_add_0 rfl (lv_at hl 0 rfl) ?_
  refine lv_dup hx hb dJ2_add_1 rfl ?_
  refine mm_gfi C S (ci := 16) (k := 0) rfl in_J2 (by decide) q127 (fun x h9 => u_same (C.ts _ q126) x h9) dJ2_add_2 h (fun v1 h => ?_)
  refine lv_iconst (v := 1) hx hb dJ2_add_5 (by decide) ?_
  refine lv_iadd hx hb dJ2_add_6 ?_
  refine mm_pfi C S (ci := 16) (k := 0) rfl in_J2 tyJ2_ok nmJ2 (by decide) q127 (fun x h9 => u_same (C.ts _ q126) x h9) rfl dJ2_add_7 rfl h (fun M2 H locs h S => ?_)
  refine lv_aload_n hx hb dJ2_add_10 rfl (lv_at hl 0 rfl) ?_
  refine lv_aload_n hx hb dJ2_add_11 rfl (lv_at hl 1 rfl) ?_
  refine lv_aload_n hx hb dJ2_add_12 rfl (lv_at hl 0 rfl) ?_
  refine mm_gfa C S (ci := 16) (k := 1) rfl in_J2 (by decide) q120 (fun _ h9 => h9) dJ2_add_13 h (fun u3 h => ?_)
  refine lv_aload_n hx hb dJ2_add_16 rfl (lv_at hl 0 rfl) ?_
  refine mm_gfi C S (ci := 16) (k := 2) rfl in_J2 (by decide) q123 (fun _ h9 => h9) dJ2_add_17 h (fun v4 h => ?_)
  obtain ⟨hI, h⟩ := h
  obtain ⟨b6, r7, hb9, h⟩ := h
  refine mm_V (As := [.ref a1, .ref u3, .int v4]) (rest := []) C S hl.1 (wk_J2_add_2 hst0 h) (T := TJ2) rfl hI (lw_V q656 q658 qs6 q51 q659) rfl pd_J2_add_2 ⟨Nat.le_of_ble_eq_true rfl, Nat.le_of_ble_eq_true rfl⟩ rfl rfl (Nat.le_of_ble_eq_true rfl) dJ2_add_20 rfl rfl hk hb9 (fun v9 M5 H locs hP S hk => ?_) (fun E q ce M9 H9 locs9 hX => hX.elim)
  obtain ⟨rfl, h⟩ := hP
  refine W.eq (g2 := F0 m 23 ls []) rfl ?_
  refine lv_iconst (v := 1) hx hb dJ2_add_23 (by decide) ?_
  exact mm_zret C S hr (Nat.le_trans (Nat.le_add_right _ _) hk) dJ2_add_24 h
/-! J2_elementData: level 10 -/
def wp_J2_elementData (G : mG) (b : Nat) (P : Nat → mM → Prop) (M : mM) (a0 : Nat) (x1 : Int32) : Prop :=
  gfa M a0 16 1 fun u1 => lda M 5 u1 x1 fun u2 => P u2 M
set_option maxHeartbeats 4000000 in
set_option maxRecDepth 100000 in
theorem wk_J2_elementData {l : Launch} (hst0 : l.stackTraces = false) {G : mG} {b : Nat} {P : Nat → mM → Prop} {M : mM} {a0 : Nat} {x1 : Int32} (h : wp_J2_elementData G b P M a0 x1) : mMet l yJ2_elementData (ws_ yJ2_elementData cJ2_elementData 2 (Option.some (Jvm.ClassFile.FieldType.object "java/lang/Object"))) 10 b G [.ref a0, .int x1] M (mRa P) (fun _ _ _ => False) := by
  refine mm_met hst0 (by decide) (Nat.le_of_ble_eq_true rfl) ?_
  intro p e s m args below meth c ls C hr hnt hnm hl S
  have hl : lv_has ls 2 [(0, .ref a0), (1, .int x1)] := hl
  generalize mA M s.heap.size = A at C S ⊢
  have hx := C.hx
  have hb := C.hb
  have hk : 0 + b ≤ b := Nat.le_of_eq (Nat.zero_add b)
  unfold wp_J2_elementData at h
  refine lv_aload_n hx hb dJ2_elementData_0 rfl (lv_at hl 0 rfl) ?_
  refine mm_gfa C S (ci := 16) (k := 1) rfl in_J2 (by decide) q120 (fun _ h9 => h9) dJ2_elementData_1 h (fun u1 h => ?_)
  refine lv_iload_n hx hb dJ2_elementData_4 rfl (lv_at hl 1 rfl) ?_
  refine mm_aald C S (t := 5) rfl rfl h dJ2_elementData_5 (fun u2 h => ?_)
  exact mm_aret C S hr (Or.inl ⟨_, rfl⟩) (Nat.le_trans (Nat.le_add_right _ _) hk) dJ2_elementData_6 h
/-! J2_get: level 12 -/
def wp_J2_get (G : mG) (b : Nat) (P : Nat → mM → Prop) (M : mM) (a0 : Nat) (x1 : Int32) : Prop :=
  gfi M a0 16 2 fun v1 => wp_J17_checkIndex G 0 (fun v3 M2 => isc M2 a0 16 ∧ (wp_J2_elementData G 0 (fun u5 M4 => P u5 M4) M2 a0 x1)) M x1 v1
set_option maxHeartbeats 4000000 in
set_option maxRecDepth 100000 in
theorem wk_J2_get {l : Launch} (hst0 : l.stackTraces = false) {G : mG} {b : Nat} {P : Nat → mM → Prop} {M : mM} {a0 : Nat} {x1 : Int32} (h : wp_J2_get G b P M a0 x1) : mMet l yJ2_get (ws_ yJ2_get cJ2_get 2 (Option.some (Jvm.ClassFile.FieldType.object "java/lang/Object"))) 12 b G [.ref a0, .int x1] M (mRa P) (fun _ _ _ => False) := by
  refine mm_met hst0 (by decide) (Nat.le_of_ble_eq_true rfl) ?_
  intro p e s m args below meth c ls C hr hnt hnm hl S
  have hl : lv_has ls 2 [(0, .ref a0), (1, .int x1)] := hl
  generalize mA M s.heap.size = A at C S ⊢
  have hx := C.hx
  have hb := C.hb
  have hk : 0 + b ≤ b := Nat.le_of_eq (Nat.zero_add b)
  unfold wp_J2_get at h
  refine lv_iload_n hx hb dJ2_get_0 rfl (lv_at hl 1 rfl) ?_
  refine lv_aload_n hx hb dJ2_get_1 rfl (lv_at hl 0 rfl) ?_
  refine mm_gfi C S (ci := 16) (k := 2) rfl in_J2 (by decide) q123 (fun _ h9 => h9) dJ2_get_2 h (fun v1 h => ?_)
  refine mm_S (As := [.int x1, .int v1]) (rest := []) C S hl.1 (wk_J17_checkIndex hst0 h) (lw_S q302 q303 q71 q304) pd_J17_checkIndex ⟨Nat.le_of_ble_eq_true rfl, Nat.le_of_ble_eq_true rfl⟩ rfl rfl (Nat.le_of_ble_eq_true rfl) dJ2_get_5 rfl rfl hk (Nat.zero_add _) (fun v9 M2 H locs hP S hk => ?_) (fun E q ce M9 H9 locs9 hX => hX.elim)
  obtain ⟨v3, rfl, h⟩ := hP
  refine W.eq (g2 := F0 m 8 ls [.int v3]) rfl ?_
  refine lv_pop hx hb dJ2_get_8 rfl ?_
  refine lv_aload_n hx hb dJ2_get_9 rfl (lv_at hl 0 rfl) ?_
  refine lv_iload_n hx hb dJ2_get_10 rfl (lv_at hl 1 rfl) ?_
  obtain ⟨hI, h⟩ := h
  refine mm_V (As := [.int x1]) (rest := []) C S hl.1 (wk_J2_elementData hst0 h) (T := TJ2) rfl hI (lw_V q308 q309 q310 q51 q311) rfl pd_J2_elementData ⟨Nat.le_of_ble_eq_true rfl, Nat.le_of_ble_eq_true rfl⟩ rfl rfl (Nat.le_of_ble_eq_true rfl) dJ2_get_11 rfl rfl hk (Nat.zero_add _) (fun v9 M4 H locs hP S hk => ?_) (fun E q ce M9 H9 locs9 hX => hX.elim)
  obtain ⟨u5, rfl, h⟩ := hP
  refine W.eq (g2 := F0 m 14 ls [.ref u5]) rfl ?_
  exact mm_aret C S hr (Or.inl ⟨_, rfl⟩) (Nat.le_trans (Nat.le_add_right _ _) hk) dJ2_get_14 h
/-! J2_init: level 12 -/
def wp_J2_init (G : mG) (b : Nat) (P : mM → Prop) (M : mM) (a0 : Nat) : Prop :=
  wp_J1_init_J2 G 0 (fun M1 => pfq M1 a0 16 1 (some (G.2.2 0)) fun M2 => P M2) M a0
set_option maxHeartbeats 4000000 in
set_option maxRecDepth 100000 in
theorem wk_J2_init {l : Launch} (hst0 : l.stackTraces = false) {G : mG} {b : Nat} {P : mM → Prop} {M : mM} {a0 : Nat} (h : wp_J2_init G b P M a0) : mMet l yJ2_init (ws_ yJ2_init cJ2_init 1 (Option.none : Option Jvm.ClassFile.FieldType)) 12 b G [.ref a0] M (mRv P) (fun _ _ _ => False) := by
  refine mm_met hst0 (by decide) (Nat.le_of_ble_eq_true rfl) ?_
  intro p e s m args below meth c ls C hr hnt hnm hl S
  have hl : lv_has ls 1 [(0, .ref a0)] := hl
  generalize mA M s.heap.size = A at C S ⊢
  have hx := C.hx
  have hb := C.hb
  have hk : 0 + b ≤ b := Nat.le_of_eq (Nat.zero_add b)
  unfold wp_J2_init at h
  refine lv_aload_n hx hb dJ2_init_0 rfl (lv_at hl 0 rfl) ?_
  refine mm_I (As := []) (rest := []) C S hl.1 (wk_J1_init_J2 hst0 h) q113 q50 q111 q112 rfl pd_J1_init ⟨Nat.le_of_ble_eq_true rfl, Nat.le_of_ble_eq_true rfl⟩ rfl rfl (Nat.le_of_ble_eq_true rfl) dJ2_init_1 rfl rfl hk (Nat.zero_add _) (fun v9 M1 H locs hP S hk => ?_) (fun E q ce M9 H9 locs9 hX => hX.elim)
  obtain ⟨rfl, h⟩ := hP
  refine W.eq (g2 := F0 m 4 ls []) rfl ?_
  refine lv_aload_n hx hb dJ2_init_4 rfl (lv_at hl 0 rfl) ?_
  refine mm_gets C S C.ks.1 q118 (fun _ h9 => h9) dJ2_init_5 ?_
  refine mm_pfq C S (ci := 16) (k := 1) (v := (some (G.2.2 0))) rfl in_J2 tyJ2_ok nmJ2 (by decide) q120 (fun _ h9 => h9) rfl dJ2_init_8 rfl h (fun M2 H locs h S => ?_)
  exact mm_vret C S hr (Nat.le_trans (Nat.le_add_right _ _) hk) dJ2_init_11 h
