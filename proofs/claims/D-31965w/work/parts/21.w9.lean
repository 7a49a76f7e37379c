/-! X9_init_X10: level 12 -/
def wp_X9_init_X10 (G : mG) (b : Nat) (P : mM → Prop) (M : mM) (a0 : Nat) (x1 : Int32) (x2 : Int32) : Prop :=
  wp_J8_init_3_X10 G 0 (fun M1 => pfi M1 a0 7 0 x1 fun M2 => pfi M2 a0 7 1 x2 fun M3 => P M3) M a0 0 0
set_option maxHeartbeats 4000000 in
set_option maxRecDepth 100000 in
theorem wk_X9_init_X10 {l : Launch} (hst0 : l.stackTraces = false) {G : mG} {b : Nat} {P : mM → Prop} {M : mM} {a0 : Nat} {x1 : Int32} {x2 : Int32} (h : wp_X9_init_X10 G b P M a0 x1 x2) : mMet l yX9_init (ws_ yX9_init cX9_init 3 (Option.none : Option Jvm.ClassFile.FieldType)) 12 b G [.ref a0, .int x1, .int x2] M (mRv P) (fun _ _ _ => False) := by
  refine mm_met hst0 (by decide) (Nat.le_of_ble_eq_true rfl) ?_
  intro p e s m args below meth c ls C hr hnt hnm hl S
  have hl : lv_has ls 3 [(0, .ref a0), (1, .int x1), (2, .int x2)] := hl
  generalize mA M s.heap.size = A at C S ⊢
  have hx := C.hx
  have hb := C.hb
  have hk : 0 + b ≤ b := Nat.le_of_eq (Nat.zero_add b)
  unfold wp_X9_init_X10 at h
  refine lv_aload_n hx hb dX9_init_0 rfl (lv_at hl 0 rfl) ?_
  refine lv_null hx hb dX9_init_1 ?_
  refine lv_null hx hb dX9_init_2 ?_
  refine lv_iconst (v := 0) hx hb dX9_init_3 (by decide) ?_
  refine lv_iconst (v := 0) hx hb dX9_init_4 (by decide) ?_
  refine mm_I (As := [.null, .null, .int 0, .int 0]) (rest := []) C S hl.1 (wk_J8_init_3_X10 hst0 h) q1221 q60 q1219 q1220 rfl pd_J8_init_3 ⟨Nat.le_of_ble_eq_true rfl, Nat.le_of_ble_eq_true rfl⟩ rfl rfl (Nat.le_of_ble_eq_true rfl) dX9_init_5 rfl rfl hk (Nat.zero_add _) (fun v9 M1 H locs hP S hk => ?_) (fun E q ce M9 H9 locs9 hX => hX.elim)
  obtain ⟨rfl, h⟩ := hP
  refine W.eq (g2 := F0 m 8 ls []) rfl ?_
  refine lv_aload_n hx hb dX9_init_8 rfl (lv_at hl 0 rfl) ?_
  refine lv_iload_n hx hb dX9_init_9 rfl (lv_at hl 1 rfl) ?_
  refine mm_pfiF C S (ci := 7) (k := 0) rfl in_X10 tyX10_ok nmX10 (by decide) q1225 (fun _ h9 => h9) rfl (hnm.trans rfl) rfl dX9_init_10 rfl h (fun M2 H locs h S => ?_)
  refine lv_aload_n hx hb dX9_init_13 rfl (lv_at hl 0 rfl) ?_
  refine lv_iload_n hx hb dX9_init_14 rfl (lv_at hl 2 rfl) ?_
  refine mm_pfiF C S (ci := 7) (k := 1) rfl in_X10 tyX10_ok nmX10 (by decide) q1227 (fun _ h9 => h9) rfl (hnm.trans rfl) rfl dX9_init_15 rfl h (fun M3 H locs h S => ?_)
  exact mm_vret C S hr (Nat.le_trans (Nat.le_add_right _ _) hk) dX9_init_18 h
/-! X10_init: level 13 -/
def wp_X10_init (G : mG) (b : Nat) (P : mM → Prop) (M : mM) (a0 : Nat) (x1 : Int32) (x2 : Int32) : Prop :=
  wp_X9_init_X10 G 0 (fun M1 => P M1) M a0 x1 x2
set_option maxHeartbeats 4000000 in
set_option maxRecDepth 100000 in
theorem wk_X10_init {l : Launch} (hst0 : l.stackTraces = false) {G : mG} {b : Nat} {P : mM → Prop} {M : mM} {a0 : Nat} {x1 : Int32} {x2 : Int32} (h : wp_X10_init G b P M a0 x1 x2) : mMet l yX10_init (ws_ yX10_init cX10_init 3 (Option.none : Option Jvm.ClassFile.FieldType)) 13 b G [.ref a0, .int x1, .int x2] M (mRv P) (fun _ _ _ => False) := by
  refine mm_met hst0 (by decide) (Nat.le_of_ble_eq_true rfl) ?_
  intro p e s m args below meth c ls C hr hnt hnm hl S
  have hl : lv_has ls 3 [(0, .ref a0), (1, .int x1), (2, .int x2)] := hl
  generalize mA M s.heap.size = A at C S ⊢
  have hx := C.hx
  have hb := C.hb
  have hk : 0 + b ≤ b := Nat.le_of_eq (Nat.zero_add b)
  unfold wp_X10_init at h
  refine lv_aload_n hx hb dX10_init_0 rfl (lv_at hl 0 rfl) ?_
  refine lv_iload_n hx hb dX10_init_1 rfl (lv_at hl 1 rfl) ?_
  refine lv_iload_n hx hb dX10_init_2 rfl (lv_at hl 2 rfl) ?_
  refine mm_I (As := [.int x1, .int x2]) (rest := []) C S hl.1 (wk_X9_init_X10 hst0 h) q1218 q80 q1216 q1217 rfl pd_X9_init ⟨Nat.le_of_ble_eq_true rfl, Nat.le_of_ble_eq_true rfl⟩ rfl rfl (Nat.le_of_ble_eq_true rfl) dX10_init_3 rfl rfl hk (Nat.zero_add _) (fun v9 M1 H locs hP S hk => ?_) (fun E q ce M9 H9 locs9 hX => hX.elim)
  obtain ⟨rfl, h⟩ := hP
  refine W.eq (g2 := F0 m 6 ls []) rfl ?_
  exact mm_vret C S hr (Nat.le_trans (Nat.le_add_right _ _) hk) dX10_init_6 h
/-! X6_need: level 14, alloc, throws Hidecount$ReadingFault -/
def wp_X6_need (G : mG) (b : Nat) (P : mM → Prop) (X : String → Nat → mM → Prop) (M : mM) (a0 : Nat) (x1 : Int32) (x2 : Int32) : Prop :=
  (¬ x1 = 0 → P M) ∧ (x1 = 0 → nwo M b 7 8 dfsX10 fun u1 M2 r3 => gfi M2 a0 5 1 fun v4 => wp_X10_init G 0 (fun M5 => ist M5 u1 7 ∧ X "Hidecount$ReadingFault" u1 M5) M2 u1 x2 v4)
set_option maxHeartbeats 4000000 in
set_option maxRecDepth 100000 in
theorem wk_X6_need {l : Launch} (hst0 : l.stackTraces = false) {G : mG} {b : Nat} {P : mM → Prop} {X : String → Nat → mM → Prop} {M : mM} {a0 : Nat} {x1 : Int32} {x2 : Int32} (h : wp_X6_need G b P X M a0 x1 x2) : mMet l yX6_need (ws_ yX6_need cX6_need 3 (Option.none : Option Jvm.ClassFile.FieldType)) 14 b G [.ref a0, .int x1, .int x2] M (mRv P) X := by
  refine mm_met hst0 (by decide) (Nat.le_of_ble_eq_true rfl) ?_
  intro p e s m args below meth c ls C hr hnt hnm hl S
  have hl : lv_has ls 3 [(0, .ref a0), (1, .int x1), (2, .int x2)] := hl
  generalize mA M s.heap.size = A at C S ⊢
  have hx := C.hx
  have hb := C.hb
  have hk : 0 + b ≤ b := Nat.le_of_eq (Nat.zero_add b)
  unfold wp_X6_need at h
  refine lv_iload_n hx hb dX6_need_0 rfl (lv_at hl 1 rfl) ?_
  refine lv_if_ne (tgt := 17) hx hb dX6_need_1 (by decide) (fun c9 => ?_) (fun c9 => ?_)
  · have h := h.1 c9
    exact mm_vret C S hr (Nat.le_trans (Nat.le_add_right _ _) hk) dX6_need_17 h
  · have h := h.2 c9
    refine mm_new C S (ci := 7) (T := TX10) rfl in_X10 tyX10_ok q1204 q1205 q81 dfX10 (by decide) dX6_need_4 rfl rfl hk h (fun u1 M2 r3 H h S hk => ?_)
    refine lv_dup hx hb dX6_need_7 rfl ?_
    refine lv_iload_n hx hb dX6_need_8 rfl (lv_at hl 2 rfl) ?_
    refine lv_aload_n hx hb dX6_need_9 rfl (lv_at hl 0 rfl) ?_
    refine mm_gfi C S (ci := 5) (k := 1) rfl in_X6 (by decide) q1109 (fun _ h9 => h9) dX6_need_10 h (fun v4 h => ?_)
    refine mm_I (As := [.int x2, .int v4]) (rest := [.ref u1]) C S hl.1 (wk_X10_init hst0 h) q1215 q81 q1213 q1214 rfl pd_X10_init ⟨Nat.le_of_ble_eq_true rfl, Nat.le_of_ble_eq_true rfl⟩ rfl rfl (Nat.le_of_ble_eq_true rfl) dX6_need_13 rfl rfl hk (Nat.zero_add _) (fun v9 M5 H locs hP S hk => ?_) (fun E q ce M9 H9 locs9 hX => hX.elim)
    obtain ⟨rfl, h⟩ := hP
    refine W.eq (g2 := F0 m 16 ls [.ref u1]) rfl ?_
    exact mm_outM C S (fun x hx => (hnt x hx).elim) (ci := 7) (T := TX10) rfl (Nat.le_trans (Nat.le_add_right _ _) hk) dX6_need_16 h
/-! X7_init_X11: level 10 -/
def wp_X7_init_X11 (G : mG) (b : Nat) (P : mM → Prop) (M : mM) (a0 : Nat) : Prop :=
  pfi M a0 8 0 1 fun M1 => P M1
set_option maxHeartbeats 4000000 in
set_option maxRecDepth 100000 in
theorem wk_X7_init_X11 {l : Launch} (hst0 : l.stackTraces = false) {G : mG} {b : Nat} {P : mM → Prop} {M : mM} {a0 : Nat} (h : wp_X7_init_X11 G b P M a0) : mMet l yX7_init (ws_ yX7_init cX7_init 1 (Option.none : Option Jvm.ClassFile.FieldType)) 10 b G [.ref a0] M (mRv P) (fun _ _ _ => False) := by
  refine mm_met hst0 (by decide) (Nat.le_of_ble_eq_true rfl) ?_
  intro p e s m args below meth c ls C hr hnt hnm hl S
  have hl : lv_has ls 1 [(0, .ref a0)] := hl
  generalize mA M s.heap.size = A at C S ⊢
  have hx := C.hx
  have hb := C.hb
  have hk : 0 + b ≤ b := Nat.le_of_eq (Nat.zero_add b)
  unfold wp_X7_init_X11 at h
  refine lv_aload_n hx hb dX7_init_0 rfl (lv_at hl 0 rfl) ?_
  refine mm_init C hl.1 q1131 q100 q101 dX7_init_1 (Nat.le_of_ble_eq_true rfl) (Nat.le_of_ble_eq_true rfl) ?_
  refine lv_aload_n hx hb dX7_init_4 rfl (lv_at hl 0 rfl) ?_
  refine lv_iconst (v := 1) hx hb dX7_init_5 (by decide) ?_
  refine mm_pfi C S (ci := 8) (k := 0) rfl in_X11 tyX11_ok nmX11 (by decide) q1136 (fun _ h9 => h9) rfl dX7_init_6 rfl h (fun M1 H locs h S => ?_)
  exact mm_vret C S hr (Nat.le_trans (Nat.le_add_right _ _) hk) dX7_init_9 h
/-! X11_init: level 11 -/
def wp_X11_init (G : mG) (b : Nat) (P : mM → Prop) (M : mM) (a0 : Nat) (x1 : Int32) (x2 : Int32) : Prop :=
  wp_X7_init_X11 G 0 (fun M1 => pfn M1 a0 8 1 .char x1 fun M2 => pfi M2 a0 8 2 x2 fun M3 => P M3) M a0
set_option maxHeartbeats 4000000 in
set_option maxRecDepth 100000 in
theorem wk_X11_init {l : Launch} (hst0 : l.stackTraces = false) {G : mG} {b : Nat} {P : mM → Prop} {M : mM} {a0 : Nat} {x1 : Int32} {x2 : Int32} (h : wp_X11_init G b P M a0 x1 x2) : mMet l yX11_init (ws_ yX11_init cX11_init 3 (Option.none : Option Jvm.ClassFile.FieldType)) 11 b G [.ref a0, .int x1, .int x2] M (mRv P) (fun _ _ _ => False) := by
  refine mm_met hst0 (by decide) (Nat.le_of_ble_eq_true rfl) ?_
  intro p e s m args below meth c ls C hr hnt hnm hl S
  have hl : lv_has ls 3 [(0, .ref a0), (1, .int x1), (2, .int x2)] := hl
  generalize mA M s.heap.size = A at C S ⊢
  have hx := C.hx
  have hb := C.hb
  have hk : 0 + b ≤ b := Nat.le_of_eq (Nat.zero_add b)
  unfold wp_X11_init at h
  refine lv_aload_n hx hb dX11_init_0 rfl (lv_at hl 0 rfl) ?_
  refine mm_IN (As := []) (rest := []) C S hl.1 (wk_X7_init_X11 hst0 h) q1130 q77 q1244 q1129 rfl pd_X7_init ⟨Nat.le_of_ble_eq_true rfl, Nat.le_of_ble_eq_true rfl⟩ rfl rfl (Nat.le_of_ble_eq_true rfl) dX11_init_1 rfl rfl hk (Nat.zero_add _) (fun v9 M1 H locs hP S hk => ?_) (fun E q ce M9 H9 locs9 hX => hX.elim)
  obtain ⟨rfl, h⟩ := hP
  refine W.eq (g2 := F0 m 4 ls []) rfl ?_
  refine lv_aload_n hx hb dX11_init_4 rfl (lv_at hl 0 rfl) ?_
  refine lv_iload_n hx hb dX11_init_5 rfl (lv_at hl 1 rfl) ?_
  refine mm_pfnF C S (ci := 8) (k := 1) rfl in_X11 tyX11_ok nmX11 (by decide) q1245 (fun _ h9 => h9) rfl (hnm.trans rfl) rfl dX11_init_6 rfl h (fun M2 H locs h S => ?_)
  refine lv_aload_n hx hb dX11_init_9 rfl (lv_at hl 0 rfl) ?_
  refine lv_iload_n hx hb dX11_init_10 rfl (lv_at hl 2 rfl) ?_
  refine mm_pfiF C S (ci := 8) (k := 2) rfl in_X11 tyX11_ok nmX11 (by decide) q1246 (fun _ h9 => h9) rfl (hnm.trans rfl) rfl dX11_init_11 rfl h (fun M3 H locs h S => ?_)
  exact mm_vret C S hr (Nat.le_trans (Nat.le_add_right _ _) hk) dX11_init_14 h
/-! X6_steps: level 30, alloc, throws Hidecount$ReadingFault -/
def wb_X6_steps_62 (R_X6_item : mG → Nat → (Nat → mM → Prop) → (String → Nat → mM → Prop) → mM → Nat → Int32 → Prop) (G : mG) (P : Nat → mM → Prop) (X : String → Nat → mM → Prop) (K8 : Nat → mM → Nat → Int32 → Nat → Prop) (r : Nat) (M : mM) (a0 : Nat) (x1 : Int32) (a2 : Nat) (a3 : Nat) : Prop :=
  gfa M a2 6 1 fun u28 => isc M u28 16 ∧ (∃ b30 r31 : Nat, b30 + r31 = r ∧ wp_J2_add G b30 (fun v32 M29 => isc M29 a0 5 ∧ (wp_X6_isAtItem G 0 (fun v34 M33 => (¬ v34 = 0 → K8 r31 M33 a0 x1 a2) ∧ (v34 = 0 → P a2 M33)) M29 a0)) M u28 a3)
def wl_X6_steps_8 (R_X6_item : mG → Nat → (Nat → mM → Prop) → (String → Nat → mM → Prop) → mM → Nat → Int32 → Prop) (G : mG) (P : Nat → mM → Prop) (X : String → Nat → mM → Prop) : Nat → Nat → mM → Nat → Int32 → Nat → Prop
  | 0, _, _, _, _, _ => False
  | n + 1, r, M, a0, x1, a2 => isc M a0 5 ∧ (wp_X6_isAtItem G 0 (fun v8 M7 => isc M7 a0 5 ∧ (∃ b10 r11 : Nat, b10 + r11 = r ∧ wp_X6_need G b10 (fun M9 => isc M9 a0 5 ∧ (∃ b13 r14 : Nat, b13 + r14 = r11 ∧ R_X6_item G b13 (fun u15 M12 => isc M12 a0 5 ∧ (wp_X6_sign G 0 (fun v17 M16 => (v17 < 50 → wb_X6_steps_62 R_X6_item G P X (wl_X6_steps_8 R_X6_item G P X n) r14 M16 a0 x1 a2 u15) ∧ (¬ v17 < 50 → isc M16 a0 5 ∧ (wp_X6_sign G 0 (fun v19 M18 => (57 < v19 → wb_X6_steps_62 R_X6_item G P X (wl_X6_steps_8 R_X6_item G P X n) r14 M18 a0 x1 a2 u15) ∧ (¬ 57 < v19 → isc M18 a0 5 ∧ (wp_X6_sign G 0 (fun v21 M20 => (pfi M20 u15 8 0 (v21 - 48) fun M22 => gfi M22 a0 5 1 fun v23 => pfi M22 a0 5 1 (v23 + 1) fun M24 => wb_X6_steps_62 R_X6_item G P X (wl_X6_steps_8 R_X6_item G P X n) r14 M24 a0 x1 a2 u15) ∨ (pfi M20 u15 6 0 (v21 - 48) fun M25 => gfi M25 a0 5 1 fun v26 => pfi M25 a0 5 1 (v26 + 1) fun M27 => wb_X6_steps_62 R_X6_item G P X (wl_X6_steps_8 R_X6_item G P X n) r14 M27 a0 x1 a2 u15)) M18 a0))) M16 a0))) M12 a0)) X M9 a0 x1)) X M7 a0 v8 1)) M a0)
def wp_X6_steps (R_X6_item : mG → Nat → (Nat → mM → Prop) → (String → Nat → mM → Prop) → mM → Nat → Int32 → Prop) (G : mG) (b : Nat) (P : Nat → mM → Prop) (X : String → Nat → mM → Prop) (M : mM) (a0 : Nat) (x1 : Int32) : Prop :=
  nwo M b 6 2 dfsX8 fun u1 M2 r3 => ∃ b5 r6 : Nat, b5 + r6 = r3 ∧ wp_X8_init G b5 (fun M4 => ∃ n8, wl_X6_steps_8 R_X6_item G P X n8 r6 M4 a0 x1 u1) M2 u1
set_option maxHeartbeats 4000000 in
set_option maxRecDepth 100000 in
theorem wks_X6_steps {l : Launch} (hst0 : l.stackTraces = false) {Lr : Nat} (hLr : 16 ≤ Lr) {R_X6_item : mG → Nat → (Nat → mM → Prop) → (String → Nat → mM → Prop) → mM → Nat → Int32 → Prop} (hrec_X6_item : ∀ {G : mG} {b : Nat} {P : Nat → mM → Prop} {X : String → Nat → mM → Prop} {M : mM} {a0 : Nat} {x1 : Int32}, R_X6_item G b P X M a0 x1 → mMet l yX6_item (ws_ yX6_item cX6_item 3 (Option.some (Jvm.ClassFile.FieldType.object "Hidecount$Node"))) Lr b G [.ref a0, .int x1] M (mRa P) X) {G : mG} {b : Nat} {P : Nat → mM → Prop} {X : String → Nat → mM → Prop} {M : mM} {a0 : Nat} {x1 : Int32} (h : wp_X6_steps R_X6_item G b P X M a0 x1) : mMet l yX6_steps (ws_ yX6_steps cX6_steps 4 (Option.some (Jvm.ClassFile.FieldType.object "Hidecount$Group"))) (Lr + 1) b G [.ref a0, .int x1] M (mRa P) X := by
  refine mm_met hst0 (by decide) (Nat.le_of_ble_eq_true rfl) ?_
  intro p e s m args below meth c ls C hr hnt hnm hl S
  have hl : lv_has ls 4 [(0, .ref a0), (1, .int x1)] := hl
  generalize mA M s.heap.size = A at C S ⊢
  have hx := C.hx
  have hb := C.hb
  have hk : 0 + b ≤ b := Nat.le_of_eq (Nat.zero_add b)
  have j8 : ∀ (nf : Nat) (k r : Nat) (M : mM) (H : Heap) (locs : List Loc) (ls : Array Slot) (a0 : Nat) (x1 : Int32) (a2 : Nat), k + r ≤ b → mW G A s M H locs → lv_has ls 4 [(0, .ref a0), (1, .int x1), (2, .ref a2)] → wl_X6_steps_8 R_X6_item G P X nf r M a0 x1 a2 → W p l e (mRm (Lr + 1) b) s m args below meth c H locs k k (vx_MQ below (mQ G A (mRa P)) (mXC G A X) args s b b A) (F0 m 8 ls []) := by
    intro nf
    induction nf with
    | zero =>
      intro k r M H locs ls a0 x1 a2 hk S hl h
      rw [wl_X6_steps_8] at h
      exact h.elim
    | succ n8 ih8 =>
      have j62 : ∀ (k r : Nat) (M : mM) (H : Heap) (locs : List Loc) (ls : Array Slot) (a0 : Nat) (x1 : Int32) (a2 : Nat) (a3 : Nat), k + r ≤ b → mW G A s M H locs → lv_has ls 4 [(0, .ref a0), (1, .int x1), (2, .ref a2), (3, .ref a3)] → wb_X6_steps_62 R_X6_item G P X (wl_X6_steps_8 R_X6_item G P X n8) r M a0 x1 a2 a3 → W p l e (mRm (Lr + 1) b) s m args below meth c H locs k k (vx_MQ below (mQ G A (mRa P)) (mXC G A X) args s b b A) (F0 m 62 ls []) := by
        intro k r M H locs ls a0 x1 a2 a3 hk S hl h
        unfold wb_X6_steps_62 at h
        refine lv_aload_n hx hb dX6_steps_62 rfl (lv_at hl 2 rfl) ?_
        refine mm_gfaN C S (ci := 6) (k := 1) rfl in_X8 (by decide) q1135 (fun _ h9 => h9) dX6_steps_63 h (fun u28 h => ?_)
        refine lv_aload_n hx hb dX6_steps_66 rfl (lv_at hl 3 rfl) ?_
        obtain ⟨hI, h⟩ := h
        obtain ⟨b30, r31, hb9, h⟩ := h
        refine mm_F (As := [.ref a3]) (rest := []) C S hl.1 (x := ⟨"java/util/List", "add", "(Ljava/lang/Object;)Z"⟩) (wk_J2_add hst0 h) (T := TJ2) rfl hI (mWsF q1254 q651 q653 q51 (lw_meth q655)) (by decide +kernel) pdi_3 ⟨by simp only [mRm]; omega, by simp only [mRm]; omega⟩ rfl rfl (Nat.le_of_ble_eq_true rfl) dX6_steps_67 rfl rfl hk hb9 (fun v9 M29 H locs hP S hk => ?_) (fun E q ce M9 H9 locs9 hX => hX.elim)
        obtain ⟨v32, rfl, h⟩ := hP
        refine W.eq (g2 := F0 m 72 ls [.int v32]) rfl ?_
        refine lv_pop hx hb dX6_steps_72 rfl ?_
        refine lv_aload_n hx hb dX6_steps_73 rfl (lv_at hl 0 rfl) ?_
        obtain ⟨hI, h⟩ := h
        refine mm_V (As := []) (rest := []) C S hl.1 (wk_X6_isAtItem hst0 h) (T := TX6) rfl hI (lw_V q1143 q1145 qs13 q74 q1146) rfl pd_X6_isAtItem ⟨by simp only [mRm]; omega, by simp only [mRm]; omega⟩ rfl rfl (Nat.le_of_ble_eq_true rfl) dX6_steps_74 rfl rfl hk (Nat.zero_add _) (fun v9 M33 H locs hP S hk => ?_) (fun E q ce M9 H9 locs9 hX => hX.elim)
        obtain ⟨v34, rfl, h⟩ := hP
        refine W.eq (g2 := F0 m 77 ls [.int v34]) rfl ?_
        refine lv_if_ne (tgt := 8) hx hb dX6_steps_77 (by decide) (fun c9 => ?_) (fun c9 => ?_)
        · have h := h.1 c9
          exact ih8 _ _ _ _ _ _ _ _ _ hk S (lv_sub hl [0, 1, 2] rfl) h
        · have h := h.2 c9
          refine lv_aload_n hx hb dX6_steps_80 rfl (lv_at hl 2 rfl) ?_
          exact mm_aret C S hr (Or.inl ⟨_, rfl⟩) (Nat.le_trans (Nat.le_add_right _ _) hk) dX6_steps_81 h
      intro k r M H locs ls a0 x1 a2 hk S hl h
      rw [wl_X6_steps_8] at h
      refine lv_aload_n hx hb dX6_steps_8 rfl (lv_at hl 0 rfl) ?_
      refine lv_aload_n hx hb dX6_steps_9 rfl (lv_at hl 0 rfl) ?_
      obtain ⟨hI, h⟩ := h
      refine mm_V (As := []) (rest := [.ref a0]) C S hl.1 (wk_X6_isAtItem hst0 h) (T := TX6) rfl hI (lw_V q1143 q1145 qs13 q74 q1146) rfl pd_X6_isAtItem ⟨by simp only [mRm]; omega, by simp only [mRm]; omega⟩ rfl rfl (Nat.le_of_ble_eq_true rfl) dX6_steps_10 rfl rfl hk (Nat.zero_add _) (fun v9 M7 H locs hP S hk => ?_) (fun E q ce M9 H9 locs9 hX => hX.elim)
      obtain ⟨v8, rfl, h⟩ := hP
      refine W.eq (g2 := F0 m 13 ls [.int v8, .ref a0]) rfl ?_
      refine lv_iconst (v := 1) hx hb dX6_steps_13 (by decide) ?_
      obtain ⟨hI, h⟩ := h
      obtain ⟨b10, r11, hb9, h⟩ := h
      refine mm_V (As := [.int v8, .int 1]) (rest := []) C S hl.1 (wk_X6_need hst0 h) (T := TX6) rfl hI (lw_V q1200 q1202 qs15 q74 q1203) rfl pd_X6_need ⟨by simp only [mRm]; omega, by simp only [mRm]; omega⟩ rfl rfl (Nat.le_of_ble_eq_true rfl) dX6_steps_14 rfl rfl hk hb9 (fun v9 M9 H locs hP S hk => ?_) (fun E q ce M9 H9 locs9 hX S9 hk9 hc9 hv9 hf9 => mm_out C S9 (fun x hx => (hnt x hx).elim) (Nat.le_trans (Nat.le_add_right _ _) hk9) hc9 hv9 hf9 hX)
      obtain ⟨rfl, h⟩ := hP
      refine W.eq (g2 := F0 m 17 ls []) rfl ?_
      refine lv_aload_n hx hb dX6_steps_17 rfl (lv_at hl 0 rfl) ?_
      refine lv_iload_n hx hb dX6_steps_18 rfl (lv_at hl 1 rfl) ?_
      obtain ⟨hI, h⟩ := h
      obtain ⟨b13, r14, hb9, h⟩ := h
      refine mm_V (As := [.int x1]) (rest := []) C S hl.1 (hrec_X6_item h) (T := TX6) rfl hI (lw_V q1235 q1237 qs16 q74 q1238) rfl pd_X6_item ⟨by simp only [mRm]; omega, by simp only [mRm]; omega⟩ rfl rfl (Nat.le_of_ble_eq_true rfl) dX6_steps_19 rfl rfl hk hb9 (fun v9 M12 H locs hP S hk => ?_) (fun E q ce M9 H9 locs9 hX S9 hk9 hc9 hv9 hf9 => mm_out C S9 (fun x hx => (hnt x hx).elim) (Nat.le_trans (Nat.le_add_right _ _) hk9) hc9 hv9 hf9 hX)
      obtain ⟨u15, rfl, h⟩ := hP
      refine W.eq (g2 := F0 m 22 ls [.ref u15]) rfl ?_
      refine lv_astore_n (lv' := [(3, .ref u15), (0, .ref a0), (1, .int x1), (2, .ref a2)]) hx hb dX6_steps_22 rfl hl (by decide) rfl (fun ls hl => ?_)
      refine lv_aload_n hx hb dX6_steps_23 rfl (lv_at hl 1 rfl) ?_
      obtain ⟨hI, h⟩ := h
      refine mm_V (As := []) (rest := []) C S hl.1 (wk_X6_sign hst0 h) (T := TX6) rfl hI (lw_V q1147 q1149 qs14 q74 q1150) rfl pd_X6_sign ⟨by simp only [mRm]; omega, by simp only [mRm]; omega⟩ rfl rfl (Nat.le_of_ble_eq_true rfl) dX6_steps_24 rfl rfl hk (Nat.zero_add _) (fun v9 M16 H locs hP S hk => ?_) (fun E q ce M9 H9 locs9 hX => hX.elim)
      obtain ⟨v17, rfl, h⟩ := hP
      refine W.eq (g2 := F0 m 27 ls [.int v17]) rfl ?_
      refine lv_bipush (v := 50) hx hb dX6_steps_27 (by decide) ?_
      refine lv_icmp_lt (tgt := 62) hx hb dX6_steps_29 (by decide) (fun c9 => ?_) (fun c9 => ?_)
      · have h := h.1 c9
        exact j62 _ _ _ _ _ _ _ _ _ _ hk S (lv_sub hl [1, 2, 3, 0] rfl) h
      · have h := h.2 c9
        refine lv_aload_n hx hb dX6_steps_32 rfl (lv_at hl 1 rfl) ?_
        obtain ⟨hI, h⟩ := h
        refine mm_V (As := []) (rest := []) C S hl.1 (wk_X6_sign hst0 h) (T := TX6) rfl hI (lw_V q1147 q1149 qs14 q74 q1150) rfl pd_X6_sign ⟨by simp only [mRm]; omega, by simp only [mRm]; omega⟩ rfl rfl (Nat.le_of_ble_eq_true rfl) dX6_steps_33 rfl rfl hk (Nat.zero_add _) (fun v9 M18 H locs hP S hk => ?_) (fun E q ce M9 H9 locs9 hX => hX.elim)
        obtain ⟨v19, rfl, h⟩ := hP
        refine W.eq (g2 := F0 m 36 ls [.int v19]) rfl ?_
        refine lv_bipush (v := 57) hx hb dX6_steps_36 (by decide) ?_
        refine lv_icmp_gt (tgt := 62) hx hb dX6_steps_38 (by decide) (fun c9 => ?_) (fun c9 => ?_)
        · have h := h.1 c9
          exact j62 _ _ _ _ _ _ _ _ _ _ hk S (lv_sub hl [1, 2, 3, 0] rfl) h
        · have h := h.2 c9
          refine lv_aload_n hx hb dX6_steps_41 rfl (lv_at hl 0 rfl) ?_
          refine lv_aload_n hx hb dX6_steps_42 rfl (lv_at hl 1 rfl) ?_
          obtain ⟨hI, h⟩ := h
          refine mm_V (As := []) (rest := [.ref u15]) C S hl.1 (wk_X6_sign hst0 h) (T := TX6) rfl hI (lw_V q1147 q1149 qs14 q74 q1150) rfl pd_X6_sign ⟨by simp only [mRm]; omega, by simp only [mRm]; omega⟩ rfl rfl (Nat.le_of_ble_eq_true rfl) dX6_steps_43 rfl rfl hk (Nat.zero_add _) (fun v9 M20 H locs hP S hk => ?_) (fun E q ce M9 H9 locs9 hX => hX.elim)
          obtain ⟨v21, rfl, h⟩ := hP
          refine W.eq (g2 := F0 m 46 ls [.int v21, .ref u15]) rfl ?_
          refine lv_bipush (v := 48) hx hb dX6_steps_46 (by decide) ?_
          refine lv_isub hx hb dX6_steps_48 ?_
          rcases h with h | h
          · refine mm_pfiN C S (ci := 8) (k := 0) rfl in_X11 tyX11_ok nmX11 (by decide) q1137 (fun _ h9 => h9) rfl dX6_steps_49 rfl h (fun M22 H locs h S => ?_)
            refine lv_aload_n hx hb dX6_steps_52 rfl (lv_at hl 1 rfl) ?_
            refine lv_dup hx hb dX6_steps_53 rfl ?_
            refine mm_gfi C S (ci := 5) (k := 1) rfl in_X6 (by decide) q1109 (fun _ h9 => h9) dX6_steps_54 h (fun v23 h => ?_)
            refine lv_iconst (v := 1) hx hb dX6_steps_57 (by decide) ?_
            refine lv_iadd hx hb dX6_steps_58 ?_
            refine mm_pfi C S (ci := 5) (k := 1) rfl in_X6 tyX6_ok nmX6 (by decide) q1109 (fun _ h9 => h9) rfl dX6_steps_59 rfl h (fun M24 H locs h S => ?_)
            exact j62 _ _ _ _ _ _ _ _ _ _ hk S (lv_sub hl [1, 2, 3, 0] rfl) h
          · refine mm_pfiN C S (ci := 6) (k := 0) rfl in_X8 tyX8_ok nmX8 (by decide) q1137 (fun _ h9 => h9) rfl dX6_steps_49 rfl h (fun M25 H locs h S => ?_)
            refine lv_aload_n hx hb dX6_steps_52 rfl (lv_at hl 1 rfl) ?_
            refine lv_dup hx hb dX6_steps_53 rfl ?_
            refine mm_gfi C S (ci := 5) (k := 1) rfl in_X6 (by decide) q1109 (fun _ h9 => h9) dX6_steps_54 h (fun v26 h => ?_)
            refine lv_iconst (v := 1) hx hb dX6_steps_57 (by decide) ?_
            refine lv_iadd hx hb dX6_steps_58 ?_
            refine mm_pfi C S (ci := 5) (k := 1) rfl in_X6 tyX6_ok nmX6 (by decide) q1109 (fun _ h9 => h9) rfl dX6_steps_59 rfl h (fun M27 H locs h S => ?_)
            exact j62 _ _ _ _ _ _ _ _ _ _ hk S (lv_sub hl [1, 2, 3, 0] rfl) h
  unfold wp_X6_steps at h
  refine mm_new C S (ci := 6) (T := TX8) rfl in_X8 tyX8_ok q1123 q1124 q78 dfX8 (by decide) dX6_steps_0 rfl rfl hk h (fun u1 M2 r3 H h S hk => ?_)
  refine lv_dup hx hb dX6_steps_3 rfl ?_
  obtain ⟨b5, r6, hb9, h⟩ := h
  refine mm_IN (As := []) (rest := [.ref u1]) C S hl.1 (wk_X8_init hst0 h) q1127 q78 q1125 q1126 rfl pd_X8_init ⟨by simp only [mRm]; omega, by simp only [mRm]; omega⟩ rfl rfl (Nat.le_of_ble_eq_true rfl) dX6_steps_4 rfl rfl hk hb9 (fun v9 M4 H locs hP S hk => ?_) (fun E q ce M9 H9 locs9 hX => hX.elim)
  obtain ⟨rfl, h⟩ := hP
  refine W.eq (g2 := F0 m 7 ls [.ref u1]) rfl ?_
  refine lv_astore_n (lv' := [(2, .ref u1), (0, .ref a0), (1, .int x1)]) hx hb dX6_steps_7 rfl hl (by decide) rfl (fun ls hl => ?_)
  obtain ⟨nf, h⟩ := h
  exact j8 nf _ _ _ _ _ _ _ _ _ hk S (lv_sub hl [1, 2, 0] rfl) h
def wb_X6_item_85 (R_X6_steps : mG → Nat → (Nat → mM → Prop) → (String → Nat → mM → Prop) → mM → Nat → Int32 → Prop) (G : mG) (P : Nat → mM → Prop) (X : String → Nat → mM → Prop) (r : Nat) (M : mM) (a0 : Nat) (a2 : Nat) (s0 : Nat) (s1 : Int32) : Prop :=
  isc M s0 5 ∧ (∃ b24 r25 : Nat, b24 + r25 = r ∧ wp_X6_need G b24 (fun M23 => gfi M23 a0 5 1 fun v26 => pfi M23 a0 5 1 (v26 + 1) fun M27 => P a2 M27) X M s0 s1 1)
def wb_X6_item_48 (R_X6_steps : mG → Nat → (Nat → mM → Prop) → (String → Nat → mM → Prop) → mM → Nat → Int32 → Prop) (G : mG) (P : Nat → mM → Prop) (X : String → Nat → mM → Prop) (r : Nat) (M : mM) (a0 : Nat) (x1 : Int32) (s0 : Nat) (s1 : Int32) : Prop :=
  isc M s0 5 ∧ (∃ b13 r14 : Nat, b13 + r14 = r ∧ wp_X6_need G b13 (fun M12 => gfi M12 a0 5 1 fun v15 => pfi M12 a0 5 1 (v15 + 1) fun M16 => isc M16 a0 5 ∧ (∃ b18 r19 : Nat, b18 + r19 = r14 ∧ R_X6_steps G b18 (fun u20 M17 => isc M17 a0 5 ∧ (wp_X6_sign G 0 (fun v22 M21 => (¬ v22 = 41 → wb_X6_item_85 R_X6_steps G P X r19 M21 a0 u20 a0 0) ∧ (v22 = 41 → wb_X6_item_85 R_X6_steps G P X r19 M21 a0 u20 a0 1)) M17 a0)) X M16 a0 (x1 + 1))) X M s0 s1 2)
def wp_X6_item (R_X6_steps : mG → Nat → (Nat → mM → Prop) → (String → Nat → mM → Prop) → mM → Nat → Int32 → Prop) (G : mG) (b : Nat) (P : Nat → mM → Prop) (X : String → Nat → mM → Prop) (M : mM) (a0 : Nat) (x1 : Int32) : Prop :=
  isc M a0 5 ∧ (wp_X6_sign G 0 (fun v2 M1 => (v2 = 40 → (4 ≤ x1 → wb_X6_item_48 R_X6_steps G P X b M1 a0 x1 a0 0) ∧ (¬ 4 ≤ x1 → wb_X6_item_48 R_X6_steps G P X b M1 a0 x1 a0 1)) ∧ (¬ v2 = 40 → nwo M1 b 8 3 dfsX11 fun u3 M4 r5 => isc M4 a0 5 ∧ (wp_X6_sign G 0 (fun v7 M6 => gfi M6 a0 5 1 fun v8 => wp_X11_init G 0 (fun M9 => gfi M9 a0 5 1 fun v10 => pfi M9 a0 5 1 (v10 + 1) fun M11 => P u3 M11) M6 u3 v7 v8) M4 a0))) M a0)
set_option maxHeartbeats 4000000 in
set_option maxRecDepth 100000 in
theorem wks_X6_item {l : Launch} (hst0 : l.stackTraces = false) {Lr : Nat} (hLr : 16 ≤ Lr) {R_X6_steps : mG → Nat → (Nat → mM → Prop) → (String → Nat → mM → Prop) → mM → Nat → Int32 → Prop} (hrec_X6_steps : ∀ {G : mG} {b : Nat} {P : Nat → mM → Prop} {X : String → Nat → mM → Prop} {M : mM} {a0 : Nat} {x1 : Int32}, R_X6_steps G b P X M a0 x1 → mMet l yX6_steps (ws_ yX6_steps cX6_steps 4 (Option.some (Jvm.ClassFile.FieldType.object "Hidecount$Group"))) Lr b G [.ref a0, .int x1] M (mRa P) X) {G : mG} {b : Nat} {P : Nat → mM → Prop} {X : String → Nat → mM → Prop} {M : mM} {a0 : Nat} {x1 : Int32} (h : wp_X6_item R_X6_steps G b P X M a0 x1) : mMet l yX6_item (ws_ yX6_item cX6_item 3 (Option.some (Jvm.ClassFile.FieldType.object "Hidecount$Node"))) (Lr + 1) b G [.ref a0, .int x1] M (mRa P) X := by
  refine mm_met hst0 (by decide) (Nat.le_of_ble_eq_true rfl) ?_
  intro p e s m args below meth c ls C hr hnt hnm hl S
  have hl : lv_has ls 3 [(0, .ref a0), (1, .int x1)] := hl
  generalize mA M s.heap.size = A at C S ⊢
  have hx := C.hx
  have hb := C.hb
  have hk : 0 + b ≤ b := Nat.le_of_eq (Nat.zero_add b)
  have j85 : ∀ (k r : Nat) (M : mM) (H : Heap) (locs : List Loc) (ls : Array Slot) (a0 : Nat) (a2 : Nat) (s0 : Nat) (s1 : Int32), k + r ≤ b → mW G A s M H locs → lv_has ls 3 [(0, .ref a0), (2, .ref a2)] → wb_X6_item_85 R_X6_steps G P X r M a0 a2 s0 s1 → W p l e (mRm (Lr + 1) b) s m args below meth c H locs k k (vx_MQ below (mQ G A (mRa P)) (mXC G A X) args s b b A) (F0 m 85 ls [.int s1, .ref s0]) := by
    intro k r M H locs ls a0 a2 s0 s1 hk S hl h
    unfold wb_X6_item_85 at h
    refine lv_iconst (v := 1) hx hb dX6_item_85 (by decide) ?_
    obtain ⟨hI, h⟩ := h
    obtain ⟨b24, r25, hb9, h⟩ := h
    refine mm_V (As := [.int s1, .int 1]) (rest := []) C S hl.1 (wk_X6_need hst0 h) (T := TX6) rfl hI (lw_V q1200 q1202 qs15 q74 q1203) rfl pd_X6_need ⟨by simp only [mRm]; omega, by simp only [mRm]; omega⟩ rfl rfl (Nat.le_of_ble_eq_true rfl) dX6_item_86 rfl rfl hk hb9 (fun v9 M23 H locs hP S hk => ?_) (fun E q ce M9 H9 locs9 hX S9 hk9 hc9 hv9 hf9 => mm_out C S9 (fun x hx => (hnt x hx).elim) (Nat.le_trans (Nat.le_add_right _ _) hk9) hc9 hv9 hf9 hX)
    obtain ⟨rfl, h⟩ := hP
    refine W.eq (g2 := F0 m 89 ls []) rfl ?_
    refine lv_aload_n hx hb dX6_item_89 rfl (lv_at hl 0 rfl) ?_
    refine lv_dup hx hb dX6_item_90 rfl ?_
    refine mm_gfi C S (ci := 5) (k := 1) rfl in_X6 (by decide) q1109 (fun _ h9 => h9) dX6_item_91 h (fun v26 h => ?_)
    refine lv_iconst (v := 1) hx hb dX6_item_94 (by decide) ?_
    refine lv_iadd hx hb dX6_item_95 ?_
    refine mm_pfi C S (ci := 5) (k := 1) rfl in_X6 tyX6_ok nmX6 (by decide) q1109 (fun _ h9 => h9) rfl dX6_item_96 rfl h (fun M27 H locs h S => ?_)
    refine lv_aload_n hx hb dX6_item_99 rfl (lv_at hl 1 rfl) ?_
    exact mm_aret C S hr (Or.inl ⟨_, rfl⟩) (Nat.le_trans (Nat.le_add_right _ _) hk) dX6_item_100 h
  have j48 : ∀ (k r : Nat) (M : mM) (H : Heap) (locs : List Loc) (ls : Array Slot) (a0 : Nat) (x1 : Int32) (s0 : Nat) (s1 : Int32), k + r ≤ b → mW G A s M H locs → lv_has ls 3 [(0, .ref a0), (1, .int x1)] → wb_X6_item_48 R_X6_steps G P X r M a0 x1 s0 s1 → W p l e (mRm (Lr + 1) b) s m args below meth c H locs k k (vx_MQ below (mQ G A (mRa P)) (mXC G A X) args s b b A) (F0 m 48 ls [.int s1, .ref s0]) := by
    intro k r M H locs ls a0 x1 s0 s1 hk S hl h
    unfold wb_X6_item_48 at h
    refine lv_iconst (v := 2) hx hb dX6_item_48 (by decide) ?_
    obtain ⟨hI, h⟩ := h
    obtain ⟨b13, r14, hb9, h⟩ := h
    refine mm_V (As := [.int s1, .int 2]) (rest := []) C S hl.1 (wk_X6_need hst0 h) (T := TX6) rfl hI (lw_V q1200 q1202 qs15 q74 q1203) rfl pd_X6_need ⟨by simp only [mRm]; omega, by simp only [mRm]; omega⟩ rfl rfl (Nat.le_of_ble_eq_true rfl) dX6_item_49 rfl rfl hk hb9 (fun v9 M12 H locs hP S hk => ?_) (fun E q ce M9 H9 locs9 hX S9 hk9 hc9 hv9 hf9 => mm_out C S9 (fun x hx => (hnt x hx).elim) (Nat.le_trans (Nat.le_add_right _ _) hk9) hc9 hv9 hf9 hX)
    obtain ⟨rfl, h⟩ := hP
    refine W.eq (g2 := F0 m 52 ls []) rfl ?_
    refine lv_aload_n hx hb dX6_item_52 rfl (lv_at hl 0 rfl) ?_
    refine lv_dup hx hb dX6_item_53 rfl ?_
    refine mm_gfi C S (ci := 5) (k := 1) rfl in_X6 (by decide) q1109 (fun _ h9 => h9) dX6_item_54 h (fun v15 h => ?_)
    refine lv_iconst (v := 1) hx hb dX6_item_57 (by decide) ?_
    refine lv_iadd hx hb dX6_item_58 ?_
    refine mm_pfi C S (ci := 5) (k := 1) rfl in_X6 tyX6_ok nmX6 (by decide) q1109 (fun _ h9 => h9) rfl dX6_item_59 rfl h (fun M16 H locs h S => ?_)
    refine lv_aload_n hx hb dX6_item_62 rfl (lv_at hl 0 rfl) ?_
    refine lv_iload_n hx hb dX6_item_63 rfl (lv_at hl 1 rfl) ?_
    refine lv_iconst (v := 1) hx hb dX6_item_64 (by decide) ?_
    refine lv_iadd hx hb dX6_item_65 ?_
    obtain ⟨hI, h⟩ := h
    obtain ⟨b18, r19, hb9, h⟩ := h
    refine mm_V (As := [.int (x1 + 1)]) (rest := []) C S hl.1 (hrec_X6_steps h) (T := TX6) rfl hI (lw_V q1119 q1121 qs12 q74 q1122) rfl pd_X6_steps ⟨by simp only [mRm]; omega, by simp only [mRm]; omega⟩ rfl rfl (Nat.le_of_ble_eq_true rfl) dX6_item_66 rfl rfl hk hb9 (fun v9 M17 H locs hP S hk => ?_) (fun E q ce M9 H9 locs9 hX S9 hk9 hc9 hv9 hf9 => mm_out C S9 (fun x hx => (hnt x hx).elim) (Nat.le_trans (Nat.le_add_right _ _) hk9) hc9 hv9 hf9 hX)
    obtain ⟨u20, rfl, h⟩ := hP
    refine W.eq (g2 := F0 m 69 ls [.ref u20]) rfl ?_
    refine lv_astore_n (lv' := [(2, .ref u20), (0, .ref a0), (1, .int x1)]) hx hb dX6_item_69 rfl hl (by decide) rfl (fun ls hl => ?_)
    refine lv_aload_n hx hb dX6_item_70 rfl (lv_at hl 1 rfl) ?_
    refine lv_aload_n hx hb dX6_item_71 rfl (lv_at hl 1 rfl) ?_
    obtain ⟨hI, h⟩ := h
    refine mm_V (As := []) (rest := [.ref a0]) C S hl.1 (wk_X6_sign hst0 h) (T := TX6) rfl hI (lw_V q1147 q1149 qs14 q74 q1150) rfl pd_X6_sign ⟨by simp only [mRm]; omega, by simp only [mRm]; omega⟩ rfl rfl (Nat.le_of_ble_eq_true rfl) dX6_item_72 rfl rfl hk (Nat.zero_add _) (fun v9 M21 H locs hP S hk => ?_) (fun E q ce M9 H9 locs9 hX => hX.elim)
    obtain ⟨v22, rfl, h⟩ := hP
    refine W.eq (g2 := F0 m 75 ls [.int v22, .ref a0]) rfl ?_
    refine lv_bipush (v := 41) hx hb dX6_item_75 (by decide) ?_
    refine lv_icmp_ne (tgt := 84) hx hb dX6_item_77 (by decide) (fun c9 => ?_) (fun c9 => ?_)
    · have h := h.1 c9
      refine lv_iconst (v := 0) hx hb dX6_item_84 (by decide) ?_
      exact j85 _ _ _ _ _ _ _ _ _ _ hk S (lv_sub hl [1, 0] rfl) h
    · have h := h.2 c9
      refine lv_iconst (v := 1) hx hb dX6_item_80 (by decide) ?_
      refine lv_goto (tgt := 85) hx hb dX6_item_81 (by decide) ?_
      exact j85 _ _ _ _ _ _ _ _ _ _ hk S (lv_sub hl [1, 0] rfl) h
  unfold wp_X6_item at h
  refine lv_aload_n hx hb dX6_item_0 rfl (lv_at hl 0 rfl) ?_
  obtain ⟨hI, h⟩ := h
  refine mm_V (As := []) (rest := []) C S hl.1 (wk_X6_sign hst0 h) (T := TX6) rfl hI (lw_V q1147 q1149 qs14 q74 q1150) rfl pd_X6_sign ⟨by simp only [mRm]; omega, by simp only [mRm]; omega⟩ rfl rfl (Nat.le_of_ble_eq_true rfl) dX6_item_1 rfl rfl hk (Nat.zero_add _) (fun v9 M1 H locs hP S hk => ?_) (fun E q ce M9 H9 locs9 hX => hX.elim)
  obtain ⟨v2, rfl, h⟩ := hP
  refine W.eq (g2 := F0 m 4 ls [.int v2]) rfl ?_
  refine lv_bipush (v := 40) hx hb dX6_item_4 (by decide) ?_
  refine lv_icmp_eq (tgt := 37) hx hb dX6_item_6 (by decide) (fun c9 => ?_) (fun c9 => ?_)
  · have h := h.1 c9
    refine lv_aload_n hx hb dX6_item_37 rfl (lv_at hl 0 rfl) ?_
    refine lv_iload_n hx hb dX6_item_38 rfl (lv_at hl 1 rfl) ?_
    refine lv_iconst (v := 4) hx hb dX6_item_39 (by decide) ?_
    refine lv_icmp_ge (tgt := 47) hx hb dX6_item_40 (by decide) (fun c9 => ?_) (fun c9 => ?_)
    · have h := h.1 c9
      refine lv_iconst (v := 0) hx hb dX6_item_47 (by decide) ?_
      exact j48 _ _ _ _ _ _ _ _ _ _ hk S hl h
    · have h := h.2 c9
      refine lv_iconst (v := 1) hx hb dX6_item_43 (by decide) ?_
      refine lv_goto (tgt := 48) hx hb dX6_item_44 (by decide) ?_
      exact j48 _ _ _ _ _ _ _ _ _ _ hk S hl h
  · have h := h.2 c9
    refine mm_new C S (ci := 8) (T := TX11) rfl in_X11 tyX11_ok q1239 q1240 q82 dfX11 (by decide) dX6_item_9 rfl rfl hk h (fun u3 M4 r5 H h S hk => ?_)
    refine lv_dup hx hb dX6_item_12 rfl ?_
    refine lv_aload_n hx hb dX6_item_13 rfl (lv_at hl 0 rfl) ?_
    obtain ⟨hI, h⟩ := h
    refine mm_V (As := []) (rest := [.ref u3, .ref u3]) C S hl.1 (wk_X6_sign hst0 h) (T := TX6) rfl hI (lw_V q1147 q1149 qs14 q74 q1150) rfl pd_X6_sign ⟨by simp only [mRm]; omega, by simp only [mRm]; omega⟩ rfl rfl (Nat.le_of_ble_eq_true rfl) dX6_item_14 rfl rfl hk (Nat.zero_add _) (fun v9 M6 H locs hP S hk => ?_) (fun E q ce M9 H9 locs9 hX => hX.elim)
    obtain ⟨v7, rfl, h⟩ := hP
    refine W.eq (g2 := F0 m 17 ls [.int v7, .ref u3, .ref u3]) rfl ?_
    refine lv_aload_n hx hb dX6_item_17 rfl (lv_at hl 0 rfl) ?_
    refine mm_gfi C S (ci := 5) (k := 1) rfl in_X6 (by decide) q1109 (fun _ h9 => h9) dX6_item_18 h (fun v8 h => ?_)
    refine mm_I (As := [.int v7, .int v8]) (rest := [.ref u3]) C S hl.1 (wk_X11_init hst0 h) q1243 q82 q1241 q1242 rfl pd_X11_init ⟨by simp only [mRm]; omega, by simp only [mRm]; omega⟩ rfl rfl (Nat.le_of_ble_eq_true rfl) dX6_item_21 rfl rfl hk (Nat.zero_add _) (fun v9 M9 H locs hP S hk => ?_) (fun E q ce M9 H9 locs9 hX => hX.elim)
    obtain ⟨rfl, h⟩ := hP
    refine W.eq (g2 := F0 m 24 ls [.ref u3]) rfl ?_
    refine lv_astore_n (lv' := [(2, .ref u3), (0, .ref a0), (1, .int x1)]) hx hb dX6_item_24 rfl hl (by decide) rfl (fun ls hl => ?_)
    refine lv_aload_n hx hb dX6_item_25 rfl (lv_at hl 1 rfl) ?_
    refine lv_dup hx hb dX6_item_26 rfl ?_
    refine mm_gfi C S (ci := 5) (k := 1) rfl in_X6 (by decide) q1109 (fun _ h9 => h9) dX6_item_27 h (fun v10 h => ?_)
    refine lv_iconst (v := 1) hx hb dX6_item_30 (by decide) ?_
    refine lv_iadd hx hb dX6_item_31 ?_
    refine mm_pfi C S (ci := 5) (k := 1) rfl in_X6 tyX6_ok nmX6 (by decide) q1109 (fun _ h9 => h9) rfl dX6_item_32 rfl h (fun M11 H locs h S => ?_)
    refine lv_aload_n hx hb dX6_item_35 rfl (lv_at hl 0 rfl) ?_
    exact mm_aret C S hr (Or.inl ⟨_, rfl⟩) (Nat.le_trans (Nat.le_add_right _ _) hk) dX6_item_36 h
def wR_X6_steps_X6_item : Nat → (mG → Nat → (Nat → mM → Prop) → (String → Nat → mM → Prop) → mM → Nat → Int32 → Prop) × (mG → Nat → (Nat → mM → Prop) → (String → Nat → mM → Prop) → mM → Nat → Int32 → Prop)
  | 0 => (fun _ _ _ _ _ _ _ => False, fun _ _ _ _ _ _ _ => False)
  | d + 1 => (wp_X6_steps (wR_X6_steps_X6_item d).2, wp_X6_item (wR_X6_steps_X6_item d).1)
def wr_X6_steps (d : Nat) : mG → Nat → (Nat → mM → Prop) → (String → Nat → mM → Prop) → mM → Nat → Int32 → Prop := (wR_X6_steps_X6_item d).1
def wr_X6_item (d : Nat) : mG → Nat → (Nat → mM → Prop) → (String → Nat → mM → Prop) → mM → Nat → Int32 → Prop := (wR_X6_steps_X6_item d).2
theorem wK_X6_steps_X6_item {l : Launch} (hst0 : l.stackTraces = false) : ∀ d : Nat, (∀ {G : mG} {b : Nat} {P : Nat → mM → Prop} {X : String → Nat → mM → Prop} {M : mM} {a0 : Nat} {x1 : Int32}, wr_X6_steps d G b P X M a0 x1 → mMet l yX6_steps (ws_ yX6_steps cX6_steps 4 (Option.some (Jvm.ClassFile.FieldType.object "Hidecount$Group"))) (16 + d) b G [.ref a0, .int x1] M (mRa P) X) ∧ (∀ {G : mG} {b : Nat} {P : Nat → mM → Prop} {X : String → Nat → mM → Prop} {M : mM} {a0 : Nat} {x1 : Int32}, wr_X6_item d G b P X M a0 x1 → mMet l yX6_item (ws_ yX6_item cX6_item 3 (Option.some (Jvm.ClassFile.FieldType.object "Hidecount$Node"))) (16 + d) b G [.ref a0, .int x1] M (mRa P) X) ∧ True
  | 0 => ⟨fun h => h.elim, fun h => h.elim, trivial⟩
  | d + 1 => by
    have ih := wK_X6_steps_X6_item hst0 d
    exact ⟨fun h => wks_X6_steps hst0 (Lr := 16 + d) (by omega) (fun h => (ih.2.1) h) h, fun h => wks_X6_item hst0 (Lr := 16 + d) (by omega) (fun h => (ih.1) h) h, trivial⟩
theorem wk_X6_steps {l : Launch} (hst0 : l.stackTraces = false) {G : mG} {b : Nat} {P : Nat → mM → Prop} {X : String → Nat → mM → Prop} {M : mM} {a0 : Nat} {x1 : Int32} (h : wr_X6_steps 14 G b P X M a0 x1) : mMet l yX6_steps (ws_ yX6_steps cX6_steps 4 (Option.some (Jvm.ClassFile.FieldType.object "Hidecount$Group"))) 30 b G [.ref a0, .int x1] M (mRa P) X := (wK_X6_steps_X6_item hst0 14).1 h
theorem wk_X6_item {l : Launch} (hst0 : l.stackTraces = false) {G : mG} {b : Nat} {P : Nat → mM → Prop} {X : String → Nat → mM → Prop} {M : mM} {a0 : Nat} {x1 : Int32} (h : wr_X6_item 14 G b P X M a0 x1) : mMet l yX6_item (ws_ yX6_item cX6_item 3 (Option.some (Jvm.ClassFile.FieldType.object "Hidecount$Node"))) 30 b G [.ref a0, .int x1] M (mRa P) X := (wK_X6_steps_X6_item hst0 14).2.1 h
/-! X6_item: level 30, alloc, throws Hidecount$ReadingFault -/
/-! X6_all: level 31, alloc, throws Hidecount$ReadingFault -/
def wb_X6_all_26 (G : mG) (P : Nat → mM → Prop) (X : String → Nat → mM → Prop) (r : Nat) (M : mM) (a1 : Nat) (s0 : Nat) (s1 : Int32) : Prop :=
  isc M s0 5 ∧ (∃ b10 r11 : Nat, b10 + r11 = r ∧ wp_X6_need G b10 (fun M9 => P a1 M9) X M s0 s1 1)
def wp_X6_all (G : mG) (b : Nat) (P : Nat → mM → Prop) (X : String → Nat → mM → Prop) (M : mM) (a0 : Nat) : Prop :=
  isc M a0 5 ∧ (∃ b2 r3 : Nat, b2 + r3 = b ∧ wr_X6_steps 14 G b2 (fun u4 M1 => gfi M1 a0 5 1 fun v5 => gfa M1 a0 5 0 fun u6 => isc M1 u6 18 ∧ (wp_J5_length G 0 (fun v8 M7 => (¬ v5 = v8 → wb_X6_all_26 G P X r3 M7 u4 a0 0) ∧ (v5 = v8 → wb_X6_all_26 G P X r3 M7 u4 a0 1)) M1 u6)) X M a0 0)
set_option maxHeartbeats 4000000 in
set_option maxRecDepth 100000 in
theorem wk_X6_all {l : Launch} (hst0 : l.stackTraces = false) {G : mG} {b : Nat} {P : Nat → mM → Prop} {X : String → Nat → mM → Prop} {M : mM} {a0 : Nat} (h : wp_X6_all G b P X M a0) : mMet l yX6_all (ws_ yX6_all cX6_all 2 (Option.some (Jvm.ClassFile.FieldType.object "Hidecount$Group"))) 31 b G [.ref a0] M (mRa P) X := by
  refine mm_met hst0 (by decide) (Nat.le_of_ble_eq_true rfl) ?_
  intro p e s m args below meth c ls C hr hnt hnm hl S
  have hl : lv_has ls 2 [(0, .ref a0)] := hl
  generalize mA M s.heap.size = A at C S ⊢
  have hx := C.hx
  have hb := C.hb
  have hk : 0 + b ≤ b := Nat.le_of_eq (Nat.zero_add b)
  have j26 : ∀ (k r : Nat) (M : mM) (H : Heap) (locs : List Loc) (ls : Array Slot) (a1 : Nat) (s0 : Nat) (s1 : Int32), k + r ≤ b → mW G A s M H locs → lv_has ls 2 [(1, .ref a1)] → wb_X6_all_26 G P X r M a1 s0 s1 → W p l e (mRm 31 b) s m args below meth c H locs k k (vx_MQ below (mQ G A (mRa P)) (mXC G A X) args s b b A) (F0 m 26 ls [.int s1, .ref s0]) := by
    intro k r M H locs ls a1 s0 s1 hk S hl h
    unfold wb_X6_all_26 at h
    refine lv_iconst (v := 1) hx hb dX6_all_26 (by decide) ?_
    obtain ⟨hI, h⟩ := h
    obtain ⟨b10, r11, hb9, h⟩ := h
    refine mm_V (As := [.int s1, .int 1]) (rest := []) C S hl.1 (wk_X6_need hst0 h) (T := TX6) rfl hI (lw_V q1200 q1202 qs15 q74 q1203) rfl pd_X6_need ⟨Nat.le_of_ble_eq_true rfl, Nat.le_of_ble_eq_true rfl⟩ rfl rfl (Nat.le_of_ble_eq_true rfl) dX6_all_27 rfl rfl hk hb9 (fun v9 M9 H locs hP S hk => ?_) (fun E q ce M9 H9 locs9 hX S9 hk9 hc9 hv9 hf9 => mm_out C S9 (fun x hx => (hnt x hx).elim) (Nat.le_trans (Nat.le_add_right _ _) hk9) hc9 hv9 hf9 hX)
    obtain ⟨rfl, h⟩ := hP
    refine W.eq (g2 := F0 m 30 ls []) rfl ?_
    refine lv_aload_n hx hb dX6_all_30 rfl (lv_at hl 0 rfl) ?_
    exact mm_aret C S hr (Or.inl ⟨_, rfl⟩) (Nat.le_trans (Nat.le_add_right _ _) hk) dX6_all_31 h
  unfold wp_X6_all at h
  refine lv_aload_n hx hb dX6_all_0 rfl (lv_at hl 0 rfl) ?_
  refine lv_iconst (v := 0) hx hb dX6_all_1 (by decide) ?_
  obtain ⟨hI, h⟩ := h
  obtain ⟨b2, r3, hb9, h⟩ := h
  refine mm_V (As := [.int 0]) (rest := []) C S hl.1 (wk_X6_steps hst0 h) (T := TX6) rfl hI (lw_V q1119 q1121 qs12 q74 q1122) rfl pd_X6_steps ⟨Nat.le_of_ble_eq_true rfl, Nat.le_of_ble_eq_true rfl⟩ rfl rfl (Nat.le_of_ble_eq_true rfl) dX6_all_2 rfl rfl hk hb9 (fun v9 M1 H locs hP S hk => ?_) (fun E q ce M9 H9 locs9 hX S9 hk9 hc9 hv9 hf9 => mm_out C S9 (fun x hx => (hnt x hx).elim) (Nat.le_trans (Nat.le_add_right _ _) hk9) hc9 hv9 hf9 hX)
  obtain ⟨u4, rfl, h⟩ := hP
  refine W.eq (g2 := F0 m 5 ls [.ref u4]) rfl ?_
  refine lv_astore_n (lv' := [(1, .ref u4), (0, .ref a0)]) hx hb dX6_all_5 rfl hl (by decide) rfl (fun ls hl => ?_)
  refine lv_aload_n hx hb dX6_all_6 rfl (lv_at hl 1 rfl) ?_
  refine lv_aload_n hx hb dX6_all_7 rfl (lv_at hl 1 rfl) ?_
  refine mm_gfi C S (ci := 5) (k := 1) rfl in_X6 (by decide) q1109 (fun _ h9 => h9) dX6_all_8 h (fun v5 h => ?_)
  refine lv_aload_n hx hb dX6_all_11 rfl (lv_at hl 1 rfl) ?_
  refine mm_gfa C S (ci := 5) (k := 0) rfl in_X6 (by decide) q1108 (fun _ h9 => h9) dX6_all_12 h (fun u6 h => ?_)
  obtain ⟨hI, h⟩ := h
  refine mm_V (As := []) (rest := [.int v5, .ref a0]) C S hl.1 (wk_J5_length hst0 h) (T := TJ5) rfl hI (lw_V q1151 q881 q882 q54 q883) rfl pd_J5_length ⟨Nat.le_of_ble_eq_true rfl, Nat.le_of_ble_eq_true rfl⟩ rfl rfl (Nat.le_of_ble_eq_true rfl) dX6_all_15 rfl rfl hk (Nat.zero_add _) (fun v9 M7 H locs hP S hk => ?_) (fun E q ce M9 H9 locs9 hX => hX.elim)
  obtain ⟨v8, rfl, h⟩ := hP
  refine W.eq (g2 := F0 m 18 ls [.int v8, .int v5, .ref a0]) rfl ?_
  refine lv_icmp_ne (tgt := 25) hx hb dX6_all_18 (by decide) (fun c9 => ?_) (fun c9 => ?_)
  · have h := h.1 c9
    refine lv_iconst (v := 0) hx hb dX6_all_25 (by decide) ?_
    exact j26 _ _ _ _ _ _ _ _ _ hk S (lv_sub hl [0] rfl) h
  · have h := h.2 c9
    refine lv_iconst (v := 1) hx hb dX6_all_21 (by decide) ?_
    refine lv_goto (tgt := 26) hx hb dX6_all_22 (by decide) ?_
    exact j26 _ _ _ _ _ _ _ _ _ hk S (lv_sub hl [0] rfl) h
/-! X12_init: level 16, alloc -/
def wp_X12_init (G : mG) (b : Nat) (P : mM → Prop) (M : mM) (a0 : Nat) (x1 : Int32) : Prop :=
  nwo M b 16 3 dfsJ2 fun u1 M2 r3 => wp_J2_init G 0 (fun M4 => pfq M4 a0 9 0 (some u1) fun M5 => gfa M5 a0 9 0 fun u6 => ∃ b8 r9 : Nat, b8 + r9 = r3 ∧ wp_J21_valueOf G b8 (fun u10 M7 => isc M7 u6 16 ∧ (∃ b12 r13 : Nat, b12 + r13 = r9 ∧ wp_J2_add G b12 (fun v14 M11 => P M11) M7 u6 u10)) M5 x1) M2 u1
set_option maxHeartbeats 4000000 in
set_option maxRecDepth 100000 in
theorem wk_X12_init {l : Launch} (hst0 : l.stackTraces = false) {G : mG} {b : Nat} {P : mM → Prop} {M : mM} {a0 : Nat} {x1 : Int32} (h : wp_X12_init G b P M a0 x1) : mMet l yX12_init (ws_ yX12_init cX12_init 2 (Option.none : Option Jvm.ClassFile.FieldType)) 16 b G [.ref a0, .int x1] M (mRv P) (fun _ _ _ => False) := by
  refine mm_met hst0 (by decide) (Nat.le_of_ble_eq_true rfl) ?_
  intro p e s m args below meth c ls C hr hnt hnm hl S
  have hl : lv_has ls 2 [(0, .ref a0), (1, .int x1)] := hl
  generalize mA M s.heap.size = A at C S ⊢
  have hx := C.hx
  have hb := C.hb
  have hk : 0 + b ≤ b := Nat.le_of_eq (Nat.zero_add b)
  unfold wp_X12_init at h
  refine lv_aload_n hx hb dX12_init_0 rfl (lv_at hl 0 rfl) ?_
  refine mm_init C hl.1 q1260 q100 q101 dX12_init_1 (Nat.le_of_ble_eq_true rfl) (Nat.le_of_ble_eq_true rfl) ?_
  refine lv_aload_n hx hb dX12_init_4 rfl (lv_at hl 0 rfl) ?_
  refine mm_new C S (ci := 16) (T := TJ2) rfl in_J2 tyJ2_ok q1261 q107 q51 dfJ2 (by decide) dX12_init_5 rfl rfl hk h (fun u1 M2 r3 H h S hk => ?_)
  refine lv_dup hx hb dX12_init_8 rfl ?_
  refine mm_I (As := []) (rest := [.ref u1, .ref a0]) C S hl.1 (wk_J2_init hst0 h) q110 q51 q1262 q109 rfl pd_J2_init ⟨Nat.le_of_ble_eq_true rfl, Nat.le_of_ble_eq_true rfl⟩ rfl rfl (Nat.le_of_ble_eq_true rfl) dX12_init_9 rfl rfl hk (Nat.zero_add _) (fun v9 M4 H locs hP S hk => ?_) (fun E q ce M9 H9 locs9 hX => hX.elim)
  obtain ⟨rfl, h⟩ := hP
  refine W.eq (g2 := F0 m 12 ls [.ref u1, .ref a0]) rfl ?_
  refine mm_pfqF C S (ci := 9) (k := 0) (v := (some u1)) rfl in_X12 tyX12_ok nmX12 (by decide) q1285 (fun _ h9 => h9) rfl (hnm.trans rfl) rfl dX12_init_12 rfl h (fun M5 H locs h S => ?_)
  refine lv_aload_n hx hb dX12_init_15 rfl (lv_at hl 0 rfl) ?_
  refine mm_gfa C S (ci := 9) (k := 0) rfl in_X12 (by decide) q1285 (fun _ h9 => h9) dX12_init_16 h (fun u6 h => ?_)
  refine lv_iload_n hx hb dX12_init_19 rfl (lv_at hl 1 rfl) ?_
  obtain ⟨b8, r9, hb9, h⟩ := h
  refine mm_S (As := [.int x1]) (rest := [.ref u6]) C S hl.1 (wk_J21_valueOf hst0 h) (lw_S q1263 q1264 q76 q1265) pd_J21_valueOf ⟨Nat.le_of_ble_eq_true rfl, Nat.le_of_ble_eq_true rfl⟩ rfl rfl (Nat.le_of_ble_eq_true rfl) dX12_init_20 rfl rfl hk hb9 (fun v9 M7 H locs hP S hk => ?_) (fun E q ce M9 H9 locs9 hX => hX.elim)
  obtain ⟨u10, rfl, h⟩ := hP
  refine W.eq (g2 := F0 m 23 ls [.ref u10, .ref u6]) rfl ?_
  obtain ⟨hI, h⟩ := h
  obtain ⟨b12, r13, hb9, h⟩ := h
  refine mm_F (As := [.ref u10]) (rest := []) C S hl.1 (x := ⟨"java/util/List", "add", "(Ljava/lang/Object;)Z"⟩) (wk_J2_add hst0 h) (T := TJ2) rfl hI (mWsF q1284 q651 q653 q51 (lw_meth q655)) (by decide +kernel) pdi_3 ⟨Nat.le_of_ble_eq_true rfl, Nat.le_of_ble_eq_true rfl⟩ rfl rfl (Nat.le_of_ble_eq_true rfl) dX12_init_23 rfl rfl hk hb9 (fun v9 M11 H locs hP S hk => ?_) (fun E q ce M9 H9 locs9 hX => hX.elim)
  obtain ⟨v14, rfl, h⟩ := hP
  refine W.eq (g2 := F0 m 28 ls [.int v14]) rfl ?_
  refine lv_pop hx hb dX12_init_28 rfl ?_
  exact mm_vret C S hr (Nat.le_trans (Nat.le_add_right _ _) hk) dX12_init_29 h
/-! X12_here: level 13 -/
def wp_X12_here (G : mG) (b : Nat) (P : Int32 → mM → Prop) (M : mM) (a0 : Nat) : Prop :=
  gfa M a0 9 0 fun u1 => gfa M a0 9 0 fun u2 => isc M u2 16 ∧ (wp_J2_size G 0 (fun v4 M3 => isc M3 u1 16 ∧ (wp_J2_get G 0 (fun u6 M5 => isc M5 u6 19 ∧ (isc M5 u6 19 ∧ (wp_J21_intValue G 0 (fun v8 M7 => P v8 M7) M5 u6))) M3 u1 (v4 - 1))) M u2)
set_option maxHeartbeats 4000000 in
set_option maxRecDepth 100000 in
theorem wk_X12_here {l : Launch} (hst0 : l.stackTraces = false) {G : mG} {b : Nat} {P : Int32 → mM → Prop} {M : mM} {a0 : Nat} (h : wp_X12_here G b P M a0) : mMet l yX12_here (ws_ yX12_here cX12_here 1 (Option.some Jvm.ClassFile.FieldType.int)) 13 b G [.ref a0] M (mRi P) (fun _ _ _ => False) := by
  refine mm_met hst0 (by decide) (Nat.le_of_ble_eq_true rfl) ?_
  intro p e s m args below meth c ls C hr hnt hnm hl S
  have hl : lv_has ls 1 [(0, .ref a0)] := hl
  generalize mA M s.heap.size = A at C S ⊢
  have hx := C.hx
  have hb := C.hb
  have hk : 0 + b ≤ b := Nat.le_of_eq (Nat.zero_add b)
  unfold wp_X12_here at h
  refine lv_aload_n hx hb dX12_here_0 rfl (lv_at hl 0 rfl) ?_
  refine mm_gfa C S (ci := 9) (k := 0) rfl in_X12 (by decide) q1285 (fun _ h9 => h9) dX12_here_1 h (fun u1 h => ?_)
  refine lv_aload_n hx hb dX12_here_4 rfl (lv_at hl 0 rfl) ?_
  refine mm_gfa C S (ci := 9) (k := 0) rfl in_X12 (by decide) q1285 (fun _ h9 => h9) dX12_here_5 h (fun u2 h => ?_)
  obtain ⟨hI, h⟩ := h
  refine mm_F (As := []) (rest := [.ref u1]) C S hl.1 (x := ⟨"java/util/List", "size", "()I"⟩) (wk_J2_size hst0 h) (T := TJ2) rfl hI (mWsF q1322 q288 q290 q51 (lw_meth q292)) (by decide +kernel) pdi_2 ⟨Nat.le_of_ble_eq_true rfl, Nat.le_of_ble_eq_true rfl⟩ rfl rfl (Nat.le_of_ble_eq_true rfl) dX12_here_8 rfl rfl hk (Nat.zero_add _) (fun v9 M3 H locs hP S hk => ?_) (fun E q ce M9 H9 locs9 hX => hX.elim)
  obtain ⟨v4, rfl, h⟩ := hP
  refine W.eq (g2 := F0 m 13 ls [.int v4, .ref u1]) rfl ?_
  refine lv_iconst (v := 1) hx hb dX12_here_13 (by decide) ?_
  refine lv_isub hx hb dX12_here_14 ?_
  obtain ⟨hI, h⟩ := h
  refine mm_F (As := [.int (v4 - 1)]) (rest := []) C S hl.1 (x := ⟨"java/util/List", "get", "(I)Ljava/lang/Object;"⟩) (wk_J2_get hst0 h) (T := TJ2) rfl hI (mWsF q1324 q297 q299 q51 (lw_meth q301)) (by decide +kernel) pdi_4 ⟨Nat.le_of_ble_eq_true rfl, Nat.le_of_ble_eq_true rfl⟩ rfl rfl (Nat.le_of_ble_eq_true rfl) dX12_here_15 rfl rfl hk (Nat.zero_add _) (fun v9 M5 H locs hP S hk => ?_) (fun E q ce M9 H9 locs9 hX => hX.elim)
  obtain ⟨u6, rfl, h⟩ := hP
  refine W.eq (g2 := F0 m 20 ls [.ref u6]) rfl ?_
  refine mm_castS C S (ci := 19) (T := TJ21) rfl rfl q1325 h.1 dX12_here_20 ?_
  have h := h.2
  obtain ⟨hI, h⟩ := h
  refine mm_V (As := []) (rest := []) C S hl.1 (wk_J21_intValue hst0 h) (T := TJ21) rfl hI (lw_V q1326 q1327 q1328 q76 q1329) rfl pd_J21_intValue ⟨Nat.le_of_ble_eq_true rfl, Nat.le_of_ble_eq_true rfl⟩ rfl rfl (Nat.le_of_ble_eq_true rfl) dX12_here_23 rfl rfl hk (Nat.zero_add _) (fun v9 M7 H locs hP S hk => ?_) (fun E q ce M9 H9 locs9 hX => hX.elim)
  obtain ⟨v8, rfl, h⟩ := hP
  refine W.eq (g2 := F0 m 26 ls [.int v8]) rfl ?_
  exact mm_iret C S hr (Nat.le_trans (Nat.le_add_right _ _) hk) dX12_here_26 h
/-! X9_init_X13: level 12 -/
def wp_X9_init_X13 (G : mG) (b : Nat) (P : mM → Prop) (M : mM) (a0 : Nat) (x1 : Int32) (x2 : Int32) : Prop :=
  wp_J8_init_3_X13 G 0 (fun M1 => pfi M1 a0 10 0 x1 fun M2 => pfi M2 a0 10 1 x2 fun M3 => P M3) M a0 0 0
set_option maxHeartbeats 4000000 in
set_option maxRecDepth 100000 in
theorem wk_X9_init_X13 {l : Launch} (hst0 : l.stackTraces = false) {G : mG} {b : Nat} {P : mM → Prop} {M : mM} {a0 : Nat} {x1 : Int32} {x2 : Int32} (h : wp_X9_init_X13 G b P M a0 x1 x2) : mMet l yX9_init (ws_ yX9_init cX9_init 3 (Option.none : Option Jvm.ClassFile.FieldType)) 12 b G [.ref a0, .int x1, .int x2] M (mRv P) (fun _ _ _ => False) := by
  refine mm_met hst0 (by decide) (Nat.le_of_ble_eq_true rfl) ?_
  intro p e s m args below meth c ls C hr hnt hnm hl S
  have hl : lv_has ls 3 [(0, .ref a0), (1, .int x1), (2, .int x2)] := hl
  generalize mA M s.heap.size = A at C S ⊢
  have hx := C.hx
  have hb := C.hb
  have hk : 0 + b ≤ b := Nat.le_of_eq (Nat.zero_add b)
  unfold wp_X9_init_X13 at h
  refine lv_aload_n hx hb dX9_init_0 rfl (lv_at hl 0 rfl) ?_
  refine lv_null hx hb dX9_init_1 ?_
  refine lv_null hx hb dX9_init_2 ?_
  refine lv_iconst (v := 0) hx hb dX9_init_3 (by decide) ?_
  refine lv_iconst (v := 0) hx hb dX9_init_4 (by decide) ?_
  refine mm_I (As := [.null, .null, .int 0, .int 0]) (rest := []) C S hl.1 (wk_J8_init_3_X13 hst0 h) q1221 q60 q1219 q1220 rfl pd_J8_init_3 ⟨Nat.le_of_ble_eq_true rfl, Nat.le_of_ble_eq_true rfl⟩ rfl rfl (Nat.le_of_ble_eq_true rfl) dX9_init_5 rfl rfl hk (Nat.zero_add _) (fun v9 M1 H locs hP S hk => ?_) (fun E q ce M9 H9 locs9 hX => hX.elim)
  obtain ⟨rfl, h⟩ := hP
  refine W.eq (g2 := F0 m 8 ls []) rfl ?_
  refine lv_aload_n hx hb dX9_init_8 rfl (lv_at hl 0 rfl) ?_
  refine lv_iload_n hx hb dX9_init_9 rfl (lv_at hl 1 rfl) ?_
  refine mm_pfiF C S (ci := 10) (k := 0) rfl in_X13 tyX13_ok nmX13 (by decide) q1225 (fun _ h9 => h9) rfl (hnm.trans rfl) rfl dX9_init_10 rfl h (fun M2 H locs h S => ?_)
  refine lv_aload_n hx hb dX9_init_13 rfl (lv_at hl 0 rfl) ?_
  refine lv_iload_n hx hb dX9_init_14 rfl (lv_at hl 2 rfl) ?_
  refine mm_pfiF C S (ci := 10) (k := 1) rfl in_X13 tyX13_ok nmX13 (by decide) q1227 (fun _ h9 => h9) rfl (hnm.trans rfl) rfl dX9_init_15 rfl h (fun M3 H locs h S => ?_)
  exact mm_vret C S hr (Nat.le_trans (Nat.le_add_right _ _) hk) dX9_init_18 h
/-! X13_init: level 13 -/
def wp_X13_init (G : mG) (b : Nat) (P : mM → Prop) (M : mM) (a0 : Nat) (x1 : Int32) (x2 : Int32) : Prop :=
  wp_X9_init_X13 G 0 (fun M1 => P M1) M a0 x1 x2
set_option maxHeartbeats 4000000 in
set_option maxRecDepth 100000 in
theorem wk_X13_init {l : Launch} (hst0 : l.stackTraces = false) {G : mG} {b : Nat} {P : mM → Prop} {M : mM} {a0 : Nat} {x1 : Int32} {x2 : Int32} (h : wp_X13_init G b P M a0 x1 x2) : mMet l yX13_init (ws_ yX13_init cX13_init 3 (Option.none : Option Jvm.ClassFile.FieldType)) 13 b G [.ref a0, .int x1, .int x2] M (mRv P) (fun _ _ _ => False) := by
  refine mm_met hst0 (by decide) (Nat.le_of_ble_eq_true rfl) ?_
  intro p e s m args below meth c ls C hr hnt hnm hl S
  have hl : lv_has ls 3 [(0, .ref a0), (1, .int x1), (2, .int x2)] := hl
  generalize mA M s.heap.size = A at C S ⊢
  have hx := C.hx
  have hb := C.hb
  have hk : 0 + b ≤ b := Nat.le_of_eq (Nat.zero_add b)
  unfold wp_X13_init at h
  refine lv_aload_n hx hb dX13_init_0 rfl (lv_at hl 0 rfl) ?_
  refine lv_iload_n hx hb dX13_init_1 rfl (lv_at hl 1 rfl) ?_
  refine lv_iload_n hx hb dX13_init_2 rfl (lv_at hl 2 rfl) ?_
  refine mm_I (As := [.int x1, .int x2]) (rest := []) C S hl.1 (wk_X9_init_X13 hst0 h) q1218 q80 q1342 q1217 rfl pd_X9_init ⟨Nat.le_of_ble_eq_true rfl, Nat.le_of_ble_eq_true rfl⟩ rfl rfl (Nat.le_of_ble_eq_true rfl) dX13_init_3 rfl rfl hk (Nat.zero_add _) (fun v9 M1 H locs hP S hk => ?_) (fun E q ce M9 H9 locs9 hX => hX.elim)
  obtain ⟨rfl, h⟩ := hP
  refine W.eq (g2 := F0 m 6 ls []) rfl ?_
  exact mm_vret C S hr (Nat.le_trans (Nat.le_add_right _ _) hk) dX13_init_6 h
/-! X12_step: level 16, alloc, throws Hidecount$StepFault -/
def wb_X12_step_107 (G : mG) (P : mM → Prop) (X : String → Nat → mM → Prop) (r : Nat) (M : mM) (x2 : Int32) : Prop :=
  nwo M r 10 8 dfsX13 fun u21 M22 r23 => wp_X13_init G 0 (fun M24 => ist M24 u21 10 ∧ X "Hidecount$StepFault" u21 M24) M22 u21 4 x2
def wb_X12_step_58 (G : mG) (P : mM → Prop) (X : String → Nat → mM → Prop) (r : Nat) (M : mM) (a0 : Nat) (x2 : Int32) (x3 : Int32) (s0 : Int32) (s1 : Int32) : Prop :=
  gfa M a0 9 0 fun u5 => isc M u5 16 ∧ (wp_J2_size G 0 (fun v7 M6 => (v7 ≤ 30 → (x3 < 0 → wb_X12_step_107 G P X r M6 x2) ∧ (¬ x3 < 0 → (6 ≤ x3 → wb_X12_step_107 G P X r M6 x2) ∧ (¬ 6 ≤ x3 → ((s0 + s1) < 0 → wb_X12_step_107 G P X r M6 x2) ∧ (¬ (s0 + s1) < 0 → ((s0 + s1) < 6 → gfa M6 a0 9 0 fun u8 => ∃ b10 r11 : Nat, b10 + r11 = r ∧ wp_J21_valueOf G b10 (fun u12 M9 => isc M9 u8 16 ∧ (∃ b14 r15 : Nat, b14 + r15 = r11 ∧ wp_J2_add G b14 (fun v16 M13 => P M13) M9 u8 u12)) M6 ((6 * x3) + (s0 + s1))) ∧ (¬ (s0 + s1) < 6 → wb_X12_step_107 G P X r M6 x2))))) ∧ (¬ v7 ≤ 30 → nwo M6 r 10 8 dfsX13 fun u17 M18 r19 => wp_X13_init G 0 (fun M20 => ist M20 u17 10 ∧ X "Hidecount$StepFault" u17 M20) M18 u17 3 x2)) M u5)
def wb_X12_step_28 (G : mG) (P : mM → Prop) (X : String → Nat → mM → Prop) (r : Nat) (M : mM) (a0 : Nat) (x1 : Int32) (x2 : Int32) (s0 : Int32) (s1 : Int32) : Prop :=
  isc M a0 9 ∧ (wp_X12_here G 0 (fun v4 M3 => (¬ x1 = 87 → (¬ x1 = 69 → wb_X12_step_58 G P X r M3 a0 x2 (s0 + s1) (v4 - v4 / 6 * 6) 0) ∧ (x1 = 69 → wb_X12_step_58 G P X r M3 a0 x2 (s0 + s1) (v4 - v4 / 6 * 6) 1)) ∧ (x1 = 87 → wb_X12_step_58 G P X r M3 a0 x2 (s0 + s1) (v4 - v4 / 6 * 6) (-1))) M a0)
def wp_X12_step (G : mG) (b : Nat) (P : mM → Prop) (X : String → Nat → mM → Prop) (M : mM) (a0 : Nat) (x1 : Int32) (x2 : Int32) : Prop :=
  isc M a0 9 ∧ (wp_X12_here G 0 (fun v2 M1 => (¬ x1 = 78 → (¬ x1 = 83 → wb_X12_step_28 G P X b M1 a0 x1 x2 (v2 / 6) 0) ∧ (x1 = 83 → wb_X12_step_28 G P X b M1 a0 x1 x2 (v2 / 6) 1)) ∧ (x1 = 78 → wb_X12_step_28 G P X b M1 a0 x1 x2 (v2 / 6) (-1))) M a0)
set_option maxHeartbeats 4000000 in
set_option maxRecDepth 100000 in
theorem wk_X12_step {l : Launch} (hst0 : l.stackTraces = false) {G : mG} {b : Nat} {P : mM → Prop} {X : String → Nat → mM → Prop} {M : mM} {a0 : Nat} {x1 : Int32} {x2 : Int32} (h : wp_X12_step G b P X M a0 x1 x2) : mMet l yX12_step (ws_ yX12_step cX12_step 5 (Option.none : Option Jvm.ClassFile.FieldType)) 16 b G [.ref a0, .int x1, .int x2] M (mRv P) X := by
  refine mm_met hst0 (by decide) (Nat.le_of_ble_eq_true rfl) ?_
  intro p e s m args below meth c ls C hr hnt hnm hl S
  have hl : lv_has ls 5 [(0, .ref a0), (1, .int x1), (2, .int x2)] := hl
  generalize mA M s.heap.size = A at C S ⊢
  have hx := C.hx
  have hb := C.hb
  have hk : 0 + b ≤ b := Nat.le_of_eq (Nat.zero_add b)
  have j107 : ∀ (k r : Nat) (M : mM) (H : Heap) (locs : List Loc) (ls : Array Slot) (x2 : Int32), k + r ≤ b → mW G A s M H locs → lv_has ls 5 [(2, .int x2)] → wb_X12_step_107 G P X r M x2 → W p l e (mRm 16 b) s m args below meth c H locs k k (vx_MQ below (mQ G A (mRv P)) (mXC G A X) args s b b A) (F0 m 107 ls []) := by
    intro k r M H locs ls x2 hk S hl h
    unfold wb_X12_step_107 at h
    refine mm_new C S (ci := 10) (T := TX13) rfl in_X13 tyX13_ok q1330 q1331 q86 dfX13 (by decide) dX12_step_107 rfl rfl hk h (fun u21 M22 r23 H h S hk => ?_)
    refine lv_dup hx hb dX12_step_110 rfl ?_
    refine lv_iconst (v := 4) hx hb dX12_step_111 (by decide) ?_
    refine lv_iload_n hx hb dX12_step_112 rfl (lv_at hl 0 rfl) ?_
    refine mm_I (As := [.int 4, .int x2]) (rest := [.ref u21]) C S hl.1 (wk_X13_init hst0 h) q1341 q86 q1339 q1340 rfl pd_X13_init ⟨Nat.le_of_ble_eq_true rfl, Nat.le_of_ble_eq_true rfl⟩ rfl rfl (Nat.le_of_ble_eq_true rfl) dX12_step_113 rfl rfl hk (Nat.zero_add _) (fun v9 M24 H locs hP S hk => ?_) (fun E q ce M9 H9 locs9 hX => hX.elim)
    obtain ⟨rfl, h⟩ := hP
    refine W.eq (g2 := F0 m 116 ls [.ref u21]) rfl ?_
    exact mm_outM C S (fun x hx => (hnt x hx).elim) (ci := 10) (T := TX13) rfl (Nat.le_trans (Nat.le_add_right _ _) hk) dX12_step_116 h
  have j58 : ∀ (k r : Nat) (M : mM) (H : Heap) (locs : List Loc) (ls : Array Slot) (a0 : Nat) (x2 : Int32) (x3 : Int32) (s0 : Int32) (s1 : Int32), k + r ≤ b → mW G A s M H locs → lv_has ls 5 [(0, .ref a0), (2, .int x2), (3, .int x3)] → wb_X12_step_58 G P X r M a0 x2 x3 s0 s1 → W p l e (mRm 16 b) s m args below meth c H locs k k (vx_MQ below (mQ G A (mRv P)) (mXC G A X) args s b b A) (F0 m 58 ls [.int s1, .int s0]) := by
    intro k r M H locs ls a0 x2 x3 s0 s1 hk S hl h
    unfold wb_X12_step_58 at h
    refine lv_iadd hx hb dX12_step_58 ?_
    refine lv_istore (lv' := [(4, .int (s0 + s1)), (0, .ref a0), (2, .int x2), (3, .int x3)]) hx hb dX12_step_59 hl (by decide) rfl (fun ls hl => ?_)
    refine lv_aload_n hx hb dX12_step_61 rfl (lv_at hl 1 rfl) ?_
    refine mm_gfa C S (ci := 9) (k := 0) rfl in_X12 (by decide) q1285 (fun _ h9 => h9) dX12_step_62 h (fun u5 h => ?_)
    obtain ⟨hI, h⟩ := h
    refine mm_F (As := []) (rest := []) C S hl.1 (x := ⟨"java/util/List", "size", "()I"⟩) (wk_J2_size hst0 h) (T := TJ2) rfl hI (mWsF q1322 q288 q290 q51 (lw_meth q292)) (by decide +kernel) pdi_2 ⟨Nat.le_of_ble_eq_true rfl, Nat.le_of_ble_eq_true rfl⟩ rfl rfl (Nat.le_of_ble_eq_true rfl) dX12_step_65 rfl rfl hk (Nat.zero_add _) (fun v9 M6 H locs hP S hk => ?_) (fun E q ce M9 H9 locs9 hX => hX.elim)
    obtain ⟨v7, rfl, h⟩ := hP
    refine W.eq (g2 := F0 m 70 ls [.int v7]) rfl ?_
    refine lv_bipush (v := 30) hx hb dX12_step_70 (by decide) ?_
    refine lv_icmp_le (tgt := 85) hx hb dX12_step_72 (by decide) (fun c9 => ?_) (fun c9 => ?_)
    · have h := h.1 c9
      refine lv_iload_n hx hb dX12_step_85 rfl (lv_at hl 3 rfl) ?_
      refine lv_if_lt (tgt := 107) hx hb dX12_step_86 (by decide) (fun c9 => ?_) (fun c9 => ?_)
      · have h := h.1 c9
        exact j107 _ _ _ _ _ _ _ hk S (lv_sub hl [2] rfl) h
      · have h := h.2 c9
        refine lv_iload_n hx hb dX12_step_89 rfl (lv_at hl 3 rfl) ?_
        refine lv_bipush (v := 6) hx hb dX12_step_90 (by decide) ?_
        refine lv_icmp_ge (tgt := 107) hx hb dX12_step_92 (by decide) (fun c9 => ?_) (fun c9 => ?_)
        · have h := h.1 c9
          exact j107 _ _ _ _ _ _ _ hk S (lv_sub hl [2] rfl) h
        · have h := h.2 c9
          refine lv_iload hx hb dX12_step_95 (lv_at hl 0 rfl) ?_
          refine lv_if_lt (tgt := 107) hx hb dX12_step_97 (by decide) (fun c9 => ?_) (fun c9 => ?_)
          · have h := h.1 c9
            exact j107 _ _ _ _ _ _ _ hk S (lv_sub hl [2] rfl) h
          · have h := h.2 c9
            refine lv_iload hx hb dX12_step_100 (lv_at hl 0 rfl) ?_
            refine lv_bipush (v := 6) hx hb dX12_step_102 (by decide) ?_
            refine lv_icmp_lt (tgt := 117) hx hb dX12_step_104 (by decide) (fun c9 => ?_) (fun c9 => ?_)
            · have h := h.1 c9
              refine lv_aload_n hx hb dX12_step_117 rfl (lv_at hl 1 rfl) ?_
              refine mm_gfa C S (ci := 9) (k := 0) rfl in_X12 (by decide) q1285 (fun _ h9 => h9) dX12_step_118 h (fun u8 h => ?_)
              refine lv_bipush (v := 6) hx hb dX12_step_121 (by decide) ?_
              refine lv_iload_n hx hb dX12_step_123 rfl (lv_at hl 3 rfl) ?_
              refine lv_imul hx hb dX12_step_124 ?_
              refine lv_iload hx hb dX12_step_125 (lv_at hl 0 rfl) ?_
              refine lv_iadd hx hb dX12_step_127 ?_
              obtain ⟨b10, r11, hb9, h⟩ := h
              refine mm_S (As := [.int ((6 * x3) + (s0 + s1))]) (rest := [.ref u8]) C S hl.1 (wk_J21_valueOf hst0 h) (lw_S q1263 q1264 q76 q1265) pd_J21_valueOf ⟨Nat.le_of_ble_eq_true rfl, Nat.le_of_ble_eq_true rfl⟩ rfl rfl (Nat.le_of_ble_eq_true rfl) dX12_step_128 rfl rfl hk hb9 (fun v9 M9 H locs hP S hk => ?_) (fun E q ce M9 H9 locs9 hX => hX.elim)
              obtain ⟨u12, rfl, h⟩ := hP
              refine W.eq (g2 := F0 m 131 ls [.ref u12, .ref u8]) rfl ?_
              obtain ⟨hI, h⟩ := h
              obtain ⟨b14, r15, hb9, h⟩ := h
              refine mm_F (As := [.ref u12]) (rest := []) C S hl.1 (x := ⟨"java/util/List", "add", "(Ljava/lang/Object;)Z"⟩) (wk_J2_add hst0 h) (T := TJ2) rfl hI (mWsF q1284 q651 q653 q51 (lw_meth q655)) (by decide +kernel) pdi_3 ⟨Nat.le_of_ble_eq_true rfl, Nat.le_of_ble_eq_true rfl⟩ rfl rfl (Nat.le_of_ble_eq_true rfl) dX12_step_131 rfl rfl hk hb9 (fun v9 M13 H locs hP S hk => ?_) (fun E q ce M9 H9 locs9 hX => hX.elim)
              obtain ⟨v16, rfl, h⟩ := hP
              refine W.eq (g2 := F0 m 136 ls [.int v16]) rfl ?_
              refine lv_pop hx hb dX12_step_136 rfl ?_
              exact mm_vret C S hr (Nat.le_trans (Nat.le_add_right _ _) hk) dX12_step_137 h
            · have h := h.2 c9
              exact j107 _ _ _ _ _ _ _ hk S (lv_sub hl [2] rfl) h
    · have h := h.2 c9
      refine mm_new C S (ci := 10) (T := TX13) rfl in_X13 tyX13_ok q1330 q1331 q86 dfX13 (by decide) dX12_step_75 rfl rfl hk h (fun u17 M18 r19 H h S hk => ?_)
      refine lv_dup hx hb dX12_step_78 rfl ?_
      refine lv_iconst (v := 3) hx hb dX12_step_79 (by decide) ?_
      refine lv_iload_n hx hb dX12_step_80 rfl (lv_at hl 2 rfl) ?_
      refine mm_I (As := [.int 3, .int x2]) (rest := [.ref u17]) C S hl.1 (wk_X13_init hst0 h) q1341 q86 q1339 q1340 rfl pd_X13_init ⟨Nat.le_of_ble_eq_true rfl, Nat.le_of_ble_eq_true rfl⟩ rfl rfl (Nat.le_of_ble_eq_true rfl) dX12_step_81 rfl rfl hk (Nat.zero_add _) (fun v9 M20 H locs hP S hk => ?_) (fun E q ce M9 H9 locs9 hX => hX.elim)
      obtain ⟨rfl, h⟩ := hP
      refine W.eq (g2 := F0 m 84 ls [.ref u17]) rfl ?_
      exact mm_outM C S (fun x hx => (hnt x hx).elim) (ci := 10) (T := TX13) rfl (Nat.le_trans (Nat.le_add_right _ _) hk) dX12_step_84 h
  have j28 : ∀ (k r : Nat) (M : mM) (H : Heap) (locs : List Loc) (ls : Array Slot) (a0 : Nat) (x1 : Int32) (x2 : Int32) (s0 : Int32) (s1 : Int32), k + r ≤ b → mW G A s M H locs → lv_has ls 5 [(0, .ref a0), (1, .int x1), (2, .int x2)] → wb_X12_step_28 G P X r M a0 x1 x2 s0 s1 → W p l e (mRm 16 b) s m args below meth c H locs k k (vx_MQ below (mQ G A (mRv P)) (mXC G A X) args s b b A) (F0 m 28 ls [.int s1, .int s0]) := by
    intro k r M H locs ls a0 x1 x2 s0 s1 hk S hl h
    unfold wb_X12_step_28 at h
    refine lv_iadd hx hb dX12_step_28 ?_
    refine lv_istore_n (lv' := [(3, .int (s0 + s1)), (0, .ref a0), (1, .int x1), (2, .int x2)]) hx hb dX12_step_29 rfl hl (by decide) rfl (fun ls hl => ?_)
    refine lv_aload_n hx hb dX12_step_30 rfl (lv_at hl 1 rfl) ?_
    obtain ⟨hI, h⟩ := h
    refine mm_V (As := []) (rest := []) C S hl.1 (wk_X12_here hst0 h) (T := TX12) rfl hI (lw_V q1317 q1318 q1319 q83 q1320) rfl pd_X12_here ⟨Nat.le_of_ble_eq_true rfl, Nat.le_of_ble_eq_true rfl⟩ rfl rfl (Nat.le_of_ble_eq_true rfl) dX12_step_31 rfl rfl hk (Nat.zero_add _) (fun v9 M3 H locs hP S hk => ?_) (fun E q ce M9 H9 locs9 hX => hX.elim)
    obtain ⟨v4, rfl, h⟩ := hP
    refine W.eq (g2 := F0 m 34 ls [.int v4]) rfl ?_
    refine lv_bipush (v := 6) hx hb dX12_step_34 (by decide) ?_
    refine lv_irem hx hb dX12_step_36 (by decide) ?_
    refine lv_iload_n hx hb dX12_step_37 rfl (lv_at hl 2 rfl) ?_
    refine lv_bipush (v := 87) hx hb dX12_step_38 (by decide) ?_
    refine lv_icmp_ne (tgt := 47) hx hb dX12_step_40 (by decide) (fun c9 => ?_) (fun c9 => ?_)
    · have h := h.1 c9
      refine lv_iload_n hx hb dX12_step_47 rfl (lv_at hl 2 rfl) ?_
      refine lv_bipush (v := 69) hx hb dX12_step_48 (by decide) ?_
      refine lv_icmp_ne (tgt := 57) hx hb dX12_step_50 (by decide) (fun c9 => ?_) (fun c9 => ?_)
      · have h := h.1 c9
        refine lv_iconst (v := 0) hx hb dX12_step_57 (by decide) ?_
        exact j58 _ _ _ _ _ _ _ _ _ _ _ hk S (lv_sub hl [1, 3, 0] rfl) h
      · have h := h.2 c9
        refine lv_iconst (v := 1) hx hb dX12_step_53 (by decide) ?_
        refine lv_goto (tgt := 58) hx hb dX12_step_54 (by decide) ?_
        exact j58 _ _ _ _ _ _ _ _ _ _ _ hk S (lv_sub hl [1, 3, 0] rfl) h
    · have h := h.2 c9
      refine lv_iconst (v := (-1)) hx hb dX12_step_43 (by decide) ?_
      refine lv_goto (tgt := 58) hx hb dX12_step_44 (by decide) ?_
      exact j58 _ _ _ _ _ _ _ _ _ _ _ hk S (lv_sub hl [1, 3, 0] rfl) h
  unfold wp_X12_step at h
  refine lv_aload_n hx hb dX12_step_0 rfl (lv_at hl 0 rfl) ?_
  obtain ⟨hI, h⟩ := h
  refine mm_V (As := []) (rest := []) C S hl.1 (wk_X12_here hst0 h) (T := TX12) rfl hI (lw_V q1317 q1318 q1319 q83 q1320) rfl pd_X12_here ⟨Nat.le_of_ble_eq_true rfl, Nat.le_of_ble_eq_true rfl⟩ rfl rfl (Nat.le_of_ble_eq_true rfl) dX12_step_1 rfl rfl hk (Nat.zero_add _) (fun v9 M1 H locs hP S hk => ?_) (fun E q ce M9 H9 locs9 hX => hX.elim)
  obtain ⟨v2, rfl, h⟩ := hP
  refine W.eq (g2 := F0 m 4 ls [.int v2]) rfl ?_
  refine lv_bipush (v := 6) hx hb dX12_step_4 (by decide) ?_
  refine lv_idiv hx hb dX12_step_6 (by decide) ?_
  refine lv_iload_n hx hb dX12_step_7 rfl (lv_at hl 1 rfl) ?_
  refine lv_bipush (v := 78) hx hb dX12_step_8 (by decide) ?_
  refine lv_icmp_ne (tgt := 17) hx hb dX12_step_10 (by decide) (fun c9 => ?_) (fun c9 => ?_)
  · have h := h.1 c9
    refine lv_iload_n hx hb dX12_step_17 rfl (lv_at hl 1 rfl) ?_
    refine lv_bipush (v := 83) hx hb dX12_step_18 (by decide) ?_
    refine lv_icmp_ne (tgt := 27) hx hb dX12_step_20 (by decide) (fun c9 => ?_) (fun c9 => ?_)
    · have h := h.1 c9
      refine lv_iconst (v := 0) hx hb dX12_step_27 (by decide) ?_
      exact j28 _ _ _ _ _ _ _ _ _ _ _ hk S hl h
    · have h := h.2 c9
      refine lv_iconst (v := 1) hx hb dX12_step_23 (by decide) ?_
      refine lv_goto (tgt := 28) hx hb dX12_step_24 (by decide) ?_
      exact j28 _ _ _ _ _ _ _ _ _ _ _ hk S hl h
  · have h := h.2 c9
    refine lv_iconst (v := (-1)) hx hb dX12_step_13 (by decide) ?_
    refine lv_goto (tgt := 28) hx hb dX12_step_14 (by decide) ?_
    exact j28 _ _ _ _ _ _ _ _ _ _ _ hk S hl h
/-! X11_goOnce: level 17, alloc, throws Hidecount$StepFault -/
def wp_X11_goOnce (G : mG) (b : Nat) (P : mM → Prop) (X : String → Nat → mM → Prop) (M : mM) (a0 : Nat) (a1 : Nat) : Prop :=
  gfi M a0 8 1 fun v1 => gfi M a0 8 2 fun v2 => isc M a1 9 ∧ (∃ b4 r5 : Nat, b4 + r5 = b ∧ wp_X12_step G b4 (fun M3 => P M3) X M a1 v1 v2)
set_option maxHeartbeats 4000000 in
set_option maxRecDepth 100000 in
theorem wk_X11_goOnce {l : Launch} (hst0 : l.stackTraces = false) {G : mG} {b : Nat} {P : mM → Prop} {X : String → Nat → mM → Prop} {M : mM} {a0 : Nat} {a1 : Nat} (h : wp_X11_goOnce G b P X M a0 a1) : mMet l yX11_goOnce (ws_ yX11_goOnce cX11_goOnce 2 (Option.none : Option Jvm.ClassFile.FieldType)) 17 b G [.ref a0, .ref a1] M (mRv P) X := by
  refine mm_met hst0 (by decide) (Nat.le_of_ble_eq_true rfl) ?_
  intro p e s m args below meth c ls C hr hnt hnm hl S
  have hl : lv_has ls 2 [(0, .ref a0), (1, .ref a1)] := hl
  generalize mA M s.heap.size = A at C S ⊢
  have hx := C.hx
  have hb := C.hb
  have hk : 0 + b ≤ b := Nat.le_of_eq (Nat.zero_add b)
  unfold wp_X11_goOnce at h
  refine lv_aload_n hx hb dX11_goOnce_0 rfl (lv_at hl 1 rfl) ?_
  refine lv_aload_n hx hb dX11_goOnce_1 rfl (lv_at hl 0 rfl) ?_
  refine mm_gfi C S (ci := 8) (k := 1) rfl in_X11 (by decide) q1245 (fun _ h9 => h9) dX11_goOnce_2 h (fun v1 h => ?_)
  refine lv_aload_n hx hb dX11_goOnce_5 rfl (lv_at hl 0 rfl) ?_
  refine mm_gfi C S (ci := 8) (k := 2) rfl in_X11 (by decide) q1246 (fun _ h9 => h9) dX11_goOnce_6 h (fun v2 h => ?_)
  obtain ⟨hI, h⟩ := h
  obtain ⟨b4, r5, hb9, h⟩ := h
  refine mm_V (As := [.int v1, .int v2]) (rest := []) C S hl.1 (wk_X12_step hst0 h) (T := TX12) rfl hI (lw_V q1313 q1314 q1315 q83 q1316) rfl pd_X12_step ⟨Nat.le_of_ble_eq_true rfl, Nat.le_of_ble_eq_true rfl⟩ rfl rfl (Nat.le_of_ble_eq_true rfl) dX11_goOnce_9 rfl rfl hk hb9 (fun v9 M3 H locs hP S hk => ?_) (fun E q ce M9 H9 locs9 hX S9 hk9 hc9 hv9 hf9 => mm_out C S9 (fun x hx => (hnt x hx).elim) (Nat.le_trans (Nat.le_add_right _ _) hk9) hc9 hv9 hf9 hX)
  obtain ⟨rfl, h⟩ := hP
  refine W.eq (g2 := F0 m 12 ls []) rfl ?_
  exact mm_vret C S hr (Nat.le_trans (Nat.le_add_right _ _) hk) dX11_goOnce_12 h
/-! X7_go_X11: level 18, alloc, throws Hidecount$StepFault -/
def wl_X7_go_X11_2 (G : mG) (P : mM → Prop) (X : String → Nat → mM → Prop) : Nat → Nat → mM → Nat → Nat → Int32 → Prop
  | 0, _, _, _, _, _ => False
  | n + 1, r, M, a0, a1, x2 => gfi M a0 8 0 fun v1 => (v1 ≤ x2 → P M) ∧ (¬ v1 ≤ x2 → isc M a0 8 ∧ (∃ b3 r4 : Nat, b3 + r4 = r ∧ wp_X11_goOnce G b3 (fun M2 => (wl_X7_go_X11_2 G P X n) r4 M2 a0 a1 (x2 + 1)) X M a0 a1))
def wp_X7_go_X11 (G : mG) (b : Nat) (P : mM → Prop) (X : String → Nat → mM → Prop) (M : mM) (a0 : Nat) (a1 : Nat) : Prop :=
  ∃ n2, wl_X7_go_X11_2 G P X n2 b M a0 a1 0
set_option maxHeartbeats 4000000 in
set_option maxRecDepth 100000 in
theorem wk_X7_go_X11 {l : Launch} (hst0 : l.stackTraces = false) {G : mG} {b : Nat} {P : mM → Prop} {X : String → Nat → mM → Prop} {M : mM} {a0 : Nat} {a1 : Nat} (h : wp_X7_go_X11 G b P X M a0 a1) : mMet l yX7_go (ws_ yX7_go cX7_go 3 (Option.none : Option Jvm.ClassFile.FieldType)) 18 b G [.ref a0, .ref a1] M (mRv P) X := by
  refine mm_met hst0 (by decide) (Nat.le_of_ble_eq_true rfl) ?_
  intro p e s m args below meth c ls C hr hnt hnm hl S
  have hl : lv_has ls 3 [(0, .ref a0), (1, .ref a1)] := hl
  generalize mA M s.heap.size = A at C S ⊢
  have hx := C.hx
  have hb := C.hb
  have hk : 0 + b ≤ b := Nat.le_of_eq (Nat.zero_add b)
  have j2 : ∀ (nf : Nat) (k r : Nat) (M : mM) (H : Heap) (locs : List Loc) (ls : Array Slot) (a0 : Nat) (a1 : Nat) (x2 : Int32), k + r ≤ b → mW G A s M H locs → lv_has ls 3 [(0, .ref a0), (1, .ref a1), (2, .int x2)] → wl_X7_go_X11_2 G P X nf r M a0 a1 x2 → W p l e (mRm 18 b) s m args below meth c H locs k k (vx_MQ below (mQ G A (mRv P)) (mXC G A X) args s b b A) (F0 m 2 ls []) := by
    intro nf
    induction nf with
    | zero =>
      intro k r M H locs ls a0 a1 x2 hk S hl h
      rw [wl_X7_go_X11_2] at h
      exact h.elim
    | succ n2 ih2 =>
      intro k r M H locs ls a0 a1 x2 hk S hl h
      rw [wl_X7_go_X11_2] at h
      refine lv_iload_n hx hb dX7_go_2 rfl (lv_at hl 2 rfl) ?_
      refine lv_aload_n hx hb dX7_go_3 rfl (lv_at hl 0 rfl) ?_
      refine mm_gfi C S (ci := 8) (k := 0) rfl in_X11 (by decide) q1136 (fun _ h9 => h9) dX7_go_4 h (fun v1 h => ?_)
      refine lv_icmp_ge (tgt := 21) hx hb dX7_go_7 (by decide) (fun c9 => ?_) (fun c9 => ?_)
      · have h := h.1 c9
        exact mm_vret C S hr (Nat.le_trans (Nat.le_add_right _ _) hk) dX7_go_21 h
      · have h := h.2 c9
        refine lv_aload_n hx hb dX7_go_10 rfl (lv_at hl 0 rfl) ?_
        refine lv_aload_n hx hb dX7_go_11 rfl (lv_at hl 1 rfl) ?_
        obtain ⟨hI, h⟩ := h
        obtain ⟨b3, r4, hb9, h⟩ := h
        refine mm_U (As := [.ref a1]) (rest := []) C S hl.1 (x := ⟨"Hidecount$Node", "goOnce", "(LHidecount$Goer;)V"⟩) (owner := "Hidecount$Node") (wk_X11_goOnce hst0 h) (T := TX11) rfl hI (va_cwA 1 C.ts (mWsU q1296 q1298 q1310 q1311 q82 (lw_meth q1312)) rfl rfl rfl (C.nw q1297 rfl) ⟨by decide, by decide, by decide +kernel⟩ ⟨Nat.le_of_ble_eq_true rfl, Nat.le_of_ble_eq_true rfl⟩) rfl rfl (Nat.le_of_ble_eq_true rfl) dX7_go_12 rfl rfl hk hb9 (fun v9 M2 H locs hP S hk => ?_) (fun E q ce M9 H9 locs9 hX S9 hk9 hc9 hv9 hf9 => mm_out C S9 (fun x hx => (hnt x hx).elim) (Nat.le_trans (Nat.le_add_right _ _) hk9) hc9 hv9 hf9 hX)
        obtain ⟨rfl, h⟩ := hP
        refine W.eq (g2 := F0 m 15 ls []) rfl ?_
        refine lv_iinc (v := (x2 + 1)) (lv' := [(2, .int (x2 + 1)), (0, .ref a0), (1, .ref a1)]) hx hb dX7_go_15 hl (k := 2) rfl rfl (by decide) rfl (fun ls hl => ?_)
        refine lv_goto (tgt := 2) hx hb dX7_go_18 (by decide) ?_
        exact ih2 _ _ _ _ _ _ _ _ _ hk S (lv_sub hl [1, 2, 0] rfl) h
  unfold wp_X7_go_X11 at h
  refine lv_iconst (v := 0) hx hb dX7_go_0 (by decide) ?_
  refine lv_istore_n (lv' := [(2, .int 0), (0, .ref a0), (1, .ref a1)]) hx hb dX7_go_1 rfl hl (by decide) rfl (fun ls hl => ?_)
  obtain ⟨nf, h⟩ := h
  exact j2 nf _ _ _ _ _ _ _ _ _ hk S (lv_sub hl [1, 2, 0] rfl) h
/-! X7_go_X8: level 33, alloc, throws Hidecount$StepFault -/
def wl_X7_go_X8_2 (R_X8_goOnce : mG → Nat → (mM → Prop) → (String → Nat → mM → Prop) → mM → Nat → Nat → Prop) (G : mG) (P : mM → Prop) (X : String → Nat → mM → Prop) : Nat → Nat → mM → Nat → Nat → Int32 → Prop
  | 0, _, _, _, _, _ => False
  | n + 1, r, M, a0, a1, x2 => gfi M a0 6 0 fun v1 => (v1 ≤ x2 → P M) ∧ (¬ v1 ≤ x2 → isc M a0 6 ∧ (∃ b3 r4 : Nat, b3 + r4 = r ∧ R_X8_goOnce G b3 (fun M2 => (wl_X7_go_X8_2 R_X8_goOnce G P X n) r4 M2 a0 a1 (x2 + 1)) X M a0 a1))
def wp_X7_go_X8 (R_X8_goOnce : mG → Nat → (mM → Prop) → (String → Nat → mM → Prop) → mM → Nat → Nat → Prop) (G : mG) (b : Nat) (P : mM → Prop) (X : String → Nat → mM → Prop) (M : mM) (a0 : Nat) (a1 : Nat) : Prop :=
  ∃ n2, wl_X7_go_X8_2 R_X8_goOnce G P X n2 b M a0 a1 0
set_option maxHeartbeats 4000000 in
set_option maxRecDepth 100000 in
theorem wks_X7_go_X8 {l : Launch} (hst0 : l.stackTraces = false) {Lr : Nat} (hLr : 19 ≤ Lr) {R_X8_goOnce : mG → Nat → (mM → Prop) → (String → Nat → mM → Prop) → mM → Nat → Nat → Prop} (hrec_X8_goOnce : ∀ {G : mG} {b : Nat} {P : mM → Prop} {X : String → Nat → mM → Prop} {M : mM} {a0 : Nat} {a1 : Nat}, R_X8_goOnce G b P X M a0 a1 → mMet l yX8_goOnce (ws_ yX8_goOnce cX8_goOnce 4 (Option.none : Option Jvm.ClassFile.FieldType)) Lr b G [.ref a0, .ref a1] M (mRv P) X) {G : mG} {b : Nat} {P : mM → Prop} {X : String → Nat → mM → Prop} {M : mM} {a0 : Nat} {a1 : Nat} (h : wp_X7_go_X8 R_X8_goOnce G b P X M a0 a1) : mMet l yX7_go (ws_ yX7_go cX7_go 3 (Option.none : Option Jvm.ClassFile.FieldType)) (Lr + 1) b G [.ref a0, .ref a1] M (mRv P) X := by
  refine mm_met hst0 (by decide) (Nat.le_of_ble_eq_true rfl) ?_
  intro p e s m args below meth c ls C hr hnt hnm hl S
  have hl : lv_has ls 3 [(0, .ref a0), (1, .ref a1)] := hl
  generalize mA M s.heap.size = A at C S ⊢
  have hx := C.hx
  have hb := C.hb
  have hk : 0 + b ≤ b := Nat.le_of_eq (Nat.zero_add b)
  have j2 : ∀ (nf : Nat) (k r : Nat) (M : mM) (H : Heap) (locs : List Loc) (ls : Array Slot) (a0 : Nat) (a1 : Nat) (x2 : Int32), k + r ≤ b → mW G A s M H locs → lv_has ls 3 [(0, .ref a0), (1, .ref a1), (2, .int x2)] → wl_X7_go_X8_2 R_X8_goOnce G P X nf r M a0 a1 x2 → W p l e (mRm (Lr + 1) b) s m args below meth c H locs k k (vx_MQ below (mQ G A (mRv P)) (mXC G A X) args s b b A) (F0 m 2 ls []) := by
    intro nf
    induction nf with
    | zero =>
      intro k r M H locs ls a0 a1 x2 hk S hl h
      rw [wl_X7_go_X8_2] at h
      exact h.elim
    | succ n2 ih2 =>
      intro k r M H locs ls a0 a1 x2 hk S hl h
      rw [wl_X7_go_X8_2] at h
      refine lv_iload_n hx hb dX7_go_2 rfl (lv_at hl 2 rfl) ?_
      refine lv_aload_n hx hb dX7_go_3 rfl (lv_at hl 0 rfl) ?_
      refine mm_gfi C S (ci := 6) (k := 0) rfl in_X8 (by decide) q1136 (fun _ h9 => h9) dX7_go_4 h (fun v1 h => ?_)
      refine lv_icmp_ge (tgt := 21) hx hb dX7_go_7 (by decide) (fun c9 => ?_) (fun c9 => ?_)
      · have h := h.1 c9
        exact mm_vret C S hr (Nat.le_trans (Nat.le_add_right _ _) hk) dX7_go_21 h
      · have h := h.2 c9
        refine lv_aload_n hx hb dX7_go_10 rfl (lv_at hl 0 rfl) ?_
        refine lv_aload_n hx hb dX7_go_11 rfl (lv_at hl 1 rfl) ?_
        obtain ⟨hI, h⟩ := h
        obtain ⟨b3, r4, hb9, h⟩ := h
        refine mm_U (As := [.ref a1]) (rest := []) C S hl.1 (x := ⟨"Hidecount$Node", "goOnce", "(LHidecount$Goer;)V"⟩) (owner := "Hidecount$Node") (hrec_X8_goOnce h) (T := TX8) rfl hI (va_cwA 1 C.ts (mWsU q1296 q1298 q1299 q1300 q78 (lw_meth q1301)) rfl rfl rfl (C.nw q1297 rfl) ⟨by decide, by decide, by decide +kernel⟩ ⟨by simp only [mRm]; omega, by simp only [mRm]; omega⟩) rfl rfl (Nat.le_of_ble_eq_true rfl) dX7_go_12 rfl rfl hk hb9 (fun v9 M2 H locs hP S hk => ?_) (fun E q ce M9 H9 locs9 hX S9 hk9 hc9 hv9 hf9 => mm_out C S9 (fun x hx => (hnt x hx).elim) (Nat.le_trans (Nat.le_add_right _ _) hk9) hc9 hv9 hf9 hX)
        obtain ⟨rfl, h⟩ := hP
        refine W.eq (g2 := F0 m 15 ls []) rfl ?_
        refine lv_iinc (v := (x2 + 1)) (lv' := [(2, .int (x2 + 1)), (0, .ref a0), (1, .ref a1)]) hx hb dX7_go_15 hl (k := 2) rfl rfl (by decide) rfl (fun ls hl => ?_)
        refine lv_goto (tgt := 2) hx hb dX7_go_18 (by decide) ?_
        exact ih2 _ _ _ _ _ _ _ _ _ hk S (lv_sub hl [1, 2, 0] rfl) h
  unfold wp_X7_go_X8 at h
  refine lv_iconst (v := 0) hx hb dX7_go_0 (by decide) ?_
  refine lv_istore_n (lv' := [(2, .int 0), (0, .ref a0), (1, .ref a1)]) hx hb dX7_go_1 rfl hl (by decide) rfl (fun ls hl => ?_)
  obtain ⟨nf, h⟩ := h
  exact j2 nf _ _ _ _ _ _ _ _ _ hk S (lv_sub hl [1, 2, 0] rfl) h
def wl_X8_goOnce_10 (R_X7_go_X8 : mG → Nat → (mM → Prop) → (String → Nat → mM → Prop) → mM → Nat → Nat → Prop) (G : mG) (P : mM → Prop) (X : String → Nat → mM → Prop) : Nat → Nat → mM → Nat → Nat → Prop
  | 0, _, _, _, _ => False
  | n + 1, r, M, a1, a2 => isc M a2 20 ∧ (wp_J23_hasNext G 0 (fun v7 M6 => (v7 = 0 → P M6) ∧ (¬ v7 = 0 → isc M6 a2 20 ∧ (wp_J23_next G 0 (fun u9 M8 => (isc M8 u9 8 ∨ isc M8 u9 6) ∧ ((isc M8 u9 8 ∧ (∃ b11 r12 : Nat, b11 + r12 = r ∧ wp_X7_go_X11 G b11 (fun M10 => (wl_X8_goOnce_10 R_X7_go_X8 G P X n) r12 M10 a1 a2) X M8 u9 a1)) ∨ (isc M8 u9 6 ∧ (∃ b14 r15 : Nat, b14 + r15 = r ∧ R_X7_go_X8 G b14 (fun M13 => (wl_X8_goOnce_10 R_X7_go_X8 G P X n) r15 M13 a1 a2) X M8 u9 a1)))) M6 a2))) M a2)
def wp_X8_goOnce (R_X7_go_X8 : mG → Nat → (mM → Prop) → (String → Nat → mM → Prop) → mM → Nat → Nat → Prop) (G : mG) (b : Nat) (P : mM → Prop) (X : String → Nat → mM → Prop) (M : mM) (a0 : Nat) (a1 : Nat) : Prop :=
  gfa M a0 6 1 fun u1 => isc M u1 16 ∧ (∃ b3 r4 : Nat, b3 + r4 = b ∧ wp_J2_iterator G b3 (fun u5 M2 => ∃ n10, wl_X8_goOnce_10 R_X7_go_X8 G P X n10 r4 M2 a1 u5) M u1)
set_option maxHeartbeats 4000000 in
set_option maxRecDepth 100000 in
theorem wks_X8_goOnce {l : Launch} (hst0 : l.stackTraces = false) {Lr : Nat} (hLr : 19 ≤ Lr) {R_X7_go_X8 : mG → Nat → (mM → Prop) → (String → Nat → mM → Prop) → mM → Nat → Nat → Prop} (hrec_X7_go_X8 : ∀ {G : mG} {b : Nat} {P : mM → Prop} {X : String → Nat → mM → Prop} {M : mM} {a0 : Nat} {a1 : Nat}, R_X7_go_X8 G b P X M a0 a1 → mMet l yX7_go (ws_ yX7_go cX7_go 3 (Option.none : Option Jvm.ClassFile.FieldType)) Lr b G [.ref a0, .ref a1] M (mRv P) X) {G : mG} {b : Nat} {P : mM → Prop} {X : String → Nat → mM → Prop} {M : mM} {a0 : Nat} {a1 : Nat} (h : wp_X8_goOnce R_X7_go_X8 G b P X M a0 a1) : mMet l yX8_goOnce (ws_ yX8_goOnce cX8_goOnce 4 (Option.none : Option Jvm.ClassFile.FieldType)) (Lr + 1) b G [.ref a0, .ref a1] M (mRv P) X := by
  refine mm_met hst0 (by decide) (Nat.le_of_ble_eq_true rfl) ?_
  intro p e s m args below meth c ls C hr hnt hnm hl S
  have hl : lv_has ls 4 [(0, .ref a0), (1, .ref a1)] := hl
  generalize mA M s.heap.size = A at C S ⊢
  have hx := C.hx
  have hb := C.hb
  have hk : 0 + b ≤ b := Nat.le_of_eq (Nat.zero_add b)
  have j10 : ∀ (nf : Nat) (k r : Nat) (M : mM) (H : Heap) (locs : List Loc) (ls : Array Slot) (a1 : Nat) (a2 : Nat), k + r ≤ b → mW G A s M H locs → lv_has ls 4 [(1, .ref a1), (2, .ref a2)] → wl_X8_goOnce_10 R_X7_go_X8 G P X nf r M a1 a2 → W p l e (mRm (Lr + 1) b) s m args below meth c H locs k k (vx_MQ below (mQ G A (mRv P)) (mXC G A X) args s b b A) (F0 m 10 ls []) := by
    intro nf
    induction nf with
    | zero =>
      intro k r M H locs ls a1 a2 hk S hl h
      rw [wl_X8_goOnce_10] at h
      exact h.elim
    | succ n10 ih10 =>
      intro k r M H locs ls a1 a2 hk S hl h
      rw [wl_X8_goOnce_10] at h
      refine lv_aload_n hx hb dX8_goOnce_10 rfl (lv_at hl 1 rfl) ?_
      obtain ⟨hI, h⟩ := h
      refine mm_F (As := []) (rest := []) C S hl.1 (x := ⟨"java/util/Iterator", "hasNext", "()Z"⟩) (wk_J23_hasNext hst0 h) (T := TJ23) rfl hI (mWsF q1305 q383 q385 q85 (lw_meth q387)) (by decide +kernel) pdi_7 ⟨by simp only [mRm]; omega, by simp only [mRm]; omega⟩ rfl rfl (Nat.le_of_ble_eq_true rfl) dX8_goOnce_11 rfl rfl hk (Nat.zero_add _) (fun v9 M6 H locs hP S hk => ?_) (fun E q ce M9 H9 locs9 hX => hX.elim)
      obtain ⟨v7, rfl, h⟩ := hP
      refine W.eq (g2 := F0 m 16 ls [.int v7]) rfl ?_
      refine lv_if_eq (tgt := 37) hx hb dX8_goOnce_16 (by decide) (fun c9 => ?_) (fun c9 => ?_)
      · have h := h.1 c9
        exact mm_vret C S hr (Nat.le_trans (Nat.le_add_right _ _) hk) dX8_goOnce_37 h
      · have h := h.2 c9
        refine lv_aload_n hx hb dX8_goOnce_19 rfl (lv_at hl 1 rfl) ?_
        obtain ⟨hI, h⟩ := h
        refine mm_F (As := []) (rest := []) C S hl.1 (x := ⟨"java/util/Iterator", "next", "()Ljava/lang/Object;"⟩) (wk_J23_next hst0 h) (T := TJ23) rfl hI (mWsF q1307 q392 q394 q85 (lw_meth q396)) (by decide +kernel) pdi_6 ⟨by simp only [mRm]; omega, by simp only [mRm]; omega⟩ rfl rfl (Nat.le_of_ble_eq_true rfl) dX8_goOnce_20 rfl rfl hk (Nat.zero_add _) (fun v9 M8 H locs hP S hk => ?_) (fun E q ce M9 H9 locs9 hX => hX.elim)
        obtain ⟨u9, rfl, h⟩ := hP
        refine W.eq (g2 := F0 m 25 ls [.ref u9]) rfl ?_
        refine mm_castY2 C S (c1 := 8) (c2 := 6) (T1 := TX11) (T2 := TX8) rfl rfl q1308 q2097 q2096 h.1 dX8_goOnce_25 ?_
        have h := h.2
        refine lv_astore_n (lv' := [(3, .ref u9), (1, .ref a1), (2, .ref a2)]) hx hb dX8_goOnce_28 rfl hl (by decide) rfl (fun ls hl => ?_)
        refine lv_aload_n hx hb dX8_goOnce_29 rfl (lv_at hl 0 rfl) ?_
        refine lv_aload_n hx hb dX8_goOnce_30 rfl (lv_at hl 1 rfl) ?_
        rcases h with h | h
        · obtain ⟨hI, h⟩ := h
          obtain ⟨b11, r12, hb9, h⟩ := h
          refine mm_U (As := [.ref a1]) (rest := []) C S hl.1 (x := ⟨"Hidecount$Node", "go", "(LHidecount$Goer;)V"⟩) (owner := "Hidecount$Node") (wk_X7_go_X11 hst0 h) (T := TX11) rfl hI (va_cwU 1 C.ts (mWsU q1309 q2088 q2090 q1294 q77 (lw_meth q1295)) rfl rfl rfl rfl ⟨by decide, by decide, by decide +kernel⟩ ⟨by simp only [mRm]; omega, by simp only [mRm]; omega⟩) rfl rfl (Nat.le_of_ble_eq_true rfl) dX8_goOnce_31 rfl rfl hk hb9 (fun v9 M10 H locs hP S hk => ?_) (fun E q ce M9 H9 locs9 hX S9 hk9 hc9 hv9 hf9 => mm_out C S9 (fun x hx => (hnt x hx).elim) (Nat.le_trans (Nat.le_add_right _ _) hk9) hc9 hv9 hf9 hX)
          obtain ⟨rfl, h⟩ := hP
          refine W.eq (g2 := F0 m 34 ls []) rfl ?_
          refine lv_goto (tgt := 10) hx hb dX8_goOnce_34 (by decide) ?_
          exact ih10 _ _ _ _ _ _ _ _ hk S (lv_sub hl [1, 2] rfl) h
        · obtain ⟨hI, h⟩ := h
          obtain ⟨b14, r15, hb9, h⟩ := h
          refine mm_U (As := [.ref a1]) (rest := []) C S hl.1 (x := ⟨"Hidecount$Node", "go", "(LHidecount$Goer;)V"⟩) (owner := "Hidecount$Node") (hrec_X7_go_X8 h) (T := TX8) rfl hI (va_cwU 1 C.ts (mWsU q1309 q2088 q2089 q1294 q77 (lw_meth q1295)) rfl rfl rfl rfl ⟨by decide, by decide, by decide +kernel⟩ ⟨by simp only [mRm]; omega, by simp only [mRm]; omega⟩) rfl rfl (Nat.le_of_ble_eq_true rfl) dX8_goOnce_31 rfl rfl hk hb9 (fun v9 M13 H locs hP S hk => ?_) (fun E q ce M9 H9 locs9 hX S9 hk9 hc9 hv9 hf9 => mm_out C S9 (fun x hx => (hnt x hx).elim) (Nat.le_trans (Nat.le_add_right _ _) hk9) hc9 hv9 hf9 hX)
          obtain ⟨rfl, h⟩ := hP
          refine W.eq (g2 := F0 m 34 ls []) rfl ?_
          refine lv_goto (tgt := 10) hx hb dX8_goOnce_34 (by decide) ?_
          exact ih10 _ _ _ _ _ _ _ _ hk S (lv_sub hl [1, 2] rfl) h
  unfold wp_X8_goOnce at h
  refine lv_aload_n hx hb dX8_goOnce_0 rfl (lv_at hl 0 rfl) ?_
  refine mm_gfa C S (ci := 6) (k := 1) rfl in_X8 (by decide) q1134 (fun _ h9 => h9) dX8_goOnce_1 h (fun u1 h => ?_)
  obtain ⟨hI, h⟩ := h
  obtain ⟨b3, r4, hb9, h⟩ := h
  refine mm_F (As := []) (rest := []) C S hl.1 (x := ⟨"java/util/List", "iterator", "()Ljava/util/Iterator;"⟩) (wk_J2_iterator hst0 h) (T := TJ2) rfl hI (mWsF q1303 q354 q356 q51 (lw_meth q358)) (by decide +kernel) pdi_5 ⟨by simp only [mRm]; omega, by simp only [mRm]; omega⟩ rfl rfl (Nat.le_of_ble_eq_true rfl) dX8_goOnce_4 rfl rfl hk hb9 (fun v9 M2 H locs hP S hk => ?_) (fun E q ce M9 H9 locs9 hX => hX.elim)
  obtain ⟨u5, rfl, h⟩ := hP
  refine W.eq (g2 := F0 m 9 ls [.ref u5]) rfl ?_
  refine lv_astore_n (lv' := [(2, .ref u5), (0, .ref a0), (1, .ref a1)]) hx hb dX8_goOnce_9 rfl hl (by decide) rfl (fun ls hl => ?_)
  obtain ⟨nf, h⟩ := h
  exact j10 nf _ _ _ _ _ _ _ _ hk S (lv_sub hl [2, 0] rfl) h
def wR_X7_go_X8_X8_goOnce : Nat → (mG → Nat → (mM → Prop) → (String → Nat → mM → Prop) → mM → Nat → Nat → Prop) × (mG → Nat → (mM → Prop) → (String → Nat → mM → Prop) → mM → Nat → Nat → Prop)
  | 0 => (fun _ _ _ _ _ _ _ => False, fun _ _ _ _ _ _ _ => False)
  | d + 1 => (wp_X7_go_X8 (wR_X7_go_X8_X8_goOnce d).2, wp_X8_goOnce (wR_X7_go_X8_X8_goOnce d).1)
def wr_X7_go_X8 (d : Nat) : mG → Nat → (mM → Prop) → (String → Nat → mM → Prop) → mM → Nat → Nat → Prop := (wR_X7_go_X8_X8_goOnce d).1
def wr_X8_goOnce (d : Nat) : mG → Nat → (mM → Prop) → (String → Nat → mM → Prop) → mM → Nat → Nat → Prop := (wR_X7_go_X8_X8_goOnce d).2
theorem wK_X7_go_X8_X8_goOnce {l : Launch} (hst0 : l.stackTraces = false) : ∀ d : Nat, (∀ {G : mG} {b : Nat} {P : mM → Prop} {X : String → Nat → mM → Prop} {M : mM} {a0 : Nat} {a1 : Nat}, wr_X7_go_X8 d G b P X M a0 a1 → mMet l yX7_go (ws_ yX7_go cX7_go 3 (Option.none : Option Jvm.ClassFile.FieldType)) (19 + d) b G [.ref a0, .ref a1] M (mRv P) X) ∧ (∀ {G : mG} {b : Nat} {P : mM → Prop} {X : String → Nat → mM → Prop} {M : mM} {a0 : Nat} {a1 : Nat}, wr_X8_goOnce d G b P X M a0 a1 → mMet l yX8_goOnce (ws_ yX8_goOnce cX8_goOnce 4 (Option.none : Option Jvm.ClassFile.FieldType)) (19 + d) b G [.ref a0, .ref a1] M (mRv P) X) ∧ True
  | 0 => ⟨fun h => h.elim, fun h => h.elim, trivial⟩
  | d + 1 => by
    have ih := wK_X7_go_X8_X8_goOnce hst0 d
    exact ⟨fun h => wks_X7_go_X8 hst0 (Lr := 19 + d) (by omega) (fun h => (ih.2.1) h) h, fun h => wks_X8_goOnce hst0 (Lr := 19 + d) (by omega) (fun h => (ih.1) h) h, trivial⟩
theorem wk_X7_go_X8 {l : Launch} (hst0 : l.stackTraces = false) {G : mG} {b : Nat} {P : mM → Prop} {X : String → Nat → mM → Prop} {M : mM} {a0 : Nat} {a1 : Nat} (h : wr_X7_go_X8 14 G b P X M a0 a1) : mMet l yX7_go (ws_ yX7_go cX7_go 3 (Option.none : Option Jvm.ClassFile.FieldType)) 33 b G [.ref a0, .ref a1] M (mRv P) X := (wK_X7_go_X8_X8_goOnce hst0 14).1 h
theorem wk_X8_goOnce {l : Launch} (hst0 : l.stackTraces = false) {G : mG} {b : Nat} {P : mM → Prop} {X : String → Nat → mM → Prop} {M : mM} {a0 : Nat} {a1 : Nat} (h : wr_X8_goOnce 14 G b P X M a0 a1) : mMet l yX8_goOnce (ws_ yX8_goOnce cX8_goOnce 4 (Option.none : Option Jvm.ClassFile.FieldType)) 33 b G [.ref a0, .ref a1] M (mRv P) X := (wK_X7_go_X8_X8_goOnce hst0 14).2.1 h
/-! X8_goOnce: level 33, alloc, throws Hidecount$StepFault -/
/-! X14_init: level 13, alloc -/
def wl_X14_init_18 (G : mG) (P : mM → Prop) : Nat → Nat → mM → Nat → Nat → Int32 → Prop
  | 0, _, _, _, _, _ => False
  | n + 1, r, M, a0, a1, x2 => gfa M a0 11 0 fun u7 => aln M u7 fun v8 => (v8 ≤ x2 → P M) ∧ (¬ v8 ≤ x2 → gfa M a0 11 0 fun u9 => isc M a1 16 ∧ (wp_J2_get G 0 (fun u11 M10 => isc M10 u11 19 ∧ (isc M10 u11 19 ∧ (wp_J21_intValue G 0 (fun v13 M12 => sti M12 0 u9 x2 v13 fun M14 => (wl_X14_init_18 G P n) r M14 a0 a1 (x2 + 1)) M10 u11))) M a1 x2))
def wp_X14_init (G : mG) (b : Nat) (P : mM → Prop) (M : mM) (a0 : Nat) (a1 : Nat) : Prop :=
  isc M a1 16 ∧ (wp_J2_size G 0 (fun v2 M1 => nwa M1 b 0 v2 (.inl fun _ => 0) fun u3 M4 r5 => pfq M4 a0 11 0 (some u3) fun M6 => ∃ n18, wl_X14_init_18 G P n18 r5 M6 a0 a1 0) M a1)
set_option maxHeartbeats 4000000 in
set_option maxRecDepth 100000 in
theorem wk_X14_init {l : Launch} (hst0 : l.stackTraces = false) {G : mG} {b : Nat} {P : mM → Prop} {M : mM} {a0 : Nat} {a1 : Nat} (h : wp_X14_init G b P M a0 a1) : mMet l yX14_init (ws_ yX14_init cX14_init 3 (Option.none : Option Jvm.ClassFile.FieldType)) 13 b G [.ref a0, .ref a1] M (mRv P) (fun _ _ _ => False) := by
  refine mm_met hst0 (by decide) (Nat.le_of_ble_eq_true rfl) ?_
  intro p e s m args below meth c ls C hr hnt hnm hl S
  have hl : lv_has ls 3 [(0, .ref a0), (1, .ref a1)] := hl
  generalize mA M s.heap.size = A at C S ⊢
  have hx := C.hx
  have hb := C.hb
  have hk : 0 + b ≤ b := Nat.le_of_eq (Nat.zero_add b)
  have j18 : ∀ (nf : Nat) (k r : Nat) (M : mM) (H : Heap) (locs : List Loc) (ls : Array Slot) (a0 : Nat) (a1 : Nat) (x2 : Int32), k + r ≤ b → mW G A s M H locs → lv_has ls 3 [(0, .ref a0), (1, .ref a1), (2, .int x2)] → wl_X14_init_18 G P nf r M a0 a1 x2 → W p l e (mRm 13 b) s m args below meth c H locs k k (vx_MQ below (mQ G A (mRv P)) (mXC G A (fun _ _ _ => False)) args s b b A) (F0 m 18 ls []) := by
    intro nf
    induction nf with
    | zero =>
      intro k r M H locs ls a0 a1 x2 hk S hl h
      rw [wl_X14_init_18] at h
      exact h.elim
    | succ n18 ih18 =>
      intro k r M H locs ls a0 a1 x2 hk S hl h
      rw [wl_X14_init_18] at h
      refine lv_iload_n hx hb dX14_init_18 rfl (lv_at hl 2 rfl) ?_
      refine lv_aload_n hx hb dX14_init_19 rfl (lv_at hl 0 rfl) ?_
      refine mm_gfa C S (ci := 11) (k := 0) rfl in_X14 (by decide) q1358 (fun _ h9 => h9) dX14_init_20 h (fun u7 h => ?_)
      refine mm_alen C S h dX14_init_23 (fun v8 h => ?_)
      refine lv_icmp_ge (tgt := 52) hx hb dX14_init_24 (by decide) (fun c9 => ?_) (fun c9 => ?_)
      · have h := h.1 c9
        exact mm_vret C S hr (Nat.le_trans (Nat.le_add_right _ _) hk) dX14_init_52 h
      · have h := h.2 c9
        refine lv_aload_n hx hb dX14_init_27 rfl (lv_at hl 0 rfl) ?_
        refine mm_gfa C S (ci := 11) (k := 0) rfl in_X14 (by decide) q1358 (fun _ h9 => h9) dX14_init_28 h (fun u9 h => ?_)
        refine lv_iload_n hx hb dX14_init_31 rfl (lv_at hl 2 rfl) ?_
        refine lv_aload_n hx hb dX14_init_32 rfl (lv_at hl 1 rfl) ?_
        refine lv_iload_n hx hb dX14_init_33 rfl (lv_at hl 2 rfl) ?_
        obtain ⟨hI, h⟩ := h
        refine mm_F (As := [.int x2]) (rest := [.int x2, .ref u9]) C S hl.1 (x := ⟨"java/util/List", "get", "(I)Ljava/lang/Object;"⟩) (wk_J2_get hst0 h) (T := TJ2) rfl hI (mWsF q1355 q297 q299 q51 (lw_meth q301)) (by decide +kernel) pdi_4 ⟨Nat.le_of_ble_eq_true rfl, Nat.le_of_ble_eq_true rfl⟩ rfl rfl (Nat.le_of_ble_eq_true rfl) dX14_init_34 rfl rfl hk (Nat.zero_add _) (fun v9 M10 H locs hP S hk => ?_) (fun E q ce M9 H9 locs9 hX => hX.elim)
        obtain ⟨u11, rfl, h⟩ := hP
        refine W.eq (g2 := F0 m 39 ls [.ref u11, .int x2, .ref u9]) rfl ?_
        refine mm_castS C S (ci := 19) (T := TJ21) rfl rfl q1356 h.1 dX14_init_39 ?_
        have h := h.2
        obtain ⟨hI, h⟩ := h
        refine mm_V (As := []) (rest := [.int x2, .ref u9]) C S hl.1 (wk_J21_intValue hst0 h) (T := TJ21) rfl hI (lw_V q1357 q1327 q1328 q76 q1329) rfl pd_J21_intValue ⟨Nat.le_of_ble_eq_true rfl, Nat.le_of_ble_eq_true rfl⟩ rfl rfl (Nat.le_of_ble_eq_true rfl) dX14_init_42 rfl rfl hk (Nat.zero_add _) (fun v9 M12 H locs hP S hk => ?_) (fun E q ce M9 H9 locs9 hX => hX.elim)
        obtain ⟨v13, rfl, h⟩ := hP
        refine W.eq (g2 := F0 m 45 ls [.int v13, .int x2, .ref u9]) rfl ?_
        refine mm_iast C S h dX14_init_45 (fun M14 H locs h S => ?_)
        refine lv_iinc (v := (x2 + 1)) (lv' := [(2, .int (x2 + 1)), (0, .ref a0), (1, .ref a1)]) hx hb dX14_init_46 hl (k := 2) rfl rfl (by decide) rfl (fun ls hl => ?_)
        refine lv_goto (tgt := 18) hx hb dX14_init_49 (by decide) ?_
        exact ih18 _ _ _ _ _ _ _ _ _ hk S (lv_sub hl [1, 2, 0] rfl) h
  unfold wp_X14_init at h
  refine lv_aload_n hx hb dX14_init_0 rfl (lv_at hl 0 rfl) ?_
  refine mm_init C hl.1 q1351 q100 q101 dX14_init_1 (Nat.le_of_ble_eq_true rfl) (Nat.le_of_ble_eq_true rfl) ?_
  refine lv_aload_n hx hb dX14_init_4 rfl (lv_at hl 0 rfl) ?_
  refine lv_aload_n hx hb dX14_init_5 rfl (lv_at hl 1 rfl) ?_
  obtain ⟨hI, h⟩ := h
  refine mm_F (As := []) (rest := [.ref a0]) C S hl.1 (x := ⟨"java/util/List", "size", "()I"⟩) (wk_J2_size hst0 h) (T := TJ2) rfl hI (mWsF q1353 q288 q290 q51 (lw_meth q292)) (by decide +kernel) pdi_2 ⟨Nat.le_of_ble_eq_true rfl, Nat.le_of_ble_eq_true rfl⟩ rfl rfl (Nat.le_of_ble_eq_true rfl) dX14_init_6 rfl rfl hk (Nat.zero_add _) (fun v9 M1 H locs hP S hk => ?_) (fun E q ce M9 H9 locs9 hX => hX.elim)
  obtain ⟨v2, rfl, h⟩ := hP
  refine W.eq (g2 := F0 m 11 ls [.int v2, .ref a0]) rfl ?_
  refine mm_newa C S (t := 0) (ty := .int) (atype := .int) rfl rfl (by decide) q135 (fun _ h9 => h9) (fun _ => rfl) (by decide) dX14_init_11 rfl rfl hk h (fun u3 M4 r5 k H h S hk => ?_)
  refine mm_pfqF C S (ci := 11) (k := 0) (v := (some u3)) rfl in_X14 tyX14_ok nmX14 (by decide) q1358 (fun _ h9 => h9) rfl (hnm.trans rfl) rfl dX14_init_13 rfl h (fun M6 H locs h S => ?_)
  refine lv_iconst (v := 0) hx hb dX14_init_16 (by decide) ?_
  refine lv_istore_n (lv' := [(2, .int 0), (0, .ref a0), (1, .ref a1)]) hx hb dX14_init_17 rfl hl (by decide) rfl (fun ls hl => ?_)
  obtain ⟨nf, h⟩ := h
  exact j18 nf _ _ _ _ _ _ _ _ _ hk S (lv_sub hl [1, 2, 0] rfl) h
/-! X15_init: level 12 -/
def wp_X15_init (G : mG) (b : Nat) (P : mM → Prop) (M : mM) (a0 : Nat) (a1 : Nat) : Prop :=
  wp_J8_init_3_X15 G 0 (fun M1 => P M1) M a0 a1 0 0
set_option maxHeartbeats 4000000 in
set_option maxRecDepth 100000 in
theorem wk_X15_init {l : Launch} (hst0 : l.stackTraces = false) {G : mG} {b : Nat} {P : mM → Prop} {M : mM} {a0 : Nat} {a1 : Nat} (h : wp_X15_init G b P M a0 a1) : mMet l yX15_init (ws_ yX15_init cX15_init 2 (Option.none : Option Jvm.ClassFile.FieldType)) 12 b G [.ref a0, .ref a1] M (mRv P) (fun _ _ _ => False) := by
  refine mm_met hst0 (by decide) (Nat.le_of_ble_eq_true rfl) ?_
  intro p e s m args below meth c ls C hr hnt hnm hl S
  have hl : lv_has ls 2 [(0, .ref a0), (1, .ref a1)] := hl
  generalize mA M s.heap.size = A at C S ⊢
  have hx := C.hx
  have hb := C.hb
  have hk : 0 + b ≤ b := Nat.le_of_eq (Nat.zero_add b)
  unfold wp_X15_init at h
  refine lv_aload_n hx hb dX15_init_0 rfl (lv_at hl 0 rfl) ?_
  refine lv_null hx hb dX15_init_1 ?_
  refine lv_aload_n hx hb dX15_init_2 rfl (lv_at hl 1 rfl) ?_
  refine lv_iconst (v := 0) hx hb dX15_init_3 (by decide) ?_
  refine lv_iconst (v := 0) hx hb dX15_init_4 (by decide) ?_
  refine mm_I (As := [.null, .ref a1, .int 0, .int 0]) (rest := []) C S hl.1 (wk_J8_init_3_X15 hst0 h) q1221 q60 q1426 q1220 rfl pd_J8_init_3 ⟨Nat.le_of_ble_eq_true rfl, Nat.le_of_ble_eq_true rfl⟩ rfl rfl (Nat.le_of_ble_eq_true rfl) dX15_init_5 rfl rfl hk (Nat.zero_add _) (fun v9 M1 H locs hP S hk => ?_) (fun E q ce M9 H9 locs9 hX => hX.elim)
  obtain ⟨rfl, h⟩ := hP
  refine W.eq (g2 := F0 m 8 ls []) rfl ?_
  exact mm_vret C S hr (Nat.le_trans (Nat.le_add_right _ _) hk) dX15_init_8 h
/-! X1_readRoute: level 34, alloc, throws Hidecount$RouteException -/
def wb_X1_readRoute_66 (G : mG) (P : Nat → mM → Prop) (X : String → Nat → mM → Prop) (r : Nat) (M : mM) (a0 : Nat) (s0 : Nat) : Prop :=
  gfa M a0 0 12 fun u42 => isc M u42 17 ∧ (∃ b44 r45 : Nat, b44 + r45 = r ∧ wp_J4_setLength G b44 (fun M43 => ist M43 s0 12 ∧ X "Hidecount$RouteException" s0 M43) M u42 0)
def wb_X1_readRoute_56 (G : mG) (P : Nat → mM → Prop) (X : String → Nat → mM → Prop) (r : Nat) (M : mM) (a0 : Nat) (s0 : Nat) : Prop :=
  nwo M r 12 6 dfsX15 fun u38 M39 r40 => wp_X15_init G 0 (fun M41 => ist M41 u38 12 ∧ (wb_X1_readRoute_66 G P X r40 M41 a0 u38)) M39 u38 s0
def wp_X1_readRoute (G : mG) (b : Nat) (P : Nat → mM → Prop) (X : String → Nat → mM → Prop) (M : mM) (a0 : Nat) (x1 : Int32) : Prop :=
  nwo M b 5 2 dfsX6 fun u1 M2 r3 => gfa M2 a0 0 12 fun u4 => isc M2 u4 17 ∧ (∃ b6 r7 : Nat, b6 + r7 = r3 ∧ wp_J4_toString G b6 (fun u8 M5 => wp_X6_init G 0 (fun M9 => isc M9 u1 5 ∧ (∃ b11 r12 : Nat, b11 + r12 = r7 ∧ wp_X6_all G b11 (fun u13 M10 => nwo M10 r12 9 1 dfsX12 fun u14 M15 r16 => ∃ b18 r19 : Nat, b18 + r19 = r16 ∧ wp_X12_init G b18 (fun M17 => isc M17 u13 6 ∧ (∃ b21 r22 : Nat, b21 + r22 = r19 ∧ wr_X7_go_X8 14 G b21 (fun M20 => nwo M20 r22 11 1 dfsX14 fun u23 M24 r25 => gfa M24 u14 9 0 fun u26 => ∃ b28 r29 : Nat, b28 + r29 = r25 ∧ wp_X14_init G b28 (fun M27 => gfa M27 a0 0 12 fun u30 => isc M27 u30 17 ∧ (∃ b32 r33 : Nat, b32 + r33 = r29 ∧ wp_J4_setLength G b32 (fun M31 => P u23 M31) M27 u30 0)) M24 u23 u26) (fun E9 u34 M35 => (E9 = "Hidecount$StepFault" ∧ isc M35 u34 10 ∧ (wb_X1_readRoute_56 G P X r22 M35 a0 u34))) M17 u13 u14)) M15 u14 x1) (fun E9 u36 M37 => (E9 = "Hidecount$ReadingFault" ∧ isc M37 u36 7 ∧ (wb_X1_readRoute_56 G P X r12 M37 a0 u36))) M9 u1)) M5 u1 u8) M2 u4)
set_option maxHeartbeats 4000000 in
set_option maxRecDepth 100000 in
theorem wk_X1_readRoute {l : Launch} (hst0 : l.stackTraces = false) {G : mG} {b : Nat} {P : Nat → mM → Prop} {X : String → Nat → mM → Prop} {M : mM} {a0 : Nat} {x1 : Int32} (h : wp_X1_readRoute G b P X M a0 x1) : mMet l yX1_readRoute (wsW_ yX1_readRoute cX1_readRoute 6 (Option.some (Jvm.ClassFile.FieldType.object "Hidecount$Route")) [((0 : Nat), (45 : Nat), (56 : Nat), (227 : Nat)), ((0 : Nat), (45 : Nat), (56 : Nat), (229 : Nat)), ((0 : Nat), (45 : Nat), (66 : Nat), (0 : Nat)), ((56 : Nat), (68 : Nat), (66 : Nat), (0 : Nat))]) 34 b G [.ref a0, .int x1] M (mRa P) X := by
  refine mm_metW hst0 (by decide) (Nat.le_of_ble_eq_true rfl) ?_
  intro p e s m args below meth c ls C hr htab hnm hl S
  have hl : lv_has ls 6 [(0, .ref a0), (1, .int x1)] := hl
  generalize mA M s.heap.size = A at C S ⊢
  have hx := C.hx
  have hb := C.hb
  have hk : 0 + b ≤ b := Nat.le_of_eq (Nat.zero_add b)
  have j66 : ∀ (k r : Nat) (M : mM) (H : Heap) (locs : List Loc) (ls : Array Slot) (a0 : Nat) (s0 : Nat), k + r ≤ b → mW G A s M H locs → lv_has ls 6 [(0, .ref a0)] → wb_X1_readRoute_66 G P X r M a0 s0 → W p l e (mRm 34 b) s m args below meth c H locs k k (vx_MQ below (mQ G A (mRa P)) (mXC G A X) args s b b A) (F0 m 66 ls [.ref s0]) := by
    intro k r M H locs ls a0 s0 hk S hl h
    unfold wb_X1_readRoute_66 at h
    refine lv_astore (lv' := [(5, .ref s0), (0, .ref a0)]) hx hb dX1_readRoute_66 hl (by decide) rfl (fun ls hl => ?_)
    refine lv_aload_n hx hb dX1_readRoute_68 rfl (lv_at hl 1 rfl) ?_
    refine mm_gfa C S (ci := 0) (k := 12) rfl in_X1 (by decide) q227 (fun _ h9 => h9) dX1_readRoute_69 h (fun u42 h => ?_)
    refine lv_iconst (v := 0) hx hb dX1_readRoute_72 (by decide) ?_
    obtain ⟨hI, h⟩ := h
    obtain ⟨b44, r45, hb9, h⟩ := h
    refine mm_V (As := [.int 0]) (rest := []) C S hl.1 (wk_J4_setLength hst0 h) (T := TJ4) rfl hI (lw_V q1363 q1364 q1365 q53 q1366) rfl pd_J4_setLength ⟨Nat.le_of_ble_eq_true rfl, Nat.le_of_ble_eq_true rfl⟩ rfl rfl (Nat.le_of_ble_eq_true rfl) dX1_readRoute_73 rfl rfl hk hb9 (fun v9 M43 H locs hP S hk => ?_) (fun E q ce M9 H9 locs9 hX => hX.elim)
    obtain ⟨rfl, h⟩ := hP
    refine W.eq (g2 := F0 m 76 ls []) rfl ?_
    refine lv_aload hx hb dX1_readRoute_76 (lv_at hl 0 rfl) ?_
    exact mm_outM C S (by rw [htab]; decide) (ci := 12) (T := TX15) rfl (Nat.le_trans (Nat.le_add_right _ _) hk) dX1_readRoute_78 h
  have j56 : ∀ (k r : Nat) (M : mM) (H : Heap) (locs : List Loc) (ls : Array Slot) (a0 : Nat) (s0 : Nat), k + r ≤ b → mW G A s M H locs → lv_has ls 6 [(0, .ref a0)] → wb_X1_readRoute_56 G P X r M a0 s0 → W p l e (mRm 34 b) s m args below meth c H locs k k (vx_MQ below (mQ G A (mRa P)) (mXC G A X) args s b b A) (F0 m 56 ls [.ref s0]) := by
    intro k r M H locs ls a0 s0 hk S hl h
    unfold wb_X1_readRoute_56 at h
    refine lv_astore_n (lv' := [(2, .ref s0), (0, .ref a0)]) hx hb dX1_readRoute_56 rfl hl (by decide) rfl (fun ls hl => ?_)
    refine mm_new C S (ci := 12) (T := TX15) rfl in_X15 tyX15_ok q1015 q1415 q89 dfX15 (by decide) dX1_readRoute_57 rfl rfl hk h (fun u38 M39 r40 H h S hk => ?_)
    refine lv_dup hx hb dX1_readRoute_60 rfl ?_
    refine lv_aload_n hx hb dX1_readRoute_61 rfl (lv_at hl 0 rfl) ?_
    refine mm_I (As := [.ref s0]) (rest := [.ref u38]) C S hl.1 (wk_X15_init hst0 h) q1425 q89 q1423 q1424 rfl pd_X15_init ⟨Nat.le_of_ble_eq_true rfl, Nat.le_of_ble_eq_true rfl⟩ rfl rfl (Nat.le_of_ble_eq_true rfl) dX1_readRoute_62 rfl rfl hk (Nat.zero_add _) (fun v9 M41 H locs hP S hk => ?_) (fun E q ce M9 H9 locs9 hX => hX.elim)
    obtain ⟨rfl, h⟩ := hP
    refine W.eq (g2 := F0 m 65 ls [.ref u38]) rfl ?_
    refine mm_thrown C S (ci := 12) (T := TX15) rfl dX1_readRoute_65 h.1 (fun ce hc9 hv9 hf9 => ?_)
    have h := h.2
    refine mm_catchAny (pc := 65) [(⟨0, 45, 56, 227⟩ : ExceptionTableEntry), (⟨0, 45, 56, 229⟩ : ExceptionTableEntry), (⟨0, 45, 66, 0⟩ : ExceptionTableEntry)] (⟨56, 68, 66, 0⟩ : ExceptionTableEntry) [] htab (by decide) (by decide) rfl hc9 hv9 hf9 ?_
    exact j66 _ _ _ _ _ _ _ _ hk S (lv_sub hl [1] rfl) h
  unfold wp_X1_readRoute at h
  refine mm_new C S (ci := 5) (T := TX6) rfl in_X6 tyX6_ok q1022 q1023 q74 dfX6 (by decide) dX1_readRoute_0 rfl rfl hk h (fun u1 M2 r3 H h S hk => ?_)
  refine lv_dup hx hb dX1_readRoute_3 rfl ?_
  refine lv_aload_n hx hb dX1_readRoute_4 rfl (lv_at hl 0 rfl) ?_
  refine mm_gfa C S (ci := 0) (k := 12) rfl in_X1 (by decide) q227 (fun _ h9 => h9) dX1_readRoute_5 h (fun u4 h => ?_)
  obtain ⟨hI, h⟩ := h
  obtain ⟨b6, r7, hb9, h⟩ := h
  refine mm_V (As := []) (rest := [.ref u1, .ref u1]) C S hl.1 (wk_J4_toString hst0 h) (T := TJ4) rfl hI (lw_V q1024 q1025 q1026 q53 q1027) rfl pd_J4_toString ⟨Nat.le_of_ble_eq_true rfl, Nat.le_of_ble_eq_true rfl⟩ rfl rfl (Nat.le_of_ble_eq_true rfl) dX1_readRoute_8 rfl rfl hk hb9 (fun v9 M5 H locs hP S hk => ?_) (fun E q ce M9 H9 locs9 hX => hX.elim)
  obtain ⟨u8, rfl, h⟩ := hP
  refine W.eq (g2 := F0 m 11 ls [.ref u8, .ref u1, .ref u1]) rfl ?_
  refine mm_I (As := [.ref u8]) (rest := [.ref u1]) C S hl.1 (wk_X6_init hst0 h) q1106 q74 q1104 q1105 rfl pd_X6_init ⟨Nat.le_of_ble_eq_true rfl, Nat.le_of_ble_eq_true rfl⟩ rfl rfl (Nat.le_of_ble_eq_true rfl) dX1_readRoute_11 rfl rfl hk (Nat.zero_add _) (fun v9 M9 H locs hP S hk => ?_) (fun E q ce M9 H9 locs9 hX => hX.elim)
  obtain ⟨rfl, h⟩ := hP
  refine W.eq (g2 := F0 m 14 ls [.ref u1]) rfl ?_
  obtain ⟨hI, h⟩ := h
  obtain ⟨b11, r12, hb9, h⟩ := h
  refine mm_V (As := []) (rest := []) C S hl.1 (wk_X6_all hst0 h) (T := TX6) rfl hI (lw_V q1115 q1116 q1117 q74 q1118) rfl pd_X6_all ⟨Nat.le_of_ble_eq_true rfl, Nat.le_of_ble_eq_true rfl⟩ rfl rfl (Nat.le_of_ble_eq_true rfl) dX1_readRoute_14 rfl rfl hk hb9 (fun v9 M10 H locs hP S hk => ?_) (fun E u36 ce M37 H locs hX S hk hc9 hv9 hf9 => ?_)
  · obtain ⟨u13, rfl, h⟩ := hP
    refine W.eq (g2 := F0 m 17 ls [.ref u13]) rfl ?_
    refine lv_astore_n (lv' := [(2, .ref u13), (0, .ref a0), (1, .int x1)]) hx hb dX1_readRoute_17 rfl hl (by decide) rfl (fun ls hl => ?_)
    refine mm_new C S (ci := 9) (T := TX12) rfl in_X12 tyX12_ok q1255 q1256 q83 dfX12 (by decide) dX1_readRoute_18 rfl rfl hk h (fun u14 M15 r16 H h S hk => ?_)
    refine lv_dup hx hb dX1_readRoute_21 rfl ?_
    refine lv_iload_n hx hb dX1_readRoute_22 rfl (lv_at hl 2 rfl) ?_
    obtain ⟨b18, r19, hb9, h⟩ := h
    refine mm_I (As := [.int x1]) (rest := [.ref u14]) C S hl.1 (wk_X12_init hst0 h) q1259 q83 q1257 q1258 rfl pd_X12_init ⟨Nat.le_of_ble_eq_true rfl, Nat.le_of_ble_eq_true rfl⟩ rfl rfl (Nat.le_of_ble_eq_true rfl) dX1_readRoute_23 rfl rfl hk hb9 (fun v9 M17 H locs hP S hk => ?_) (fun E q ce M9 H9 locs9 hX => hX.elim)
    obtain ⟨rfl, h⟩ := hP
    refine W.eq (g2 := F0 m 26 ls [.ref u14]) rfl ?_
    refine lv_astore_n (lv' := [(3, .ref u14), (2, .ref u13), (0, .ref a0), (1, .int x1)]) hx hb dX1_readRoute_26 rfl hl (by decide) rfl (fun ls hl => ?_)
    refine lv_aload_n hx hb dX1_readRoute_27 rfl (lv_at hl 1 rfl) ?_
    refine lv_aload_n hx hb dX1_readRoute_28 rfl (lv_at hl 0 rfl) ?_
    obtain ⟨hI, h⟩ := h
    obtain ⟨b21, r22, hb9, h⟩ := h
    refine mm_U (As := [.ref u14]) (rest := []) C S hl.1 (x := ⟨"Hidecount$Group", "go", "(LHidecount$Goer;)V"⟩) (owner := "Hidecount$Node") (wk_X7_go_X8 hst0 h) (T := TX8) rfl hI (va_cwU 1 C.ts (mWsU q1290 q1291 q1293 q1294 q77 (lw_meth q1295)) rfl rfl rfl rfl ⟨by decide, by decide, by decide +kernel⟩ ⟨Nat.le_of_ble_eq_true rfl, Nat.le_of_ble_eq_true rfl⟩) rfl rfl (Nat.le_of_ble_eq_true rfl) dX1_readRoute_29 rfl rfl hk hb9 (fun v9 M20 H locs hP S hk => ?_) (fun E u34 ce M35 H locs hX S hk hc9 hv9 hf9 => ?_)
    · obtain ⟨rfl, h⟩ := hP
      refine W.eq (g2 := F0 m 32 ls []) rfl ?_
      refine mm_new C S (ci := 11) (T := TX14) rfl in_X14 tyX14_ok q312 q1347 q87 dfX14 (by decide) dX1_readRoute_32 rfl rfl hk h (fun u23 M24 r25 H h S hk => ?_)
      refine lv_dup hx hb dX1_readRoute_35 rfl ?_
      refine lv_aload_n hx hb dX1_readRoute_36 rfl (lv_at hl 0 rfl) ?_
      refine mm_gfaN C S (ci := 9) (k := 0) rfl in_X12 (by decide) q1286 (fun _ h9 => h9) dX1_readRoute_37 h (fun u26 h => ?_)
      obtain ⟨b28, r29, hb9, h⟩ := h
      refine mm_I (As := [.ref u26]) (rest := [.ref u23]) C S hl.1 (wk_X14_init hst0 h) q1350 q87 q1348 q1349 rfl pd_X14_init ⟨Nat.le_of_ble_eq_true rfl, Nat.le_of_ble_eq_true rfl⟩ rfl rfl (Nat.le_of_ble_eq_true rfl) dX1_readRoute_40 rfl rfl hk hb9 (fun v9 M27 H locs hP S hk => ?_) (fun E q ce M9 H9 locs9 hX => hX.elim)
      obtain ⟨rfl, h⟩ := hP
      refine W.eq (g2 := F0 m 43 ls [.ref u23]) rfl ?_
      refine lv_astore (lv' := [(4, .ref u23), (3, .ref u14), (2, .ref u13), (0, .ref a0), (1, .int x1)]) hx hb dX1_readRoute_43 hl (by decide) rfl (fun ls hl => ?_)
      refine lv_aload_n hx hb dX1_readRoute_45 rfl (lv_at hl 3 rfl) ?_
      refine mm_gfa C S (ci := 0) (k := 12) rfl in_X1 (by decide) q227 (fun _ h9 => h9) dX1_readRoute_46 h (fun u30 h => ?_)
      refine lv_iconst (v := 0) hx hb dX1_readRoute_49 (by decide) ?_
      obtain ⟨hI, h⟩ := h
      obtain ⟨b32, r33, hb9, h⟩ := h
      refine mm_V (As := [.int 0]) (rest := []) C S hl.1 (wk_J4_setLength hst0 h) (T := TJ4) rfl hI (lw_V q1363 q1364 q1365 q53 q1366) rfl pd_J4_setLength ⟨Nat.le_of_ble_eq_true rfl, Nat.le_of_ble_eq_true rfl⟩ rfl rfl (Nat.le_of_ble_eq_true rfl) dX1_readRoute_50 rfl rfl hk hb9 (fun v9 M31 H locs hP S hk => ?_) (fun E q ce M9 H9 locs9 hX => hX.elim)
      obtain ⟨rfl, h⟩ := hP
      refine W.eq (g2 := F0 m 53 ls []) rfl ?_
      refine lv_aload hx hb dX1_readRoute_53 (lv_at hl 0 rfl) ?_
      exact mm_aret C S hr (Or.inl ⟨_, rfl⟩) (Nat.le_trans (Nat.le_add_right _ _) hk) dX1_readRoute_55 h
    · rcases hX with ⟨rfl, -, h⟩
      · refine vx_catch (pc := 29) (name := "Hidecount$StepFault") C.hown [(⟨0, 45, 56, 227⟩ : ExceptionTableEntry)] (⟨0, 45, 56, 229⟩ : ExceptionTableEntry) [(⟨0, 45, 66, 0⟩ : ExceptionTableEntry), (⟨56, 68, 66, 0⟩ : ExceptionTableEntry)] htab (mm_pass1 C (nm := "Hidecount$ReadingFault") (by decide) q1020 (by decide) mm_pass0) (by decide) (by decide) (C.ts _ q1021) (va_Nw.use rfl (C.nw q1332 rfl)) hc9 hv9 hf9 ?_
        exact j56 _ _ _ _ _ _ _ _ hk S (lv_sub hl [2] rfl) h
  · rcases hX with ⟨rfl, -, h⟩
    · refine vx_catch (pc := 14) (name := "Hidecount$ReadingFault") C.hown [] (⟨0, 45, 56, 227⟩ : ExceptionTableEntry) [(⟨0, 45, 56, 229⟩ : ExceptionTableEntry), (⟨0, 45, 66, 0⟩ : ExceptionTableEntry), (⟨56, 68, 66, 0⟩ : ExceptionTableEntry)] htab mm_pass0 (by decide) (by decide) (C.ts _ q1020) (va_Nw.use rfl (C.nw q1206 rfl)) hc9 hv9 hf9 ?_
      exact j56 _ _ _ _ _ _ _ _ hk S (lv_sub hl [0] rfl) h
/-! X15_fault: level 10 -/
def wp_X15_fault (G : mG) (b : Nat) (P : Nat → mM → Prop) (M : mM) (a0 : Nat) : Prop :=
  gca M a0 fun u1 => (isc M u1 7 ∨ isc M u1 10) ∧ (P u1 M)
set_option maxHeartbeats 4000000 in
set_option maxRecDepth 100000 in
theorem wk_X15_fault {l : Launch} (hst0 : l.stackTraces = false) {G : mG} {b : Nat} {P : Nat → mM → Prop} {M : mM} {a0 : Nat} (h : wp_X15_fault G b P M a0) : mMet l yX15_fault (ws_ yX15_fault cX15_fault 1 (Option.some (Jvm.ClassFile.FieldType.object "Hidecount$Fault"))) 10 b G [.ref a0] M (mRa P) (fun _ _ _ => False) := by
  refine mm_met hst0 (by decide) (Nat.le_of_ble_eq_true rfl) ?_
  intro p e s m args below meth c ls C hr hnt hnm hl S
  have hl : lv_has ls 1 [(0, .ref a0)] := hl
  generalize mA M s.heap.size = A at C S ⊢
  have hx := C.hx
  have hb := C.hb
  have hk : 0 + b ≤ b := Nat.le_of_eq (Nat.zero_add b)
  unfold wp_X15_fault at h
  refine lv_aload_n hx hb dX15_fault_0 rfl (lv_at hl 0 rfl) ?_
  refine mm_getCause C S (C.hml.trans hl.1.symm) h (Nat.le_of_ble_eq_true rfl) (Nat.le_of_ble_eq_true rfl) (Nat.le_of_ble_eq_true rfl) dX15_fault_1 rfl rfl hk (fun u1 h => ?_)
  refine mm_castY2 C S (c1 := 7) (c2 := 10) (T1 := TX10) (T2 := TX13) rfl rfl q1439 q2098 q2099 h.1 dX15_fault_4 ?_
  have h := h.2
  exact mm_aret C S hr (Or.inl ⟨_, rfl⟩) (Nat.le_trans (Nat.le_add_right _ _) hk) dX15_fault_7 h
/-! X1_route: level 35, alloc, throws java/lang/IllegalStateException,java/lang/IndexOutOfBoundsException -/
def wb_X1_route_65 (G : mG) (P : Int32 → mM → Prop) (X : String → Nat → mM → Prop) (r : Nat) (M : mM) (a0 : Nat) (s0 : Nat) : Prop :=
  isc M s0 12 ∧ (wp_X15_fault G 0 (fun u27 M26 => (gfi M26 u27 7 0 fun v28 => pfi M26 a0 0 13 v28 fun M29 => isc M29 s0 12 ∧ (wp_X15_fault G 0 (fun u31 M30 => (gfi M30 u31 7 1 fun v32 => pfi M30 a0 0 14 v32 fun M33 => P (-1) M33) ∨ (gfi M30 u31 10 1 fun v34 => pfi M30 a0 0 14 v34 fun M35 => P (-1) M35)) M29 s0)) ∨ (gfi M26 u27 10 0 fun v36 => pfi M26 a0 0 13 v36 fun M37 => isc M37 s0 12 ∧ (wp_X15_fault G 0 (fun u39 M38 => (gfi M38 u39 7 1 fun v40 => pfi M38 a0 0 14 v40 fun M41 => P (-1) M41) ∨ (gfi M38 u39 10 1 fun v42 => pfi M38 a0 0 14 v42 fun M43 => P (-1) M43)) M37 s0))) M s0)
def wb_X1_route_25 (G : mG) (P : Int32 → mM → Prop) (X : String → Nat → mM → Prop) (r : Nat) (M : mM) (a0 : Nat) (x1 : Int32) (s0 : Int32) : Prop :=
  ∃ b8 r9 : Nat, b8 + r9 = r ∧ wp_X1_checkState G b8 (fun M7 => gfa M7 a0 0 5 fun u10 => isc M7 a0 0 ∧ (∃ b12 r13 : Nat, b12 + r13 = r9 ∧ wp_X1_readRoute G b12 (fun u14 M11 => isc M11 u10 16 ∧ (∃ b16 r17 : Nat, b16 + r17 = r13 ∧ wp_J2_add G b16 (fun v18 M15 => pfi M15 a0 0 13 0 fun M19 => pfi M19 a0 0 14 (-1) fun M20 => gfa M20 a0 0 5 fun u21 => isc M20 u21 16 ∧ (wp_J2_size G 0 (fun v23 M22 => P (v23 - 1) M22) M20 u21)) M11 u10 u14)) (fun E9 u24 M25 => (E9 = "Hidecount$RouteException" ∧ isc M25 u24 12 ∧ (wb_X1_route_65 G P X r13 M25 a0 u24))) M7 a0 x1)) X M s0
def wp_X1_route (G : mG) (b : Nat) (P : Int32 → mM → Prop) (X : String → Nat → mM → Prop) (M : mM) (a0 : Nat) (x1 : Int32) : Prop :=
  ∃ b2 r3 : Nat, b2 + r3 = b ∧ wp_X1_checkIndex G b2 (fun M1 => gfa M1 a0 0 5 fun u4 => isc M1 u4 16 ∧ (wp_J2_size G 0 (fun v6 M5 => (8 ≤ v6 → wb_X1_route_25 G P X r3 M5 a0 x1 0) ∧ (¬ 8 ≤ v6 → wb_X1_route_25 G P X r3 M5 a0 x1 1)) M1 u4)) X M x1 36
set_option maxHeartbeats 4000000 in
set_option maxRecDepth 100000 in
theorem wk_X1_route {l : Launch} (hst0 : l.stackTraces = false) {G : mG} {b : Nat} {P : Int32 → mM → Prop} {X : String → Nat → mM → Prop} {M : mM} {a0 : Nat} {x1 : Int32} (h : wp_X1_route G b P X M a0 x1) : mMet l yX1_route (wsW_ yX1_route cX1_route 3 (Option.some Jvm.ClassFile.FieldType.int) [((28 : Nat), (64 : Nat), (65 : Nat), (231 : Nat))]) 35 b G [.ref a0, .int x1] M (mRi P) X := by
  refine mm_metW hst0 (by decide) (Nat.le_of_ble_eq_true rfl) ?_
  intro p e s m args below meth c ls C hr htab hnm hl S
  have hl : lv_has ls 3 [(0, .ref a0), (1, .int x1)] := hl
  generalize mA M s.heap.size = A at C S ⊢
  have hx := C.hx
  have hb := C.hb
  have hk : 0 + b ≤ b := Nat.le_of_eq (Nat.zero_add b)
  have j65 : ∀ (k r : Nat) (M : mM) (H : Heap) (locs : List Loc) (ls : Array Slot) (a0 : Nat) (s0 : Nat), k + r ≤ b → mW G A s M H locs → lv_has ls 3 [(0, .ref a0)] → wb_X1_route_65 G P X r M a0 s0 → W p l e (mRm 35 b) s m args below meth c H locs k k (vx_MQ below (mQ G A (mRi P)) (mXC G A X) args s b b A) (F0 m 65 ls [.ref s0]) := by
    intro k r M H locs ls a0 s0 hk S hl h
    unfold wb_X1_route_65 at h
    refine lv_astore_n (lv' := [(2, .ref s0), (0, .ref a0)]) hx hb dX1_route_65 rfl hl (by decide) rfl (fun ls hl => ?_)
    refine lv_aload_n hx hb dX1_route_66 rfl (lv_at hl 1 rfl) ?_
    refine lv_aload_n hx hb dX1_route_67 rfl (lv_at hl 0 rfl) ?_
    obtain ⟨hI, h⟩ := h
    refine mm_V (As := []) (rest := [.ref a0]) C S hl.1 (wk_X15_fault hst0 h) (T := TX15) rfl hI (lw_V q1429 q1430 q1431 q89 q1432) rfl pd_X15_fault ⟨Nat.le_of_ble_eq_true rfl, Nat.le_of_ble_eq_true rfl⟩ rfl rfl (Nat.le_of_ble_eq_true rfl) dX1_route_68 rfl rfl hk (Nat.zero_add _) (fun v9 M26 H locs hP S hk => ?_) (fun E q ce M9 H9 locs9 hX => hX.elim)
    obtain ⟨u27, rfl, h⟩ := hP
    refine W.eq (g2 := F0 m 71 ls [.ref u27, .ref a0]) rfl ?_
    rcases h with h | h
    · refine mm_gfiN C S (ci := 7) (k := 0) rfl in_X10 (by decide) q1226 (fun _ h9 => h9) dX1_route_71 h (fun v28 h => ?_)
      refine mm_pfi C S (ci := 0) (k := 13) rfl in_X1 tyX1_ok nmX1 (by decide) q228 (fun _ h9 => h9) rfl dX1_route_74 rfl h (fun M29 H locs h S => ?_)
      refine lv_aload_n hx hb dX1_route_77 rfl (lv_at hl 1 rfl) ?_
      refine lv_aload_n hx hb dX1_route_78 rfl (lv_at hl 0 rfl) ?_
      obtain ⟨hI, h⟩ := h
      refine mm_V (As := []) (rest := [.ref a0]) C S hl.1 (wk_X15_fault hst0 h) (T := TX15) rfl hI (lw_V q1429 q1430 q1431 q89 q1432) rfl pd_X15_fault ⟨Nat.le_of_ble_eq_true rfl, Nat.le_of_ble_eq_true rfl⟩ rfl rfl (Nat.le_of_ble_eq_true rfl) dX1_route_79 rfl rfl hk (Nat.zero_add _) (fun v9 M30 H locs hP S hk => ?_) (fun E q ce M9 H9 locs9 hX => hX.elim)
      obtain ⟨u31, rfl, h⟩ := hP
      refine W.eq (g2 := F0 m 82 ls [.ref u31, .ref a0]) rfl ?_
      rcases h with h | h
      · refine mm_gfiN C S (ci := 7) (k := 1) rfl in_X10 (by decide) q1228 (fun _ h9 => h9) dX1_route_82 h (fun v32 h => ?_)
        refine mm_pfi C S (ci := 0) (k := 14) rfl in_X1 tyX1_ok nmX1 (by decide) q229 (fun _ h9 => h9) rfl dX1_route_85 rfl h (fun M33 H locs h S => ?_)
        refine lv_iconst (v := (-1)) hx hb dX1_route_88 (by decide) ?_
        exact mm_iret C S hr (Nat.le_trans (Nat.le_add_right _ _) hk) dX1_route_89 h
      · refine mm_gfiN C S (ci := 10) (k := 1) rfl in_X13 (by decide) q1228 (fun _ h9 => h9) dX1_route_82 h (fun v34 h => ?_)
        refine mm_pfi C S (ci := 0) (k := 14) rfl in_X1 tyX1_ok nmX1 (by decide) q229 (fun _ h9 => h9) rfl dX1_route_85 rfl h (fun M35 H locs h S => ?_)
        refine lv_iconst (v := (-1)) hx hb dX1_route_88 (by decide) ?_
        exact mm_iret C S hr (Nat.le_trans (Nat.le_add_right _ _) hk) dX1_route_89 h
    · refine mm_gfiN C S (ci := 10) (k := 0) rfl in_X13 (by decide) q1226 (fun _ h9 => h9) dX1_route_71 h (fun v36 h => ?_)
      refine mm_pfi C S (ci := 0) (k := 13) rfl in_X1 tyX1_ok nmX1 (by decide) q228 (fun _ h9 => h9) rfl dX1_route_74 rfl h (fun M37 H locs h S => ?_)
      refine lv_aload_n hx hb dX1_route_77 rfl (lv_at hl 1 rfl) ?_
      refine lv_aload_n hx hb dX1_route_78 rfl (lv_at hl 0 rfl) ?_
      obtain ⟨hI, h⟩ := h
      refine mm_V (As := []) (rest := [.ref a0]) C S hl.1 (wk_X15_fault hst0 h) (T := TX15) rfl hI (lw_V q1429 q1430 q1431 q89 q1432) rfl pd_X15_fault ⟨Nat.le_of_ble_eq_true rfl, Nat.le_of_ble_eq_true rfl⟩ rfl rfl (Nat.le_of_ble_eq_true rfl) dX1_route_79 rfl rfl hk (Nat.zero_add _) (fun v9 M38 H locs hP S hk => ?_) (fun E q ce M9 H9 locs9 hX => hX.elim)
      obtain ⟨u39, rfl, h⟩ := hP
      refine W.eq (g2 := F0 m 82 ls [.ref u39, .ref a0]) rfl ?_
      rcases h with h | h
      · refine mm_gfiN C S (ci := 7) (k := 1) rfl in_X10 (by decide) q1228 (fun _ h9 => h9) dX1_route_82 h (fun v40 h => ?_)
        refine mm_pfi C S (ci := 0) (k := 14) rfl in_X1 tyX1_ok nmX1 (by decide) q229 (fun _ h9 => h9) rfl dX1_route_85 rfl h (fun M41 H locs h S => ?_)
        refine lv_iconst (v := (-1)) hx hb dX1_route_88 (by decide) ?_
        exact mm_iret C S hr (Nat.le_trans (Nat.le_add_right _ _) hk) dX1_route_89 h
      · refine mm_gfiN C S (ci := 10) (k := 1) rfl in_X13 (by decide) q1228 (fun _ h9 => h9) dX1_route_82 h (fun v42 h => ?_)
        refine mm_pfi C S (ci := 0) (k := 14) rfl in_X1 tyX1_ok nmX1 (by decide) q229 (fun _ h9 => h9) rfl dX1_route_85 rfl h (fun M43 H locs h S => ?_)
        refine lv_iconst (v := (-1)) hx hb dX1_route_88 (by decide) ?_
        exact mm_iret C S hr (Nat.le_trans (Nat.le_add_right _ _) hk) dX1_route_89 h
  have j25 : ∀ (k r : Nat) (M : mM) (H : Heap) (locs : List Loc) (ls : Array Slot) (a0 : Nat) (x1 : Int32) (s0 : Int32), k + r ≤ b → mW G A s M H locs → lv_has ls 3 [(0, .ref a0), (1, .int x1)] → wb_X1_route_25 G P X r M a0 x1 s0 → W p l e (mRm 35 b) s m args below meth c H locs k k (vx_MQ below (mQ G A (mRi P)) (mXC G A X) args s b b A) (F0 m 25 ls [.int s0]) := by
    intro k r M H locs ls a0 x1 s0 hk S hl h
    unfold wb_X1_route_25 at h
    obtain ⟨b8, r9, hb9, h⟩ := h
    refine mm_S (As := [.int s0]) (rest := []) C S hl.1 (wk_X1_checkState hst0 h) (lw_S q606 q607 q48 q608) pd_X1_checkState ⟨Nat.le_of_ble_eq_true rfl, Nat.le_of_ble_eq_true rfl⟩ rfl rfl (Nat.le_of_ble_eq_true rfl) dX1_route_25 rfl rfl hk hb9 (fun v9 M7 H locs hP S hk => ?_) (fun E q ce M9 H9 locs9 hX S9 hk9 hc9 hv9 hf9 => mm_out C S9 (by rw [htab]; decide) (Nat.le_trans (Nat.le_add_right _ _) hk9) hc9 hv9 hf9 hX)
    obtain ⟨rfl, h⟩ := hP
    refine W.eq (g2 := F0 m 28 ls []) rfl ?_
    refine lv_aload_n hx hb dX1_route_28 rfl (lv_at hl 0 rfl) ?_
    refine mm_gfa C S (ci := 0) (k := 5) rfl in_X1 (by decide) q220 (fun _ h9 => h9) dX1_route_29 h (fun u10 h => ?_)
    refine lv_aload_n hx hb dX1_route_32 rfl (lv_at hl 0 rfl) ?_
    refine lv_iload_n hx hb dX1_route_33 rfl (lv_at hl 1 rfl) ?_
    obtain ⟨hI, h⟩ := h
    obtain ⟨b12, r13, hb9, h⟩ := h
    refine mm_VX (As := [.int x1]) (rest := [.ref u10]) C S hl.1 (wk_X1_readRoute hst0 h) (T := TX1) rfl hI (lw_VW q1016 q1018 qs11 q48 q1019) rfl pd_X1_readRoute ⟨Nat.le_of_ble_eq_true rfl, Nat.le_of_ble_eq_true rfl⟩ rfl rfl (Nat.le_of_ble_eq_true rfl) dX1_route_34 rfl rfl hk hb9 (fun v9 M11 H locs hP S hk => ?_) (fun E u24 ce M25 H locs hX S hk hc9 hv9 hf9 => ?_)
    · obtain ⟨u14, rfl, h⟩ := hP
      refine W.eq (g2 := F0 m 37 ls [.ref u14, .ref u10]) rfl ?_
      obtain ⟨hI, h⟩ := h
      obtain ⟨b16, r17, hb9, h⟩ := h
      refine mm_F (As := [.ref u14]) (rest := []) C S hl.1 (x := ⟨"java/util/List", "add", "(Ljava/lang/Object;)Z"⟩) (wk_J2_add hst0 h) (T := TJ2) rfl hI (mWsF q648 q651 q653 q51 (lw_meth q655)) (by decide +kernel) pdi_3 ⟨Nat.le_of_ble_eq_true rfl, Nat.le_of_ble_eq_true rfl⟩ rfl rfl (Nat.le_of_ble_eq_true rfl) dX1_route_37 rfl rfl hk hb9 (fun v9 M15 H locs hP S hk => ?_) (fun E q ce M9 H9 locs9 hX => hX.elim)
      obtain ⟨v18, rfl, h⟩ := hP
      refine W.eq (g2 := F0 m 42 ls [.int v18]) rfl ?_
      refine lv_pop hx hb dX1_route_42 rfl ?_
      refine lv_aload_n hx hb dX1_route_43 rfl (lv_at hl 0 rfl) ?_
      refine lv_iconst (v := 0) hx hb dX1_route_44 (by decide) ?_
      refine mm_pfi C S (ci := 0) (k := 13) rfl in_X1 tyX1_ok nmX1 (by decide) q228 (fun _ h9 => h9) rfl dX1_route_45 rfl h (fun M19 H locs h S => ?_)
      refine lv_aload_n hx hb dX1_route_48 rfl (lv_at hl 0 rfl) ?_
      refine lv_iconst (v := (-1)) hx hb dX1_route_49 (by decide) ?_
      refine mm_pfi C S (ci := 0) (k := 14) rfl in_X1 tyX1_ok nmX1 (by decide) q229 (fun _ h9 => h9) rfl dX1_route_50 rfl h (fun M20 H locs h S => ?_)
      refine lv_aload_n hx hb dX1_route_53 rfl (lv_at hl 0 rfl) ?_
      refine mm_gfa C S (ci := 0) (k := 5) rfl in_X1 (by decide) q220 (fun _ h9 => h9) dX1_route_54 h (fun u21 h => ?_)
      obtain ⟨hI, h⟩ := h
      refine mm_F (As := []) (rest := []) C S hl.1 (x := ⟨"java/util/List", "size", "()I"⟩) (wk_J2_size hst0 h) (T := TJ2) rfl hI (mWsF q284 q288 q290 q51 (lw_meth q292)) (by decide +kernel) pdi_2 ⟨Nat.le_of_ble_eq_true rfl, Nat.le_of_ble_eq_true rfl⟩ rfl rfl (Nat.le_of_ble_eq_true rfl) dX1_route_57 rfl rfl hk (Nat.zero_add _) (fun v9 M22 H locs hP S hk => ?_) (fun E q ce M9 H9 locs9 hX => hX.elim)
      obtain ⟨v23, rfl, h⟩ := hP
      refine W.eq (g2 := F0 m 62 ls [.int v23]) rfl ?_
      refine lv_iconst (v := 1) hx hb dX1_route_62 (by decide) ?_
      refine lv_isub hx hb dX1_route_63 ?_
      exact mm_iret C S hr (Nat.le_trans (Nat.le_add_right _ _) hk) dX1_route_64 h
    · rcases hX with ⟨rfl, -, h⟩
      · refine vx_catch (pc := 34) (name := "Hidecount$RouteException") C.hown [] (⟨28, 64, 65, 231⟩ : ExceptionTableEntry) [] htab mm_pass0 (by decide) (by decide) (C.ts _ q1015) (va_Nw.use rfl (C.nw q1416 rfl)) hc9 hv9 hf9 ?_
        exact j65 _ _ _ _ _ _ _ _ hk S (lv_sub hl [0] rfl) h
  unfold wp_X1_route at h
  refine lv_iload_n hx hb dX1_route_0 rfl (lv_at hl 1 rfl) ?_
  refine lv_bipush (v := 36) hx hb dX1_route_1 (by decide) ?_
  obtain ⟨b2, r3, hb9, h⟩ := h
  refine mm_S (As := [.int x1, .int 36]) (rest := []) C S hl.1 (wk_X1_checkIndex hst0 h) (lw_S q516 q517 q48 q518) pd_X1_checkIndex ⟨Nat.le_of_ble_eq_true rfl, Nat.le_of_ble_eq_true rfl⟩ rfl rfl (Nat.le_of_ble_eq_true rfl) dX1_route_3 rfl rfl hk hb9 (fun v9 M1 H locs hP S hk => ?_) (fun E q ce M9 H9 locs9 hX S9 hk9 hc9 hv9 hf9 => mm_out C S9 (by rw [htab]; decide) (Nat.le_trans (Nat.le_add_right _ _) hk9) hc9 hv9 hf9 hX)
  obtain ⟨rfl, h⟩ := hP
  refine W.eq (g2 := F0 m 6 ls []) rfl ?_
  refine lv_aload_n hx hb dX1_route_6 rfl (lv_at hl 0 rfl) ?_
  refine mm_gfa C S (ci := 0) (k := 5) rfl in_X1 (by decide) q220 (fun _ h9 => h9) dX1_route_7 h (fun u4 h => ?_)
  obtain ⟨hI, h⟩ := h
  refine mm_F (As := []) (rest := []) C S hl.1 (x := ⟨"java/util/List", "size", "()I"⟩) (wk_J2_size hst0 h) (T := TJ2) rfl hI (mWsF q284 q288 q290 q51 (lw_meth q292)) (by decide +kernel) pdi_2 ⟨Nat.le_of_ble_eq_true rfl, Nat.le_of_ble_eq_true rfl⟩ rfl rfl (Nat.le_of_ble_eq_true rfl) dX1_route_10 rfl rfl hk (Nat.zero_add _) (fun v9 M5 H locs hP S hk => ?_) (fun E q ce M9 H9 locs9 hX => hX.elim)
  obtain ⟨v6, rfl, h⟩ := hP
  refine W.eq (g2 := F0 m 15 ls [.int v6]) rfl ?_
  refine lv_bipush (v := 8) hx hb dX1_route_15 (by decide) ?_
  refine lv_icmp_ge (tgt := 24) hx hb dX1_route_17 (by decide) (fun c9 => ?_) (fun c9 => ?_)
  · have h := h.1 c9
    refine lv_iconst (v := 0) hx hb dX1_route_24 (by decide) ?_
    exact j25 _ _ _ _ _ _ _ _ _ hk S hl h
  · have h := h.2 c9
    refine lv_iconst (v := 1) hx hb dX1_route_20 (by decide) ?_
    refine lv_goto (tgt := 25) hx hb dX1_route_21 (by decide) ?_
    exact j25 _ _ _ _ _ _ _ _ _ hk S hl h
/-! X0_route: level 36, alloc -/
def wb_X0_route_12 (G : mG) (P : Int32 → mM → Prop) (r : Nat) (M : mM) (s0 : Nat) : Prop :=
  P 1 M
def wb_X0_route_15 (G : mG) (P : Int32 → mM → Prop) (r : Nat) (M : mM) (s0 : Nat) : Prop :=
  P 2 M
def wp_X0_route (G : mG) (b : Nat) (P : Int32 → mM → Prop) (M : mM) (a0 : Nat) (x1 : Int32) (a2 : Nat) : Prop :=
  isc M a0 0 ∧ (∃ b2 r3 : Nat, b2 + r3 = b ∧ wp_X1_route G b2 (fun v4 M1 => stl M1 4 a2 0 v4.toInt64 fun M5 => P 0 M5) (fun E9 u6 M7 => (E9 = "java/lang/IllegalStateException" ∧ wb_X0_route_15 G P r3 M7 u6) ∨ (E9 = "java/lang/IndexOutOfBoundsException" ∧ wb_X0_route_12 G P r3 M7 u6)) M a0 x1)
set_option maxHeartbeats 4000000 in
set_option maxRecDepth 100000 in
theorem wk_X0_route {l : Launch} (hst0 : l.stackTraces = false) {G : mG} {b : Nat} {P : Int32 → mM → Prop} {M : mM} {a0 : Nat} {x1 : Int32} {a2 : Nat} (h : wp_X0_route G b P M a0 x1 a2) : mMet l yX0_route (wsW_ yX0_route cX0_route 4 (Option.some Jvm.ClassFile.FieldType.int) [((0 : Nat), (9 : Nat), (12 : Nat), (13 : Nat)), ((0 : Nat), (9 : Nat), (15 : Nat), (35 : Nat))]) 36 b G [.ref a0, .int x1, .ref a2] M (mRi P) (fun _ _ _ => False) := by
  refine mm_metW hst0 (by decide) (Nat.le_of_ble_eq_true rfl) ?_
  intro p e s m args below meth c ls C hr htab hnm hl S
  have hl : lv_has ls 4 [(0, .ref a0), (1, .int x1), (2, .ref a2)] := hl
  generalize mA M s.heap.size = A at C S ⊢
  have hx := C.hx
  have hb := C.hb
  have hk : 0 + b ≤ b := Nat.le_of_eq (Nat.zero_add b)
  have j12 : ∀ (k r : Nat) (M : mM) (H : Heap) (locs : List Loc) (ls : Array Slot) (s0 : Nat), k + r ≤ b → mW G A s M H locs → lv_has ls 4 [] → wb_X0_route_12 G P r M s0 → W p l e (mRm 36 b) s m args below meth c H locs k k (vx_MQ below (mQ G A (mRi P)) (mXC G A (fun _ _ _ => False)) args s b b A) (F0 m 12 ls [.ref s0]) := by
    intro k r M H locs ls s0 hk S hl h
    unfold wb_X0_route_12 at h
    refine lv_astore_n (lv' := [(3, .ref s0)]) hx hb dX0_route_12 rfl hl (by decide) rfl (fun ls hl => ?_)
    refine lv_iconst (v := 1) hx hb dX0_route_13 (by decide) ?_
    exact mm_iret C S hr (Nat.le_trans (Nat.le_add_right _ _) hk) dX0_route_14 h
  have j15 : ∀ (k r : Nat) (M : mM) (H : Heap) (locs : List Loc) (ls : Array Slot) (s0 : Nat), k + r ≤ b → mW G A s M H locs → lv_has ls 4 [] → wb_X0_route_15 G P r M s0 → W p l e (mRm 36 b) s m args below meth c H locs k k (vx_MQ below (mQ G A (mRi P)) (mXC G A (fun _ _ _ => False)) args s b b A) (F0 m 15 ls [.ref s0]) := by
    intro k r M H locs ls s0 hk S hl h
    unfold wb_X0_route_15 at h
    refine lv_astore_n (lv' := [(3, .ref s0)]) hx hb dX0_route_15 rfl hl (by decide) rfl (fun ls hl => ?_)
    refine lv_iconst (v := 2) hx hb dX0_route_16 (by decide) ?_
    exact mm_iret C S hr (Nat.le_trans (Nat.le_add_right _ _) hk) dX0_route_17 h
  unfold wp_X0_route at h
  refine lv_aload_n hx hb dX0_route_0 rfl (lv_at hl 2 rfl) ?_
  refine lv_iconst (v := 0) hx hb dX0_route_1 (by decide) ?_
  refine lv_aload_n hx hb dX0_route_2 rfl (lv_at hl 0 rfl) ?_
  refine lv_iload_n hx hb dX0_route_3 rfl (lv_at hl 1 rfl) ?_
  obtain ⟨hI, h⟩ := h
  obtain ⟨b2, r3, hb9, h⟩ := h
  refine mm_VX (As := [.int x1]) (rest := [.int 0, .ref a2]) C S hl.1 (wk_X1_route hst0 h) (T := TX1) rfl hI (lw_VW q1011 q1012 q1013 q48 q1014) rfl pd_X1_route ⟨Nat.le_of_ble_eq_true rfl, Nat.le_of_ble_eq_true rfl⟩ rfl rfl (Nat.le_of_ble_eq_true rfl) dX0_route_4 rfl rfl hk hb9 (fun v9 M1 H locs hP S hk => ?_) (fun E u6 ce M7 H locs hX S hk hc9 hv9 hf9 => ?_)
  · obtain ⟨v4, rfl, h⟩ := hP
    refine W.eq (g2 := F0 m 7 ls [.int v4, .int 0, .ref a2]) rfl ?_
    refine lv_i2l hx hb dX0_route_7 rfl ?_
    refine mm_last C S h dX0_route_8 (fun M5 H locs h S => ?_)
    refine lv_goto (tgt := 18) hx hb dX0_route_9 (by decide) ?_
    refine lv_iconst (v := 0) hx hb dX0_route_18 (by decide) ?_
    exact mm_iret C S hr (Nat.le_trans (Nat.le_add_right _ _) hk) dX0_route_19 h
  · rcases hX with ⟨rfl, h⟩ | ⟨rfl, h⟩
    · refine vx_catch (pc := 4) (name := "java/lang/IllegalStateException") C.hown [(⟨0, 9, 12, 13⟩ : ExceptionTableEntry)] (⟨0, 9, 15, 35⟩ : ExceptionTableEntry) [] htab (mm_pass1 C (nm := "java/lang/IndexOutOfBoundsException") (by decide) q431 (by decide) mm_pass0) (by decide) (by decide) (C.ts _ q601) (va_Nw.use rfl (C.nw q611 rfl)) hc9 hv9 hf9 ?_
      exact j15 _ _ _ _ _ _ _ hk S (lv_sub hl [] rfl) h
    · refine vx_catch (pc := 4) (name := "java/lang/IndexOutOfBoundsException") C.hown [] (⟨0, 9, 12, 13⟩ : ExceptionTableEntry) [(⟨0, 9, 15, 35⟩ : ExceptionTableEntry)] htab mm_pass0 (by decide) (by decide) (C.ts _ q431) (va_Nw.use rfl (C.nw q521 rfl)) hc9 hv9 hf9 ?_
      exact j12 _ _ _ _ _ _ _ hk S (lv_sub hl [] rfl) h
/-! X1_routeAt: level 14, alloc, throws java/lang/IndexOutOfBoundsException -/
def wp_X1_routeAt (G : mG) (b : Nat) (P : Int32 → mM → Prop) (X : String → Nat → mM → Prop) (M : mM) (a0 : Nat) (x1 : Int32) (x2 : Int32) : Prop :=
  gfa M a0 0 5 fun u1 => ∃ b3 r4 : Nat, b3 + r4 = b ∧ wp_X1_at G b3 (fun u5 M2 => isc M2 u5 11 ∧ (gfa M2 u5 11 0 fun u6 => aln M2 u6 fun v7 => ∃ b9 r10 : Nat, b9 + r10 = r4 ∧ wp_X1_checkIndex G b9 (fun M8 => gfa M8 u5 11 0 fun u11 => ldi M8 0 u11 x2 fun v12 => P v12 M8) X M2 x2 v7)) X M u1 x1
set_option maxHeartbeats 4000000 in
set_option maxRecDepth 100000 in
theorem wk_X1_routeAt {l : Launch} (hst0 : l.stackTraces = false) {G : mG} {b : Nat} {P : Int32 → mM → Prop} {X : String → Nat → mM → Prop} {M : mM} {a0 : Nat} {x1 : Int32} {x2 : Int32} (h : wp_X1_routeAt G b P X M a0 x1 x2) : mMet l yX1_routeAt (ws_ yX1_routeAt cX1_routeAt 4 (Option.some Jvm.ClassFile.FieldType.int)) 14 b G [.ref a0, .int x1, .int x2] M (mRi P) X := by
  refine mm_met hst0 (by decide) (Nat.le_of_ble_eq_true rfl) ?_
  intro p e s m args below meth c ls C hr hnt hnm hl S
  have hl : lv_has ls 4 [(0, .ref a0), (1, .int x1), (2, .int x2)] := hl
  generalize mA M s.heap.size = A at C S ⊢
  have hx := C.hx
  have hb := C.hb
  have hk : 0 + b ≤ b := Nat.le_of_eq (Nat.zero_add b)
  unfold wp_X1_routeAt at h
  refine lv_aload_n hx hb dX1_routeAt_0 rfl (lv_at hl 0 rfl) ?_
  refine mm_gfa C S (ci := 0) (k := 5) rfl in_X1 (by decide) q220 (fun _ h9 => h9) dX1_routeAt_1 h (fun u1 h => ?_)
  refine lv_iload_n hx hb dX1_routeAt_4 rfl (lv_at hl 1 rfl) ?_
  obtain ⟨b3, r4, hb9, h⟩ := h
  refine mm_S (As := [.ref u1, .int x1]) (rest := []) C S hl.1 (wk_X1_at hst0 h) (lw_S q728 q729 q48 q730) pd_X1_at ⟨Nat.le_of_ble_eq_true rfl, Nat.le_of_ble_eq_true rfl⟩ rfl rfl (Nat.le_of_ble_eq_true rfl) dX1_routeAt_5 rfl rfl hk hb9 (fun v9 M2 H locs hP S hk => ?_) (fun E q ce M9 H9 locs9 hX S9 hk9 hc9 hv9 hf9 => mm_out C S9 (fun x hx => (hnt x hx).elim) (Nat.le_trans (Nat.le_add_right _ _) hk9) hc9 hv9 hf9 hX)
  obtain ⟨u5, rfl, h⟩ := hP
  refine W.eq (g2 := F0 m 8 ls [.ref u5]) rfl ?_
  refine mm_castS C S (ci := 11) (T := TX14) rfl rfl q312 h.1 dX1_routeAt_8 ?_
  have h := h.2
  refine lv_astore_n (lv' := [(3, .ref u5), (0, .ref a0), (1, .int x1), (2, .int x2)]) hx hb dX1_routeAt_11 rfl hl (by decide) rfl (fun ls hl => ?_)
  refine lv_iload_n hx hb dX1_routeAt_12 rfl (lv_at hl 3 rfl) ?_
  refine lv_aload_n hx hb dX1_routeAt_13 rfl (lv_at hl 0 rfl) ?_
  refine mm_gfaN C S (ci := 11) (k := 0) rfl in_X14 (by decide) q1359 (fun _ h9 => h9) dX1_routeAt_14 h (fun u6 h => ?_)
  refine mm_alen C S h dX1_routeAt_17 (fun v7 h => ?_)
  obtain ⟨b9, r10, hb9, h⟩ := h
  refine mm_S (As := [.int x2, .int v7]) (rest := []) C S hl.1 (wk_X1_checkIndex hst0 h) (lw_S q516 q517 q48 q518) pd_X1_checkIndex ⟨Nat.le_of_ble_eq_true rfl, Nat.le_of_ble_eq_true rfl⟩ rfl rfl (Nat.le_of_ble_eq_true rfl) dX1_routeAt_18 rfl rfl hk hb9 (fun v9 M8 H locs hP S hk => ?_) (fun E q ce M9 H9 locs9 hX S9 hk9 hc9 hv9 hf9 => mm_out C S9 (fun x hx => (hnt x hx).elim) (Nat.le_trans (Nat.le_add_right _ _) hk9) hc9 hv9 hf9 hX)
  obtain ⟨rfl, h⟩ := hP
  refine W.eq (g2 := F0 m 21 ls []) rfl ?_
  refine lv_aload_n hx hb dX1_routeAt_21 rfl (lv_at hl 0 rfl) ?_
  refine mm_gfaN C S (ci := 11) (k := 0) rfl in_X14 (by decide) q1359 (fun _ h9 => h9) dX1_routeAt_22 h (fun u11 h => ?_)
  refine lv_iload_n hx hb dX1_routeAt_25 rfl (lv_at hl 3 rfl) ?_
  refine mm_iald C S h dX1_routeAt_26 (fun v12 h => ?_)
  exact mm_iret C S hr (Nat.le_trans (Nat.le_add_right _ _) hk) dX1_routeAt_27 h
