/-! J7_init_X13: level 10 -/
def wp_J7_init_X13 (G : mG) (b : Nat) (P : mM → Prop) (M : mM) (a0 : Nat) (a1 : Nat) : Prop :=
  pfq M a0 10 2 (some a0) fun M1 => ∀ o2 : Option Nat, pfq M1 a0 10 3 o2 fun M3 => ∀ o4 : Option Nat, pfq M3 a0 10 4 o4 fun M5 => False
set_option maxHeartbeats 4000000 in
set_option maxRecDepth 100000 in
theorem wk_J7_init_X13 {l : Launch} (hst0 : l.stackTraces = false) {G : mG} {b : Nat} {P : mM → Prop} {M : mM} {a0 : Nat} {a1 : Nat} (h : wp_J7_init_X13 G b P M a0 a1) : mMet l yJ7_init (ws_ yJ7_init cJ7_init 2 (Option.none : Option Jvm.ClassFile.FieldType)) 10 b G [.ref a0, .ref a1] M (mRv P) (fun _ _ _ => False) := by
  refine mm_met hst0 (by decide) (Nat.le_of_ble_eq_true rfl) ?_
  intro p e s m args below meth c ls C hr hnt hnm hl S
  have hl : lv_has ls 2 [(0, .ref a0), (1, .ref a1)] := hl
  generalize mA M s.heap.size = A at C S ⊢
  have hx := C.hx
  have hb := C.hb
  have hk : 0 + b ≤ b := Nat.le_of_eq (Nat.zero_add b)
  unfold wp_J7_init_X13 at h
  refine lv_aload_n hx hb dJ7_init_0 rfl (lv_at hl 0 rfl) ?_
  refine mm_init C hl.1 q447 q100 q101 dJ7_init_1 (Nat.le_of_ble_eq_true rfl) (Nat.le_of_ble_eq_true rfl) ?_
  refine lv_aload_n hx hb dJ7_init_4 rfl (lv_at hl 0 rfl) ?_
  refine lv_aload_n hx hb dJ7_init_5 rfl (lv_at hl 0 rfl) ?_
  refine mm_pfq C S (ci := 10) (k := 2) (v := (some a0)) rfl in_X13 tyX13_ok nmX13 (by decide) q471 (fun _ h9 => h9) rfl dJ7_init_6 rfl h (fun M1 H locs h S => ?_)
  refine lv_aload_n hx hb dJ7_init_9 rfl (lv_at hl 0 rfl) ?_
  refine mm_getsQ C S C.ks.2.2.2.2.1 q448 (fun _ h9 => h9) dJ7_init_10 h (fun o2 h => ?_)
  refine mm_pfq C S (ci := 10) (k := 3) (v := o2) rfl in_X13 tyX13_ok nmX13 (by decide) q472 (fun _ h9 => h9) rfl dJ7_init_13 rfl h (fun M3 H locs h S => ?_)
  refine lv_aload_n hx hb dJ7_init_16 rfl (lv_at hl 0 rfl) ?_
  refine mm_getsQ C S C.ks.2.2.2.2.2.1 q450 (fun _ h9 => h9) dJ7_init_17 h (fun o4 h => ?_)
  refine mm_pfq C S (ci := 10) (k := 4) (v := o4) rfl in_X13 tyX13_ok nmX13 (by decide) q473 (fun _ h9 => h9) rfl dJ7_init_20 rfl h (fun M5 H locs h S => ?_)
  refine lv_aload_n hx hb dJ7_init_23 rfl (lv_at hl 0 rfl) ?_
  exact h.elim
/-! J7_init_X15: level 10 -/
def wp_J7_init_X15 (G : mG) (b : Nat) (P : mM → Prop) (M : mM) (a0 : Nat) (a1 : Nat) : Prop :=
  pfq M a0 12 0 (some a0) fun M1 => ∀ o2 : Option Nat, pfq M1 a0 12 1 o2 fun M3 => ∀ o4 : Option Nat, pfq M3 a0 12 2 o4 fun M5 => False
set_option maxHeartbeats 4000000 in
set_option maxRecDepth 100000 in
theorem wk_J7_init_X15 {l : Launch} (hst0 : l.stackTraces = false) {G : mG} {b : Nat} {P : mM → Prop} {M : mM} {a0 : Nat} {a1 : Nat} (h : wp_J7_init_X15 G b P M a0 a1) : mMet l yJ7_init (ws_ yJ7_init cJ7_init 2 (Option.none : Option Jvm.ClassFile.FieldType)) 10 b G [.ref a0, .ref a1] M (mRv P) (fun _ _ _ => False) := by
  refine mm_met hst0 (by decide) (Nat.le_of_ble_eq_true rfl) ?_
  intro p e s m args below meth c ls C hr hnt hnm hl S
  have hl : lv_has ls 2 [(0, .ref a0), (1, .ref a1)] := hl
  generalize mA M s.heap.size = A at C S ⊢
  have hx := C.hx
  have hb := C.hb
  have hk : 0 + b ≤ b := Nat.le_of_eq (Nat.zero_add b)
  unfold wp_J7_init_X15 at h
  refine lv_aload_n hx hb dJ7_init_0 rfl (lv_at hl 0 rfl) ?_
  refine mm_init C hl.1 q447 q100 q101 dJ7_init_1 (Nat.le_of_ble_eq_true rfl) (Nat.le_of_ble_eq_true rfl) ?_
  refine lv_aload_n hx hb dJ7_init_4 rfl (lv_at hl 0 rfl) ?_
  refine lv_aload_n hx hb dJ7_init_5 rfl (lv_at hl 0 rfl) ?_
  refine mm_pfq C S (ci := 12) (k := 0) (v := (some a0)) rfl in_X15 tyX15_ok nmX15 (by decide) q471 (fun _ h9 => h9) rfl dJ7_init_6 rfl h (fun M1 H locs h S => ?_)
  refine lv_aload_n hx hb dJ7_init_9 rfl (lv_at hl 0 rfl) ?_
  refine mm_getsQ C S C.ks.2.2.2.2.1 q448 (fun _ h9 => h9) dJ7_init_10 h (fun o2 h => ?_)
  refine mm_pfq C S (ci := 12) (k := 1) (v := o2) rfl in_X15 tyX15_ok nmX15 (by decide) q472 (fun _ h9 => h9) rfl dJ7_init_13 rfl h (fun M3 H locs h S => ?_)
  refine lv_aload_n hx hb dJ7_init_16 rfl (lv_at hl 0 rfl) ?_
  refine mm_getsQ C S C.ks.2.2.2.2.2.1 q450 (fun _ h9 => h9) dJ7_init_17 h (fun o4 h => ?_)
  refine mm_pfq C S (ci := 12) (k := 2) (v := o4) rfl in_X15 tyX15_ok nmX15 (by decide) q473 (fun _ h9 => h9) rfl dJ7_init_20 rfl h (fun M5 H locs h S => ?_)
  refine lv_aload_n hx hb dJ7_init_23 rfl (lv_at hl 0 rfl) ?_
  exact h.elim
/-! J7_init_2_X10: level 10 -/
def wp_J7_init_2_X10 (G : mG) (b : Nat) (P : mM → Prop) (M : mM) (a0 : Nat) : Prop :=
  pfq M a0 7 2 (some a0) fun M1 => ∀ o2 : Option Nat, pfq M1 a0 7 3 o2 fun M3 => ∀ o4 : Option Nat, pfq M3 a0 7 4 o4 fun M5 => False
set_option maxHeartbeats 4000000 in
set_option maxRecDepth 100000 in
theorem wk_J7_init_2_X10 {l : Launch} (hst0 : l.stackTraces = false) {G : mG} {b : Nat} {P : mM → Prop} {M : mM} {a0 : Nat} (h : wp_J7_init_2_X10 G b P M a0) : mMet l yJ7_init_2 (ws_ yJ7_init_2 cJ7_init_2 1 (Option.none : Option Jvm.ClassFile.FieldType)) 10 b G [.ref a0] M (mRv P) (fun _ _ _ => False) := by
  refine mm_met hst0 (by decide) (Nat.le_of_ble_eq_true rfl) ?_
  intro p e s m args below meth c ls C hr hnt hnm hl S
  have hl : lv_has ls 1 [(0, .ref a0)] := hl
  generalize mA M s.heap.size = A at C S ⊢
  have hx := C.hx
  have hb := C.hb
  have hk : 0 + b ≤ b := Nat.le_of_eq (Nat.zero_add b)
  unfold wp_J7_init_2_X10 at h
  refine lv_aload_n hx hb dJ7_init_2_0 rfl (lv_at hl 0 rfl) ?_
  refine mm_init C hl.1 q447 q100 q101 dJ7_init_2_1 (Nat.le_of_ble_eq_true rfl) (Nat.le_of_ble_eq_true rfl) ?_
  refine lv_aload_n hx hb dJ7_init_2_4 rfl (lv_at hl 0 rfl) ?_
  refine lv_aload_n hx hb dJ7_init_2_5 rfl (lv_at hl 0 rfl) ?_
  refine mm_pfq C S (ci := 7) (k := 2) (v := (some a0)) rfl in_X10 tyX10_ok nmX10 (by decide) q471 (fun _ h9 => h9) rfl dJ7_init_2_6 rfl h (fun M1 H locs h S => ?_)
  refine lv_aload_n hx hb dJ7_init_2_9 rfl (lv_at hl 0 rfl) ?_
  refine mm_getsQ C S C.ks.2.2.2.2.1 q448 (fun _ h9 => h9) dJ7_init_2_10 h (fun o2 h => ?_)
  refine mm_pfq C S (ci := 7) (k := 3) (v := o2) rfl in_X10 tyX10_ok nmX10 (by decide) q472 (fun _ h9 => h9) rfl dJ7_init_2_13 rfl h (fun M3 H locs h S => ?_)
  refine lv_aload_n hx hb dJ7_init_2_16 rfl (lv_at hl 0 rfl) ?_
  refine mm_getsQ C S C.ks.2.2.2.2.2.1 q450 (fun _ h9 => h9) dJ7_init_2_17 h (fun o4 h => ?_)
  refine mm_pfq C S (ci := 7) (k := 4) (v := o4) rfl in_X10 tyX10_ok nmX10 (by decide) q473 (fun _ h9 => h9) rfl dJ7_init_2_20 rfl h (fun M5 H locs h S => ?_)
  refine lv_aload_n hx hb dJ7_init_2_23 rfl (lv_at hl 0 rfl) ?_
  exact h.elim
/-! J7_init_2_X13: level 10 -/
def wp_J7_init_2_X13 (G : mG) (b : Nat) (P : mM → Prop) (M : mM) (a0 : Nat) : Prop :=
  pfq M a0 10 2 (some a0) fun M1 => ∀ o2 : Option Nat, pfq M1 a0 10 3 o2 fun M3 => ∀ o4 : Option Nat, pfq M3 a0 10 4 o4 fun M5 => False
set_option maxHeartbeats 4000000 in
set_option maxRecDepth 100000 in
theorem wk_J7_init_2_X13 {l : Launch} (hst0 : l.stackTraces = false) {G : mG} {b : Nat} {P : mM → Prop} {M : mM} {a0 : Nat} (h : wp_J7_init_2_X13 G b P M a0) : mMet l yJ7_init_2 (ws_ yJ7_init_2 cJ7_init_2 1 (Option.none : Option Jvm.ClassFile.FieldType)) 10 b G [.ref a0] M (mRv P) (fun _ _ _ => False) := by
  refine mm_met hst0 (by decide) (Nat.le_of_ble_eq_true rfl) ?_
  intro p e s m args below meth c ls C hr hnt hnm hl S
  have hl : lv_has ls 1 [(0, .ref a0)] := hl
  generalize mA M s.heap.size = A at C S ⊢
  have hx := C.hx
  have hb := C.hb
  have hk : 0 + b ≤ b := Nat.le_of_eq (Nat.zero_add b)
  unfold wp_J7_init_2_X13 at h
  refine lv_aload_n hx hb dJ7_init_2_0 rfl (lv_at hl 0 rfl) ?_
  refine mm_init C hl.1 q447 q100 q101 dJ7_init_2_1 (Nat.le_of_ble_eq_true rfl) (Nat.le_of_ble_eq_true rfl) ?_
  refine lv_aload_n hx hb dJ7_init_2_4 rfl (lv_at hl 0 rfl) ?_
  refine lv_aload_n hx hb dJ7_init_2_5 rfl (lv_at hl 0 rfl) ?_
  refine mm_pfq C S (ci := 10) (k := 2) (v := (some a0)) rfl in_X13 tyX13_ok nmX13 (by decide) q471 (fun _ h9 => h9) rfl dJ7_init_2_6 rfl h (fun M1 H locs h S => ?_)
  refine lv_aload_n hx hb dJ7_init_2_9 rfl (lv_at hl 0 rfl) ?_
  refine mm_getsQ C S C.ks.2.2.2.2.1 q448 (fun _ h9 => h9) dJ7_init_2_10 h (fun o2 h => ?_)
  refine mm_pfq C S (ci := 10) (k := 3) (v := o2) rfl in_X13 tyX13_ok nmX13 (by decide) q472 (fun _ h9 => h9) rfl dJ7_init_2_13 rfl h (fun M3 H locs h S => ?_)
  refine lv_aload_n hx hb dJ7_init_2_16 rfl (lv_at hl 0 rfl) ?_
  refine mm_getsQ C S C.ks.2.2.2.2.2.1 q450 (fun _ h9 => h9) dJ7_init_2_17 h (fun o4 h => ?_)
  refine mm_pfq C S (ci := 10) (k := 4) (v := o4) rfl in_X13 tyX13_ok nmX13 (by decide) q473 (fun _ h9 => h9) rfl dJ7_init_2_20 rfl h (fun M5 H locs h S => ?_)
  refine lv_aload_n hx hb dJ7_init_2_23 rfl (lv_at hl 0 rfl) ?_
  exact h.elim
/-! J7_init_2_X15: level 10 -/
def wp_J7_init_2_X15 (G : mG) (b : Nat) (P : mM → Prop) (M : mM) (a0 : Nat) : Prop :=
  pfq M a0 12 0 (some a0) fun M1 => ∀ o2 : Option Nat, pfq M1 a0 12 1 o2 fun M3 => ∀ o4 : Option Nat, pfq M3 a0 12 2 o4 fun M5 => False
set_option maxHeartbeats 4000000 in
set_option maxRecDepth 100000 in
theorem wk_J7_init_2_X15 {l : Launch} (hst0 : l.stackTraces = false) {G : mG} {b : Nat} {P : mM → Prop} {M : mM} {a0 : Nat} (h : wp_J7_init_2_X15 G b P M a0) : mMet l yJ7_init_2 (ws_ yJ7_init_2 cJ7_init_2 1 (Option.none : Option Jvm.ClassFile.FieldType)) 10 b G [.ref a0] M (mRv P) (fun _ _ _ => False) := by
  refine mm_met hst0 (by decide) (Nat.le_of_ble_eq_true rfl) ?_
  intro p e s m args below meth c ls C hr hnt hnm hl S
  have hl : lv_has ls 1 [(0, .ref a0)] := hl
  generalize mA M s.heap.size = A at C S ⊢
  have hx := C.hx
  have hb := C.hb
  have hk : 0 + b ≤ b := Nat.le_of_eq (Nat.zero_add b)
  unfold wp_J7_init_2_X15 at h
  refine lv_aload_n hx hb dJ7_init_2_0 rfl (lv_at hl 0 rfl) ?_
  refine mm_init C hl.1 q447 q100 q101 dJ7_init_2_1 (Nat.le_of_ble_eq_true rfl) (Nat.le_of_ble_eq_true rfl) ?_
  refine lv_aload_n hx hb dJ7_init_2_4 rfl (lv_at hl 0 rfl) ?_
  refine lv_aload_n hx hb dJ7_init_2_5 rfl (lv_at hl 0 rfl) ?_
  refine mm_pfq C S (ci := 12) (k := 0) (v := (some a0)) rfl in_X15 tyX15_ok nmX15 (by decide) q471 (fun _ h9 => h9) rfl dJ7_init_2_6 rfl h (fun M1 H locs h S => ?_)
  refine lv_aload_n hx hb dJ7_init_2_9 rfl (lv_at hl 0 rfl) ?_
  refine mm_getsQ C S C.ks.2.2.2.2.1 q448 (fun _ h9 => h9) dJ7_init_2_10 h (fun o2 h => ?_)
  refine mm_pfq C S (ci := 12) (k := 1) (v := o2) rfl in_X15 tyX15_ok nmX15 (by decide) q472 (fun _ h9 => h9) rfl dJ7_init_2_13 rfl h (fun M3 H locs h S => ?_)
  refine lv_aload_n hx hb dJ7_init_2_16 rfl (lv_at hl 0 rfl) ?_
  refine mm_getsQ C S C.ks.2.2.2.2.2.1 q450 (fun _ h9 => h9) dJ7_init_2_17 h (fun o4 h => ?_)
  refine mm_pfq C S (ci := 12) (k := 2) (v := o4) rfl in_X15 tyX15_ok nmX15 (by decide) q473 (fun _ h9 => h9) rfl dJ7_init_2_20 rfl h (fun M5 H locs h S => ?_)
  refine lv_aload_n hx hb dJ7_init_2_23 rfl (lv_at hl 0 rfl) ?_
  exact h.elim
/-! J7_init_3_X10: level 10 -/
def wb_J7_init_3_X10_60 (G : mG) (P : mM → Prop) (r : Nat) (M : mM) : Prop :=
  P M
def wp_J7_init_3_X10 (G : mG) (b : Nat) (P : mM → Prop) (M : mM) (a0 : Nat) (x3 : Int32) (x4 : Int32) : Prop :=
  pfq M a0 7 2 (some a0) fun M1 => ∀ o2 : Option Nat, pfq M1 a0 7 3 o2 fun M3 => ∀ o4 : Option Nat, pfq M3 a0 7 4 o4 fun M5 => (x4 = 0 → pfq M5 a0 7 3 none fun M6 => pfq M6 a0 7 5 none fun M7 => pfq M7 a0 7 2 none fun M8 => (¬ x3 = 0 → wb_J7_init_3_X10_60 G P b M8) ∧ (x3 = 0 → pfq M8 a0 7 4 none fun M9 => wb_J7_init_3_X10_60 G P b M9)) ∧ (¬ x4 = 0 → False)
set_option maxHeartbeats 4000000 in
set_option maxRecDepth 100000 in
theorem wk_J7_init_3_X10 {l : Launch} (hst0 : l.stackTraces = false) {G : mG} {b : Nat} {P : mM → Prop} {M : mM} {a0 : Nat} {x3 : Int32} {x4 : Int32} (h : wp_J7_init_3_X10 G b P M a0 x3 x4) : mMet l yJ7_init_3 (ws_ yJ7_init_3 cJ7_init_3 5 (Option.none : Option Jvm.ClassFile.FieldType)) 10 b G [.ref a0, .null, .null, .int x3, .int x4] M (mRv P) (fun _ _ _ => False) := by
  refine mm_met hst0 (by decide) (Nat.le_of_ble_eq_true rfl) ?_
  intro p e s m args below meth c ls C hr hnt hnm hl S
  have hl : lv_has ls 5 [(0, .ref a0), (1, .null), (2, .null), (3, .int x3), (4, .int x4)] := hl
  generalize mA M s.heap.size = A at C S ⊢
  have hx := C.hx
  have hb := C.hb
  have hk : 0 + b ≤ b := Nat.le_of_eq (Nat.zero_add b)
  have j60 : ∀ (k r : Nat) (M : mM) (H : Heap) (locs : List Loc) (ls : Array Slot), k + r ≤ b → mW G A s M H locs → lv_has ls 5 [] → wb_J7_init_3_X10_60 G P r M → W p l e (mRm 10 b) s m args below meth c H locs k k (vx_MQ below (mQ G A (mRv P)) (mXC G A (fun _ _ _ => False)) args s b b A) (F0 m 60 ls []) := by
    intro k r M H locs ls  hk S hl h
    unfold wb_J7_init_3_X10_60 at h
    exact mm_vret C S hr (Nat.le_trans (Nat.le_add_right _ _) hk) dJ7_init_3_60 h
  unfold wp_J7_init_3_X10 at h
  refine lv_aload_n hx hb dJ7_init_3_0 rfl (lv_at hl 0 rfl) ?_
  refine mm_init C hl.1 q447 q100 q101 dJ7_init_3_1 (Nat.le_of_ble_eq_true rfl) (Nat.le_of_ble_eq_true rfl) ?_
  refine lv_aload_n hx hb dJ7_init_3_4 rfl (lv_at hl 0 rfl) ?_
  refine lv_aload_n hx hb dJ7_init_3_5 rfl (lv_at hl 0 rfl) ?_
  refine mm_pfq C S (ci := 7) (k := 2) (v := (some a0)) rfl in_X10 tyX10_ok nmX10 (by decide) q471 (fun _ h9 => h9) rfl dJ7_init_3_6 rfl h (fun M1 H locs h S => ?_)
  refine lv_aload_n hx hb dJ7_init_3_9 rfl (lv_at hl 0 rfl) ?_
  refine mm_getsQ C S C.ks.2.2.2.2.1 q448 (fun _ h9 => h9) dJ7_init_3_10 h (fun o2 h => ?_)
  refine mm_pfq C S (ci := 7) (k := 3) (v := o2) rfl in_X10 tyX10_ok nmX10 (by decide) q472 (fun _ h9 => h9) rfl dJ7_init_3_13 rfl h (fun M3 H locs h S => ?_)
  refine lv_aload_n hx hb dJ7_init_3_16 rfl (lv_at hl 0 rfl) ?_
  refine mm_getsQ C S C.ks.2.2.2.2.2.1 q450 (fun _ h9 => h9) dJ7_init_3_17 h (fun o4 h => ?_)
  refine mm_pfq C S (ci := 7) (k := 4) (v := o4) rfl in_X10 tyX10_ok nmX10 (by decide) q473 (fun _ h9 => h9) rfl dJ7_init_3_20 rfl h (fun M5 H locs h S => ?_)
  refine lv_iload hx hb dJ7_init_3_23 (lv_at hl 4 rfl) ?_
  refine lv_if_eq (tgt := 36) hx hb dJ7_init_3_25 (by decide) (fun c9 => ?_) (fun c9 => ?_)
  · have h := h.1 c9
    refine lv_aload_n hx hb dJ7_init_3_36 rfl (lv_at hl 0 rfl) ?_
    refine lv_null hx hb dJ7_init_3_37 ?_
    refine mm_pfq C S (ci := 7) (k := 3) (v := none) rfl in_X10 tyX10_ok nmX10 (by decide) q472 (fun _ h9 => h9) rfl dJ7_init_3_38 rfl h (fun M6 H locs h S => ?_)
    refine lv_aload_n hx hb dJ7_init_3_41 rfl (lv_at hl 0 rfl) ?_
    refine lv_aload_nN hx hb dJ7_init_3_42 rfl (lv_at hl 1 rfl) ?_
    refine mm_pfq C S (ci := 7) (k := 5) (v := none) rfl in_X10 tyX10_ok nmX10 (by decide) q470 (fun _ h9 => h9) rfl dJ7_init_3_43 rfl h (fun M7 H locs h S => ?_)
    refine lv_aload_n hx hb dJ7_init_3_46 rfl (lv_at hl 0 rfl) ?_
    refine lv_aload_nN hx hb dJ7_init_3_47 rfl (lv_at hl 2 rfl) ?_
    refine mm_pfq C S (ci := 7) (k := 2) (v := none) rfl in_X10 tyX10_ok nmX10 (by decide) q471 (fun _ h9 => h9) rfl dJ7_init_3_48 rfl h (fun M8 H locs h S => ?_)
    refine lv_iload_n hx hb dJ7_init_3_51 rfl (lv_at hl 3 rfl) ?_
    refine lv_if_ne (tgt := 60) hx hb dJ7_init_3_52 (by decide) (fun c9 => ?_) (fun c9 => ?_)
    · have h := h.1 c9
      exact j60 _ _ _ _ _ _ hk S (lv_sub hl [] rfl) h
    · have h := h.2 c9
      refine lv_aload_n hx hb dJ7_init_3_55 rfl (lv_at hl 0 rfl) ?_
      refine lv_null hx hb dJ7_init_3_56 ?_
      refine mm_pfq C S (ci := 7) (k := 4) (v := none) rfl in_X10 tyX10_ok nmX10 (by decide) q473 (fun _ h9 => h9) rfl dJ7_init_3_57 rfl h (fun M9 H locs h S => ?_)
      exact j60 _ _ _ _ _ _ hk S (lv_sub hl [] rfl) h
  · have h := h.2 c9
    refine lv_aload_n hx hb dJ7_init_3_28 rfl (lv_at hl 0 rfl) ?_
    exact h.elim
/-! J7_init_3_X13: level 10 -/
def wb_J7_init_3_X13_60 (G : mG) (P : mM → Prop) (r : Nat) (M : mM) : Prop :=
  P M
def wp_J7_init_3_X13 (G : mG) (b : Nat) (P : mM → Prop) (M : mM) (a0 : Nat) (x3 : Int32) (x4 : Int32) : Prop :=
  pfq M a0 10 2 (some a0) fun M1 => ∀ o2 : Option Nat, pfq M1 a0 10 3 o2 fun M3 => ∀ o4 : Option Nat, pfq M3 a0 10 4 o4 fun M5 => (x4 = 0 → pfq M5 a0 10 3 none fun M6 => pfq M6 a0 10 5 none fun M7 => pfq M7 a0 10 2 none fun M8 => (¬ x3 = 0 → wb_J7_init_3_X13_60 G P b M8) ∧ (x3 = 0 → pfq M8 a0 10 4 none fun M9 => wb_J7_init_3_X13_60 G P b M9)) ∧ (¬ x4 = 0 → False)
set_option maxHeartbeats 4000000 in
set_option maxRecDepth 100000 in
theorem wk_J7_init_3_X13 {l : Launch} (hst0 : l.stackTraces = false) {G : mG} {b : Nat} {P : mM → Prop} {M : mM} {a0 : Nat} {x3 : Int32} {x4 : Int32} (h : wp_J7_init_3_X13 G b P M a0 x3 x4) : mMet l yJ7_init_3 (ws_ yJ7_init_3 cJ7_init_3 5 (Option.none : Option Jvm.ClassFile.FieldType)) 10 b G [.ref a0, .null, .null, .int x3, .int x4] M (mRv P) (fun _ _ _ => False) := by
  refine mm_met hst0 (by decide) (Nat.le_of_ble_eq_true rfl) ?_
  intro p e s m args below meth c ls C hr hnt hnm hl S
  have hl : lv_has ls 5 [(0, .ref a0), (1, .null), (2, .null), (3, .int x3), (4, .int x4)] := hl
  generalize mA M s.heap.size = A at C S ⊢
  have hx := C.hx
  have hb := C.hb
  have hk : 0 + b ≤ b := Nat.le_of_eq (Nat.zero_add b)
  have j60 : ∀ (k r : Nat) (M : mM) (H : Heap) (locs : List Loc) (ls : Array Slot), k + r ≤ b → mW G A s M H locs → lv_has ls 5 [] → wb_J7_init_3_X13_60 G P r M → W p l e (mRm 10 b) s m args below meth c H locs k k (vx_MQ below (mQ G A (mRv P)) (mXC G A (fun _ _ _ => False)) args s b b A) (F0 m 60 ls []) := by
    intro k r M H locs ls  hk S hl h
    unfold wb_J7_init_3_X13_60 at h
    exact mm_vret C S hr (Nat.le_trans (Nat.le_add_right _ _) hk) dJ7_init_3_60 h
  unfold wp_J7_init_3_X13 at h
  refine lv_aload_n hx hb dJ7_init_3_0 rfl (lv_at hl 0 rfl) ?_
  refine mm_init C hl.1 q447 q100 q101 dJ7_init_3_1 (Nat.le_of_ble_eq_true rfl) (Nat.le_of_ble_eq_true rfl) ?_
  refine lv_aload_n hx hb dJ7_init_3_4 rfl (lv_at hl 0 rfl) ?_
  refine lv_aload_n hx hb dJ7_init_3_5 rfl (lv_at hl 0 rfl) ?_
  refine mm_pfq C S (ci := 10) (k := 2) (v := (some a0)) rfl in_X13 tyX13_ok nmX13 (by decide) q471 (fun _ h9 => h9) rfl dJ7_init_3_6 rfl h (fun M1 H locs h S => ?_)
  refine lv_aload_n hx hb dJ7_init_3_9 rfl (lv_at hl 0 rfl) ?_
  refine mm_getsQ C S C.ks.2.2.2.2.1 q448 (fun _ h9 => h9) dJ7_init_3_10 h (fun o2 h => ?_)
  refine mm_pfq C S (ci := 10) (k := 3) (v := o2) rfl in_X13 tyX13_ok nmX13 (by decide) q472 (fun _ h9 => h9) rfl dJ7_init_3_13 rfl h (fun M3 H locs h S => ?_)
  refine lv_aload_n hx hb dJ7_init_3_16 rfl (lv_at hl 0 rfl) ?_
  refine mm_getsQ C S C.ks.2.2.2.2.2.1 q450 (fun _ h9 => h9) dJ7_init_3_17 h (fun o4 h => ?_)
  refine mm_pfq C S (ci := 10) (k := 4) (v := o4) rfl in_X13 tyX13_ok nmX13 (by decide) q473 (fun _ h9 => h9) rfl dJ7_init_3_20 rfl h (fun M5 H locs h S => ?_)
  refine lv_iload hx hb dJ7_init_3_23 (lv_at hl 4 rfl) ?_
  refine lv_if_eq (tgt := 36) hx hb dJ7_init_3_25 (by decide) (fun c9 => ?_) (fun c9 => ?_)
  · have h := h.1 c9
    refine lv_aload_n hx hb dJ7_init_3_36 rfl (lv_at hl 0 rfl) ?_
    refine lv_null hx hb dJ7_init_3_37 ?_
    refine mm_pfq C S (ci := 10) (k := 3) (v := none) rfl in_X13 tyX13_ok nmX13 (by decide) q472 (fun _ h9 => h9) rfl dJ7_init_3_38 rfl h (fun M6 H locs h S => ?_)
    refine lv_aload_n hx hb dJ7_init_3_41 rfl (lv_at hl 0 rfl) ?_
    refine lv_aload_nN hx hb dJ7_init_3_42 rfl (lv_at hl 1 rfl) ?_
    refine mm_pfq C S (ci := 10) (k := 5) (v := none) rfl in_X13 tyX13_ok nmX13 (by decide) q470 (fun _ h9 => h9) rfl dJ7_init_3_43 rfl h (fun M7 H locs h S => ?_)
    refine lv_aload_n hx hb dJ7_init_3_46 rfl (lv_at hl 0 rfl) ?_
    refine lv_aload_nN hx hb dJ7_init_3_47 rfl (lv_at hl 2 rfl) ?_
    refine mm_pfq C S (ci := 10) (k := 2) (v := none) rfl in_X13 tyX13_ok nmX13 (by decide) q471 (fun _ h9 => h9) rfl dJ7_init_3_48 rfl h (fun M8 H locs h S => ?_)
    refine lv_iload_n hx hb dJ7_init_3_51 rfl (lv_at hl 3 rfl) ?_
    refine lv_if_ne (tgt := 60) hx hb dJ7_init_3_52 (by decide) (fun c9 => ?_) (fun c9 => ?_)
    · have h := h.1 c9
      exact j60 _ _ _ _ _ _ hk S (lv_sub hl [] rfl) h
    · have h := h.2 c9
      refine lv_aload_n hx hb dJ7_init_3_55 rfl (lv_at hl 0 rfl) ?_
      refine lv_null hx hb dJ7_init_3_56 ?_
      refine mm_pfq C S (ci := 10) (k := 4) (v := none) rfl in_X13 tyX13_ok nmX13 (by decide) q473 (fun _ h9 => h9) rfl dJ7_init_3_57 rfl h (fun M9 H locs h S => ?_)
      exact j60 _ _ _ _ _ _ hk S (lv_sub hl [] rfl) h
  · have h := h.2 c9
    refine lv_aload_n hx hb dJ7_init_3_28 rfl (lv_at hl 0 rfl) ?_
    exact h.elim
/-! J7_init_3_X15: level 10 -/
def wb_J7_init_3_X15_60 (G : mG) (P : mM → Prop) (r : Nat) (M : mM) : Prop :=
  P M
def wp_J7_init_3_X15 (G : mG) (b : Nat) (P : mM → Prop) (M : mM) (a0 : Nat) (a2 : Nat) (x3 : Int32) (x4 : Int32) : Prop :=
  pfq M a0 12 0 (some a0) fun M1 => ∀ o2 : Option Nat, pfq M1 a0 12 1 o2 fun M3 => ∀ o4 : Option Nat, pfq M3 a0 12 2 o4 fun M5 => (x4 = 0 → pfq M5 a0 12 1 none fun M6 => pfq M6 a0 12 3 none fun M7 => pfq M7 a0 12 0 (some a2) fun M8 => (¬ x3 = 0 → wb_J7_init_3_X15_60 G P b M8) ∧ (x3 = 0 → pfq M8 a0 12 2 none fun M9 => wb_J7_init_3_X15_60 G P b M9)) ∧ (¬ x4 = 0 → False)
set_option maxHeartbeats 4000000 in
set_option maxRecDepth 100000 in
theorem wk_J7_init_3_X15 {l : Launch} (hst0 : l.stackTraces = false) {G : mG} {b : Nat} {P : mM → Prop} {M : mM} {a0 : Nat} {a2 : Nat} {x3 : Int32} {x4 : Int32} (h : wp_J7_init_3_X15 G b P M a0 a2 x3 x4) : mMet l yJ7_init_3 (ws_ yJ7_init_3 cJ7_init_3 5 (Option.none : Option Jvm.ClassFile.FieldType)) 10 b G [.ref a0, .null, .ref a2, .int x3, .int x4] M (mRv P) (fun _ _ _ => False) := by
  refine mm_met hst0 (by decide) (Nat.le_of_ble_eq_true rfl) ?_
  intro p e s m args below meth c ls C hr hnt hnm hl S
  have hl : lv_has ls 5 [(0, .ref a0), (1, .null), (2, .ref a2), (3, .int x3), (4, .int x4)] := hl
  generalize mA M s.heap.size = A at C S ⊢
  have hx := C.hx
  have hb := C.hb
  have hk : 0 + b ≤ b := Nat.le_of_eq (Nat.zero_add b)
  have j60 : ∀ (k r : Nat) (M : mM) (H : Heap) (locs : List Loc) (ls : Array Slot), k + r ≤ b → mW G A s M H locs → lv_has ls 5 [] → wb_J7_init_3_X15_60 G P r M → W p l e (mRm 10 b) s m args below meth c H locs k k (vx_MQ below (mQ G A (mRv P)) (mXC G A (fun _ _ _ => False)) args s b b A) (F0 m 60 ls []) := by
    intro k r M H locs ls  hk S hl h
    unfold wb_J7_init_3_X15_60 at h
    exact mm_vret C S hr (Nat.le_trans (Nat.le_add_right _ _) hk) dJ7_init_3_60 h
  unfold wp_J7_init_3_X15 at h
  refine lv_aload_n hx hb dJ7_init_3_0 rfl (lv_at hl 0 rfl) ?_
  refine mm_init C hl.1 q447 q100 q101 dJ7_init_3_1 (Nat.le_of_ble_eq_true rfl) (Nat.le_of_ble_eq_true rfl) ?_
  refine lv_aload_n hx hb dJ7_init_3_4 rfl (lv_at hl 0 rfl) ?_
  refine lv_aload_n hx hb dJ7_init_3_5 rfl (lv_at hl 0 rfl) ?_
  refine mm_pfq C S (ci := 12) (k := 0) (v := (some a0)) rfl in_X15 tyX15_ok nmX15 (by decide) q471 (fun _ h9 => h9) rfl dJ7_init_3_6 rfl h (fun M1 H locs h S => ?_)
  refine lv_aload_n hx hb dJ7_init_3_9 rfl (lv_at hl 0 rfl) ?_
  refine mm_getsQ C S C.ks.2.2.2.2.1 q448 (fun _ h9 => h9) dJ7_init_3_10 h (fun o2 h => ?_)
  refine mm_pfq C S (ci := 12) (k := 1) (v := o2) rfl in_X15 tyX15_ok nmX15 (by decide) q472 (fun _ h9 => h9) rfl dJ7_init_3_13 rfl h (fun M3 H locs h S => ?_)
  refine lv_aload_n hx hb dJ7_init_3_16 rfl (lv_at hl 0 rfl) ?_
  refine mm_getsQ C S C.ks.2.2.2.2.2.1 q450 (fun _ h9 => h9) dJ7_init_3_17 h (fun o4 h => ?_)
  refine mm_pfq C S (ci := 12) (k := 2) (v := o4) rfl in_X15 tyX15_ok nmX15 (by decide) q473 (fun _ h9 => h9) rfl dJ7_init_3_20 rfl h (fun M5 H locs h S => ?_)
  refine lv_iload hx hb dJ7_init_3_23 (lv_at hl 4 rfl) ?_
  refine lv_if_eq (tgt := 36) hx hb dJ7_init_3_25 (by decide) (fun c9 => ?_) (fun c9 => ?_)
  · have h := h.1 c9
    refine lv_aload_n hx hb dJ7_init_3_36 rfl (lv_at hl 0 rfl) ?_
    refine lv_null hx hb dJ7_init_3_37 ?_
    refine mm_pfq C S (ci := 12) (k := 1) (v := none) rfl in_X15 tyX15_ok nmX15 (by decide) q472 (fun _ h9 => h9) rfl dJ7_init_3_38 rfl h (fun M6 H locs h S => ?_)
    refine lv_aload_n hx hb dJ7_init_3_41 rfl (lv_at hl 0 rfl) ?_
    refine lv_aload_nN hx hb dJ7_init_3_42 rfl (lv_at hl 1 rfl) ?_
    refine mm_pfq C S (ci := 12) (k := 3) (v := none) rfl in_X15 tyX15_ok nmX15 (by decide) q470 (fun _ h9 => h9) rfl dJ7_init_3_43 rfl h (fun M7 H locs h S => ?_)
    refine lv_aload_n hx hb dJ7_init_3_46 rfl (lv_at hl 0 rfl) ?_
    refine lv_aload_n hx hb dJ7_init_3_47 rfl (lv_at hl 2 rfl) ?_
    refine mm_pfq C S (ci := 12) (k := 0) (v := (some a2)) rfl in_X15 tyX15_ok nmX15 (by decide) q471 (fun _ h9 => h9) rfl dJ7_init_3_48 rfl h (fun M8 H locs h S => ?_)
    refine lv_iload_n hx hb dJ7_init_3_51 rfl (lv_at hl 3 rfl) ?_
    refine lv_if_ne (tgt := 60) hx hb dJ7_init_3_52 (by decide) (fun c9 => ?_) (fun c9 => ?_)
    · have h := h.1 c9
      exact j60 _ _ _ _ _ _ hk S (lv_sub hl [] rfl) h
    · have h := h.2 c9
      refine lv_aload_n hx hb dJ7_init_3_55 rfl (lv_at hl 0 rfl) ?_
      refine lv_null hx hb dJ7_init_3_56 ?_
      refine mm_pfq C S (ci := 12) (k := 2) (v := none) rfl in_X15 tyX15_ok nmX15 (by decide) q473 (fun _ h9 => h9) rfl dJ7_init_3_57 rfl h (fun M9 H locs h S => ?_)
      exact j60 _ _ _ _ _ _ hk S (lv_sub hl [] rfl) h
  · have h := h.2 c9
    refine lv_aload_n hx hb dJ7_init_3_28 rfl (lv_at hl 0 rfl) ?_
    exact h.elim
/-! J8_init_X10: level 11 -/
def wp_J8_init_X10 (G : mG) (b : Nat) (P : mM → Prop) (M : mM) (a0 : Nat) (a1 : Nat) : Prop :=
  wp_J7_init_X10 G 0 (fun M1 => P M1) M a0 a1
set_option maxHeartbeats 4000000 in
set_option maxRecDepth 100000 in
theorem wk_J8_init_X10 {l : Launch} (hst0 : l.stackTraces = false) {G : mG} {b : Nat} {P : mM → Prop} {M : mM} {a0 : Nat} {a1 : Nat} (h : wp_J8_init_X10 G b P M a0 a1) : mMet l yJ8_init (ws_ yJ8_init cJ8_init 2 (Option.none : Option Jvm.ClassFile.FieldType)) 11 b G [.ref a0, .ref a1] M (mRv P) (fun _ _ _ => False) := by
  refine mm_met hst0 (by decide) (Nat.le_of_ble_eq_true rfl) ?_
  intro p e s m args below meth c ls C hr hnt hnm hl S
  have hl : lv_has ls 2 [(0, .ref a0), (1, .ref a1)] := hl
  generalize mA M s.heap.size = A at C S ⊢
  have hx := C.hx
  have hb := C.hb
  have hk : 0 + b ≤ b := Nat.le_of_eq (Nat.zero_add b)
  unfold wp_J8_init_X10 at h
  refine lv_aload_n hx hb dJ8_init_0 rfl (lv_at hl 0 rfl) ?_
  refine lv_aload_n hx hb dJ8_init_1 rfl (lv_at hl 1 rfl) ?_
  refine mm_I (As := [.ref a1]) (rest := []) C S hl.1 (wk_J7_init_X10 hst0 h) q446 q59 q444 q445 rfl pd_J7_init ⟨Nat.le_of_ble_eq_true rfl, Nat.le_of_ble_eq_true rfl⟩ rfl rfl (Nat.le_of_ble_eq_true rfl) dJ8_init_2 rfl rfl hk (Nat.zero_add _) (fun v9 M1 H locs hP S hk => ?_) (fun E q ce M9 H9 locs9 hX => hX.elim)
  obtain ⟨rfl, h⟩ := hP
  refine W.eq (g2 := F0 m 5 ls []) rfl ?_
  exact mm_vret C S hr (Nat.le_trans (Nat.le_add_right _ _) hk) dJ8_init_5 h
/-! J8_init_X13: level 11 -/
def wp_J8_init_X13 (G : mG) (b : Nat) (P : mM → Prop) (M : mM) (a0 : Nat) (a1 : Nat) : Prop :=
  wp_J7_init_X13 G 0 (fun M1 => P M1) M a0 a1
set_option maxHeartbeats 4000000 in
set_option maxRecDepth 100000 in
theorem wk_J8_init_X13 {l : Launch} (hst0 : l.stackTraces = false) {G : mG} {b : Nat} {P : mM → Prop} {M : mM} {a0 : Nat} {a1 : Nat} (h : wp_J8_init_X13 G b P M a0 a1) : mMet l yJ8_init (ws_ yJ8_init cJ8_init 2 (Option.none : Option Jvm.ClassFile.FieldType)) 11 b G [.ref a0, .ref a1] M (mRv P) (fun _ _ _ => False) := by
  refine mm_met hst0 (by decide) (Nat.le_of_ble_eq_true rfl) ?_
  intro p e s m args below meth c ls C hr hnt hnm hl S
  have hl : lv_has ls 2 [(0, .ref a0), (1, .ref a1)] := hl
  generalize mA M s.heap.size = A at C S ⊢
  have hx := C.hx
  have hb := C.hb
  have hk : 0 + b ≤ b := Nat.le_of_eq (Nat.zero_add b)
  unfold wp_J8_init_X13 at h
  refine lv_aload_n hx hb dJ8_init_0 rfl (lv_at hl 0 rfl) ?_
  refine lv_aload_n hx hb dJ8_init_1 rfl (lv_at hl 1 rfl) ?_
  refine mm_I (As := [.ref a1]) (rest := []) C S hl.1 (wk_J7_init_X13 hst0 h) q446 q59 q444 q445 rfl pd_J7_init ⟨Nat.le_of_ble_eq_true rfl, Nat.le_of_ble_eq_true rfl⟩ rfl rfl (Nat.le_of_ble_eq_true rfl) dJ8_init_2 rfl rfl hk (Nat.zero_add _) (fun v9 M1 H locs hP S hk => ?_) (fun E q ce M9 H9 locs9 hX => hX.elim)
  obtain ⟨rfl, h⟩ := hP
  refine W.eq (g2 := F0 m 5 ls []) rfl ?_
  exact mm_vret C S hr (Nat.le_trans (Nat.le_add_right _ _) hk) dJ8_init_5 h
/-! J8_init_X15: level 11 -/
def wp_J8_init_X15 (G : mG) (b : Nat) (P : mM → Prop) (M : mM) (a0 : Nat) (a1 : Nat) : Prop :=
  wp_J7_init_X15 G 0 (fun M1 => P M1) M a0 a1
set_option maxHeartbeats 4000000 in
set_option maxRecDepth 100000 in
theorem wk_J8_init_X15 {l : Launch} (hst0 : l.stackTraces = false) {G : mG} {b : Nat} {P : mM → Prop} {M : mM} {a0 : Nat} {a1 : Nat} (h : wp_J8_init_X15 G b P M a0 a1) : mMet l yJ8_init (ws_ yJ8_init cJ8_init 2 (Option.none : Option Jvm.ClassFile.FieldType)) 11 b G [.ref a0, .ref a1] M (mRv P) (fun _ _ _ => False) := by
  refine mm_met hst0 (by decide) (Nat.le_of_ble_eq_true rfl) ?_
  intro p e s m args below meth c ls C hr hnt hnm hl S
  have hl : lv_has ls 2 [(0, .ref a0), (1, .ref a1)] := hl
  generalize mA M s.heap.size = A at C S ⊢
  have hx := C.hx
  have hb := C.hb
  have hk : 0 + b ≤ b := Nat.le_of_eq (Nat.zero_add b)
  unfold wp_J8_init_X15 at h
  refine lv_aload_n hx hb dJ8_init_0 rfl (lv_at hl 0 rfl) ?_
  refine lv_aload_n hx hb dJ8_init_1 rfl (lv_at hl 1 rfl) ?_
  refine mm_I (As := [.ref a1]) (rest := []) C S hl.1 (wk_J7_init_X15 hst0 h) q446 q59 q444 q445 rfl pd_J7_init ⟨Nat.le_of_ble_eq_true rfl, Nat.le_of_ble_eq_true rfl⟩ rfl rfl (Nat.le_of_ble_eq_true rfl) dJ8_init_2 rfl rfl hk (Nat.zero_add _) (fun v9 M1 H locs hP S hk => ?_) (fun E q ce M9 H9 locs9 hX => hX.elim)
  obtain ⟨rfl, h⟩ := hP
  refine W.eq (g2 := F0 m 5 ls []) rfl ?_
  exact mm_vret C S hr (Nat.le_trans (Nat.le_add_right _ _) hk) dJ8_init_5 h
/-! J8_init_2_X10: level 11 -/
def wp_J8_init_2_X10 (G : mG) (b : Nat) (P : mM → Prop) (M : mM) (a0 : Nat) : Prop :=
  wp_J7_init_2_X10 G 0 (fun M1 => P M1) M a0
set_option maxHeartbeats 4000000 in
set_option maxRecDepth 100000 in
theorem wk_J8_init_2_X10 {l : Launch} (hst0 : l.stackTraces = false) {G : mG} {b : Nat} {P : mM → Prop} {M : mM} {a0 : Nat} (h : wp_J8_init_2_X10 G b P M a0) : mMet l yJ8_init_2 (ws_ yJ8_init_2 cJ8_init_2 1 (Option.none : Option Jvm.ClassFile.FieldType)) 11 b G [.ref a0] M (mRv P) (fun _ _ _ => False) := by
  refine mm_met hst0 (by decide) (Nat.le_of_ble_eq_true rfl) ?_
  intro p e s m args below meth c ls C hr hnt hnm hl S
  have hl : lv_has ls 1 [(0, .ref a0)] := hl
  generalize mA M s.heap.size = A at C S ⊢
  have hx := C.hx
  have hb := C.hb
  have hk : 0 + b ≤ b := Nat.le_of_eq (Nat.zero_add b)
  unfold wp_J8_init_2_X10 at h
  refine lv_aload_n hx hb dJ8_init_2_0 rfl (lv_at hl 0 rfl) ?_
  refine mm_I (As := []) (rest := []) C S hl.1 (wk_J7_init_2_X10 hst0 h) q505 q59 q537 q504 rfl pd_J7_init_2 ⟨Nat.le_of_ble_eq_true rfl, Nat.le_of_ble_eq_true rfl⟩ rfl rfl (Nat.le_of_ble_eq_true rfl) dJ8_init_2_1 rfl rfl hk (Nat.zero_add _) (fun v9 M1 H locs hP S hk => ?_) (fun E q ce M9 H9 locs9 hX => hX.elim)
  obtain ⟨rfl, h⟩ := hP
  refine W.eq (g2 := F0 m 4 ls []) rfl ?_
  exact mm_vret C S hr (Nat.le_trans (Nat.le_add_right _ _) hk) dJ8_init_2_4 h
/-! J8_init_2_X13: level 11 -/
def wp_J8_init_2_X13 (G : mG) (b : Nat) (P : mM → Prop) (M : mM) (a0 : Nat) : Prop :=
  wp_J7_init_2_X13 G 0 (fun M1 => P M1) M a0
set_option maxHeartbeats 4000000 in
set_option maxRecDepth 100000 in
theorem wk_J8_init_2_X13 {l : Launch} (hst0 : l.stackTraces = false) {G : mG} {b : Nat} {P : mM → Prop} {M : mM} {a0 : Nat} (h : wp_J8_init_2_X13 G b P M a0) : mMet l yJ8_init_2 (ws_ yJ8_init_2 cJ8_init_2 1 (Option.none : Option Jvm.ClassFile.FieldType)) 11 b G [.ref a0] M (mRv P) (fun _ _ _ => False) := by
  refine mm_met hst0 (by decide) (Nat.le_of_ble_eq_true rfl) ?_
  intro p e s m args below meth c ls C hr hnt hnm hl S
  have hl : lv_has ls 1 [(0, .ref a0)] := hl
  generalize mA M s.heap.size = A at C S ⊢
  have hx := C.hx
  have hb := C.hb
  have hk : 0 + b ≤ b := Nat.le_of_eq (Nat.zero_add b)
  unfold wp_J8_init_2_X13 at h
  refine lv_aload_n hx hb dJ8_init_2_0 rfl (lv_at hl 0 rfl) ?_
  refine mm_I (As := []) (rest := []) C S hl.1 (wk_J7_init_2_X13 hst0 h) q505 q59 q537 q504 rfl pd_J7_init_2 ⟨Nat.le_of_ble_eq_true rfl, Nat.le_of_ble_eq_true rfl⟩ rfl rfl (Nat.le_of_ble_eq_true rfl) dJ8_init_2_1 rfl rfl hk (Nat.zero_add _) (fun v9 M1 H locs hP S hk => ?_) (fun E q ce M9 H9 locs9 hX => hX.elim)
  obtain ⟨rfl, h⟩ := hP
  refine W.eq (g2 := F0 m 4 ls []) rfl ?_
  exact mm_vret C S hr (Nat.le_trans (Nat.le_add_right _ _) hk) dJ8_init_2_4 h
/-! J8_init_2_X15: level 11 -/
def wp_J8_init_2_X15 (G : mG) (b : Nat) (P : mM → Prop) (M : mM) (a0 : Nat) : Prop :=
  wp_J7_init_2_X15 G 0 (fun M1 => P M1) M a0
set_option maxHeartbeats 4000000 in
set_option maxRecDepth 100000 in
theorem wk_J8_init_2_X15 {l : Launch} (hst0 : l.stackTraces = false) {G : mG} {b : Nat} {P : mM → Prop} {M : mM} {a0 : Nat} (h : wp_J8_init_2_X15 G b P M a0) : mMet l yJ8_init_2 (ws_ yJ8_init_2 cJ8_init_2 1 (Option.none : Option Jvm.ClassFile.FieldType)) 11 b G [.ref a0] M (mRv P) (fun _ _ _ => False) := by
  refine mm_met hst0 (by decide) (Nat.le_of_ble_eq_true rfl) ?_
  intro p e s m args below meth c ls C hr hnt hnm hl S
  have hl : lv_has ls 1 [(0, .ref a0)] := hl
  generalize mA M s.heap.size = A at C S ⊢
  have hx := C.hx
  have hb := C.hb
  have hk : 0 + b ≤ b := Nat.le_of_eq (Nat.zero_add b)
  unfold wp_J8_init_2_X15 at h
  refine lv_aload_n hx hb dJ8_init_2_0 rfl (lv_at hl 0 rfl) ?_
  refine mm_I (As := []) (rest := []) C S hl.1 (wk_J7_init_2_X15 hst0 h) q505 q59 q537 q504 rfl pd_J7_init_2 ⟨Nat.le_of_ble_eq_true rfl, Nat.le_of_ble_eq_true rfl⟩ rfl rfl (Nat.le_of_ble_eq_true rfl) dJ8_init_2_1 rfl rfl hk (Nat.zero_add _) (fun v9 M1 H locs hP S hk => ?_) (fun E q ce M9 H9 locs9 hX => hX.elim)
  obtain ⟨rfl, h⟩ := hP
  refine W.eq (g2 := F0 m 4 ls []) rfl ?_
  exact mm_vret C S hr (Nat.le_trans (Nat.le_add_right _ _) hk) dJ8_init_2_4 h
/-! J8_init_3_X10: level 11 -/
def wp_J8_init_3_X10 (G : mG) (b : Nat) (P : mM → Prop) (M : mM) (a0 : Nat) (x3 : Int32) (x4 : Int32) : Prop :=
  wp_J7_init_3_X10 G 0 (fun M1 => P M1) M a0 x3 x4
set_option maxHeartbeats 4000000 in
set_option maxRecDepth 100000 in
theorem wk_J8_init_3_X10 {l : Launch} (hst0 : l.stackTraces = false) {G : mG} {b : Nat} {P : mM → Prop} {M : mM} {a0 : Nat} {x3 : Int32} {x4 : Int32} (h : wp_J8_init_3_X10 G b P M a0 x3 x4) : mMet l yJ8_init_3 (ws_ yJ8_init_3 cJ8_init_3 5 (Option.none : Option Jvm.ClassFile.FieldType)) 11 b G [.ref a0, .null, .null, .int x3, .int x4] M (mRv P) (fun _ _ _ => False) := by
  refine mm_met hst0 (by decide) (Nat.le_of_ble_eq_true rfl) ?_
  intro p e s m args below meth c ls C hr hnt hnm hl S
  have hl : lv_has ls 5 [(0, .ref a0), (1, .null), (2, .null), (3, .int x3), (4, .int x4)] := hl
  generalize mA M s.heap.size = A at C S ⊢
  have hx := C.hx
  have hb := C.hb
  have hk : 0 + b ≤ b := Nat.le_of_eq (Nat.zero_add b)
  unfold wp_J8_init_3_X10 at h
  refine lv_aload_n hx hb dJ8_init_3_0 rfl (lv_at hl 0 rfl) ?_
  refine lv_aload_nN hx hb dJ8_init_3_1 rfl (lv_at hl 1 rfl) ?_
  refine lv_aload_nN hx hb dJ8_init_3_2 rfl (lv_at hl 2 rfl) ?_
  refine lv_iload_n hx hb dJ8_init_3_3 rfl (lv_at hl 3 rfl) ?_
  refine lv_iload hx hb dJ8_init_3_4 (lv_at hl 4 rfl) ?_
  refine mm_I (As := [.null, .null, .int x3, .int x4]) (rest := []) C S hl.1 (wk_J7_init_3_X10 hst0 h) q1224 q59 q1222 q1223 rfl pd_J7_init_3 ⟨Nat.le_of_ble_eq_true rfl, Nat.le_of_ble_eq_true rfl⟩ rfl rfl (Nat.le_of_ble_eq_true rfl) dJ8_init_3_6 rfl rfl hk (Nat.zero_add _) (fun v9 M1 H locs hP S hk => ?_) (fun E q ce M9 H9 locs9 hX => hX.elim)
  obtain ⟨rfl, h⟩ := hP
  refine W.eq (g2 := F0 m 9 ls []) rfl ?_
  exact mm_vret C S hr (Nat.le_trans (Nat.le_add_right _ _) hk) dJ8_init_3_9 h
/-! J8_init_3_X13: level 11 -/
def wp_J8_init_3_X13 (G : mG) (b : Nat) (P : mM → Prop) (M : mM) (a0 : Nat) (x3 : Int32) (x4 : Int32) : Prop :=
  wp_J7_init_3_X13 G 0 (fun M1 => P M1) M a0 x3 x4
set_option maxHeartbeats 4000000 in
set_option maxRecDepth 100000 in
theorem wk_J8_init_3_X13 {l : Launch} (hst0 : l.stackTraces = false) {G : mG} {b : Nat} {P : mM → Prop} {M : mM} {a0 : Nat} {x3 : Int32} {x4 : Int32} (h : wp_J8_init_3_X13 G b P M a0 x3 x4) : mMet l yJ8_init_3 (ws_ yJ8_init_3 cJ8_init_3 5 (Option.none : Option Jvm.ClassFile.FieldType)) 11 b G [.ref a0, .null, .null, .int x3, .int x4] M (mRv P) (fun _ _ _ => False) := by
  refine mm_met hst0 (by decide) (Nat.le_of_ble_eq_true rfl) ?_
  intro p e s m args below meth c ls C hr hnt hnm hl S
  have hl : lv_has ls 5 [(0, .ref a0), (1, .null), (2, .null), (3, .int x3), (4, .int x4)] := hl
  generalize mA M s.heap.size = A at C S ⊢
  have hx := C.hx
  have hb := C.hb
  have hk : 0 + b ≤ b := Nat.le_of_eq (Nat.zero_add b)
  unfold wp_J8_init_3_X13 at h
  refine lv_aload_n hx hb dJ8_init_3_0 rfl (lv_at hl 0 rfl) ?_
  refine lv_aload_nN hx hb dJ8_init_3_1 rfl (lv_at hl 1 rfl) ?_
  refine lv_aload_nN hx hb dJ8_init_3_2 rfl (lv_at hl 2 rfl) ?_
  refine lv_iload_n hx hb dJ8_init_3_3 rfl (lv_at hl 3 rfl) ?_
  refine lv_iload hx hb dJ8_init_3_4 (lv_at hl 4 rfl) ?_
  refine mm_I (As := [.null, .null, .int x3, .int x4]) (rest := []) C S hl.1 (wk_J7_init_3_X13 hst0 h) q1224 q59 q1222 q1223 rfl pd_J7_init_3 ⟨Nat.le_of_ble_eq_true rfl, Nat.le_of_ble_eq_true rfl⟩ rfl rfl (Nat.le_of_ble_eq_true rfl) dJ8_init_3_6 rfl rfl hk (Nat.zero_add _) (fun v9 M1 H locs hP S hk => ?_) (fun E q ce M9 H9 locs9 hX => hX.elim)
  obtain ⟨rfl, h⟩ := hP
  refine W.eq (g2 := F0 m 9 ls []) rfl ?_
  exact mm_vret C S hr (Nat.le_trans (Nat.le_add_right _ _) hk) dJ8_init_3_9 h
/-! J8_init_3_X15: level 11 -/
def wp_J8_init_3_X15 (G : mG) (b : Nat) (P : mM → Prop) (M : mM) (a0 : Nat) (a2 : Nat) (x3 : Int32) (x4 : Int32) : Prop :=
  wp_J7_init_3_X15 G 0 (fun M1 => P M1) M a0 a2 x3 x4
set_option maxHeartbeats 4000000 in
set_option maxRecDepth 100000 in
theorem wk_J8_init_3_X15 {l : Launch} (hst0 : l.stackTraces = false) {G : mG} {b : Nat} {P : mM → Prop} {M : mM} {a0 : Nat} {a2 : Nat} {x3 : Int32} {x4 : Int32} (h : wp_J8_init_3_X15 G b P M a0 a2 x3 x4) : mMet l yJ8_init_3 (ws_ yJ8_init_3 cJ8_init_3 5 (Option.none : Option Jvm.ClassFile.FieldType)) 11 b G [.ref a0, .null, .ref a2, .int x3, .int x4] M (mRv P) (fun _ _ _ => False) := by
  refine mm_met hst0 (by decide) (Nat.le_of_ble_eq_true rfl) ?_
  intro p e s m args below meth c ls C hr hnt hnm hl S
  have hl : lv_has ls 5 [(0, .ref a0), (1, .null), (2, .ref a2), (3, .int x3), (4, .int x4)] := hl
  generalize mA M s.heap.size = A at C S ⊢
  have hx := C.hx
  have hb := C.hb
  have hk : 0 + b ≤ b := Nat.le_of_eq (Nat.zero_add b)
  unfold wp_J8_init_3_X15 at h
  refine lv_aload_n hx hb dJ8_init_3_0 rfl (lv_at hl 0 rfl) ?_
  refine lv_aload_nN hx hb dJ8_init_3_1 rfl (lv_at hl 1 rfl) ?_
  refine lv_aload_n hx hb dJ8_init_3_2 rfl (lv_at hl 2 rfl) ?_
  refine lv_iload_n hx hb dJ8_init_3_3 rfl (lv_at hl 3 rfl) ?_
  refine lv_iload hx hb dJ8_init_3_4 (lv_at hl 4 rfl) ?_
  refine mm_I (As := [.null, .ref a2, .int x3, .int x4]) (rest := []) C S hl.1 (wk_J7_init_3_X15 hst0 h) q1224 q59 q1222 q1223 rfl pd_J7_init_3 ⟨Nat.le_of_ble_eq_true rfl, Nat.le_of_ble_eq_true rfl⟩ rfl rfl (Nat.le_of_ble_eq_true rfl) dJ8_init_3_6 rfl rfl hk (Nat.zero_add _) (fun v9 M1 H locs hP S hk => ?_) (fun E q ce M9 H9 locs9 hX => hX.elim)
  obtain ⟨rfl, h⟩ := hP
  refine W.eq (g2 := F0 m 9 ls []) rfl ?_
  exact mm_vret C S hr (Nat.le_trans (Nat.le_add_right _ _) hk) dJ8_init_3_9 h
/-! X1_checkIndex: level 10, alloc, throws java/lang/IndexOutOfBoundsException -/
def wb_X1_checkIndex_9 (G : mG) (P : mM → Prop) (X : String → Nat → mM → Prop) (r : Nat) (M : mM) : Prop :=
  7 ≤ r ∧ ∀ q, X "java/lang/IndexOutOfBoundsException" q M
def wp_X1_checkIndex (G : mG) (b : Nat) (P : mM → Prop) (X : String → Nat → mM → Prop) (M : mM) (x0 : Int32) (x1 : Int32) : Prop :=
  (x0 < 0 → wb_X1_checkIndex_9 G P X b M) ∧ (¬ x0 < 0 → (x0 < x1 → P M) ∧ (¬ x0 < x1 → wb_X1_checkIndex_9 G P X b M))
set_option maxHeartbeats 4000000 in
set_option maxRecDepth 100000 in
theorem wk_X1_checkIndex {l : Launch} (hst0 : l.stackTraces = false) {G : mG} {b : Nat} {P : mM → Prop} {X : String → Nat → mM → Prop} {M : mM} {x0 : Int32} {x1 : Int32} (h : wp_X1_checkIndex G b P X M x0 x1) : mMet l yX1_checkIndex (ws_ yX1_checkIndex cX1_checkIndex 2 (Option.none : Option Jvm.ClassFile.FieldType)) 10 b G [.int x0, .int x1] M (mRv P) X := by
  refine mm_met hst0 (by decide) (Nat.le_of_ble_eq_true rfl) ?_
  intro p e s m args below meth c ls C hr hnt hnm hl S
  have hl : lv_has ls 2 [(0, .int x0), (1, .int x1)] := hl
  generalize mA M s.heap.size = A at C S ⊢
  have hx := C.hx
  have hb := C.hb
  have hk : 0 + b ≤ b := Nat.le_of_eq (Nat.zero_add b)
  have j9 : ∀ (k r : Nat) (M : mM) (H : Heap) (locs : List Loc) (ls : Array Slot), k + r ≤ b → mW G A s M H locs → lv_has ls 2 [] → wb_X1_checkIndex_9 G P X r M → W p l e (mRm 10 b) s m args below meth c H locs k k (vx_MQ below (mQ G A (mRv P)) (mXC G A X) args s b b A) (F0 m 9 ls []) := by
    intro k r M H locs ls  hk S hl h
    unfold wb_X1_checkIndex_9 at h
    exact mm_throw0 C S (hl.1.trans C.hml.symm) (cls := "java/lang/IndexOutOfBoundsException") (names := nm_IndexOutOfBoundsException) (ic := 93) (by decide) (by decide) q519 q62 tw_IndexOutOfBoundsException_X1_a tw_IndexOutOfBoundsException_X1_b dX1_checkIndex_9 dX1_checkIndex_12 dX1_checkIndex_13 dX1_checkIndex_16 (fun x hx => (hnt x hx).elim) (Nat.le_of_ble_eq_true rfl) (Nat.le_of_ble_eq_true rfl) rfl rfl hk h
  unfold wp_X1_checkIndex at h
  refine lv_iload_n hx hb dX1_checkIndex_0 rfl (lv_at hl 0 rfl) ?_
  refine lv_if_lt (tgt := 9) hx hb dX1_checkIndex_1 (by decide) (fun c9 => ?_) (fun c9 => ?_)
  · have h := h.1 c9
    exact j9 _ _ _ _ _ _ hk S (lv_sub hl [] rfl) h
  · have h := h.2 c9
    refine lv_iload_n hx hb dX1_checkIndex_4 rfl (lv_at hl 0 rfl) ?_
    refine lv_iload_n hx hb dX1_checkIndex_5 rfl (lv_at hl 1 rfl) ?_
    refine lv_icmp_lt (tgt := 17) hx hb dX1_checkIndex_6 (by decide) (fun c9 => ?_) (fun c9 => ?_)
    · have h := h.1 c9
      exact mm_vret C S hr (Nat.le_trans (Nat.le_add_right _ _) hk) dX1_checkIndex_17 h
    · have h := h.2 c9
      exact j9 _ _ _ _ _ _ hk S (lv_sub hl [] rfl) h
/-! X1_checkArgument: level 10, alloc, throws java/lang/IllegalArgumentException -/
def wp_X1_checkArgument (G : mG) (b : Nat) (P : mM → Prop) (X : String → Nat → mM → Prop) (M : mM) (x0 : Int32) : Prop :=
  (¬ x0 = 0 → P M) ∧ (x0 = 0 → 7 ≤ b ∧ ∀ q, X "java/lang/IllegalArgumentException" q M)
set_option maxHeartbeats 4000000 in
set_option maxRecDepth 100000 in
theorem wk_X1_checkArgument {l : Launch} (hst0 : l.stackTraces = false) {G : mG} {b : Nat} {P : mM → Prop} {X : String → Nat → mM → Prop} {M : mM} {x0 : Int32} (h : wp_X1_checkArgument G b P X M x0) : mMet l yX1_checkArgument (ws_ yX1_checkArgument cX1_checkArgument 1 (Option.none : Option Jvm.ClassFile.FieldType)) 10 b G [.int x0] M (mRv P) X := by
  refine mm_met hst0 (by decide) (Nat.le_of_ble_eq_true rfl) ?_
  intro p e s m args below meth c ls C hr hnt hnm hl S
  have hl : lv_has ls 1 [(0, .int x0)] := hl
  generalize mA M s.heap.size = A at C S ⊢
  have hx := C.hx
  have hb := C.hb
  have hk : 0 + b ≤ b := Nat.le_of_eq (Nat.zero_add b)
  unfold wp_X1_checkArgument at h
  refine lv_iload_n hx hb dX1_checkArgument_0 rfl (lv_at hl 0 rfl) ?_
  refine lv_if_ne (tgt := 12) hx hb dX1_checkArgument_1 (by decide) (fun c9 => ?_) (fun c9 => ?_)
  · have h := h.1 c9
    exact mm_vret C S hr (Nat.le_trans (Nat.le_add_right _ _) hk) dX1_checkArgument_12 h
  · have h := h.2 c9
    exact mm_throw0 C S (hl.1.trans C.hml.symm) (cls := "java/lang/IllegalArgumentException") (names := nm_IllegalArgumentException) (ic := 83) (by decide) (by decide) q546 q64 tw_IllegalArgumentException_X1_a tw_IllegalArgumentException_X1_b dX1_checkArgument_4 dX1_checkArgument_7 dX1_checkArgument_8 dX1_checkArgument_11 (fun x hx => (hnt x hx).elim) (Nat.le_of_ble_eq_true rfl) (Nat.le_of_ble_eq_true rfl) rfl rfl hk h
/-! X1_checkRange: level 11, alloc, throws java/lang/IllegalArgumentException -/
def wb_X1_checkRange_15 (G : mG) (P : mM → Prop) (X : String → Nat → mM → Prop) (r : Nat) (M : mM) (s0 : Int32) : Prop :=
  ∃ b2 r3 : Nat, b2 + r3 = r ∧ wp_X1_checkArgument G b2 (fun M1 => P M1) X M s0
def wb_X1_checkRange_14 (G : mG) (P : mM → Prop) (X : String → Nat → mM → Prop) (r : Nat) (M : mM) : Prop :=
  wb_X1_checkRange_15 G P X r M 0
def wp_X1_checkRange (G : mG) (b : Nat) (P : mM → Prop) (X : String → Nat → mM → Prop) (M : mM) (x0 : Int32) (x1 : Int32) (x2 : Int32) : Prop :=
  (x0 < x1 → wb_X1_checkRange_14 G P X b M) ∧ (¬ x0 < x1 → (x2 < x0 → wb_X1_checkRange_14 G P X b M) ∧ (¬ x2 < x0 → wb_X1_checkRange_15 G P X b M 1))
set_option maxHeartbeats 4000000 in
set_option maxRecDepth 100000 in
theorem wk_X1_checkRange {l : Launch} (hst0 : l.stackTraces = false) {G : mG} {b : Nat} {P : mM → Prop} {X : String → Nat → mM → Prop} {M : mM} {x0 : Int32} {x1 : Int32} {x2 : Int32} (h : wp_X1_checkRange G b P X M x0 x1 x2) : mMet l yX1_checkRange (ws_ yX1_checkRange cX1_checkRange 3 (Option.none : Option Jvm.ClassFile.FieldType)) 11 b G [.int x0, .int x1, .int x2] M (mRv P) X := by
  refine mm_met hst0 (by decide) (Nat.le_of_ble_eq_true rfl) ?_
  intro p e s m args below meth c ls C hr hnt hnm hl S
  have hl : lv_has ls 3 [(0, .int x0), (1, .int x1), (2, .int x2)] := hl
  generalize mA M s.heap.size = A at C S ⊢
  have hx := C.hx
  have hb := C.hb
  have hk : 0 + b ≤ b := Nat.le_of_eq (Nat.zero_add b)
  have j15 : ∀ (k r : Nat) (M : mM) (H : Heap) (locs : List Loc) (ls : Array Slot) (s0 : Int32), k + r ≤ b → mW G A s M H locs → lv_has ls 3 [] → wb_X1_checkRange_15 G P X r M s0 → W p l e (mRm 11 b) s m args below meth c H locs k k (vx_MQ below (mQ G A (mRv P)) (mXC G A X) args s b b A) (F0 m 15 ls [.int s0]) := by
    intro k r M H locs ls s0 hk S hl h
    unfold wb_X1_checkRange_15 at h
    obtain ⟨b2, r3, hb9, h⟩ := h
    refine mm_S (As := [.int s0]) (rest := []) C S hl.1 (wk_X1_checkArgument hst0 h) (lw_S q543 q544 q48 q545) pd_X1_checkArgument ⟨Nat.le_of_ble_eq_true rfl, Nat.le_of_ble_eq_true rfl⟩ rfl rfl (Nat.le_of_ble_eq_true rfl) dX1_checkRange_15 rfl rfl hk hb9 (fun v9 M1 H locs hP S hk => ?_) (fun E q ce M9 H9 locs9 hX S9 hk9 hc9 hv9 hf9 => mm_out C S9 (fun x hx => (hnt x hx).elim) (Nat.le_trans (Nat.le_add_right _ _) hk9) hc9 hv9 hf9 hX)
    obtain ⟨rfl, h⟩ := hP
    refine W.eq (g2 := F0 m 18 ls []) rfl ?_
    exact mm_vret C S hr (Nat.le_trans (Nat.le_add_right _ _) hk) dX1_checkRange_18 h
  have j14 : ∀ (k r : Nat) (M : mM) (H : Heap) (locs : List Loc) (ls : Array Slot), k + r ≤ b → mW G A s M H locs → lv_has ls 3 [] → wb_X1_checkRange_14 G P X r M → W p l e (mRm 11 b) s m args below meth c H locs k k (vx_MQ below (mQ G A (mRv P)) (mXC G A X) args s b b A) (F0 m 14 ls []) := by
    intro k r M H locs ls  hk S hl h
    unfold wb_X1_checkRange_14 at h
    refine lv_iconst (v := 0) hx hb dX1_checkRange_14 (by decide) ?_
    exact j15 _ _ _ _ _ _ _ hk S hl h
  unfold wp_X1_checkRange at h
  refine lv_iload_n hx hb dX1_checkRange_0 rfl (lv_at hl 0 rfl) ?_
  refine lv_iload_n hx hb dX1_checkRange_1 rfl (lv_at hl 1 rfl) ?_
  refine lv_icmp_lt (tgt := 14) hx hb dX1_checkRange_2 (by decide) (fun c9 => ?_) (fun c9 => ?_)
  · have h := h.1 c9
    exact j14 _ _ _ _ _ _ hk S (lv_sub hl [] rfl) h
  · have h := h.2 c9
    refine lv_iload_n hx hb dX1_checkRange_5 rfl (lv_at hl 0 rfl) ?_
    refine lv_iload_n hx hb dX1_checkRange_6 rfl (lv_at hl 2 rfl) ?_
    refine lv_icmp_gt (tgt := 14) hx hb dX1_checkRange_7 (by decide) (fun c9 => ?_) (fun c9 => ?_)
    · have h := h.1 c9
      exact j14 _ _ _ _ _ _ hk S (lv_sub hl [] rfl) h
    · have h := h.2 c9
      refine lv_iconst (v := 1) hx hb dX1_checkRange_10 (by decide) ?_
      refine lv_goto (tgt := 15) hx hb dX1_checkRange_11 (by decide) ?_
      exact j15 _ _ _ _ _ _ _ hk S (lv_sub hl [] rfl) h
/-! X1_checkState: level 10, alloc, throws java/lang/IllegalStateException -/
def wp_X1_checkState (G : mG) (b : Nat) (P : mM → Prop) (X : String → Nat → mM → Prop) (M : mM) (x0 : Int32) : Prop :=
  (¬ x0 = 0 → P M) ∧ (x0 = 0 → 7 ≤ b ∧ ∀ q, X "java/lang/IllegalStateException" q M)
set_option maxHeartbeats 4000000 in
set_option maxRecDepth 100000 in
theorem wk_X1_checkState {l : Launch} (hst0 : l.stackTraces = false) {G : mG} {b : Nat} {P : mM → Prop} {X : String → Nat → mM → Prop} {M : mM} {x0 : Int32} (h : wp_X1_checkState G b P X M x0) : mMet l yX1_checkState (ws_ yX1_checkState cX1_checkState 1 (Option.none : Option Jvm.ClassFile.FieldType)) 10 b G [.int x0] M (mRv P) X := by
  refine mm_met hst0 (by decide) (Nat.le_of_ble_eq_true rfl) ?_
  intro p e s m args below meth c ls C hr hnt hnm hl S
  have hl : lv_has ls 1 [(0, .int x0)] := hl
  generalize mA M s.heap.size = A at C S ⊢
  have hx := C.hx
  have hb := C.hb
  have hk : 0 + b ≤ b := Nat.le_of_eq (Nat.zero_add b)
  unfold wp_X1_checkState at h
  refine lv_iload_n hx hb dX1_checkState_0 rfl (lv_at hl 0 rfl) ?_
  refine lv_if_ne (tgt := 12) hx hb dX1_checkState_1 (by decide) (fun c9 => ?_) (fun c9 => ?_)
  · have h := h.1 c9
    exact mm_vret C S hr (Nat.le_trans (Nat.le_add_right _ _) hk) dX1_checkState_12 h
  · have h := h.2 c9
    exact mm_throw0 C S (hl.1.trans C.hml.symm) (cls := "java/lang/IllegalStateException") (names := nm_IllegalStateException) (ic := 90) (by decide) (by decide) q609 q65 tw_IllegalStateException_X1_a tw_IllegalStateException_X1_b dX1_checkState_4 dX1_checkState_7 dX1_checkState_8 dX1_checkState_11 (fun x hx => (hnt x hx).elim) (Nat.le_of_ble_eq_true rfl) (Nat.le_of_ble_eq_true rfl) rfl rfl hk h
/-! X5_init: level 10 -/
def wp_X5_init (G : mG) (b : Nat) (P : mM → Prop) (M : mM) (a0 : Nat) (x1 : Int32) (x2 : Int32) (x3 : Int32) : Prop :=
  pfn M a0 4 3 .boolean 1 fun M1 => pfi M1 a0 4 0 x1 fun M2 => pfi M2 a0 4 1 x2 fun M3 => pfi M3 a0 4 2 x3 fun M4 => P M4
set_option maxHeartbeats 4000000 in
set_option maxRecDepth 100000 in
theorem wk_X5_init {l : Launch} (hst0 : l.stackTraces = false) {G : mG} {b : Nat} {P : mM → Prop} {M : mM} {a0 : Nat} {x1 : Int32} {x2 : Int32} {x3 : Int32} (h : wp_X5_init G b P M a0 x1 x2 x3) : mMet l yX5_init (ws_ yX5_init cX5_init 4 (Option.none : Option Jvm.ClassFile.FieldType)) 10 b G [.ref a0, .int x1, .int x2, .int x3] M (mRv P) (fun _ _ _ => False) := by
  refine mm_met hst0 (by decide) (Nat.le_of_ble_eq_true rfl) ?_
  intro p e s m args below meth c ls C hr hnt hnm hl S
  have hl : lv_has ls 4 [(0, .ref a0), (1, .int x1), (2, .int x2), (3, .int x3)] := hl
  generalize mA M s.heap.size = A at C S ⊢
  have hx := C.hx
  have hb := C.hb
  have hk : 0 + b ≤ b := Nat.le_of_eq (Nat.zero_add b)
  unfold wp_X5_init at h
  refine lv_aload_n hx hb dX5_init_0 rfl (lv_at hl 0 rfl) ?_
  refine mm_init C hl.1 q629 q100 q101 dX5_init_1 (Nat.le_of_ble_eq_true rfl) (Nat.le_of_ble_eq_true rfl) ?_
  refine lv_aload_n hx hb dX5_init_4 rfl (lv_at hl 0 rfl) ?_
  refine lv_iconst (v := 1) hx hb dX5_init_5 (by decide) ?_
  refine mm_pfn C S (ci := 4) (k := 3) rfl in_X5 tyX5_ok nmX5 (by decide) q636 (fun _ h9 => h9) rfl dX5_init_6 rfl h (fun M1 H locs h S => ?_)
  refine lv_aload_n hx hb dX5_init_9 rfl (lv_at hl 0 rfl) ?_
  refine lv_iload_n hx hb dX5_init_10 rfl (lv_at hl 1 rfl) ?_
  refine mm_pfiF C S (ci := 4) (k := 0) rfl in_X5 tyX5_ok nmX5 (by decide) q630 (fun _ h9 => h9) rfl (hnm.trans rfl) rfl dX5_init_11 rfl h (fun M2 H locs h S => ?_)
  refine lv_aload_n hx hb dX5_init_14 rfl (lv_at hl 0 rfl) ?_
  refine lv_iload_n hx hb dX5_init_15 rfl (lv_at hl 2 rfl) ?_
  refine mm_pfiF C S (ci := 4) (k := 1) rfl in_X5 tyX5_ok nmX5 (by decide) q632 (fun _ h9 => h9) rfl (hnm.trans rfl) rfl dX5_init_16 rfl h (fun M3 H locs h S => ?_)
  refine lv_aload_n hx hb dX5_init_19 rfl (lv_at hl 0 rfl) ?_
  refine lv_iload_n hx hb dX5_init_20 rfl (lv_at hl 3 rfl) ?_
  refine mm_pfiF C S (ci := 4) (k := 2) rfl in_X5 tyX5_ok nmX5 (by decide) q634 (fun _ h9 => h9) rfl (hnm.trans rfl) rfl dX5_init_21 rfl h (fun M4 H locs h S => ?_)
  exact mm_vret C S hr (Nat.le_trans (Nat.le_add_right _ _) hk) dX5_init_24 h
/-! X1_addSluice: level 16, alloc, throws java/lang/IllegalArgumentException,java/lang/IllegalStateException,java/lang/IndexOutOfBoundsException -/
def wb_X1_addSluice_51 (G : mG) (P : Int32 → mM → Prop) (X : String → Nat → mM → Prop) (r : Nat) (M : mM) (a0 : Nat) (x1 : Int32) (x2 : Int32) (x3 : Int32) (s0 : Int32) : Prop :=
  ∃ b17 r18 : Nat, b17 + r18 = r ∧ wp_X1_checkState G b17 (fun M16 => gfa M16 a0 0 4 fun u19 => nwo M16 r18 4 4 dfsX5 fun u20 M21 r22 => wp_X5_init G 0 (fun M23 => isc M23 u19 16 ∧ (∃ b25 r26 : Nat, b25 + r26 = r22 ∧ wp_J2_add G b25 (fun v27 M24 => gfa M24 a0 0 4 fun u28 => isc M24 u28 16 ∧ (wp_J2_size G 0 (fun v30 M29 => P (v30 - 1) M29) M24 u28)) M23 u19 u20)) M21 u20 x1 x2 x3) X M s0
def wb_X1_addSluice_22 (G : mG) (P : Int32 → mM → Prop) (X : String → Nat → mM → Prop) (r : Nat) (M : mM) (a0 : Nat) (x1 : Int32) (x2 : Int32) (x3 : Int32) (s0 : Int32) : Prop :=
  ∃ b8 r9 : Nat, b8 + r9 = r ∧ wp_X1_checkArgument G b8 (fun M7 => ∃ b11 r12 : Nat, b11 + r12 = r9 ∧ wp_X1_checkRange G b11 (fun M10 => gfa M10 a0 0 4 fun u13 => isc M10 u13 16 ∧ (wp_J2_size G 0 (fun v15 M14 => (8 ≤ v15 → wb_X1_addSluice_51 G P X r12 M14 a0 x1 x2 x3 0) ∧ (¬ 8 ≤ v15 → wb_X1_addSluice_51 G P X r12 M14 a0 x1 x2 x3 1)) M10 u13)) X M7 x3 0 9) X M s0
def wp_X1_addSluice (G : mG) (b : Nat) (P : Int32 → mM → Prop) (X : String → Nat → mM → Prop) (M : mM) (a0 : Nat) (x1 : Int32) (x2 : Int32) (x3 : Int32) : Prop :=
  ∃ b2 r3 : Nat, b2 + r3 = b ∧ wp_X1_checkIndex G b2 (fun M1 => ∃ b5 r6 : Nat, b5 + r6 = r3 ∧ wp_X1_checkIndex G b5 (fun M4 => (x1 = x2 → wb_X1_addSluice_22 G P X r6 M4 a0 x1 x2 x3 0) ∧ (¬ x1 = x2 → wb_X1_addSluice_22 G P X r6 M4 a0 x1 x2 x3 1)) X M1 (x2 - (-1)) 5) X M x1 4
set_option maxHeartbeats 4000000 in
set_option maxRecDepth 100000 in
theorem wk_X1_addSluice {l : Launch} (hst0 : l.stackTraces = false) {G : mG} {b : Nat} {P : Int32 → mM → Prop} {X : String → Nat → mM → Prop} {M : mM} {a0 : Nat} {x1 : Int32} {x2 : Int32} {x3 : Int32} (h : wp_X1_addSluice G b P X M a0 x1 x2 x3) : mMet l yX1_addSluice (ws_ yX1_addSluice cX1_addSluice 4 (Option.some Jvm.ClassFile.FieldType.int)) 16 b G [.ref a0, .int x1, .int x2, .int x3] M (mRi P) X := by
  refine mm_met hst0 (by decide) (Nat.le_of_ble_eq_true rfl) ?_
  intro p e s m args below meth c ls C hr hnt hnm hl S
  have hl : lv_has ls 4 [(0, .ref a0), (1, .int x1), (2, .int x2), (3, .int x3)] := hl
  generalize mA M s.heap.size = A at C S ⊢
  have hx := C.hx
  have hb := C.hb
  have hk : 0 + b ≤ b := Nat.le_of_eq (Nat.zero_add b)
  have j51 : ∀ (k r : Nat) (M : mM) (H : Heap) (locs : List Loc) (ls : Array Slot) (a0 : Nat) (x1 : Int32) (x2 : Int32) (x3 : Int32) (s0 : Int32), k + r ≤ b → mW G A s M H locs → lv_has ls 4 [(0, .ref a0), (1, .int x1), (2, .int x2), (3, .int x3)] → wb_X1_addSluice_51 G P X r M a0 x1 x2 x3 s0 → W p l e (mRm 16 b) s m args below meth c H locs k k (vx_MQ below (mQ G A (mRi P)) (mXC G A X) args s b b A) (F0 m 51 ls [.int s0]) := by
    intro k r M H locs ls a0 x1 x2 x3 s0 hk S hl h
    unfold wb_X1_addSluice_51 at h
    obtain ⟨b17, r18, hb9, h⟩ := h
    refine mm_S (As := [.int s0]) (rest := []) C S hl.1 (wk_X1_checkState hst0 h) (lw_S q606 q607 q48 q608) pd_X1_checkState ⟨Nat.le_of_ble_eq_true rfl, Nat.le_of_ble_eq_true rfl⟩ rfl rfl (Nat.le_of_ble_eq_true rfl) dX1_addSluice_51 rfl rfl hk hb9 (fun v9 M16 H locs hP S hk => ?_) (fun E q ce M9 H9 locs9 hX S9 hk9 hc9 hv9 hf9 => mm_out C S9 (fun x hx => (hnt x hx).elim) (Nat.le_trans (Nat.le_add_right _ _) hk9) hc9 hv9 hf9 hX)
    obtain ⟨rfl, h⟩ := hP
    refine W.eq (g2 := F0 m 54 ls []) rfl ?_
    refine lv_aload_n hx hb dX1_addSluice_54 rfl (lv_at hl 0 rfl) ?_
    refine mm_gfa C S (ci := 0) (k := 4) rfl in_X1 (by decide) q219 (fun _ h9 => h9) dX1_addSluice_55 h (fun u19 h => ?_)
    refine mm_new C S (ci := 4) (T := TX5) rfl in_X5 tyX5_ok q624 q625 q66 dfX5 (by decide) dX1_addSluice_58 rfl rfl hk h (fun u20 M21 r22 H h S hk => ?_)
    refine lv_dup hx hb dX1_addSluice_61 rfl ?_
    refine lv_iload_n hx hb dX1_addSluice_62 rfl (lv_at hl 1 rfl) ?_
    refine lv_iload_n hx hb dX1_addSluice_63 rfl (lv_at hl 2 rfl) ?_
    refine lv_iload_n hx hb dX1_addSluice_64 rfl (lv_at hl 3 rfl) ?_
    refine mm_I (As := [.int x1, .int x2, .int x3]) (rest := [.ref u20, .ref u19]) C S hl.1 (wk_X5_init hst0 h) q628 q66 q626 q627 rfl pd_X5_init ⟨Nat.le_of_ble_eq_true rfl, Nat.le_of_ble_eq_true rfl⟩ rfl rfl (Nat.le_of_ble_eq_true rfl) dX1_addSluice_65 rfl rfl hk (Nat.zero_add _) (fun v9 M23 H locs hP S hk => ?_) (fun E q ce M9 H9 locs9 hX => hX.elim)
    obtain ⟨rfl, h⟩ := hP
    refine W.eq (g2 := F0 m 68 ls [.ref u20, .ref u19]) rfl ?_
    obtain ⟨hI, h⟩ := h
    obtain ⟨b25, r26, hb9, h⟩ := h
    refine mm_F (As := [.ref u20]) (rest := []) C S hl.1 (x := ⟨"java/util/List", "add", "(Ljava/lang/Object;)Z"⟩) (wk_J2_add hst0 h) (T := TJ2) rfl hI (mWsF q648 q651 q653 q51 (lw_meth q655)) (by decide +kernel) pdi_3 ⟨Nat.le_of_ble_eq_true rfl, Nat.le_of_ble_eq_true rfl⟩ rfl rfl (Nat.le_of_ble_eq_true rfl) dX1_addSluice_68 rfl rfl hk hb9 (fun v9 M24 H locs hP S hk => ?_) (fun E q ce M9 H9 locs9 hX => hX.elim)
    obtain ⟨v27, rfl, h⟩ := hP
    refine W.eq (g2 := F0 m 73 ls [.int v27]) rfl ?_
    refine lv_pop hx hb dX1_addSluice_73 rfl ?_
    refine lv_aload_n hx hb dX1_addSluice_74 rfl (lv_at hl 0 rfl) ?_
    refine mm_gfa C S (ci := 0) (k := 4) rfl in_X1 (by decide) q219 (fun _ h9 => h9) dX1_addSluice_75 h (fun u28 h => ?_)
    obtain ⟨hI, h⟩ := h
    refine mm_F (As := []) (rest := []) C S hl.1 (x := ⟨"java/util/List", "size", "()I"⟩) (wk_J2_size hst0 h) (T := TJ2) rfl hI (mWsF q284 q288 q290 q51 (lw_meth q292)) (by decide +kernel) pdi_2 ⟨Nat.le_of_ble_eq_true rfl, Nat.le_of_ble_eq_true rfl⟩ rfl rfl (Nat.le_of_ble_eq_true rfl) dX1_addSluice_78 rfl rfl hk (Nat.zero_add _) (fun v9 M29 H locs hP S hk => ?_) (fun E q ce M9 H9 locs9 hX => hX.elim)
    obtain ⟨v30, rfl, h⟩ := hP
    refine W.eq (g2 := F0 m 83 ls [.int v30]) rfl ?_
    refine lv_iconst (v := 1) hx hb dX1_addSluice_83 (by decide) ?_
    refine lv_isub hx hb dX1_addSluice_84 ?_
    exact mm_iret C S hr (Nat.le_trans (Nat.le_add_right _ _) hk) dX1_addSluice_85 h
  have j22 : ∀ (k r : Nat) (M : mM) (H : Heap) (locs : List Loc) (ls : Array Slot) (a0 : Nat) (x1 : Int32) (x2 : Int32) (x3 : Int32) (s0 : Int32), k + r ≤ b → mW G A s M H locs → lv_has ls 4 [(0, .ref a0), (1, .int x1), (2, .int x2), (3, .int x3)] → wb_X1_addSluice_22 G P X r M a0 x1 x2 x3 s0 → W p l e (mRm 16 b) s m args below meth c H locs k k (vx_MQ below (mQ G A (mRi P)) (mXC G A X) args s b b A) (F0 m 22 ls [.int s0]) := by
    intro k r M H locs ls a0 x1 x2 x3 s0 hk S hl h
    unfold wb_X1_addSluice_22 at h
    obtain ⟨b8, r9, hb9, h⟩ := h
    refine mm_S (As := [.int s0]) (rest := []) C S hl.1 (wk_X1_checkArgument hst0 h) (lw_S q543 q544 q48 q545) pd_X1_checkArgument ⟨Nat.le_of_ble_eq_true rfl, Nat.le_of_ble_eq_true rfl⟩ rfl rfl (Nat.le_of_ble_eq_true rfl) dX1_addSluice_22 rfl rfl hk hb9 (fun v9 M7 H locs hP S hk => ?_) (fun E q ce M9 H9 locs9 hX S9 hk9 hc9 hv9 hf9 => mm_out C S9 (fun x hx => (hnt x hx).elim) (Nat.le_trans (Nat.le_add_right _ _) hk9) hc9 hv9 hf9 hX)
    obtain ⟨rfl, h⟩ := hP
    refine W.eq (g2 := F0 m 25 ls []) rfl ?_
    refine lv_iload_n hx hb dX1_addSluice_25 rfl (lv_at hl 3 rfl) ?_
    refine lv_iconst (v := 0) hx hb dX1_addSluice_26 (by decide) ?_
    refine lv_bipush (v := 9) hx hb dX1_addSluice_27 (by decide) ?_
    obtain ⟨b11, r12, hb9, h⟩ := h
    refine mm_S (As := [.int x3, .int 0, .int 9]) (rest := []) C S hl.1 (wk_X1_checkRange hst0 h) (lw_S q540 q541 q48 q542) pd_X1_checkRange ⟨Nat.le_of_ble_eq_true rfl, Nat.le_of_ble_eq_true rfl⟩ rfl rfl (Nat.le_of_ble_eq_true rfl) dX1_addSluice_29 rfl rfl hk hb9 (fun v9 M10 H locs hP S hk => ?_) (fun E q ce M9 H9 locs9 hX S9 hk9 hc9 hv9 hf9 => mm_out C S9 (fun x hx => (hnt x hx).elim) (Nat.le_trans (Nat.le_add_right _ _) hk9) hc9 hv9 hf9 hX)
    obtain ⟨rfl, h⟩ := hP
    refine W.eq (g2 := F0 m 32 ls []) rfl ?_
    refine lv_aload_n hx hb dX1_addSluice_32 rfl (lv_at hl 0 rfl) ?_
    refine mm_gfa C S (ci := 0) (k := 4) rfl in_X1 (by decide) q219 (fun _ h9 => h9) dX1_addSluice_33 h (fun u13 h => ?_)
    obtain ⟨hI, h⟩ := h
    refine mm_F (As := []) (rest := []) C S hl.1 (x := ⟨"java/util/List", "size", "()I"⟩) (wk_J2_size hst0 h) (T := TJ2) rfl hI (mWsF q284 q288 q290 q51 (lw_meth q292)) (by decide +kernel) pdi_2 ⟨Nat.le_of_ble_eq_true rfl, Nat.le_of_ble_eq_true rfl⟩ rfl rfl (Nat.le_of_ble_eq_true rfl) dX1_addSluice_36 rfl rfl hk (Nat.zero_add _) (fun v9 M14 H locs hP S hk => ?_) (fun E q ce M9 H9 locs9 hX => hX.elim)
    obtain ⟨v15, rfl, h⟩ := hP
    refine W.eq (g2 := F0 m 41 ls [.int v15]) rfl ?_
    refine lv_bipush (v := 8) hx hb dX1_addSluice_41 (by decide) ?_
    refine lv_icmp_ge (tgt := 50) hx hb dX1_addSluice_43 (by decide) (fun c9 => ?_) (fun c9 => ?_)
    · have h := h.1 c9
      refine lv_iconst (v := 0) hx hb dX1_addSluice_50 (by decide) ?_
      exact j51 _ _ _ _ _ _ _ _ _ _ _ hk S hl h
    · have h := h.2 c9
      refine lv_iconst (v := 1) hx hb dX1_addSluice_46 (by decide) ?_
      refine lv_goto (tgt := 51) hx hb dX1_addSluice_47 (by decide) ?_
      exact j51 _ _ _ _ _ _ _ _ _ _ _ hk S hl h
  unfold wp_X1_addSluice at h
  refine lv_iload_n hx hb dX1_addSluice_0 rfl (lv_at hl 1 rfl) ?_
  refine lv_iconst (v := 4) hx hb dX1_addSluice_1 (by decide) ?_
  obtain ⟨b2, r3, hb9, h⟩ := h
  refine mm_S (As := [.int x1, .int 4]) (rest := []) C S hl.1 (wk_X1_checkIndex hst0 h) (lw_S q516 q517 q48 q518) pd_X1_checkIndex ⟨Nat.le_of_ble_eq_true rfl, Nat.le_of_ble_eq_true rfl⟩ rfl rfl (Nat.le_of_ble_eq_true rfl) dX1_addSluice_2 rfl rfl hk hb9 (fun v9 M1 H locs hP S hk => ?_) (fun E q ce M9 H9 locs9 hX S9 hk9 hc9 hv9 hf9 => mm_out C S9 (fun x hx => (hnt x hx).elim) (Nat.le_trans (Nat.le_add_right _ _) hk9) hc9 hv9 hf9 hX)
  obtain ⟨rfl, h⟩ := hP
  refine W.eq (g2 := F0 m 5 ls []) rfl ?_
  refine lv_iload_n hx hb dX1_addSluice_5 rfl (lv_at hl 2 rfl) ?_
  refine lv_iconst (v := (-1)) hx hb dX1_addSluice_6 (by decide) ?_
  refine lv_isub hx hb dX1_addSluice_7 ?_
  refine lv_iconst (v := 5) hx hb dX1_addSluice_8 (by decide) ?_
  obtain ⟨b5, r6, hb9, h⟩ := h
  refine mm_S (As := [.int (x2 - (-1)), .int 5]) (rest := []) C S hl.1 (wk_X1_checkIndex hst0 h) (lw_S q516 q517 q48 q518) pd_X1_checkIndex ⟨Nat.le_of_ble_eq_true rfl, Nat.le_of_ble_eq_true rfl⟩ rfl rfl (Nat.le_of_ble_eq_true rfl) dX1_addSluice_9 rfl rfl hk hb9 (fun v9 M4 H locs hP S hk => ?_) (fun E q ce M9 H9 locs9 hX S9 hk9 hc9 hv9 hf9 => mm_out C S9 (fun x hx => (hnt x hx).elim) (Nat.le_trans (Nat.le_add_right _ _) hk9) hc9 hv9 hf9 hX)
  obtain ⟨rfl, h⟩ := hP
  refine W.eq (g2 := F0 m 12 ls []) rfl ?_
  refine lv_iload_n hx hb dX1_addSluice_12 rfl (lv_at hl 1 rfl) ?_
  refine lv_iload_n hx hb dX1_addSluice_13 rfl (lv_at hl 2 rfl) ?_
  refine lv_icmp_eq (tgt := 21) hx hb dX1_addSluice_14 (by decide) (fun c9 => ?_) (fun c9 => ?_)
  · have h := h.1 c9
    refine lv_iconst (v := 0) hx hb dX1_addSluice_21 (by decide) ?_
    exact j22 _ _ _ _ _ _ _ _ _ _ _ hk S hl h
  · have h := h.2 c9
    refine lv_iconst (v := 1) hx hb dX1_addSluice_17 (by decide) ?_
    refine lv_goto (tgt := 22) hx hb dX1_addSluice_18 (by decide) ?_
    exact j22 _ _ _ _ _ _ _ _ _ _ _ hk S hl h
/-! X0_addSluice: level 17, alloc -/
def wb_X0_addSluice_15 (G : mG) (P : Int32 → mM → Prop) (r : Nat) (M : mM) (s0 : Nat) : Prop :=
  P 1 M
def wb_X0_addSluice_19 (G : mG) (P : Int32 → mM → Prop) (r : Nat) (M : mM) (s0 : Nat) : Prop :=
  P 2 M
def wb_X0_addSluice_23 (G : mG) (P : Int32 → mM → Prop) (r : Nat) (M : mM) (s0 : Nat) : Prop :=
  P 3 M
def wp_X0_addSluice (G : mG) (b : Nat) (P : Int32 → mM → Prop) (M : mM) (a0 : Nat) (x1 : Int32) (x2 : Int32) (x3 : Int32) (a4 : Nat) : Prop :=
  isc M a0 0 ∧ (∃ b2 r3 : Nat, b2 + r3 = b ∧ wp_X1_addSluice G b2 (fun v4 M1 => stl M1 4 a4 0 v4.toInt64 fun M5 => P 0 M5) (fun E9 u6 M7 => (E9 = "java/lang/IllegalArgumentException" ∧ wb_X0_addSluice_19 G P r3 M7 u6) ∨ (E9 = "java/lang/IllegalStateException" ∧ wb_X0_addSluice_23 G P r3 M7 u6) ∨ (E9 = "java/lang/IndexOutOfBoundsException" ∧ wb_X0_addSluice_15 G P r3 M7 u6)) M a0 x1 x2 x3)
set_option maxHeartbeats 4000000 in
set_option maxRecDepth 100000 in
theorem wk_X0_addSluice {l : Launch} (hst0 : l.stackTraces = false) {G : mG} {b : Nat} {P : Int32 → mM → Prop} {M : mM} {a0 : Nat} {x1 : Int32} {x2 : Int32} {x3 : Int32} {a4 : Nat} (h : wp_X0_addSluice G b P M a0 x1 x2 x3 a4) : mMet l yX0_addSluice (wsW_ yX0_addSluice cX0_addSluice 6 (Option.some Jvm.ClassFile.FieldType.int) [((0 : Nat), (12 : Nat), (15 : Nat), (13 : Nat)), ((0 : Nat), (12 : Nat), (19 : Nat), (15 : Nat)), ((0 : Nat), (12 : Nat), (23 : Nat), (35 : Nat))]) 17 b G [.ref a0, .int x1, .int x2, .int x3, .ref a4] M (mRi P) (fun _ _ _ => False) := by
  refine mm_metW hst0 (by decide) (Nat.le_of_ble_eq_true rfl) ?_
  intro p e s m args below meth c ls C hr htab hnm hl S
  have hl : lv_has ls 6 [(0, .ref a0), (1, .int x1), (2, .int x2), (3, .int x3), (4, .ref a4)] := hl
  generalize mA M s.heap.size = A at C S ⊢
  have hx := C.hx
  have hb := C.hb
  have hk : 0 + b ≤ b := Nat.le_of_eq (Nat.zero_add b)
  have j15 : ∀ (k r : Nat) (M : mM) (H : Heap) (locs : List Loc) (ls : Array Slot) (s0 : Nat), k + r ≤ b → mW G A s M H locs → lv_has ls 6 [] → wb_X0_addSluice_15 G P r M s0 → W p l e (mRm 17 b) s m args below meth c H locs k k (vx_MQ below (mQ G A (mRi P)) (mXC G A (fun _ _ _ => False)) args s b b A) (F0 m 15 ls [.ref s0]) := by
    intro k r M H locs ls s0 hk S hl h
    unfold wb_X0_addSluice_15 at h
    refine lv_astore (lv' := [(5, .ref s0)]) hx hb dX0_addSluice_15 hl (by decide) rfl (fun ls hl => ?_)
    refine lv_iconst (v := 1) hx hb dX0_addSluice_17 (by decide) ?_
    exact mm_iret C S hr (Nat.le_trans (Nat.le_add_right _ _) hk) dX0_addSluice_18 h
  have j19 : ∀ (k r : Nat) (M : mM) (H : Heap) (locs : List Loc) (ls : Array Slot) (s0 : Nat), k + r ≤ b → mW G A s M H locs → lv_has ls 6 [] → wb_X0_addSluice_19 G P r M s0 → W p l e (mRm 17 b) s m args below meth c H locs k k (vx_MQ below (mQ G A (mRi P)) (mXC G A (fun _ _ _ => False)) args s b b A) (F0 m 19 ls [.ref s0]) := by
    intro k r M H locs ls s0 hk S hl h
    unfold wb_X0_addSluice_19 at h
    refine lv_astore (lv' := [(5, .ref s0)]) hx hb dX0_addSluice_19 hl (by decide) rfl (fun ls hl => ?_)
    refine lv_iconst (v := 2) hx hb dX0_addSluice_21 (by decide) ?_
    exact mm_iret C S hr (Nat.le_trans (Nat.le_add_right _ _) hk) dX0_addSluice_22 h
  have j23 : ∀ (k r : Nat) (M : mM) (H : Heap) (locs : List Loc) (ls : Array Slot) (s0 : Nat), k + r ≤ b → mW G A s M H locs → lv_has ls 6 [] → wb_X0_addSluice_23 G P r M s0 → W p l e (mRm 17 b) s m args below meth c H locs k k (vx_MQ below (mQ G A (mRi P)) (mXC G A (fun _ _ _ => False)) args s b b A) (F0 m 23 ls [.ref s0]) := by
    intro k r M H locs ls s0 hk S hl h
    unfold wb_X0_addSluice_23 at h
    refine lv_astore (lv' := [(5, .ref s0)]) hx hb dX0_addSluice_23 hl (by decide) rfl (fun ls hl => ?_)
    refine lv_iconst (v := 3) hx hb dX0_addSluice_25 (by decide) ?_
    exact mm_iret C S hr (Nat.le_trans (Nat.le_add_right _ _) hk) dX0_addSluice_26 h
  unfold wp_X0_addSluice at h
  refine lv_aload hx hb dX0_addSluice_0 (lv_at hl 4 rfl) ?_
  refine lv_iconst (v := 0) hx hb dX0_addSluice_2 (by decide) ?_
  refine lv_aload_n hx hb dX0_addSluice_3 rfl (lv_at hl 0 rfl) ?_
  refine lv_iload_n hx hb dX0_addSluice_4 rfl (lv_at hl 1 rfl) ?_
  refine lv_iload_n hx hb dX0_addSluice_5 rfl (lv_at hl 2 rfl) ?_
  refine lv_iload_n hx hb dX0_addSluice_6 rfl (lv_at hl 3 rfl) ?_
  obtain ⟨hI, h⟩ := h
  obtain ⟨b2, r3, hb9, h⟩ := h
  refine mm_V (As := [.int x1, .int x2, .int x3]) (rest := [.int 0, .ref a4]) C S hl.1 (wk_X1_addSluice hst0 h) (T := TX1) rfl hI (lw_V q602 q603 q604 q48 q605) rfl pd_X1_addSluice ⟨Nat.le_of_ble_eq_true rfl, Nat.le_of_ble_eq_true rfl⟩ rfl rfl (Nat.le_of_ble_eq_true rfl) dX0_addSluice_7 rfl rfl hk hb9 (fun v9 M1 H locs hP S hk => ?_) (fun E u6 ce M7 H locs hX S hk hc9 hv9 hf9 => ?_)
  · obtain ⟨v4, rfl, h⟩ := hP
    refine W.eq (g2 := F0 m 10 ls [.int v4, .int 0, .ref a4]) rfl ?_
    refine lv_i2l hx hb dX0_addSluice_10 rfl ?_
    refine mm_last C S h dX0_addSluice_11 (fun M5 H locs h S => ?_)
    refine lv_goto (tgt := 27) hx hb dX0_addSluice_12 (by decide) ?_
    refine lv_iconst (v := 0) hx hb dX0_addSluice_27 (by decide) ?_
    exact mm_iret C S hr (Nat.le_trans (Nat.le_add_right _ _) hk) dX0_addSluice_28 h
  · rcases hX with ⟨rfl, h⟩ | ⟨rfl, h⟩ | ⟨rfl, h⟩
    · refine vx_catch (pc := 7) (name := "java/lang/IllegalArgumentException") C.hown [(⟨0, 12, 15, 13⟩ : ExceptionTableEntry)] (⟨0, 12, 19, 15⟩ : ExceptionTableEntry) [(⟨0, 12, 23, 35⟩ : ExceptionTableEntry)] htab (mm_pass1 C (nm := "java/lang/IndexOutOfBoundsException") (by decide) q431 (by decide) mm_pass0) (by decide) (by decide) (C.ts _ q511) (va_Nw.use rfl (C.nw q548 rfl)) hc9 hv9 hf9 ?_
      exact j19 _ _ _ _ _ _ _ hk S (lv_sub hl [] rfl) h
    · refine vx_catch (pc := 7) (name := "java/lang/IllegalStateException") C.hown [(⟨0, 12, 15, 13⟩ : ExceptionTableEntry), (⟨0, 12, 19, 15⟩ : ExceptionTableEntry)] (⟨0, 12, 23, 35⟩ : ExceptionTableEntry) [] htab (mm_pass1 C (nm := "java/lang/IndexOutOfBoundsException") (by decide) q431 (by decide) (mm_pass1 C (nm := "java/lang/IllegalArgumentException") (by decide) q511 (by decide) mm_pass0)) (by decide) (by decide) (C.ts _ q601) (va_Nw.use rfl (C.nw q611 rfl)) hc9 hv9 hf9 ?_
      exact j23 _ _ _ _ _ _ _ hk S (lv_sub hl [] rfl) h
    · refine vx_catch (pc := 7) (name := "java/lang/IndexOutOfBoundsException") C.hown [] (⟨0, 12, 15, 13⟩ : ExceptionTableEntry) [(⟨0, 12, 19, 15⟩ : ExceptionTableEntry), (⟨0, 12, 23, 35⟩ : ExceptionTableEntry)] htab mm_pass0 (by decide) (by decide) (C.ts _ q431) (va_Nw.use rfl (C.nw q521 rfl)) hc9 hv9 hf9 ?_
      exact j15 _ _ _ _ _ _ _ hk S (lv_sub hl [] rfl) h
