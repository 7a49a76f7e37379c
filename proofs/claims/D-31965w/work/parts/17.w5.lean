/-! J6_charAt: level 10 -/
def wp_J6_charAt (G : mG) (b : Nat) (P : Int32 → mM → Prop) (M : mM) (a0 : Nat) (x1 : Int32) : Prop :=
  False
set_option maxHeartbeats 4000000 in
set_option maxRecDepth 100000 in
theorem wk_J6_charAt {l : Launch} (hst0 : l.stackTraces = false) {G : mG} {b : Nat} {P : Int32 → mM → Prop} {M : mM} {a0 : Nat} {x1 : Int32} (h : wp_J6_charAt G b P M a0 x1) : mMet l yJ6_charAt (ws_ yJ6_charAt cJ6_charAt 2 (Option.some Jvm.ClassFile.FieldType.char)) 10 b G [.ref a0, .int x1] M (mRi P) (fun _ _ _ => False) := by
  refine mm_met hst0 (by decide) (Nat.le_of_ble_eq_true rfl) ?_
  intro p e s m args below meth c ls C hr hnt hnm hl S
  have hl : lv_has ls 2 [(0, .ref a0), (1, .int x1)] := hl
  generalize mA M s.heap.size = A at C S ⊢
  have hx := C.hx
  have hb := C.hb
  have hk : 0 + b ≤ b := Nat.le_of_eq (Nat.zero_add b)
  unfold wp_J6_charAt at h
  refine lv_iload_n hx hb dJ6_charAt_0 rfl (lv_at hl 1 rfl) ?_
  refine lv_aload_n hx hb dJ6_charAt_1 rfl (lv_at hl 0 rfl) ?_
  exact h.elim
/-! J6_checkBoundsBeginEnd: level 10 -/
def wp_J6_checkBoundsBeginEnd (G : mG) (b : Nat) (P : mM → Prop) (M : mM) (x0 : Int32) (x1 : Int32) (a2 : Nat) : Prop :=
  False
set_option maxHeartbeats 4000000 in
set_option maxRecDepth 100000 in
theorem wk_J6_checkBoundsBeginEnd {l : Launch} (hst0 : l.stackTraces = false) {G : mG} {b : Nat} {P : mM → Prop} {M : mM} {x0 : Int32} {x1 : Int32} {a2 : Nat} (h : wp_J6_checkBoundsBeginEnd G b P M x0 x1 a2) : mMet l yJ6_checkBoundsBeginEnd (ws_ yJ6_checkBoundsBeginEnd cJ6_checkBoundsBeginEnd 3 (Option.none : Option Jvm.ClassFile.FieldType)) 10 b G [.int x0, .int x1, .ref a2] M (mRv P) (fun _ _ _ => False) := by
  refine mm_met hst0 (by decide) (Nat.le_of_ble_eq_true rfl) ?_
  intro p e s m args below meth c ls C hr hnt hnm hl S
  have hl : lv_has ls 3 [(0, .int x0), (1, .int x1), (2, .ref a2)] := hl
  generalize mA M s.heap.size = A at C S ⊢
  have hx := C.hx
  have hb := C.hb
  have hk : 0 + b ≤ b := Nat.le_of_eq (Nat.zero_add b)
  unfold wp_J6_checkBoundsBeginEnd at h
  refine lv_iload_n hx hb dJ6_checkBoundsBeginEnd_0 rfl (lv_at hl 0 rfl) ?_
  refine lv_iload_n hx hb dJ6_checkBoundsBeginEnd_1 rfl (lv_at hl 1 rfl) ?_
  refine lv_aload_n hx hb dJ6_checkBoundsBeginEnd_2 rfl (lv_at hl 2 rfl) ?_
  exact h.elim
/-! J6_checkBoundsOffCount: level 10 -/
def wp_J6_checkBoundsOffCount (G : mG) (b : Nat) (P : mM → Prop) (M : mM) (x0 : Int32) (x1 : Int32) (a2 : Nat) : Prop :=
  False
set_option maxHeartbeats 4000000 in
set_option maxRecDepth 100000 in
theorem wk_J6_checkBoundsOffCount {l : Launch} (hst0 : l.stackTraces = false) {G : mG} {b : Nat} {P : mM → Prop} {M : mM} {x0 : Int32} {x1 : Int32} {a2 : Nat} (h : wp_J6_checkBoundsOffCount G b P M x0 x1 a2) : mMet l yJ6_checkBoundsOffCount (ws_ yJ6_checkBoundsOffCount cJ6_checkBoundsOffCount 3 (Option.none : Option Jvm.ClassFile.FieldType)) 10 b G [.int x0, .int x1, .ref a2] M (mRv P) (fun _ _ _ => False) := by
  refine mm_met hst0 (by decide) (Nat.le_of_ble_eq_true rfl) ?_
  intro p e s m args below meth c ls C hr hnt hnm hl S
  have hl : lv_has ls 3 [(0, .int x0), (1, .int x1), (2, .ref a2)] := hl
  generalize mA M s.heap.size = A at C S ⊢
  have hx := C.hx
  have hb := C.hb
  have hk : 0 + b ≤ b := Nat.le_of_eq (Nat.zero_add b)
  unfold wp_J6_checkBoundsOffCount at h
  refine lv_iload_n hx hb dJ6_checkBoundsOffCount_0 rfl (lv_at hl 0 rfl) ?_
  refine lv_iload_n hx hb dJ6_checkBoundsOffCount_1 rfl (lv_at hl 1 rfl) ?_
  refine lv_aload_n hx hb dJ6_checkBoundsOffCount_2 rfl (lv_at hl 2 rfl) ?_
  exact h.elim
/-! J6_checkIndex: level 10 -/
def wp_J6_checkIndex (G : mG) (b : Nat) (P : mM → Prop) (M : mM) (x0 : Int32) (a1 : Nat) : Prop :=
  False
set_option maxHeartbeats 4000000 in
set_option maxRecDepth 100000 in
theorem wk_J6_checkIndex {l : Launch} (hst0 : l.stackTraces = false) {G : mG} {b : Nat} {P : mM → Prop} {M : mM} {x0 : Int32} {a1 : Nat} (h : wp_J6_checkIndex G b P M x0 a1) : mMet l yJ6_checkIndex (ws_ yJ6_checkIndex cJ6_checkIndex 2 (Option.none : Option Jvm.ClassFile.FieldType)) 10 b G [.int x0, .ref a1] M (mRv P) (fun _ _ _ => False) := by
  refine mm_met hst0 (by decide) (Nat.le_of_ble_eq_true rfl) ?_
  intro p e s m args below meth c ls C hr hnt hnm hl S
  have hl : lv_has ls 2 [(0, .int x0), (1, .ref a1)] := hl
  generalize mA M s.heap.size = A at C S ⊢
  have hx := C.hx
  have hb := C.hb
  have hk : 0 + b ≤ b := Nat.le_of_eq (Nat.zero_add b)
  unfold wp_J6_checkIndex at h
  refine lv_iload_n hx hb dJ6_checkIndex_0 rfl (lv_at hl 0 rfl) ?_
  refine lv_aload_n hx hb dJ6_checkIndex_1 rfl (lv_at hl 1 rfl) ?_
  exact h.elim
/-! J6_coderFromArrayLen: level 10 -/
def wp_J6_coderFromArrayLen (G : mG) (b : Nat) (P : Int32 → mM → Prop) (M : mM) (a0 : Nat) (x1 : Int32) : Prop :=
  aln M a0 fun v1 => ∀ g2 : Int32, g2 = (((x1 - v1).toUInt32 >>> ((31 : Int32).toUInt32 &&& Int32.toUInt32 31)).toInt32) → narrow .byte (.int g2.toInt8.toInt32) = .int g2.toInt8.toInt32 ∧ P g2.toInt8.toInt32 M
set_option maxHeartbeats 4000000 in
set_option maxRecDepth 100000 in
theorem wk_J6_coderFromArrayLen {l : Launch} (hst0 : l.stackTraces = false) {G : mG} {b : Nat} {P : Int32 → mM → Prop} {M : mM} {a0 : Nat} {x1 : Int32} (h : wp_J6_coderFromArrayLen G b P M a0 x1) : mMet l yJ6_coderFromArrayLen (ws_ yJ6_coderFromArrayLen cJ6_coderFromArrayLen 2 (Option.some Jvm.ClassFile.FieldType.byte)) 10 b G [.ref a0, .int x1] M (mRi P) (fun _ _ _ => False) := by
  refine mm_met hst0 (by decide) (Nat.le_of_ble_eq_true rfl) ?_
  intro p e s m args below meth c ls C hr hnt hnm hl S
  have hl : lv_has ls 2 [(0, .ref a0), (1, .int x1)] := hl
  generalize mA M s.heap.size = A at C S ⊢
  have hx := C.hx
  have hb := C.hb
  have hk : 0 + b ≤ b := Nat.le_of_eq (Nat.zero_add b)
  unfold wp_J6_coderFromArrayLen at h
  refine lv_iload_n hx hb dJ6_coderFromArrayLen_0 rfl (lv_at hl 1 rfl) ?_
  refine lv_aload_n hx hb dJ6_coderFromArrayLen_1 rfl (lv_at hl 0 rfl) ?_
  refine mm_alen C S h dJ6_coderFromArrayLen_2 (fun v1 h => ?_)
  refine lv_isub hx hb dJ6_coderFromArrayLen_3 ?_
  refine lv_bipush (v := 31) hx hb dJ6_coderFromArrayLen_4 (by decide) ?_
  refine lv_iushr hx hb dJ6_coderFromArrayLen_6 rfl ?_
  refine lv_topi (fun g2 eg2 => ?_)
  have h := h g2 eg2
  refine lv_i2b hx hb dJ6_coderFromArrayLen_7 rfl ?_
  exact mm_zret C S hr (Nat.le_trans (Nat.le_add_right _ _) hk) dJ6_coderFromArrayLen_8 h
/-! J6_compress: level 10, alloc -/
def wp_J6_compress (G : mG) (b : Nat) (P : Nat → mM → Prop) (M : mM) (a0 : Nat) (x1 : Int32) (x2 : Int32) : Prop :=
  nwa M b 3 x2 (.inl fun _ => 0) fun u1 M2 r3 => False
set_option maxHeartbeats 4000000 in
set_option maxRecDepth 100000 in
theorem wk_J6_compress {l : Launch} (hst0 : l.stackTraces = false) {G : mG} {b : Nat} {P : Nat → mM → Prop} {M : mM} {a0 : Nat} {x1 : Int32} {x2 : Int32} (h : wp_J6_compress G b P M a0 x1 x2) : mMet l yJ6_compress (ws_ yJ6_compress cJ6_compress 6 (Option.some (Jvm.ClassFile.FieldType.array Jvm.ClassFile.FieldType.byte))) 10 b G [.ref a0, .int x1, .int x2] M (mRa P) (fun _ _ _ => False) := by
  refine mm_met hst0 (by decide) (Nat.le_of_ble_eq_true rfl) ?_
  intro p e s m args below meth c ls C hr hnt hnm hl S
  have hl : lv_has ls 6 [(0, .ref a0), (1, .int x1), (2, .int x2)] := hl
  generalize mA M s.heap.size = A at C S ⊢
  have hx := C.hx
  have hb := C.hb
  have hk : 0 + b ≤ b := Nat.le_of_eq (Nat.zero_add b)
  unfold wp_J6_compress at h
  refine lv_iload_n hx hb dJ6_compress_0 rfl (lv_at hl 2 rfl) ?_
  refine mm_newa C S (t := 3) (ty := .byte) (atype := .byte) rfl rfl (by decide) q170 (fun _ h9 => h9) (fun _ => rfl) (by decide) dJ6_compress_1 rfl rfl hk h (fun u1 M2 r3 k H h S hk => ?_)
  refine lv_astore_n (lv' := [(3, .ref u1), (0, .ref a0), (1, .int x1), (2, .int x2)]) hx hb dJ6_compress_3 rfl hl (by decide) rfl (fun ls hl => ?_)
  refine lv_aload_n hx hb dJ6_compress_4 rfl (lv_at hl 1 rfl) ?_
  refine lv_iload_n hx hb dJ6_compress_5 rfl (lv_at hl 2 rfl) ?_
  refine lv_aload_n hx hb dJ6_compress_6 rfl (lv_at hl 0 rfl) ?_
  refine lv_iconst (v := 0) hx hb dJ6_compress_7 (by decide) ?_
  refine lv_iload_n hx hb dJ6_compress_8 rfl (lv_at hl 3 rfl) ?_
  exact h.elim
/-! J6_compress_2: level 10 -/
def wp_J6_compress_2 (G : mG) (b : Nat) (P : Int32 → mM → Prop) (M : mM) (a0 : Nat) (x1 : Int32) (a2 : Nat) (x3 : Int32) (x4 : Int32) : Prop :=
  False
set_option maxHeartbeats 4000000 in
set_option maxRecDepth 100000 in
theorem wk_J6_compress_2 {l : Launch} (hst0 : l.stackTraces = false) {G : mG} {b : Nat} {P : Int32 → mM → Prop} {M : mM} {a0 : Nat} {x1 : Int32} {a2 : Nat} {x3 : Int32} {x4 : Int32} (h : wp_J6_compress_2 G b P M a0 x1 a2 x3 x4) : mMet l yJ6_compress_2 (ws_ yJ6_compress_2 cJ6_compress_2 7 (Option.some Jvm.ClassFile.FieldType.int)) 10 b G [.ref a0, .int x1, .ref a2, .int x3, .int x4] M (mRi P) (fun _ _ _ => False) := by
  refine mm_met hst0 (by decide) (Nat.le_of_ble_eq_true rfl) ?_
  intro p e s m args below meth c ls C hr hnt hnm hl S
  have hl : lv_has ls 7 [(0, .ref a0), (1, .int x1), (2, .ref a2), (3, .int x3), (4, .int x4)] := hl
  generalize mA M s.heap.size = A at C S ⊢
  have hx := C.hx
  have hb := C.hb
  have hk : 0 + b ≤ b := Nat.le_of_eq (Nat.zero_add b)
  unfold wp_J6_compress_2 at h
  refine lv_iload_n hx hb dJ6_compress_2_0 rfl (lv_at hl 1 rfl) ?_
  refine lv_iload hx hb dJ6_compress_2_1 (lv_at hl 4 rfl) ?_
  refine lv_aload_n hx hb dJ6_compress_2_3 rfl (lv_at hl 0 rfl) ?_
  exact h.elim
/-! J6_fillNull: level 12 -/
def wp_J6_fillNull (G : mG) (b : Nat) (P : mM → Prop) (M : mM) (a0 : Nat) (x1 : Int32) (x2 : Int32) : Prop :=
  wp_J16_fill G 0 (fun M1 => P M1) M a0 (x1 <<< (1 &&& 31)) (x2 <<< (1 &&& 31)) 0
set_option maxHeartbeats 4000000 in
set_option maxRecDepth 100000 in
theorem wk_J6_fillNull {l : Launch} (hst0 : l.stackTraces = false) {G : mG} {b : Nat} {P : mM → Prop} {M : mM} {a0 : Nat} {x1 : Int32} {x2 : Int32} (h : wp_J6_fillNull G b P M a0 x1 x2) : mMet l yJ6_fillNull (ws_ yJ6_fillNull cJ6_fillNull 3 (Option.none : Option Jvm.ClassFile.FieldType)) 12 b G [.ref a0, .int x1, .int x2] M (mRv P) (fun _ _ _ => False) := by
  refine mm_met hst0 (by decide) (Nat.le_of_ble_eq_true rfl) ?_
  intro p e s m args below meth c ls C hr hnt hnm hl S
  have hl : lv_has ls 3 [(0, .ref a0), (1, .int x1), (2, .int x2)] := hl
  generalize mA M s.heap.size = A at C S ⊢
  have hx := C.hx
  have hb := C.hb
  have hk : 0 + b ≤ b := Nat.le_of_eq (Nat.zero_add b)
  unfold wp_J6_fillNull at h
  refine lv_aload_n hx hb dJ6_fillNull_0 rfl (lv_at hl 0 rfl) ?_
  refine lv_iload_n hx hb dJ6_fillNull_1 rfl (lv_at hl 1 rfl) ?_
  refine lv_iconst (v := 1) hx hb dJ6_fillNull_2 (by decide) ?_
  refine lv_ishl hx hb dJ6_fillNull_3 ?_
  refine lv_iload_n hx hb dJ6_fillNull_4 rfl (lv_at hl 2 rfl) ?_
  refine lv_iconst (v := 1) hx hb dJ6_fillNull_5 (by decide) ?_
  refine lv_ishl hx hb dJ6_fillNull_6 ?_
  refine lv_iconst (v := 0) hx hb dJ6_fillNull_7 (by decide) ?_
  refine mm_S (As := [.ref a0, .int (x1 <<< (1 &&& 31)), .int (x2 <<< (1 &&& 31)), .int 0]) (rest := []) C S hl.1 (wk_J16_fill hst0 h) (lw_S q1414 q1393 q69 q1394) pd_J16_fill ⟨Nat.le_of_ble_eq_true rfl, Nat.le_of_ble_eq_true rfl⟩ rfl rfl (Nat.le_of_ble_eq_true rfl) dJ6_fillNull_8 rfl rfl hk (Nat.zero_add _) (fun v9 M1 H locs hP S hk => ?_) (fun E q ce M9 H9 locs9 hX => hX.elim)
  obtain ⟨rfl, h⟩ := hP
  refine W.eq (g2 := F0 m 11 ls []) rfl ?_
  exact mm_vret C S hr (Nat.le_trans (Nat.le_add_right _ _) hk) dJ6_fillNull_11 h
/-! J6_getChar: level 10 -/
def wp_J6_getChar (G : mG) (b : Nat) (P : Int32 → mM → Prop) (M : mM) (a0 : Nat) (x1 : Int32) : Prop :=
  False
set_option maxHeartbeats 4000000 in
set_option maxRecDepth 100000 in
theorem wk_J6_getChar {l : Launch} (hst0 : l.stackTraces = false) {G : mG} {b : Nat} {P : Int32 → mM → Prop} {M : mM} {a0 : Nat} {x1 : Int32} (h : wp_J6_getChar G b P M a0 x1) : mMet l yJ6_getChar (ws_ yJ6_getChar cJ6_getChar 2 (Option.some Jvm.ClassFile.FieldType.char)) 10 b G [.ref a0, .int x1] M (mRi P) (fun _ _ _ => False) := by
  refine mm_met hst0 (by decide) (Nat.le_of_ble_eq_true rfl) ?_
  intro p e s m args below meth c ls C hr hnt hnm hl S
  have hl : lv_has ls 2 [(0, .ref a0), (1, .int x1)] := hl
  generalize mA M s.heap.size = A at C S ⊢
  have hx := C.hx
  have hb := C.hb
  have hk : 0 + b ≤ b := Nat.le_of_eq (Nat.zero_add b)
  unfold wp_J6_getChar at h
  exact h.elim
/-! J6_getChars: level 10 -/
def wp_J6_getChars (G : mG) (b : Nat) (P : Int32 → mM → Prop) (M : mM) (x0 : Int32) (x1 : Int32) (x2 : Int32) (a3 : Nat) : Prop :=
  False
set_option maxHeartbeats 4000000 in
set_option maxRecDepth 100000 in
theorem wk_J6_getChars {l : Launch} (hst0 : l.stackTraces = false) {G : mG} {b : Nat} {P : Int32 → mM → Prop} {M : mM} {x0 : Int32} {x1 : Int32} {x2 : Int32} {a3 : Nat} (h : wp_J6_getChars G b P M x0 x1 x2 a3) : mMet l yJ6_getChars (ws_ yJ6_getChars cJ6_getChars 5 (Option.some Jvm.ClassFile.FieldType.int)) 10 b G [.int x0, .int x1, .int x2, .ref a3] M (mRi P) (fun _ _ _ => False) := by
  refine mm_met hst0 (by decide) (Nat.le_of_ble_eq_true rfl) ?_
  intro p e s m args below meth c ls C hr hnt hnm hl S
  have hl : lv_has ls 5 [(0, .int x0), (1, .int x1), (2, .int x2), (3, .ref a3)] := hl
  generalize mA M s.heap.size = A at C S ⊢
  have hx := C.hx
  have hb := C.hb
  have hk : 0 + b ≤ b := Nat.le_of_eq (Nat.zero_add b)
  unfold wp_J6_getChars at h
  refine lv_iload_n hx hb dJ6_getChars_0 rfl (lv_at hl 1 rfl) ?_
  refine lv_iload_n hx hb dJ6_getChars_1 rfl (lv_at hl 2 rfl) ?_
  refine lv_aload_n hx hb dJ6_getChars_2 rfl (lv_at hl 3 rfl) ?_
  exact h.elim
/-! J6_getChars_2: level 10 -/
def wb_J6_getChars_2_22 (G : mG) (P : Int32 → mM → Prop) (r : Nat) (M : mM) (x0 : Int32) (a2 : Nat) (x5 : Int32) : Prop :=
  ((-100) < x0 → False) ∧ (¬ (-100) < x0 → ∀ g1 : Int32, g1 = (((x0 / 100) * 100) - x0) → False)
def wb_J6_getChars_2_12 (G : mG) (P : Int32 → mM → Prop) (r : Nat) (M : mM) (x0 : Int32) (a2 : Nat) (x5 : Int32) (s0 : Int32) : Prop :=
  (¬ s0 = 0 → wb_J6_getChars_2_22 G P r M x0 a2 x5) ∧ (s0 = 0 → wb_J6_getChars_2_22 G P r M (-x0) a2 x5)
def wp_J6_getChars_2 (G : mG) (b : Nat) (P : Int32 → mM → Prop) (M : mM) (x0 : Int32) (x1 : Int32) (a2 : Nat) : Prop :=
  (0 ≤ x0 → wb_J6_getChars_2_12 G P b M x0 a2 x1 0) ∧ (¬ 0 ≤ x0 → wb_J6_getChars_2_12 G P b M x0 a2 x1 1)
set_option maxHeartbeats 4000000 in
set_option maxRecDepth 100000 in
theorem wk_J6_getChars_2 {l : Launch} (hst0 : l.stackTraces = false) {G : mG} {b : Nat} {P : Int32 → mM → Prop} {M : mM} {x0 : Int32} {x1 : Int32} {a2 : Nat} (h : wp_J6_getChars_2 G b P M x0 x1 a2) : mMet l yJ6_getChars_2 (ws_ yJ6_getChars_2 cJ6_getChars_2 7 (Option.some Jvm.ClassFile.FieldType.int)) 10 b G [.int x0, .int x1, .ref a2] M (mRi P) (fun _ _ _ => False) := by
  refine mm_met hst0 (by decide) (Nat.le_of_ble_eq_true rfl) ?_
  intro p e s m args below meth c ls C hr hnt hnm hl S
  have hl : lv_has ls 7 [(0, .int x0), (1, .int x1), (2, .ref a2)] := hl
  generalize mA M s.heap.size = A at C S ⊢
  have hx := C.hx
  have hb := C.hb
  have hk : 0 + b ≤ b := Nat.le_of_eq (Nat.zero_add b)
  have j22 : ∀ (k r : Nat) (M : mM) (H : Heap) (locs : List Loc) (ls : Array Slot) (x0 : Int32) (a2 : Nat) (x5 : Int32), k + r ≤ b → mW G A s M H locs → lv_has ls 7 [(0, .int x0), (2, .ref a2), (5, .int x5)] → wb_J6_getChars_2_22 G P r M x0 a2 x5 → W p l e (mRm 10 b) s m args below meth c H locs k k (vx_MQ below (mQ G A (mRi P)) (mXC G A (fun _ _ _ => False)) args s b b A) (F0 m 22 ls []) := by
    intro k r M H locs ls x0 a2 x5 hk S hl h
    unfold wb_J6_getChars_2_22 at h
    refine lv_iload_n hx hb dJ6_getChars_2_22 rfl (lv_at hl 0 rfl) ?_
    refine lv_bipush (v := (-100)) hx hb dJ6_getChars_2_23 (by decide) ?_
    refine lv_icmp_gt (tgt := 76) hx hb dJ6_getChars_2_25 (by decide) (fun c9 => ?_) (fun c9 => ?_)
    · have h := h.1 c9
      refine lv_aload_n hx hb dJ6_getChars_2_76 rfl (lv_at hl 1 rfl) ?_
      refine lv_iinc (v := (x5 + (-1))) (lv' := [(5, .int (x5 + (-1))), (0, .int x0), (2, .ref a2)]) hx hb dJ6_getChars_2_77 hl (k := 2) rfl rfl (by decide) rfl (fun ls hl => ?_)
      refine lv_iload hx hb dJ6_getChars_2_80 (lv_at hl 0 rfl) ?_
      exact h.elim
    · have h := h.2 c9
      refine lv_iload_n hx hb dJ6_getChars_2_28 rfl (lv_at hl 0 rfl) ?_
      refine lv_bipush (v := 100) hx hb dJ6_getChars_2_29 (by decide) ?_
      refine lv_idiv hx hb dJ6_getChars_2_31 (by decide) ?_
      refine lv_istore_n (lv' := [(3, .int (x0 / 100)), (0, .int x0), (2, .ref a2), (5, .int x5)]) hx hb dJ6_getChars_2_32 rfl hl (by decide) rfl (fun ls hl => ?_)
      refine lv_iload_n hx hb dJ6_getChars_2_33 rfl (lv_at hl 0 rfl) ?_
      refine lv_bipush (v := 100) hx hb dJ6_getChars_2_34 (by decide) ?_
      refine lv_imul hx hb dJ6_getChars_2_36 ?_
      refine lv_iload_n hx hb dJ6_getChars_2_37 rfl (lv_at hl 1 rfl) ?_
      refine lv_isub hx hb dJ6_getChars_2_38 ?_
      refine lv_topi (fun g1 eg1 => ?_)
      have h := h g1 eg1
      refine lv_istore (lv' := [(4, .int g1), (3, .int (x0 / 100)), (0, .int x0), (2, .ref a2), (5, .int x5)]) hx hb dJ6_getChars_2_39 hl (by decide) rfl (fun ls hl => ?_)
      refine lv_iload_n hx hb dJ6_getChars_2_41 rfl (lv_at hl 1 rfl) ?_
      refine lv_istore_n (lv' := [(0, .int (x0 / 100)), (4, .int g1), (3, .int (x0 / 100)), (2, .ref a2), (5, .int x5)]) hx hb dJ6_getChars_2_42 rfl hl (by decide) rfl (fun ls hl => ?_)
      refine lv_aload_n hx hb dJ6_getChars_2_43 rfl (lv_at hl 3 rfl) ?_
      refine lv_iinc (v := (x5 + (-1))) (lv' := [(5, .int (x5 + (-1))), (0, .int (x0 / 100)), (4, .int g1), (3, .int (x0 / 100)), (2, .ref a2)]) hx hb dJ6_getChars_2_44 hl (k := 4) rfl rfl (by decide) rfl (fun ls hl => ?_)
      refine lv_iload hx hb dJ6_getChars_2_47 (lv_at hl 0 rfl) ?_
      exact h.elim
  have j12 : ∀ (k r : Nat) (M : mM) (H : Heap) (locs : List Loc) (ls : Array Slot) (x0 : Int32) (a2 : Nat) (x5 : Int32) (s0 : Int32), k + r ≤ b → mW G A s M H locs → lv_has ls 7 [(0, .int x0), (2, .ref a2), (5, .int x5)] → wb_J6_getChars_2_12 G P r M x0 a2 x5 s0 → W p l e (mRm 10 b) s m args below meth c H locs k k (vx_MQ below (mQ G A (mRi P)) (mXC G A (fun _ _ _ => False)) args s b b A) (F0 m 12 ls [.int s0]) := by
    intro k r M H locs ls x0 a2 x5 s0 hk S hl h
    unfold wb_J6_getChars_2_12 at h
    refine lv_istore (lv' := [(6, .int s0), (0, .int x0), (2, .ref a2), (5, .int x5)]) hx hb dJ6_getChars_2_12 hl (by decide) rfl (fun ls hl => ?_)
    refine lv_iload hx hb dJ6_getChars_2_14 (lv_at hl 0 rfl) ?_
    refine lv_if_ne (tgt := 22) hx hb dJ6_getChars_2_16 (by decide) (fun c9 => ?_) (fun c9 => ?_)
    · have h := h.1 c9
      exact j22 _ _ _ _ _ _ _ _ _ hk S (lv_sub hl [1, 2, 3] rfl) h
    · have h := h.2 c9
      refine lv_iload_n hx hb dJ6_getChars_2_19 rfl (lv_at hl 1 rfl) ?_
      refine lv_ineg hx hb dJ6_getChars_2_20 ?_
      refine lv_istore_n (lv' := [(0, .int (-x0)), (6, .int s0), (2, .ref a2), (5, .int x5)]) hx hb dJ6_getChars_2_21 rfl hl (by decide) rfl (fun ls hl => ?_)
      exact j22 _ _ _ _ _ _ _ _ _ hk S (lv_sub hl [0, 2, 3] rfl) h
  unfold wp_J6_getChars_2 at h
  refine lv_iload_n hx hb dJ6_getChars_2_0 rfl (lv_at hl 1 rfl) ?_
  refine lv_istore (lv' := [(5, .int x1), (0, .int x0), (1, .int x1), (2, .ref a2)]) hx hb dJ6_getChars_2_1 hl (by decide) rfl (fun ls hl => ?_)
  refine lv_iload_n hx hb dJ6_getChars_2_3 rfl (lv_at hl 1 rfl) ?_
  refine lv_if_ge (tgt := 11) hx hb dJ6_getChars_2_4 (by decide) (fun c9 => ?_) (fun c9 => ?_)
  · have h := h.1 c9
    refine lv_iconst (v := 0) hx hb dJ6_getChars_2_11 (by decide) ?_
    exact j12 _ _ _ _ _ _ _ _ _ _ hk S (lv_sub hl [1, 3, 0] rfl) h
  · have h := h.2 c9
    refine lv_iconst (v := 1) hx hb dJ6_getChars_2_7 (by decide) ?_
    refine lv_goto (tgt := 12) hx hb dJ6_getChars_2_8 (by decide) ?_
    exact j12 _ _ _ _ _ _ _ _ _ _ hk S (lv_sub hl [1, 3, 0] rfl) h
/-! J6_indexOf: level 10 -/
def wp_J6_indexOf (G : mG) (b : Nat) (P : Int32 → mM → Prop) (M : mM) (a0 : Nat) (x1 : Int32) (x2 : Int32) (x3 : Int32) : Prop :=
  ∀ g1 : Int32, g1 = (if x2 < 0 then 0 else x2) → aln M a0 fun v2 => ∀ g3 : Int32, g3 = (if (v2 >>> (1 &&& 31)) < x3 then (v2 >>> (1 &&& 31)) else x3) → (g1 < g3 → (65536 ≤ x1 → False) ∧ (¬ 65536 ≤ x1 → False)) ∧ (¬ g1 < g3 → P (-1) M)
set_option maxHeartbeats 4000000 in
set_option maxRecDepth 100000 in
theorem wk_J6_indexOf {l : Launch} (hst0 : l.stackTraces = false) {G : mG} {b : Nat} {P : Int32 → mM → Prop} {M : mM} {a0 : Nat} {x1 : Int32} {x2 : Int32} {x3 : Int32} (h : wp_J6_indexOf G b P M a0 x1 x2 x3) : mMet l yJ6_indexOf (ws_ yJ6_indexOf cJ6_indexOf 4 (Option.some Jvm.ClassFile.FieldType.int)) 10 b G [.ref a0, .int x1, .int x2, .int x3] M (mRi P) (fun _ _ _ => False) := by
  refine mm_met hst0 (by decide) (Nat.le_of_ble_eq_true rfl) ?_
  intro p e s m args below meth c ls C hr hnt hnm hl S
  have hl : lv_has ls 4 [(0, .ref a0), (1, .int x1), (2, .int x2), (3, .int x3)] := hl
  generalize mA M s.heap.size = A at C S ⊢
  have hx := C.hx
  have hb := C.hb
  have hk : 0 + b ≤ b := Nat.le_of_eq (Nat.zero_add b)
  unfold wp_J6_indexOf at h
  refine lv_iload_n hx hb dJ6_indexOf_0 rfl (lv_at hl 2 rfl) ?_
  refine lv_iconst (v := 0) hx hb dJ6_indexOf_1 (by decide) ?_
  refine mm_max C hl.1 q1177 q328 q68 q329 (Nat.le_of_ble_eq_true rfl) (Nat.le_of_ble_eq_true rfl) (Nat.le_trans (Nat.le_add_right _ _) hk) (Nat.le_trans (Nat.le_add_right _ _) hk) dJ6_indexOf_2 ?_
  refine lv_topi (fun g1 eg1 => ?_)
  have h := h g1 eg1
  refine lv_istore_n (lv' := [(2, .int g1), (0, .ref a0), (1, .int x1), (3, .int x3)]) hx hb dJ6_indexOf_5 rfl hl (by decide) rfl (fun ls hl => ?_)
  refine lv_iload_n hx hb dJ6_indexOf_6 rfl (lv_at hl 3 rfl) ?_
  refine lv_aload_n hx hb dJ6_indexOf_7 rfl (lv_at hl 1 rfl) ?_
  refine mm_alen C S h dJ6_indexOf_8 (fun v2 h => ?_)
  refine lv_iconst (v := 1) hx hb dJ6_indexOf_9 (by decide) ?_
  refine lv_ishr hx hb dJ6_indexOf_10 ?_
  refine mm_min C hl.1 q1178 q331 q68 q332 (Nat.le_of_ble_eq_true rfl) (Nat.le_of_ble_eq_true rfl) (Nat.le_trans (Nat.le_add_right _ _) hk) (Nat.le_trans (Nat.le_add_right _ _) hk) dJ6_indexOf_11 ?_
  refine lv_topi (fun g3 eg3 => ?_)
  have h := h g3 eg3
  refine lv_istore_n (lv' := [(3, .int g3), (2, .int g1), (0, .ref a0), (1, .int x1)]) hx hb dJ6_indexOf_14 rfl hl (by decide) rfl (fun ls hl => ?_)
  refine lv_iload_n hx hb dJ6_indexOf_15 rfl (lv_at hl 1 rfl) ?_
  refine lv_iload_n hx hb dJ6_indexOf_16 rfl (lv_at hl 0 rfl) ?_
  refine lv_icmp_lt (tgt := 22) hx hb dJ6_indexOf_17 (by decide) (fun c9 => ?_) (fun c9 => ?_)
  · have h := h.1 c9
    refine lv_iload_n hx hb dJ6_indexOf_22 rfl (lv_at hl 3 rfl) ?_
    refine lv_ldc hx hb C.hown (C.ts _ q1179) dJ6_indexOf_23 ?_
    refine lv_icmp_ge (tgt := 36) hx hb dJ6_indexOf_25 (by decide) (fun c9 => ?_) (fun c9 => ?_)
    · have h := h.1 c9
      refine lv_aload_n hx hb dJ6_indexOf_36 rfl (lv_at hl 2 rfl) ?_
      refine lv_iload_n hx hb dJ6_indexOf_37 rfl (lv_at hl 3 rfl) ?_
      refine lv_iload_n hx hb dJ6_indexOf_38 rfl (lv_at hl 1 rfl) ?_
      refine lv_iload_n hx hb dJ6_indexOf_39 rfl (lv_at hl 0 rfl) ?_
      exact h.elim
    · have h := h.2 c9
      refine lv_aload_n hx hb dJ6_indexOf_28 rfl (lv_at hl 2 rfl) ?_
      refine lv_iload_n hx hb dJ6_indexOf_29 rfl (lv_at hl 3 rfl) ?_
      refine lv_iload_n hx hb dJ6_indexOf_30 rfl (lv_at hl 1 rfl) ?_
      refine lv_iload_n hx hb dJ6_indexOf_31 rfl (lv_at hl 0 rfl) ?_
      exact h.elim
  · have h := h.2 c9
    refine lv_iconst (v := (-1)) hx hb dJ6_indexOf_20 (by decide) ?_
    exact mm_iret C S hr (Nat.le_trans (Nat.le_add_right _ _) hk) dJ6_indexOf_21 h
/-! J6_indexOfChar: level 10 -/
def wp_J6_indexOfChar (G : mG) (b : Nat) (P : Int32 → mM → Prop) (M : mM) (a0 : Nat) (x1 : Int32) (x2 : Int32) (x3 : Int32) : Prop :=
  False
set_option maxHeartbeats 4000000 in
set_option maxRecDepth 100000 in
theorem wk_J6_indexOfChar {l : Launch} (hst0 : l.stackTraces = false) {G : mG} {b : Nat} {P : Int32 → mM → Prop} {M : mM} {a0 : Nat} {x1 : Int32} {x2 : Int32} {x3 : Int32} (h : wp_J6_indexOfChar G b P M a0 x1 x2 x3) : mMet l yJ6_indexOfChar (ws_ yJ6_indexOfChar cJ6_indexOfChar 4 (Option.some Jvm.ClassFile.FieldType.int)) 10 b G [.ref a0, .int x1, .int x2, .int x3] M (mRi P) (fun _ _ _ => False) := by
  refine mm_met hst0 (by decide) (Nat.le_of_ble_eq_true rfl) ?_
  intro p e s m args below meth c ls C hr hnt hnm hl S
  have hl : lv_has ls 4 [(0, .ref a0), (1, .int x1), (2, .int x2), (3, .int x3)] := hl
  generalize mA M s.heap.size = A at C S ⊢
  have hx := C.hx
  have hb := C.hb
  have hk : 0 + b ≤ b := Nat.le_of_eq (Nat.zero_add b)
  unfold wp_J6_indexOfChar at h
  refine lv_iload_n hx hb dJ6_indexOfChar_0 rfl (lv_at hl 2 rfl) ?_
  refine lv_iload_n hx hb dJ6_indexOfChar_1 rfl (lv_at hl 3 rfl) ?_
  refine lv_aload_n hx hb dJ6_indexOfChar_2 rfl (lv_at hl 0 rfl) ?_
  exact h.elim
/-! J6_indexOfCharUnsafe: level 10 -/
def wp_J6_indexOfCharUnsafe (G : mG) (b : Nat) (P : Int32 → mM → Prop) (M : mM) (a0 : Nat) (x1 : Int32) (x2 : Int32) (x3 : Int32) : Prop :=
  (x3 ≤ x2 → P (-1) M) ∧ (¬ x3 ≤ x2 → False)
set_option maxHeartbeats 4000000 in
set_option maxRecDepth 100000 in
theorem wk_J6_indexOfCharUnsafe {l : Launch} (hst0 : l.stackTraces = false) {G : mG} {b : Nat} {P : Int32 → mM → Prop} {M : mM} {a0 : Nat} {x1 : Int32} {x2 : Int32} {x3 : Int32} (h : wp_J6_indexOfCharUnsafe G b P M a0 x1 x2 x3) : mMet l yJ6_indexOfCharUnsafe (ws_ yJ6_indexOfCharUnsafe cJ6_indexOfCharUnsafe 5 (Option.some Jvm.ClassFile.FieldType.int)) 10 b G [.ref a0, .int x1, .int x2, .int x3] M (mRi P) (fun _ _ _ => False) := by
  refine mm_met hst0 (by decide) (Nat.le_of_ble_eq_true rfl) ?_
  intro p e s m args below meth c ls C hr hnt hnm hl S
  have hl : lv_has ls 5 [(0, .ref a0), (1, .int x1), (2, .int x2), (3, .int x3)] := hl
  generalize mA M s.heap.size = A at C S ⊢
  have hx := C.hx
  have hb := C.hb
  have hk : 0 + b ≤ b := Nat.le_of_eq (Nat.zero_add b)
  unfold wp_J6_indexOfCharUnsafe at h
  refine lv_iload_n hx hb dJ6_indexOfCharUnsafe_0 rfl (lv_at hl 2 rfl) ?_
  refine lv_istore (lv' := [(4, .int x2), (0, .ref a0), (1, .int x1), (2, .int x2), (3, .int x3)]) hx hb dJ6_indexOfCharUnsafe_1 hl (by decide) rfl (fun ls hl => ?_)
  refine lv_iload hx hb dJ6_indexOfCharUnsafe_3 (lv_at hl 0 rfl) ?_
  refine lv_iload_n hx hb dJ6_indexOfCharUnsafe_5 rfl (lv_at hl 4 rfl) ?_
  refine lv_icmp_ge (tgt := 28) hx hb dJ6_indexOfCharUnsafe_6 (by decide) (fun c9 => ?_) (fun c9 => ?_)
  · have h := h.1 c9
    refine lv_iconst (v := (-1)) hx hb dJ6_indexOfCharUnsafe_28 (by decide) ?_
    exact mm_iret C S hr (Nat.le_trans (Nat.le_add_right _ _) hk) dJ6_indexOfCharUnsafe_29 h
  · have h := h.2 c9
    refine lv_aload_n hx hb dJ6_indexOfCharUnsafe_9 rfl (lv_at hl 1 rfl) ?_
    refine lv_iload hx hb dJ6_indexOfCharUnsafe_10 (lv_at hl 0 rfl) ?_
    exact h.elim
/-! J6_indexOfSupplementary: level 10 -/
def wp_J6_indexOfSupplementary (G : mG) (b : Nat) (P : Int32 → mM → Prop) (M : mM) (a0 : Nat) (x1 : Int32) (x2 : Int32) (x3 : Int32) : Prop :=
  False
set_option maxHeartbeats 4000000 in
set_option maxRecDepth 100000 in
theorem wk_J6_indexOfSupplementary {l : Launch} (hst0 : l.stackTraces = false) {G : mG} {b : Nat} {P : Int32 → mM → Prop} {M : mM} {a0 : Nat} {x1 : Int32} {x2 : Int32} {x3 : Int32} (h : wp_J6_indexOfSupplementary G b P M a0 x1 x2 x3) : mMet l yJ6_indexOfSupplementary (ws_ yJ6_indexOfSupplementary cJ6_indexOfSupplementary 7 (Option.some Jvm.ClassFile.FieldType.int)) 10 b G [.ref a0, .int x1, .int x2, .int x3] M (mRi P) (fun _ _ _ => False) := by
  refine mm_met hst0 (by decide) (Nat.le_of_ble_eq_true rfl) ?_
  intro p e s m args below meth c ls C hr hnt hnm hl S
  have hl : lv_has ls 7 [(0, .ref a0), (1, .int x1), (2, .int x2), (3, .int x3)] := hl
  generalize mA M s.heap.size = A at C S ⊢
  have hx := C.hx
  have hb := C.hb
  have hk : 0 + b ≤ b := Nat.le_of_eq (Nat.zero_add b)
  unfold wp_J6_indexOfSupplementary at h
  refine lv_iload_n hx hb dJ6_indexOfSupplementary_0 rfl (lv_at hl 1 rfl) ?_
  exact h.elim
/-! J6_inflate: level 10 -/
def wp_J6_inflate (G : mG) (b : Nat) (P : mM → Prop) (M : mM) (a0 : Nat) (x1 : Int32) (a2 : Nat) (x3 : Int32) (x4 : Int32) : Prop :=
  False
set_option maxHeartbeats 4000000 in
set_option maxRecDepth 100000 in
theorem wk_J6_inflate {l : Launch} (hst0 : l.stackTraces = false) {G : mG} {b : Nat} {P : mM → Prop} {M : mM} {a0 : Nat} {x1 : Int32} {a2 : Nat} {x3 : Int32} {x4 : Int32} (h : wp_J6_inflate G b P M a0 x1 a2 x3 x4) : mMet l yJ6_inflate (ws_ yJ6_inflate cJ6_inflate 6 (Option.none : Option Jvm.ClassFile.FieldType)) 10 b G [.ref a0, .int x1, .ref a2, .int x3, .int x4] M (mRv P) (fun _ _ _ => False) := by
  refine mm_met hst0 (by decide) (Nat.le_of_ble_eq_true rfl) ?_
  intro p e s m args below meth c ls C hr hnt hnm hl S
  have hl : lv_has ls 6 [(0, .ref a0), (1, .int x1), (2, .ref a2), (3, .int x3), (4, .int x4)] := hl
  generalize mA M s.heap.size = A at C S ⊢
  have hx := C.hx
  have hb := C.hb
  have hk : 0 + b ≤ b := Nat.le_of_eq (Nat.zero_add b)
  unfold wp_J6_inflate at h
  refine lv_iload_n hx hb dJ6_inflate_0 rfl (lv_at hl 3 rfl) ?_
  refine lv_iload hx hb dJ6_inflate_1 (lv_at hl 4 rfl) ?_
  refine lv_aload_n hx hb dJ6_inflate_3 rfl (lv_at hl 2 rfl) ?_
  exact h.elim
/-! J6_length: level 10 -/
def wp_J6_length (G : mG) (b : Nat) (P : Int32 → mM → Prop) (M : mM) (a0 : Nat) : Prop :=
  aln M a0 fun v1 => P (v1 >>> (1 &&& 31)) M
set_option maxHeartbeats 4000000 in
set_option maxRecDepth 100000 in
theorem wk_J6_length {l : Launch} (hst0 : l.stackTraces = false) {G : mG} {b : Nat} {P : Int32 → mM → Prop} {M : mM} {a0 : Nat} (h : wp_J6_length G b P M a0) : mMet l yJ6_length (ws_ yJ6_length cJ6_length 1 (Option.some Jvm.ClassFile.FieldType.int)) 10 b G [.ref a0] M (mRi P) (fun _ _ _ => False) := by
  refine mm_met hst0 (by decide) (Nat.le_of_ble_eq_true rfl) ?_
  intro p e s m args below meth c ls C hr hnt hnm hl S
  have hl : lv_has ls 1 [(0, .ref a0)] := hl
  generalize mA M s.heap.size = A at C S ⊢
  have hx := C.hx
  have hb := C.hb
  have hk : 0 + b ≤ b := Nat.le_of_eq (Nat.zero_add b)
  unfold wp_J6_length at h
  refine lv_aload_n hx hb dJ6_length_0 rfl (lv_at hl 0 rfl) ?_
  refine mm_alen C S h dJ6_length_1 (fun v1 h => ?_)
  refine lv_iconst (v := 1) hx hb dJ6_length_2 (by decide) ?_
  refine lv_ishr hx hb dJ6_length_3 ?_
  exact mm_iret C S hr (Nat.le_trans (Nat.le_add_right _ _) hk) dJ6_length_4 h
/-! J6_newBytesFor: level 10 -/
def wp_J6_newBytesFor (G : mG) (b : Nat) (P : Nat → mM → Prop) (M : mM) (x0 : Int32) : Prop :=
  False
set_option maxHeartbeats 4000000 in
set_option maxRecDepth 100000 in
theorem wk_J6_newBytesFor {l : Launch} (hst0 : l.stackTraces = false) {G : mG} {b : Nat} {P : Nat → mM → Prop} {M : mM} {x0 : Int32} (h : wp_J6_newBytesFor G b P M x0) : mMet l yJ6_newBytesFor (ws_ yJ6_newBytesFor cJ6_newBytesFor 1 (Option.some (Jvm.ClassFile.FieldType.array Jvm.ClassFile.FieldType.byte))) 10 b G [.int x0] M (mRa P) (fun _ _ _ => False) := by
  refine mm_met hst0 (by decide) (Nat.le_of_ble_eq_true rfl) ?_
  intro p e s m args below meth c ls C hr hnt hnm hl S
  have hl : lv_has ls 1 [(0, .int x0)] := hl
  generalize mA M s.heap.size = A at C S ⊢
  have hx := C.hx
  have hb := C.hb
  have hk : 0 + b ≤ b := Nat.le_of_eq (Nat.zero_add b)
  unfold wp_J6_newBytesFor at h
  refine lv_iload_n hx hb dJ6_newBytesFor_0 rfl (lv_at hl 0 rfl) ?_
  exact h.elim
/-! J6_newBytesLength: level 10 -/
def wp_J6_newBytesLength (G : mG) (b : Nat) (P : Int32 → mM → Prop) (M : mM) (x0 : Int32) : Prop :=
  (0 ≤ x0 → (x0 < 1073741823 → P (x0 <<< (1 &&& 31)) M) ∧ (¬ x0 < 1073741823 → False)) ∧ (¬ 0 ≤ x0 → False)
set_option maxHeartbeats 4000000 in
set_option maxRecDepth 100000 in
theorem wk_J6_newBytesLength {l : Launch} (hst0 : l.stackTraces = false) {G : mG} {b : Nat} {P : Int32 → mM → Prop} {M : mM} {x0 : Int32} (h : wp_J6_newBytesLength G b P M x0) : mMet l yJ6_newBytesLength (ws_ yJ6_newBytesLength cJ6_newBytesLength 1 (Option.some Jvm.ClassFile.FieldType.int)) 10 b G [.int x0] M (mRi P) (fun _ _ _ => False) := by
  refine mm_met hst0 (by decide) (Nat.le_of_ble_eq_true rfl) ?_
  intro p e s m args below meth c ls C hr hnt hnm hl S
  have hl : lv_has ls 1 [(0, .int x0)] := hl
  generalize mA M s.heap.size = A at C S ⊢
  have hx := C.hx
  have hb := C.hb
  have hk : 0 + b ≤ b := Nat.le_of_eq (Nat.zero_add b)
  unfold wp_J6_newBytesLength at h
  refine lv_iload_n hx hb dJ6_newBytesLength_0 rfl (lv_at hl 0 rfl) ?_
  refine lv_if_ge (tgt := 12) hx hb dJ6_newBytesLength_1 (by decide) (fun c9 => ?_) (fun c9 => ?_)
  · have h := h.1 c9
    refine lv_iload_n hx hb dJ6_newBytesLength_12 rfl (lv_at hl 0 rfl) ?_
    refine lv_ldc hx hb C.hown (C.ts _ q155) dJ6_newBytesLength_13 ?_
    refine lv_icmp_lt (tgt := 55) hx hb dJ6_newBytesLength_15 (by decide) (fun c9 => ?_) (fun c9 => ?_)
    · have h := h.1 c9
      refine lv_iload_n hx hb dJ6_newBytesLength_55 rfl (lv_at hl 0 rfl) ?_
      refine lv_iconst (v := 1) hx hb dJ6_newBytesLength_56 (by decide) ?_
      refine lv_ishl hx hb dJ6_newBytesLength_57 ?_
      exact mm_iret C S hr (Nat.le_trans (Nat.le_add_right _ _) hk) dJ6_newBytesLength_58 h
    · have h := h.2 c9
      exact h.elim
  · have h := h.2 c9
    exact h.elim
/-! J6_putChar: level 10 -/
def wp_J6_putChar (G : mG) (b : Nat) (P : mM → Prop) (M : mM) (a0 : Nat) (x1 : Int32) (x2 : Int32) : Prop :=
  False
set_option maxHeartbeats 4000000 in
set_option maxRecDepth 100000 in
theorem wk_J6_putChar {l : Launch} (hst0 : l.stackTraces = false) {G : mG} {b : Nat} {P : mM → Prop} {M : mM} {a0 : Nat} {x1 : Int32} {x2 : Int32} (h : wp_J6_putChar G b P M a0 x1 x2) : mMet l yJ6_putChar (ws_ yJ6_putChar cJ6_putChar 3 (Option.none : Option Jvm.ClassFile.FieldType)) 10 b G [.ref a0, .int x1, .int x2] M (mRv P) (fun _ _ _ => False) := by
  refine mm_met hst0 (by decide) (Nat.le_of_ble_eq_true rfl) ?_
  intro p e s m args below meth c ls C hr hnt hnm hl S
  have hl : lv_has ls 3 [(0, .ref a0), (1, .int x1), (2, .int x2)] := hl
  generalize mA M s.heap.size = A at C S ⊢
  have hx := C.hx
  have hb := C.hb
  have hk : 0 + b ≤ b := Nat.le_of_eq (Nat.zero_add b)
  unfold wp_J6_putChar at h
  exact h.elim
/-! J6_putCharSB: level 10 -/
def wp_J6_putCharSB (G : mG) (b : Nat) (P : mM → Prop) (M : mM) (a0 : Nat) (x1 : Int32) (x2 : Int32) : Prop :=
  False
set_option maxHeartbeats 4000000 in
set_option maxRecDepth 100000 in
theorem wk_J6_putCharSB {l : Launch} (hst0 : l.stackTraces = false) {G : mG} {b : Nat} {P : mM → Prop} {M : mM} {a0 : Nat} {x1 : Int32} {x2 : Int32} (h : wp_J6_putCharSB G b P M a0 x1 x2) : mMet l yJ6_putCharSB (ws_ yJ6_putCharSB cJ6_putCharSB 3 (Option.none : Option Jvm.ClassFile.FieldType)) 10 b G [.ref a0, .int x1, .int x2] M (mRv P) (fun _ _ _ => False) := by
  refine mm_met hst0 (by decide) (Nat.le_of_ble_eq_true rfl) ?_
  intro p e s m args below meth c ls C hr hnt hnm hl S
  have hl : lv_has ls 3 [(0, .ref a0), (1, .int x1), (2, .int x2)] := hl
  generalize mA M s.heap.size = A at C S ⊢
  have hx := C.hx
  have hb := C.hb
  have hk : 0 + b ≤ b := Nat.le_of_eq (Nat.zero_add b)
  unfold wp_J6_putCharSB at h
  refine lv_iload_n hx hb dJ6_putCharSB_0 rfl (lv_at hl 1 rfl) ?_
  refine lv_aload_n hx hb dJ6_putCharSB_1 rfl (lv_at hl 0 rfl) ?_
  exact h.elim
/-! J6_putCharsAt: level 10 -/
def wp_J6_putCharsAt (G : mG) (b : Nat) (P : Int32 → mM → Prop) (M : mM) (a0 : Nat) (x1 : Int32) (x2 : Int32) (x3 : Int32) (x4 : Int32) (x5 : Int32) : Prop :=
  False
set_option maxHeartbeats 4000000 in
set_option maxRecDepth 100000 in
theorem wk_J6_putCharsAt {l : Launch} (hst0 : l.stackTraces = false) {G : mG} {b : Nat} {P : Int32 → mM → Prop} {M : mM} {a0 : Nat} {x1 : Int32} {x2 : Int32} {x3 : Int32} {x4 : Int32} {x5 : Int32} (h : wp_J6_putCharsAt G b P M a0 x1 x2 x3 x4 x5) : mMet l yJ6_putCharsAt (ws_ yJ6_putCharsAt cJ6_putCharsAt 7 (Option.some Jvm.ClassFile.FieldType.int)) 10 b G [.ref a0, .int x1, .int x2, .int x3, .int x4, .int x5] M (mRi P) (fun _ _ _ => False) := by
  refine mm_met hst0 (by decide) (Nat.le_of_ble_eq_true rfl) ?_
  intro p e s m args below meth c ls C hr hnt hnm hl S
  have hl : lv_has ls 7 [(0, .ref a0), (1, .int x1), (2, .int x2), (3, .int x3), (4, .int x4), (5, .int x5)] := hl
  generalize mA M s.heap.size = A at C S ⊢
  have hx := C.hx
  have hb := C.hb
  have hk : 0 + b ≤ b := Nat.le_of_eq (Nat.zero_add b)
  unfold wp_J6_putCharsAt at h
  refine lv_iload_n hx hb dJ6_putCharsAt_0 rfl (lv_at hl 1 rfl) ?_
  refine lv_iconst (v := 4) hx hb dJ6_putCharsAt_1 (by decide) ?_
  refine lv_iadd hx hb dJ6_putCharsAt_2 ?_
  refine lv_istore (lv' := [(6, .int (x1 + 4)), (0, .ref a0), (1, .int x1), (2, .int x2), (3, .int x3), (4, .int x4), (5, .int x5)]) hx hb dJ6_putCharsAt_3 hl (by decide) rfl (fun ls hl => ?_)
  refine lv_iload_n hx hb dJ6_putCharsAt_5 rfl (lv_at hl 2 rfl) ?_
  refine lv_iload hx hb dJ6_putCharsAt_6 (lv_at hl 0 rfl) ?_
  refine lv_aload_n hx hb dJ6_putCharsAt_8 rfl (lv_at hl 1 rfl) ?_
  exact h.elim
/-! J6_putCharsSB: level 10 -/
def wp_J6_putCharsSB (G : mG) (b : Nat) (P : mM → Prop) (M : mM) (a0 : Nat) (x1 : Int32) (a2 : Nat) (x3 : Int32) (x4 : Int32) : Prop :=
  False
set_option maxHeartbeats 4000000 in
set_option maxRecDepth 100000 in
theorem wk_J6_putCharsSB {l : Launch} (hst0 : l.stackTraces = false) {G : mG} {b : Nat} {P : mM → Prop} {M : mM} {a0 : Nat} {x1 : Int32} {a2 : Nat} {x3 : Int32} {x4 : Int32} (h : wp_J6_putCharsSB G b P M a0 x1 a2 x3 x4) : mMet l yJ6_putCharsSB (ws_ yJ6_putCharsSB cJ6_putCharsSB 6 (Option.none : Option Jvm.ClassFile.FieldType)) 10 b G [.ref a0, .int x1, .ref a2, .int x3, .int x4] M (mRv P) (fun _ _ _ => False) := by
  refine mm_met hst0 (by decide) (Nat.le_of_ble_eq_true rfl) ?_
  intro p e s m args below meth c ls C hr hnt hnm hl S
  have hl : lv_has ls 6 [(0, .ref a0), (1, .int x1), (2, .ref a2), (3, .int x3), (4, .int x4)] := hl
  generalize mA M s.heap.size = A at C S ⊢
  have hx := C.hx
  have hb := C.hb
  have hk : 0 + b ≤ b := Nat.le_of_eq (Nat.zero_add b)
  unfold wp_J6_putCharsSB at h
  refine lv_iload_n hx hb dJ6_putCharsSB_0 rfl (lv_at hl 1 rfl) ?_
  refine lv_iload_n hx hb dJ6_putCharsSB_1 rfl (lv_at hl 1 rfl) ?_
  refine lv_iload hx hb dJ6_putCharsSB_2 (lv_at hl 4 rfl) ?_
  refine lv_iadd hx hb dJ6_putCharsSB_4 ?_
  refine lv_iload_n hx hb dJ6_putCharsSB_5 rfl (lv_at hl 3 rfl) ?_
  refine lv_isub hx hb dJ6_putCharsSB_6 ?_
  refine lv_aload_n hx hb dJ6_putCharsSB_7 rfl (lv_at hl 0 rfl) ?_
  exact h.elim
/-! J7_init_X10: level 10 -/
def wp_J7_init_X10 (G : mG) (b : Nat) (P : mM → Prop) (M : mM) (a0 : Nat) (a1 : Nat) : Prop :=
  pfq M a0 7 2 (some a0) fun M1 => ∀ o2 : Option Nat, pfq M1 a0 7 3 o2 fun M3 => ∀ o4 : Option Nat, pfq M3 a0 7 4 o4 fun M5 => False
set_option maxHeartbeats 4000000 in
set_option maxRecDepth 100000 in
theorem wk_J7_init_X10 {l : Launch} (hst0 : l.stackTraces = false) {G : mG} {b : Nat} {P : mM → Prop} {M : mM} {a0 : Nat} {a1 : Nat} (h : wp_J7_init_X10 G b P M a0 a1) : mMet l yJ7_init (ws_ yJ7_init cJ7_init 2 (Option.none : Option Jvm.ClassFile.FieldType)) 10 b G [.ref a0, .ref a1] M (mRv P) (fun _ _ _ => False) := by
  refine mm_met hst0 (by decide) (Nat.le_of_ble_eq_true rfl) ?_
  intro p e s m args below meth c ls C hr hnt hnm hl S
  have hl : lv_has ls 2 [(0, .ref a0), (1, .ref a1)] := hl
  generalize mA M s.heap.size = A at C S ⊢
  have hx := C.hx
  have hb := C.hb
  have hk : 0 + b ≤ b := Nat.le_of_eq (Nat.zero_add b)
  unfold wp_J7_init_X10 at h
  refine lv_aload_n hx hb dJ7_init_0 rfl (lv_at hl 0 rfl) ?_
  refine mm_init C hl.1 q447 q100 q101 dJ7_init_1 (Nat.le_of_ble_eq_true rfl) (Nat.le_of_ble_eq_true rfl) ?_
  refine lv_aload_n hx hb dJ7_init_4 rfl (lv_at hl 0 rfl) ?_
  refine lv_aload_n hx hb dJ7_init_5 rfl (lv_at hl 0 rfl) ?_
  refine mm_pfq C S (ci := 7) (k := 2) (v := (some a0)) rfl in_X10 tyX10_ok nmX10 (by decide) q471 (fun _ h9 => h9) rfl dJ7_init_6 rfl h (fun M1 H locs h S => ?_)
  refine lv_aload_n hx hb dJ7_init_9 rfl (lv_at hl 0 rfl) ?_
  refine mm_getsQ C S C.ks.2.2.2.2.1 q448 (fun _ h9 => h9) dJ7_init_10 h (fun o2 h => ?_)
  refine mm_pfq C S (ci := 7) (k := 3) (v := o2) rfl in_X10 tyX10_ok nmX10 (by decide) q472 (fun _ h9 => h9) rfl dJ7_init_13 rfl h (fun M3 H locs h S => ?_)
  refine lv_aload_n hx hb dJ7_init_16 rfl (lv_at hl 0 rfl) ?_
  refine mm_getsQ C S C.ks.2.2.2.2.2.1 q450 (fun _ h9 => h9) dJ7_init_17 h (fun o4 h => ?_)
  refine mm_pfq C S (ci := 7) (k := 4) (v := o4) rfl in_X10 tyX10_ok nmX10 (by decide) q473 (fun _ h9 => h9) rfl dJ7_init_20 rfl h (fun M5 H locs h S => ?_)
  refine lv_aload_n hx hb dJ7_init_23 rfl (lv_at hl 0 rfl) ?_
  exact h.elim
